/-! java/lang/Throwable -/
set_option maxRecDepth 100000
def RJ0 : String := "java/lang/Throwable"
def TJ0 : u_T := fun k => match k with
  | 0 => ("java/lang/Throwable", "cause", "Ljava/lang/Throwable;", false)
  | 1 => ("java/lang/Throwable", "stackTrace", "[Ljava/lang/StackTraceElement;", false)
  | 2 => ("java/lang/Throwable", "suppressedExceptions", "Ljava/util/List;", false)
  | 3 => ("java/lang/Throwable", "detailMessage", "Ljava/lang/String;", false)
  | _ => ("java/lang/Throwable", "backtrace", "Ljava/lang/Object;", false)
def tyJ0 : Nat → FieldType := fun k => match k with
  | 0 => .object "java/lang/Throwable"
  | 1 => .array (.object "java/lang/StackTraceElement")
  | 2 => .object "java/util/List"
  | 3 => .object "java/lang/String"
  | _ => .object "java/lang/Object"
abbrev wsJ00 : List Cond := u_ws RJ0 TJ0 5
theorem nmJ0 : ∀ a, a < 5 → ∀ b, b < 5 → a ≠ b → (TJ0 a).2.1 ≠ (TJ0 b).2.1 := by decide +kernel
theorem tyJ0_ok : ∀ k, k < 5 → parseFieldDescriptor (TJ0 k).2.2.1 = some (tyJ0 k) := by decide +kernel
abbrev cJ0_init : ByteArray := prog_33_method_1_code
def yJ0_init : MethodName := ⟨RJ0, "<init>", "()V"⟩
def dkwJ0_init_1 : List UInt8 := [182, 0, 27, 87, 177]
abbrev dktJ0_init_1 : List UInt8 := dkwJ0_init_1 ++ []
def dkwJ0_init_0 : List UInt8 := [42, 183, 0, 1, 42, 42, 181, 0, 7, 42, 178, 0, 13, 181, 0, 17, 42, 178, 0, 20, 181, 0, 24, 42]
abbrev dktJ0_init_0 : List UInt8 := dkwJ0_init_0 ++ dktJ0_init_1
theorem dksJ0_init_0 : cJ0_init.data.toList.drop 0 = dktJ0_init_0 := by decide +kernel
theorem dksJ0_init_1 : cJ0_init.data.toList.drop 24 = dktJ0_init_1 := dk_seg dksJ0_init_0 24 rfl rfl
theorem dJ0_init_0 : decode cJ0_init 0 = .ok (.aload_n 0, 1) := dk_42 (dk_at dksJ0_init_0 0 rfl rfl)
theorem dJ0_init_1 : decode cJ0_init 1 = .ok (.invokespecial 1, 3) := dk_183 0 1 (dk_at dksJ0_init_0 1 rfl rfl)
theorem dJ0_init_4 : decode cJ0_init 4 = .ok (.aload_n 0, 1) := dk_42 (dk_at dksJ0_init_0 4 rfl rfl)
theorem dJ0_init_5 : decode cJ0_init 5 = .ok (.aload_n 0, 1) := dk_42 (dk_at dksJ0_init_0 5 rfl rfl)
theorem dJ0_init_6 : decode cJ0_init 6 = .ok (.putfield 7, 3) := dk_181 0 7 (dk_at dksJ0_init_0 6 rfl rfl)
theorem dJ0_init_9 : decode cJ0_init 9 = .ok (.aload_n 0, 1) := dk_42 (dk_at dksJ0_init_0 9 rfl rfl)
theorem dJ0_init_10 : decode cJ0_init 10 = .ok (.getstatic 13, 3) := dk_178 0 13 (dk_at dksJ0_init_0 10 rfl rfl)
theorem dJ0_init_13 : decode cJ0_init 13 = .ok (.putfield 17, 3) := dk_181 0 17 (dk_at dksJ0_init_0 13 rfl rfl)
theorem dJ0_init_16 : decode cJ0_init 16 = .ok (.aload_n 0, 1) := dk_42 (dk_at dksJ0_init_0 16 rfl rfl)
theorem dJ0_init_17 : decode cJ0_init 17 = .ok (.getstatic 20, 3) := dk_178 0 20 (dk_at dksJ0_init_0 17 rfl rfl)
theorem dJ0_init_20 : decode cJ0_init 20 = .ok (.putfield 24, 3) := dk_181 0 24 (dk_at dksJ0_init_0 20 rfl rfl)
theorem dJ0_init_23 : decode cJ0_init 23 = .ok (.aload_n 0, 1) := dk_42 (dk_at dksJ0_init_0 23 rfl rfl)
theorem dJ0_init_24 : decode cJ0_init 24 = .ok (.invokevirtual 27, 3) := dk_182 0 27 (dk_at dksJ0_init_1 0 rfl rfl)
theorem dJ0_init_27 : decode cJ0_init 27 = .ok (.pop, 1) := dk_87 (dk_at dksJ0_init_1 3 rfl rfl)
theorem dJ0_init_28 : decode cJ0_init 28 = .ok (.return_, 1) := dk_177 (dk_at dksJ0_init_1 4 rfl rfl)
abbrev cJ0_init_2 : ByteArray := prog_33_method_5_code
def yJ0_init_2 : MethodName := ⟨RJ0, "<init>", "(Ljava/lang/String;Ljava/lang/Throwable;ZZ)V"⟩
def dkwJ0_init_2_2 : List UInt8 := [44, 181, 0, 7, 29, 154, 0, 8, 42, 1, 181, 0, 24, 177]
abbrev dktJ0_init_2_2 : List UInt8 := dkwJ0_init_2_2 ++ []
def dkwJ0_init_2_1 : List UInt8 := [21, 4, 153, 0, 11, 42, 182, 0, 27, 87, 167, 0, 8, 42, 1, 181, 0, 17, 42, 43, 181, 0, 31, 42]
abbrev dktJ0_init_2_1 : List UInt8 := dkwJ0_init_2_1 ++ dktJ0_init_2_2
def dkwJ0_init_2_0 : List UInt8 := [42, 183, 0, 1, 42, 42, 181, 0, 7, 42, 178, 0, 13, 181, 0, 17, 42, 178, 0, 20, 181, 0, 24]
abbrev dktJ0_init_2_0 : List UInt8 := dkwJ0_init_2_0 ++ dktJ0_init_2_1
theorem dksJ0_init_2_0 : cJ0_init_2.data.toList.drop 0 = dktJ0_init_2_0 := by decide +kernel
theorem dksJ0_init_2_1 : cJ0_init_2.data.toList.drop 23 = dktJ0_init_2_1 := dk_seg dksJ0_init_2_0 23 rfl rfl
theorem dksJ0_init_2_2 : cJ0_init_2.data.toList.drop 47 = dktJ0_init_2_2 := dk_seg dksJ0_init_2_1 24 rfl rfl
theorem dJ0_init_2_0 : decode cJ0_init_2 0 = .ok (.aload_n 0, 1) := dk_42 (dk_at dksJ0_init_2_0 0 rfl rfl)
theorem dJ0_init_2_1 : decode cJ0_init_2 1 = .ok (.invokespecial 1, 3) := dk_183 0 1 (dk_at dksJ0_init_2_0 1 rfl rfl)
theorem dJ0_init_2_4 : decode cJ0_init_2 4 = .ok (.aload_n 0, 1) := dk_42 (dk_at dksJ0_init_2_0 4 rfl rfl)
theorem dJ0_init_2_5 : decode cJ0_init_2 5 = .ok (.aload_n 0, 1) := dk_42 (dk_at dksJ0_init_2_0 5 rfl rfl)
theorem dJ0_init_2_6 : decode cJ0_init_2 6 = .ok (.putfield 7, 3) := dk_181 0 7 (dk_at dksJ0_init_2_0 6 rfl rfl)
theorem dJ0_init_2_9 : decode cJ0_init_2 9 = .ok (.aload_n 0, 1) := dk_42 (dk_at dksJ0_init_2_0 9 rfl rfl)
theorem dJ0_init_2_10 : decode cJ0_init_2 10 = .ok (.getstatic 13, 3) := dk_178 0 13 (dk_at dksJ0_init_2_0 10 rfl rfl)
theorem dJ0_init_2_13 : decode cJ0_init_2 13 = .ok (.putfield 17, 3) := dk_181 0 17 (dk_at dksJ0_init_2_0 13 rfl rfl)
theorem dJ0_init_2_16 : decode cJ0_init_2 16 = .ok (.aload_n 0, 1) := dk_42 (dk_at dksJ0_init_2_0 16 rfl rfl)
theorem dJ0_init_2_17 : decode cJ0_init_2 17 = .ok (.getstatic 20, 3) := dk_178 0 20 (dk_at dksJ0_init_2_0 17 rfl rfl)
theorem dJ0_init_2_20 : decode cJ0_init_2 20 = .ok (.putfield 24, 3) := dk_181 0 24 (dk_at dksJ0_init_2_0 20 rfl rfl)
theorem dJ0_init_2_23 : decode cJ0_init_2 23 = .ok (.iload 4, 2) := dk_21 4 (dk_at dksJ0_init_2_1 0 rfl rfl)
theorem dJ0_init_2_25 : decode cJ0_init_2 25 = .ok (.ifCond .eq 11, 3) := dk_153 0 11 (dk_at dksJ0_init_2_1 2 rfl rfl)
theorem dJ0_init_2_28 : decode cJ0_init_2 28 = .ok (.aload_n 0, 1) := dk_42 (dk_at dksJ0_init_2_1 5 rfl rfl)
theorem dJ0_init_2_29 : decode cJ0_init_2 29 = .ok (.invokevirtual 27, 3) := dk_182 0 27 (dk_at dksJ0_init_2_1 6 rfl rfl)
theorem dJ0_init_2_32 : decode cJ0_init_2 32 = .ok (.pop, 1) := dk_87 (dk_at dksJ0_init_2_1 9 rfl rfl)
theorem dJ0_init_2_33 : decode cJ0_init_2 33 = .ok (.goto 8, 3) := dk_167 0 8 (dk_at dksJ0_init_2_1 10 rfl rfl)
theorem dJ0_init_2_36 : decode cJ0_init_2 36 = .ok (.aload_n 0, 1) := dk_42 (dk_at dksJ0_init_2_1 13 rfl rfl)
theorem dJ0_init_2_37 : decode cJ0_init_2 37 = .ok (.aconst_null, 1) := dk_1 (dk_at dksJ0_init_2_1 14 rfl rfl)
theorem dJ0_init_2_38 : decode cJ0_init_2 38 = .ok (.putfield 17, 3) := dk_181 0 17 (dk_at dksJ0_init_2_1 15 rfl rfl)
theorem dJ0_init_2_41 : decode cJ0_init_2 41 = .ok (.aload_n 0, 1) := dk_42 (dk_at dksJ0_init_2_1 18 rfl rfl)
theorem dJ0_init_2_42 : decode cJ0_init_2 42 = .ok (.aload_n 1, 1) := dk_43 (dk_at dksJ0_init_2_1 19 rfl rfl)
theorem dJ0_init_2_43 : decode cJ0_init_2 43 = .ok (.putfield 31, 3) := dk_181 0 31 (dk_at dksJ0_init_2_1 20 rfl rfl)
theorem dJ0_init_2_46 : decode cJ0_init_2 46 = .ok (.aload_n 0, 1) := dk_42 (dk_at dksJ0_init_2_1 23 rfl rfl)
theorem dJ0_init_2_47 : decode cJ0_init_2 47 = .ok (.aload_n 2, 1) := dk_44 (dk_at dksJ0_init_2_2 0 rfl rfl)
theorem dJ0_init_2_48 : decode cJ0_init_2 48 = .ok (.putfield 7, 3) := dk_181 0 7 (dk_at dksJ0_init_2_2 1 rfl rfl)
theorem dJ0_init_2_51 : decode cJ0_init_2 51 = .ok (.iload_n 3, 1) := dk_29 (dk_at dksJ0_init_2_2 4 rfl rfl)
theorem dJ0_init_2_52 : decode cJ0_init_2 52 = .ok (.ifCond .ne 8, 3) := dk_154 0 8 (dk_at dksJ0_init_2_2 5 rfl rfl)
theorem dJ0_init_2_55 : decode cJ0_init_2 55 = .ok (.aload_n 0, 1) := dk_42 (dk_at dksJ0_init_2_2 8 rfl rfl)
theorem dJ0_init_2_56 : decode cJ0_init_2 56 = .ok (.aconst_null, 1) := dk_1 (dk_at dksJ0_init_2_2 9 rfl rfl)
theorem dJ0_init_2_57 : decode cJ0_init_2 57 = .ok (.putfield 24, 3) := dk_181 0 24 (dk_at dksJ0_init_2_2 10 rfl rfl)
theorem dJ0_init_2_60 : decode cJ0_init_2 60 = .ok (.return_, 1) := dk_177 (dk_at dksJ0_init_2_2 13 rfl rfl)
abbrev cJ0_init_3 : ByteArray := prog_33_method_2_code
def yJ0_init_3 : MethodName := ⟨RJ0, "<init>", "(Ljava/lang/String;)V"⟩
def dkwJ0_init_3_1 : List UInt8 := [182, 0, 27, 87, 42, 43, 181, 0, 31, 177]
abbrev dktJ0_init_3_1 : List UInt8 := dkwJ0_init_3_1 ++ []
def dkwJ0_init_3_0 : List UInt8 := [42, 183, 0, 1, 42, 42, 181, 0, 7, 42, 178, 0, 13, 181, 0, 17, 42, 178, 0, 20, 181, 0, 24, 42]
abbrev dktJ0_init_3_0 : List UInt8 := dkwJ0_init_3_0 ++ dktJ0_init_3_1
theorem dksJ0_init_3_0 : cJ0_init_3.data.toList.drop 0 = dktJ0_init_3_0 := by decide +kernel
theorem dksJ0_init_3_1 : cJ0_init_3.data.toList.drop 24 = dktJ0_init_3_1 := dk_seg dksJ0_init_3_0 24 rfl rfl
theorem dJ0_init_3_0 : decode cJ0_init_3 0 = .ok (.aload_n 0, 1) := dk_42 (dk_at dksJ0_init_3_0 0 rfl rfl)
theorem dJ0_init_3_1 : decode cJ0_init_3 1 = .ok (.invokespecial 1, 3) := dk_183 0 1 (dk_at dksJ0_init_3_0 1 rfl rfl)
theorem dJ0_init_3_4 : decode cJ0_init_3 4 = .ok (.aload_n 0, 1) := dk_42 (dk_at dksJ0_init_3_0 4 rfl rfl)
theorem dJ0_init_3_5 : decode cJ0_init_3 5 = .ok (.aload_n 0, 1) := dk_42 (dk_at dksJ0_init_3_0 5 rfl rfl)
theorem dJ0_init_3_6 : decode cJ0_init_3 6 = .ok (.putfield 7, 3) := dk_181 0 7 (dk_at dksJ0_init_3_0 6 rfl rfl)
theorem dJ0_init_3_9 : decode cJ0_init_3 9 = .ok (.aload_n 0, 1) := dk_42 (dk_at dksJ0_init_3_0 9 rfl rfl)
theorem dJ0_init_3_10 : decode cJ0_init_3 10 = .ok (.getstatic 13, 3) := dk_178 0 13 (dk_at dksJ0_init_3_0 10 rfl rfl)
theorem dJ0_init_3_13 : decode cJ0_init_3 13 = .ok (.putfield 17, 3) := dk_181 0 17 (dk_at dksJ0_init_3_0 13 rfl rfl)
theorem dJ0_init_3_16 : decode cJ0_init_3 16 = .ok (.aload_n 0, 1) := dk_42 (dk_at dksJ0_init_3_0 16 rfl rfl)
theorem dJ0_init_3_17 : decode cJ0_init_3 17 = .ok (.getstatic 20, 3) := dk_178 0 20 (dk_at dksJ0_init_3_0 17 rfl rfl)
theorem dJ0_init_3_20 : decode cJ0_init_3 20 = .ok (.putfield 24, 3) := dk_181 0 24 (dk_at dksJ0_init_3_0 20 rfl rfl)
theorem dJ0_init_3_23 : decode cJ0_init_3 23 = .ok (.aload_n 0, 1) := dk_42 (dk_at dksJ0_init_3_0 23 rfl rfl)
theorem dJ0_init_3_24 : decode cJ0_init_3 24 = .ok (.invokevirtual 27, 3) := dk_182 0 27 (dk_at dksJ0_init_3_1 0 rfl rfl)
theorem dJ0_init_3_27 : decode cJ0_init_3 27 = .ok (.pop, 1) := dk_87 (dk_at dksJ0_init_3_1 3 rfl rfl)
theorem dJ0_init_3_28 : decode cJ0_init_3 28 = .ok (.aload_n 0, 1) := dk_42 (dk_at dksJ0_init_3_1 4 rfl rfl)
theorem dJ0_init_3_29 : decode cJ0_init_3 29 = .ok (.aload_n 1, 1) := dk_43 (dk_at dksJ0_init_3_1 5 rfl rfl)
theorem dJ0_init_3_30 : decode cJ0_init_3 30 = .ok (.putfield 31, 3) := dk_181 0 31 (dk_at dksJ0_init_3_1 6 rfl rfl)
theorem dJ0_init_3_33 : decode cJ0_init_3 33 = .ok (.return_, 1) := dk_177 (dk_at dksJ0_init_3_1 9 rfl rfl)
theorem q99 : (Jvm.Cond.initialized "java/lang/Throwable") ∈ lw_all := lw_g (lw_at lw_m1 6 rfl) rfl
theorem q176 : (Jvm.Cond.declares ({ cls := "java/lang/Throwable", name := "<init>", desc := "()V" } : Jvm.MethodName)) ∈ lw_tbl := lw_at lw_m1 83 rfl
theorem q177 : (Jvm.Cond.declares ({ cls := "java/lang/Throwable", name := "<init>", desc := "(Ljava/lang/String;)V" } : Jvm.MethodName)) ∈ lw_tbl := lw_at lw_m1 84 rfl
theorem q181 : (Jvm.Cond.lays "java/lang/Throwable" "java/lang/Throwable" "cause" "Ljava/lang/Throwable;") ∈ lw_all := lw_g (lw_at lw_m1 88 rfl) rfl
theorem q183 : (Jvm.Cond.lays "java/lang/Throwable" "java/lang/Throwable" "stackTrace" "[Ljava/lang/StackTraceElement;") ∈ lw_all := lw_g (lw_at lw_m1 90 rfl) rfl
theorem q185 : (Jvm.Cond.lays "java/lang/Throwable" "java/lang/Throwable" "suppressedExceptions" "Ljava/util/List;") ∈ lw_all := lw_g (lw_at lw_m1 92 rfl) rfl
theorem q187 : (Jvm.Cond.lays "java/lang/Throwable" "java/lang/Throwable" "detailMessage" "Ljava/lang/String;") ∈ lw_all := lw_g (lw_at lw_m1 94 rfl) rfl
theorem q189 : (Jvm.Cond.lays "java/lang/Throwable" "java/lang/Throwable" "backtrace" "Ljava/lang/Object;") ∈ lw_all := lw_g (lw_at lw_m1 96 rfl) rfl
theorem q190 : (Jvm.Cond.fieldLink "java/lang/Throwable" (198 : Nat) "java/lang/Throwable" "backtrace" "Ljava/lang/Object;") ∈ lw_all := lw_g (lw_at lw_m1 97 rfl) rfl
theorem q191 : (Jvm.Cond.superclass "java/lang/Throwable" "java/lang/Object") ∈ lw_all := lw_g (lw_at lw_m1 98 rfl) rfl
theorem q192 : (Jvm.Cond.instanceMethod ({ cls := "java/lang/Throwable", name := "<init>", desc := "()V" } : Jvm.MethodName)) ∈ lw_all := lw_g (lw_at lw_m1 99 rfl) rfl
theorem q193 : (Jvm.Cond.code ({ cls := "java/lang/Throwable", name := "<init>", desc := "()V" } : Jvm.MethodName) prog_33_method_1_code (1 : Nat) (Option.none : Option Jvm.ClassFile.FieldType)) ∈ lw_all := lw_g (lw_at lw_m1 100 rfl) rfl
theorem q194 : (Jvm.Cond.methodLink "java/lang/Throwable" (1 : Nat) ({ cls := "java/lang/Object", name := "<init>", desc := "()V" } : Jvm.MethodName)) ∈ lw_all := lw_g (lw_at lw_m1 101 rfl) rfl
theorem q195 : (Jvm.Cond.fieldLink "java/lang/Throwable" (13 : Nat) "java/lang/Throwable" "UNASSIGNED_STACK" "[Ljava/lang/StackTraceElement;") ∈ lw_all := lw_g (lw_at lw_m1 102 rfl) rfl
theorem q196 : (Jvm.Cond.laysStatic "java/lang/Throwable" "UNASSIGNED_STACK" "[Ljava/lang/StackTraceElement;") ∈ lw_tbl := lw_at lw_m1 103 rfl
theorem q197 : (Jvm.Cond.fieldLink "java/lang/Throwable" (20 : Nat) "java/lang/Throwable" "SUPPRESSED_SENTINEL" "Ljava/util/List;") ∈ lw_all := lw_g (lw_at lw_m1 104 rfl) rfl
theorem q198 : (Jvm.Cond.laysStatic "java/lang/Throwable" "SUPPRESSED_SENTINEL" "Ljava/util/List;") ∈ lw_tbl := lw_at lw_m1 105 rfl
theorem q199 : (Jvm.Cond.methodLink "java/lang/Throwable" (27 : Nat) ({ cls := "java/lang/Throwable", name := "fillInStackTrace", desc := "()Ljava/lang/Throwable;" } : Jvm.MethodName)) ∈ lw_all := lw_g (lw_at lw_m1 106 rfl) rfl
theorem q200 : (Jvm.Cond.instanceMethod ({ cls := "java/lang/Throwable", name := "fillInStackTrace", desc := "()Ljava/lang/Throwable;" } : Jvm.MethodName)) ∈ lw_all := lw_g (lw_at lw_m1 107 rfl) rfl
theorem q201 : (Jvm.Cond.sameMethod "java/lang/Throwable" "java/lang/Throwable" "fillInStackTrace" "()Ljava/lang/Throwable;") ∈ lw_all := lw_g (lw_at lw_m1 108 rfl) rfl
theorem q215 : (Jvm.Cond.declares ({ cls := "java/lang/Throwable", name := "fillInStackTrace", desc := "()Ljava/lang/Throwable;" } : Jvm.MethodName)) ∈ lw_tbl := lw_at lw_m1 122 rfl
theorem q219 : (Jvm.Cond.codeSync ({ cls := "java/lang/Throwable", name := "fillInStackTrace", desc := "()Ljava/lang/Throwable;" } : Jvm.MethodName) prog_33_method_18_code (1 : Nat) (Option.some (Jvm.ClassFile.FieldType.object "java/lang/Throwable"))) ∈ lw_all := lw_g (lw_at lw_m1 126 rfl) rfl
theorem q220 : (Jvm.Cond.methodLink "java/lang/Throwable" (202 : Nat) ({ cls := "java/lang/Throwable", name := "fillInStackTrace", desc := "(I)Ljava/lang/Throwable;" } : Jvm.MethodName)) ∈ lw_all := lw_g (lw_at lw_m1 127 rfl) rfl
theorem q221 : (Jvm.Cond.privateMethod ({ cls := "java/lang/Throwable", name := "fillInStackTrace", desc := "(I)Ljava/lang/Throwable;" } : Jvm.MethodName)) ∈ lw_tbl := lw_at lw_m1 128 rfl
theorem q222 : (Jvm.Cond.instanceMethod ({ cls := "java/lang/Throwable", name := "fillInStackTrace", desc := "(I)Ljava/lang/Throwable;" } : Jvm.MethodName)) ∈ lw_all := lw_g (lw_at lw_m1 129 rfl) rfl
theorem q223 : (Jvm.Cond.instantiable "java/lang/Throwable" (6 : Nat)) ∈ lw_all := lw_g (lw_at lw_m1 130 rfl) rfl
theorem q224 : (Jvm.Cond.native ({ cls := "java/lang/Throwable", name := "fillInStackTrace", desc := "(I)Ljava/lang/Throwable;" } : Jvm.MethodName)) ∈ lw_all := lw_g (lw_at lw_m1 131 rfl) rfl
theorem q235 : (Jvm.Cond.instanceMethod ({ cls := "java/lang/Throwable", name := "<init>", desc := "(Ljava/lang/String;Ljava/lang/Throwable;ZZ)V" } : Jvm.MethodName)) ∈ lw_all := lw_g (lw_at lw_m1 142 rfl) rfl
theorem q236 : (Jvm.Cond.code ({ cls := "java/lang/Throwable", name := "<init>", desc := "(Ljava/lang/String;Ljava/lang/Throwable;ZZ)V" } : Jvm.MethodName) prog_33_method_5_code (5 : Nat) (Option.none : Option Jvm.ClassFile.FieldType)) ∈ lw_all := lw_g (lw_at lw_m1 143 rfl) rfl
theorem q241 : (Jvm.Cond.fieldLink "java/lang/Throwable" (198 : Nat) "java/lang/Throwable" "backtrace" "Ljava/lang/Object;") ∈ lw_all := lw_g (lw_at lw_m1 148 rfl) rfl
theorem q242 : (Jvm.Cond.fieldLink "java/lang/Throwable" (31 : Nat) "java/lang/Throwable" "detailMessage" "Ljava/lang/String;") ∈ lw_all := lw_g (lw_at lw_m1 149 rfl) rfl
theorem q243 : (Jvm.Cond.fieldLink "java/lang/Throwable" (7 : Nat) "java/lang/Throwable" "cause" "Ljava/lang/Throwable;") ∈ lw_all := lw_g (lw_at lw_m1 150 rfl) rfl
theorem q244 : (Jvm.Cond.fieldLink "java/lang/Throwable" (17 : Nat) "java/lang/Throwable" "stackTrace" "[Ljava/lang/StackTraceElement;") ∈ lw_all := lw_g (lw_at lw_m1 151 rfl) rfl
theorem q245 : (Jvm.Cond.fieldLink "java/lang/Throwable" (24 : Nat) "java/lang/Throwable" "suppressedExceptions" "Ljava/util/List;") ∈ lw_all := lw_g (lw_at lw_m1 152 rfl) rfl
theorem q250 : (Jvm.Cond.soleField "java/lang/Throwable" "backtrace") ∈ lw_all := lw_g (lw_at lw_m1 157 rfl) rfl
theorem q251 : (Jvm.Cond.soleField "java/lang/Throwable" "detailMessage") ∈ lw_all := lw_g (lw_at lw_m1 158 rfl) rfl
theorem q252 : (Jvm.Cond.soleField "java/lang/Throwable" "cause") ∈ lw_all := lw_g (lw_at lw_m1 159 rfl) rfl
theorem q253 : (Jvm.Cond.soleField "java/lang/Throwable" "stackTrace") ∈ lw_all := lw_g (lw_at lw_m1 160 rfl) rfl
theorem q255 : (Jvm.Cond.soleField "java/lang/Throwable" "depth") ∈ lw_all := lw_g (lw_at lw_m1 162 rfl) rfl
theorem q256 : (Jvm.Cond.soleField "java/lang/Throwable" "suppressedExceptions") ∈ lw_all := lw_g (lw_at lw_m1 163 rfl) rfl
theorem q972 : (Jvm.Cond.instanceMethod ({ cls := "java/lang/Throwable", name := "<init>", desc := "(Ljava/lang/String;)V" } : Jvm.MethodName)) ∈ lw_all := lw_g (lw_at lw_m4 159 rfl) rfl
theorem q973 : (Jvm.Cond.code ({ cls := "java/lang/Throwable", name := "<init>", desc := "(Ljava/lang/String;)V" } : Jvm.MethodName) prog_33_method_2_code (2 : Nat) (Option.none : Option Jvm.ClassFile.FieldType)) ∈ lw_all := lw_g (lw_at lw_m4 160 rfl) rfl
theorem q1608 : (Jvm.Cond.sameMethod "java/lang/Throwable" "java/lang/Throwable" "fillInStackTrace" "(I)Ljava/lang/Throwable;") ∈ lw_all := lw_g (lw_at lw_m7 75 rfl) rfl
theorem in_J0 : ∀ w ∈ wsJ00, w ∈ lw_all := lw_in wsJ00 [181, 183, 185, 187, 189] (by decide +kernel) (by decide +kernel)
/-! java/lang/Exception -/
set_option maxRecDepth 100000
def RJ1 : String := "java/lang/Exception"
abbrev cJ1_init : ByteArray := prog_25_method_5_code
def yJ1_init : MethodName := ⟨RJ1, "<init>", "(Ljava/lang/String;Ljava/lang/Throwable;ZZ)V"⟩
def dkwJ1_init_0 : List UInt8 := [42, 43, 44, 29, 21, 4, 183, 0, 16, 177]
abbrev dktJ1_init_0 : List UInt8 := dkwJ1_init_0 ++ []
theorem dksJ1_init_0 : cJ1_init.data.toList.drop 0 = dktJ1_init_0 := by decide +kernel
theorem dJ1_init_0 : decode cJ1_init 0 = .ok (.aload_n 0, 1) := dk_42 (dk_at dksJ1_init_0 0 rfl rfl)
theorem dJ1_init_1 : decode cJ1_init 1 = .ok (.aload_n 1, 1) := dk_43 (dk_at dksJ1_init_0 1 rfl rfl)
theorem dJ1_init_2 : decode cJ1_init 2 = .ok (.aload_n 2, 1) := dk_44 (dk_at dksJ1_init_0 2 rfl rfl)
theorem dJ1_init_3 : decode cJ1_init 3 = .ok (.iload_n 3, 1) := dk_29 (dk_at dksJ1_init_0 3 rfl rfl)
theorem dJ1_init_4 : decode cJ1_init 4 = .ok (.iload 4, 2) := dk_21 4 (dk_at dksJ1_init_0 4 rfl rfl)
theorem dJ1_init_6 : decode cJ1_init 6 = .ok (.invokespecial 16, 3) := dk_183 0 16 (dk_at dksJ1_init_0 6 rfl rfl)
theorem dJ1_init_9 : decode cJ1_init 9 = .ok (.return_, 1) := dk_177 (dk_at dksJ1_init_0 9 rfl rfl)
abbrev cJ1_init_2 : ByteArray := prog_25_method_2_code
def yJ1_init_2 : MethodName := ⟨RJ1, "<init>", "(Ljava/lang/String;)V"⟩
def dkwJ1_init_2_0 : List UInt8 := [42, 43, 183, 0, 7, 177]
abbrev dktJ1_init_2_0 : List UInt8 := dkwJ1_init_2_0 ++ []
theorem dksJ1_init_2_0 : cJ1_init_2.data.toList.drop 0 = dktJ1_init_2_0 := by decide +kernel
theorem dJ1_init_2_0 : decode cJ1_init_2 0 = .ok (.aload_n 0, 1) := dk_42 (dk_at dksJ1_init_2_0 0 rfl rfl)
theorem dJ1_init_2_1 : decode cJ1_init_2 1 = .ok (.aload_n 1, 1) := dk_43 (dk_at dksJ1_init_2_0 1 rfl rfl)
theorem dJ1_init_2_2 : decode cJ1_init_2 2 = .ok (.invokespecial 7, 3) := dk_183 0 7 (dk_at dksJ1_init_2_0 2 rfl rfl)
theorem dJ1_init_2_5 : decode cJ1_init_2 5 = .ok (.return_, 1) := dk_177 (dk_at dksJ1_init_2_0 5 rfl rfl)
abbrev cJ1_init_3 : ByteArray := prog_25_method_1_code
def yJ1_init_3 : MethodName := ⟨RJ1, "<init>", "()V"⟩
theorem dJ1_init_3_0 : decode cJ1_init_3 0 = .ok (.aload_n 0, 1) := by decide +kernel
theorem dJ1_init_3_1 : decode cJ1_init_3 1 = .ok (.invokespecial 1, 3) := by decide +kernel
theorem dJ1_init_3_4 : decode cJ1_init_3 4 = .ok (.return_, 1) := by decide +kernel
theorem q100 : (Jvm.Cond.initialized "java/lang/Exception") ∈ lw_all := lw_g (lw_at lw_m1 7 rfl) rfl
theorem q174 : (Jvm.Cond.declares ({ cls := "java/lang/Exception", name := "<init>", desc := "()V" } : Jvm.MethodName)) ∈ lw_tbl := lw_at lw_m1 81 rfl
theorem q175 : (Jvm.Cond.declares ({ cls := "java/lang/Exception", name := "<init>", desc := "(Ljava/lang/String;)V" } : Jvm.MethodName)) ∈ lw_tbl := lw_at lw_m1 82 rfl
theorem q218 : (Jvm.Cond.superclass "java/lang/Exception" "java/lang/Throwable") ∈ lw_all := lw_g (lw_at lw_m1 125 rfl) rfl
theorem q232 : (Jvm.Cond.instanceMethod ({ cls := "java/lang/Exception", name := "<init>", desc := "(Ljava/lang/String;Ljava/lang/Throwable;ZZ)V" } : Jvm.MethodName)) ∈ lw_all := lw_g (lw_at lw_m1 139 rfl) rfl
theorem q233 : (Jvm.Cond.code ({ cls := "java/lang/Exception", name := "<init>", desc := "(Ljava/lang/String;Ljava/lang/Throwable;ZZ)V" } : Jvm.MethodName) prog_25_method_5_code (5 : Nat) (Option.none : Option Jvm.ClassFile.FieldType)) ∈ lw_all := lw_g (lw_at lw_m1 140 rfl) rfl
theorem q234 : (Jvm.Cond.methodLink "java/lang/Exception" (16 : Nat) ({ cls := "java/lang/Throwable", name := "<init>", desc := "(Ljava/lang/String;Ljava/lang/Throwable;ZZ)V" } : Jvm.MethodName)) ∈ lw_all := lw_g (lw_at lw_m1 141 rfl) rfl
theorem q969 : (Jvm.Cond.instanceMethod ({ cls := "java/lang/Exception", name := "<init>", desc := "(Ljava/lang/String;)V" } : Jvm.MethodName)) ∈ lw_all := lw_g (lw_at lw_m4 156 rfl) rfl
theorem q970 : (Jvm.Cond.code ({ cls := "java/lang/Exception", name := "<init>", desc := "(Ljava/lang/String;)V" } : Jvm.MethodName) prog_25_method_2_code (2 : Nat) (Option.none : Option Jvm.ClassFile.FieldType)) ∈ lw_all := lw_g (lw_at lw_m4 157 rfl) rfl
theorem q971 : (Jvm.Cond.methodLink "java/lang/Exception" (7 : Nat) ({ cls := "java/lang/Throwable", name := "<init>", desc := "(Ljava/lang/String;)V" } : Jvm.MethodName)) ∈ lw_all := lw_g (lw_at lw_m4 158 rfl) rfl
theorem q1007 : (Jvm.Cond.instanceMethod ({ cls := "java/lang/Exception", name := "<init>", desc := "()V" } : Jvm.MethodName)) ∈ lw_all := lw_g (lw_at lw_m4 194 rfl) rfl
theorem q1008 : (Jvm.Cond.code ({ cls := "java/lang/Exception", name := "<init>", desc := "()V" } : Jvm.MethodName) prog_25_method_1_code (1 : Nat) (Option.none : Option Jvm.ClassFile.FieldType)) ∈ lw_all := lw_g (lw_at lw_m4 195 rfl) rfl
theorem q1009 : (Jvm.Cond.methodLink "java/lang/Exception" (1 : Nat) ({ cls := "java/lang/Throwable", name := "<init>", desc := "()V" } : Jvm.MethodName)) ∈ lw_all := lw_g (lw_at lw_m4 196 rfl) rfl
/-! java/lang/Object -/
set_option maxRecDepth 100000
def RJ10 : String := "java/lang/Object"
abbrev cJ10_init : ByteArray := object_method_1_code
def yJ10_init : MethodName := ⟨RJ10, "<init>", "()V"⟩
theorem dJ10_init_0 : decode cJ10_init 0 = .ok (.return_, 1) := by decide +kernel
theorem q148 : (Jvm.Cond.instanceMethod ({ cls := "java/lang/Object", name := "<init>", desc := "()V" } : Jvm.MethodName)) ∈ lw_all := lw_g (lw_at lw_m1 55 rfl) rfl
theorem q149 : (Jvm.Cond.code ({ cls := "java/lang/Object", name := "<init>", desc := "()V" } : Jvm.MethodName) object_method_1_code (1 : Nat) (Option.none : Option Jvm.ClassFile.FieldType)) ∈ lw_all := lw_g (lw_at lw_m1 56 rfl) rfl
theorem q1609 : (Jvm.Cond.instantiable "java/lang/Object" (0 : Nat)) ∈ lw_all := lw_g (lw_at lw_m7 76 rfl) rfl
/-! java/lang/RuntimeException -/
set_option maxRecDepth 100000
def RJ2 : String := "java/lang/RuntimeException"
abbrev cJ2_init : ByteArray := prog_30_method_5_code
def yJ2_init : MethodName := ⟨RJ2, "<init>", "(Ljava/lang/String;Ljava/lang/Throwable;ZZ)V"⟩
def dkwJ2_init_0 : List UInt8 := [42, 43, 44, 29, 21, 4, 183, 0, 16, 177]
abbrev dktJ2_init_0 : List UInt8 := dkwJ2_init_0 ++ []
theorem dksJ2_init_0 : cJ2_init.data.toList.drop 0 = dktJ2_init_0 := by decide +kernel
theorem dJ2_init_0 : decode cJ2_init 0 = .ok (.aload_n 0, 1) := dk_42 (dk_at dksJ2_init_0 0 rfl rfl)
theorem dJ2_init_1 : decode cJ2_init 1 = .ok (.aload_n 1, 1) := dk_43 (dk_at dksJ2_init_0 1 rfl rfl)
theorem dJ2_init_2 : decode cJ2_init 2 = .ok (.aload_n 2, 1) := dk_44 (dk_at dksJ2_init_0 2 rfl rfl)
theorem dJ2_init_3 : decode cJ2_init 3 = .ok (.iload_n 3, 1) := dk_29 (dk_at dksJ2_init_0 3 rfl rfl)
theorem dJ2_init_4 : decode cJ2_init 4 = .ok (.iload 4, 2) := dk_21 4 (dk_at dksJ2_init_0 4 rfl rfl)
theorem dJ2_init_6 : decode cJ2_init 6 = .ok (.invokespecial 16, 3) := dk_183 0 16 (dk_at dksJ2_init_0 6 rfl rfl)
theorem dJ2_init_9 : decode cJ2_init 9 = .ok (.return_, 1) := dk_177 (dk_at dksJ2_init_0 9 rfl rfl)
abbrev cJ2_init_2 : ByteArray := prog_30_method_2_code
def yJ2_init_2 : MethodName := ⟨RJ2, "<init>", "(Ljava/lang/String;)V"⟩
def dkwJ2_init_2_0 : List UInt8 := [42, 43, 183, 0, 7, 177]
abbrev dktJ2_init_2_0 : List UInt8 := dkwJ2_init_2_0 ++ []
theorem dksJ2_init_2_0 : cJ2_init_2.data.toList.drop 0 = dktJ2_init_2_0 := by decide +kernel
theorem dJ2_init_2_0 : decode cJ2_init_2 0 = .ok (.aload_n 0, 1) := dk_42 (dk_at dksJ2_init_2_0 0 rfl rfl)
theorem dJ2_init_2_1 : decode cJ2_init_2 1 = .ok (.aload_n 1, 1) := dk_43 (dk_at dksJ2_init_2_0 1 rfl rfl)
theorem dJ2_init_2_2 : decode cJ2_init_2 2 = .ok (.invokespecial 7, 3) := dk_183 0 7 (dk_at dksJ2_init_2_0 2 rfl rfl)
theorem dJ2_init_2_5 : decode cJ2_init_2 5 = .ok (.return_, 1) := dk_177 (dk_at dksJ2_init_2_0 5 rfl rfl)
abbrev cJ2_init_3 : ByteArray := prog_30_method_1_code
def yJ2_init_3 : MethodName := ⟨RJ2, "<init>", "()V"⟩
theorem dJ2_init_3_0 : decode cJ2_init_3 0 = .ok (.aload_n 0, 1) := by decide +kernel
theorem dJ2_init_3_1 : decode cJ2_init_3 1 = .ok (.invokespecial 1, 3) := by decide +kernel
theorem dJ2_init_3_4 : decode cJ2_init_3 4 = .ok (.return_, 1) := by decide +kernel
theorem q101 : (Jvm.Cond.initialized "java/lang/RuntimeException") ∈ lw_all := lw_g (lw_at lw_m1 8 rfl) rfl
theorem q172 : (Jvm.Cond.declares ({ cls := "java/lang/RuntimeException", name := "<init>", desc := "()V" } : Jvm.MethodName)) ∈ lw_tbl := lw_at lw_m1 79 rfl
theorem q173 : (Jvm.Cond.declares ({ cls := "java/lang/RuntimeException", name := "<init>", desc := "(Ljava/lang/String;)V" } : Jvm.MethodName)) ∈ lw_tbl := lw_at lw_m1 80 rfl
theorem q214 : (Jvm.Cond.sameMethod "java/lang/RuntimeException" "java/lang/Throwable" "fillInStackTrace" "()Ljava/lang/Throwable;") ∈ lw_all := lw_g (lw_at lw_m1 121 rfl) rfl
theorem q217 : (Jvm.Cond.superclass "java/lang/RuntimeException" "java/lang/Exception") ∈ lw_all := lw_g (lw_at lw_m1 124 rfl) rfl
theorem q229 : (Jvm.Cond.instanceMethod ({ cls := "java/lang/RuntimeException", name := "<init>", desc := "(Ljava/lang/String;Ljava/lang/Throwable;ZZ)V" } : Jvm.MethodName)) ∈ lw_all := lw_g (lw_at lw_m1 136 rfl) rfl
theorem q230 : (Jvm.Cond.code ({ cls := "java/lang/RuntimeException", name := "<init>", desc := "(Ljava/lang/String;Ljava/lang/Throwable;ZZ)V" } : Jvm.MethodName) prog_30_method_5_code (5 : Nat) (Option.none : Option Jvm.ClassFile.FieldType)) ∈ lw_all := lw_g (lw_at lw_m1 137 rfl) rfl
theorem q231 : (Jvm.Cond.methodLink "java/lang/RuntimeException" (16 : Nat) ({ cls := "java/lang/Exception", name := "<init>", desc := "(Ljava/lang/String;Ljava/lang/Throwable;ZZ)V" } : Jvm.MethodName)) ∈ lw_all := lw_g (lw_at lw_m1 138 rfl) rfl
theorem q966 : (Jvm.Cond.instanceMethod ({ cls := "java/lang/RuntimeException", name := "<init>", desc := "(Ljava/lang/String;)V" } : Jvm.MethodName)) ∈ lw_all := lw_g (lw_at lw_m4 153 rfl) rfl
theorem q967 : (Jvm.Cond.code ({ cls := "java/lang/RuntimeException", name := "<init>", desc := "(Ljava/lang/String;)V" } : Jvm.MethodName) prog_30_method_2_code (2 : Nat) (Option.none : Option Jvm.ClassFile.FieldType)) ∈ lw_all := lw_g (lw_at lw_m4 154 rfl) rfl
theorem q968 : (Jvm.Cond.methodLink "java/lang/RuntimeException" (7 : Nat) ({ cls := "java/lang/Exception", name := "<init>", desc := "(Ljava/lang/String;)V" } : Jvm.MethodName)) ∈ lw_all := lw_g (lw_at lw_m4 155 rfl) rfl
theorem q1004 : (Jvm.Cond.instanceMethod ({ cls := "java/lang/RuntimeException", name := "<init>", desc := "()V" } : Jvm.MethodName)) ∈ lw_all := lw_g (lw_at lw_m4 191 rfl) rfl
theorem q1005 : (Jvm.Cond.code ({ cls := "java/lang/RuntimeException", name := "<init>", desc := "()V" } : Jvm.MethodName) prog_30_method_1_code (1 : Nat) (Option.none : Option Jvm.ClassFile.FieldType)) ∈ lw_all := lw_g (lw_at lw_m4 192 rfl) rfl
theorem q1006 : (Jvm.Cond.methodLink "java/lang/RuntimeException" (1 : Nat) ({ cls := "java/lang/Exception", name := "<init>", desc := "()V" } : Jvm.MethodName)) ∈ lw_all := lw_g (lw_at lw_m4 193 rfl) rfl
theorem q1024 : (Jvm.Cond.castable "java/lang/RuntimeException" "java/lang/Throwable") ∈ lw_tbl := lw_at lw_m4 211 rfl
/-! java/lang/Math -/
set_option maxRecDepth 100000
def RJ3 : String := "java/lang/Math"
abbrev cJ3_max : ByteArray := prog_27_method_65_code
def yJ3_max : MethodName := ⟨RJ3, "max", "(II)I"⟩
def dkwJ3_max_0 : List UInt8 := [26, 27, 161, 0, 7, 26, 167, 0, 4, 27, 172]
abbrev dktJ3_max_0 : List UInt8 := dkwJ3_max_0 ++ []
theorem dksJ3_max_0 : cJ3_max.data.toList.drop 0 = dktJ3_max_0 := by decide +kernel
theorem dJ3_max_0 : decode cJ3_max 0 = .ok (.iload_n 0, 1) := dk_26 (dk_at dksJ3_max_0 0 rfl rfl)
theorem dJ3_max_1 : decode cJ3_max 1 = .ok (.iload_n 1, 1) := dk_27 (dk_at dksJ3_max_0 1 rfl rfl)
theorem dJ3_max_2 : decode cJ3_max 2 = .ok (.if_icmp .lt 7, 3) := dk_161 0 7 (dk_at dksJ3_max_0 2 rfl rfl)
theorem dJ3_max_5 : decode cJ3_max 5 = .ok (.iload_n 0, 1) := dk_26 (dk_at dksJ3_max_0 5 rfl rfl)
theorem dJ3_max_6 : decode cJ3_max 6 = .ok (.goto 4, 3) := dk_167 0 4 (dk_at dksJ3_max_0 6 rfl rfl)
theorem dJ3_max_9 : decode cJ3_max 9 = .ok (.iload_n 1, 1) := dk_27 (dk_at dksJ3_max_0 9 rfl rfl)
theorem dJ3_max_10 : decode cJ3_max 10 = .ok (.ireturn, 1) := dk_172 (dk_at dksJ3_max_0 10 rfl rfl)
abbrev cJ3_min : ByteArray := prog_27_method_69_code
def yJ3_min : MethodName := ⟨RJ3, "min", "(II)I"⟩
def dkwJ3_min_0 : List UInt8 := [26, 27, 163, 0, 7, 26, 167, 0, 4, 27, 172]
abbrev dktJ3_min_0 : List UInt8 := dkwJ3_min_0 ++ []
theorem dksJ3_min_0 : cJ3_min.data.toList.drop 0 = dktJ3_min_0 := by decide +kernel
theorem dJ3_min_0 : decode cJ3_min 0 = .ok (.iload_n 0, 1) := dk_26 (dk_at dksJ3_min_0 0 rfl rfl)
theorem dJ3_min_1 : decode cJ3_min 1 = .ok (.iload_n 1, 1) := dk_27 (dk_at dksJ3_min_0 1 rfl rfl)
theorem dJ3_min_2 : decode cJ3_min 2 = .ok (.if_icmp .gt 7, 3) := dk_163 0 7 (dk_at dksJ3_min_0 2 rfl rfl)
theorem dJ3_min_5 : decode cJ3_min 5 = .ok (.iload_n 0, 1) := dk_26 (dk_at dksJ3_min_0 5 rfl rfl)
theorem dJ3_min_6 : decode cJ3_min 6 = .ok (.goto 4, 3) := dk_167 0 4 (dk_at dksJ3_min_0 6 rfl rfl)
theorem dJ3_min_9 : decode cJ3_min 9 = .ok (.iload_n 1, 1) := dk_27 (dk_at dksJ3_min_0 9 rfl rfl)
theorem dJ3_min_10 : decode cJ3_min 10 = .ok (.ireturn, 1) := dk_172 (dk_at dksJ3_min_0 10 rfl rfl)
theorem q108 : (Jvm.Cond.initialized "java/lang/Math") ∈ lw_all := lw_g (lw_at lw_m1 15 rfl) rfl
theorem q441 : (Jvm.Cond.static ({ cls := "java/lang/Math", name := "max", desc := "(II)I" } : Jvm.MethodName)) ∈ lw_all := lw_g (lw_at lw_m2 108 rfl) rfl
theorem q442 : (Jvm.Cond.code ({ cls := "java/lang/Math", name := "max", desc := "(II)I" } : Jvm.MethodName) prog_27_method_65_code (2 : Nat) (Option.some Jvm.ClassFile.FieldType.int)) ∈ lw_all := lw_g (lw_at lw_m2 109 rfl) rfl
theorem q510 : (Jvm.Cond.static ({ cls := "java/lang/Math", name := "min", desc := "(II)I" } : Jvm.MethodName)) ∈ lw_all := lw_g (lw_at lw_m2 177 rfl) rfl
theorem q511 : (Jvm.Cond.code ({ cls := "java/lang/Math", name := "min", desc := "(II)I" } : Jvm.MethodName) prog_27_method_69_code (2 : Nat) (Option.some Jvm.ClassFile.FieldType.int)) ∈ lw_all := lw_g (lw_at lw_m2 178 rfl) rfl
/-! java/lang/NegativeArraySizeException -/
set_option maxRecDepth 100000
def RJ4 : String := "java/lang/NegativeArraySizeException"
def TJ4 : u_T := fun k => match k with
  | 0 => ("java/lang/Throwable", "backtrace", "Ljava/lang/Object;", false)
  | 1 => ("java/lang/Throwable", "detailMessage", "Ljava/lang/String;", false)
  | 2 => ("java/lang/Throwable", "cause", "Ljava/lang/Throwable;", false)
  | 3 => ("java/lang/Throwable", "stackTrace", "[Ljava/lang/StackTraceElement;", false)
  | 4 => ("java/lang/Throwable", "depth", "I", false)
  | _ => ("java/lang/Throwable", "suppressedExceptions", "Ljava/util/List;", false)
def tyJ4 : Nat → FieldType := fun k => match k with
  | 0 => .object "java/lang/Object"
  | 1 => .object "java/lang/String"
  | 2 => .object "java/lang/Throwable"
  | 3 => .array (.object "java/lang/StackTraceElement")
  | 4 => .int
  | _ => .object "java/util/List"
abbrev wsJ40 : List Cond := u_ws RJ4 TJ4 6
theorem nmJ4 : ∀ a, a < 6 → ∀ b, b < 6 → a ≠ b → (TJ4 a).2.1 ≠ (TJ4 b).2.1 := by decide +kernel
theorem tyJ4_ok : ∀ k, k < 6 → parseFieldDescriptor (TJ4 k).2.2.1 = some (tyJ4 k) := by decide +kernel
abbrev cJ4_init : ByteArray := prog_28_method_2_code
def yJ4_init : MethodName := ⟨RJ4, "<init>", "(Ljava/lang/String;)V"⟩
def dkwJ4_init_0 : List UInt8 := [42, 43, 183, 0, 7, 177]
abbrev dktJ4_init_0 : List UInt8 := dkwJ4_init_0 ++ []
theorem dksJ4_init_0 : cJ4_init.data.toList.drop 0 = dktJ4_init_0 := by decide +kernel
theorem dJ4_init_0 : decode cJ4_init 0 = .ok (.aload_n 0, 1) := dk_42 (dk_at dksJ4_init_0 0 rfl rfl)
theorem dJ4_init_1 : decode cJ4_init 1 = .ok (.aload_n 1, 1) := dk_43 (dk_at dksJ4_init_0 1 rfl rfl)
theorem dJ4_init_2 : decode cJ4_init 2 = .ok (.invokespecial 7, 3) := dk_183 0 7 (dk_at dksJ4_init_0 2 rfl rfl)
theorem dJ4_init_5 : decode cJ4_init 5 = .ok (.return_, 1) := dk_177 (dk_at dksJ4_init_0 5 rfl rfl)
theorem q116 : (Jvm.Cond.initialized "java/lang/NegativeArraySizeException") ∈ lw_all := lw_g (lw_at lw_m1 23 rfl) rfl
theorem q204 : (Jvm.Cond.selects "java/lang/NegativeArraySizeException" ({ cls := "java/lang/Throwable", name := "fillInStackTrace", desc := "()Ljava/lang/Throwable;" } : Jvm.MethodName) ({ cls := "java/lang/Throwable", name := "fillInStackTrace", desc := "()Ljava/lang/Throwable;" } : Jvm.MethodName)) ∈ lw_all := lw_g (lw_at lw_m1 111 rfl) rfl
theorem q962 : (Jvm.Cond.instantiable "java/lang/NegativeArraySizeException" (6 : Nat)) ∈ lw_all := lw_g (lw_at lw_m4 149 rfl) rfl
theorem q963 : (Jvm.Cond.instanceMethod ({ cls := "java/lang/NegativeArraySizeException", name := "<init>", desc := "(Ljava/lang/String;)V" } : Jvm.MethodName)) ∈ lw_all := lw_g (lw_at lw_m4 150 rfl) rfl
theorem q964 : (Jvm.Cond.code ({ cls := "java/lang/NegativeArraySizeException", name := "<init>", desc := "(Ljava/lang/String;)V" } : Jvm.MethodName) prog_28_method_2_code (2 : Nat) (Option.none : Option Jvm.ClassFile.FieldType)) ∈ lw_all := lw_g (lw_at lw_m4 151 rfl) rfl
theorem q965 : (Jvm.Cond.methodLink "java/lang/NegativeArraySizeException" (7 : Nat) ({ cls := "java/lang/RuntimeException", name := "<init>", desc := "(Ljava/lang/String;)V" } : Jvm.MethodName)) ∈ lw_all := lw_g (lw_at lw_m4 152 rfl) rfl
theorem q974 : (Jvm.Cond.lays "java/lang/NegativeArraySizeException" "java/lang/Throwable" "backtrace" "Ljava/lang/Object;") ∈ lw_all := lw_g (lw_at lw_m4 161 rfl) rfl
theorem q975 : (Jvm.Cond.lays "java/lang/NegativeArraySizeException" "java/lang/Throwable" "detailMessage" "Ljava/lang/String;") ∈ lw_all := lw_g (lw_at lw_m4 162 rfl) rfl
theorem q976 : (Jvm.Cond.lays "java/lang/NegativeArraySizeException" "java/lang/Throwable" "cause" "Ljava/lang/Throwable;") ∈ lw_all := lw_g (lw_at lw_m4 163 rfl) rfl
theorem q977 : (Jvm.Cond.lays "java/lang/NegativeArraySizeException" "java/lang/Throwable" "stackTrace" "[Ljava/lang/StackTraceElement;") ∈ lw_all := lw_g (lw_at lw_m4 164 rfl) rfl
theorem q978 : (Jvm.Cond.lays "java/lang/NegativeArraySizeException" "java/lang/Throwable" "depth" "I") ∈ lw_all := lw_g (lw_at lw_m4 165 rfl) rfl
theorem q979 : (Jvm.Cond.lays "java/lang/NegativeArraySizeException" "java/lang/Throwable" "suppressedExceptions" "Ljava/util/List;") ∈ lw_all := lw_g (lw_at lw_m4 166 rfl) rfl
theorem q980 : (Jvm.Cond.superclass "java/lang/NegativeArraySizeException" "java/lang/RuntimeException") ∈ lw_all := lw_g (lw_at lw_m4 167 rfl) rfl
theorem q981 : (Jvm.Cond.castable "java/lang/NegativeArraySizeException" "java/lang/NegativeArraySizeException") ∈ lw_tbl := lw_at lw_m4 168 rfl
theorem q982 : (Jvm.Cond.selects "java/lang/NegativeArraySizeException" ({ cls := "java/lang/Throwable", name := "fillInStackTrace", desc := "(I)Ljava/lang/Throwable;" } : Jvm.MethodName) ({ cls := "java/lang/Throwable", name := "fillInStackTrace", desc := "(I)Ljava/lang/Throwable;" } : Jvm.MethodName)) ∈ lw_all := lw_g (lw_at lw_m4 169 rfl) rfl
theorem in_J4 : ∀ w ∈ wsJ40, w ∈ lw_all := lw_in wsJ40 [974, 975, 976, 977, 978, 979] (by decide +kernel) (by decide +kernel)
/-! java/lang/String -/
set_option maxRecDepth 100000
def RJ5 : String := "java/lang/String"
def TJ5 : u_T := fun k => match k with
  | 0 => ("java/lang/String", "value", "[B", true)
  | _ => ("java/lang/String", "coder", "B", true)
def tyJ5 : Nat → FieldType := fun k => match k with
  | 0 => .array .byte
  | _ => .byte
abbrev wsJ50 : List Cond := u_ws RJ5 TJ5 2
theorem nmJ5 : ∀ a, a < 2 → ∀ b, b < 2 → a ≠ b → (TJ5 a).2.1 ≠ (TJ5 b).2.1 := by decide +kernel
theorem tyJ5_ok : ∀ k, k < 2 → parseFieldDescriptor (TJ5 k).2.2.1 = some (tyJ5 k) := by decide +kernel
theorem q117 : (Jvm.Cond.initialized "java/lang/String") ∈ lw_all := lw_g (lw_at lw_m1 24 rfl) rfl
theorem q983 : (Jvm.Cond.instantiable "java/lang/String" (4 : Nat)) ∈ lw_all := lw_g (lw_at lw_m4 170 rfl) rfl
theorem q984 : (Jvm.Cond.laysFinal "java/lang/String" "java/lang/String" "value" "[B") ∈ lw_all := lw_g (lw_at lw_m4 171 rfl) rfl
theorem q985 : (Jvm.Cond.soleField "java/lang/String" "value") ∈ lw_all := lw_g (lw_at lw_m4 172 rfl) rfl
theorem q986 : (Jvm.Cond.laysFinal "java/lang/String" "java/lang/String" "coder" "B") ∈ lw_all := lw_g (lw_at lw_m4 173 rfl) rfl
theorem q987 : (Jvm.Cond.soleField "java/lang/String" "coder") ∈ lw_all := lw_g (lw_at lw_m4 174 rfl) rfl
theorem in_J5 : ∀ w ∈ wsJ50, w ∈ lw_all := lw_in wsJ50 [984, 986] (by decide +kernel) (by decide +kernel)
/-! java/lang/NullPointerException -/
set_option maxRecDepth 100000
def RJ6 : String := "java/lang/NullPointerException"
def TJ6 : u_T := fun k => match k with
  | 0 => ("java/lang/Throwable", "backtrace", "Ljava/lang/Object;", false)
  | 1 => ("java/lang/Throwable", "detailMessage", "Ljava/lang/String;", false)
  | 2 => ("java/lang/Throwable", "cause", "Ljava/lang/Throwable;", false)
  | 3 => ("java/lang/Throwable", "stackTrace", "[Ljava/lang/StackTraceElement;", false)
  | 4 => ("java/lang/Throwable", "depth", "I", false)
  | 5 => ("java/lang/Throwable", "suppressedExceptions", "Ljava/util/List;", false)
  | 6 => ("java/lang/NullPointerException", "extendedMessageState", "I", false)
  | _ => ("java/lang/NullPointerException", "extendedMessage", "Ljava/lang/String;", false)
def tyJ6 : Nat → FieldType := fun k => match k with
  | 0 => .object "java/lang/Object"
  | 1 => .object "java/lang/String"
  | 2 => .object "java/lang/Throwable"
  | 3 => .array (.object "java/lang/StackTraceElement")
  | 4 => .int
  | 5 => .object "java/util/List"
  | 6 => .int
  | _ => .object "java/lang/String"
abbrev wsJ60 : List Cond := u_ws RJ6 TJ6 8
theorem nmJ6 : ∀ a, a < 8 → ∀ b, b < 8 → a ≠ b → (TJ6 a).2.1 ≠ (TJ6 b).2.1 := by decide +kernel
theorem tyJ6_ok : ∀ k, k < 8 → parseFieldDescriptor (TJ6 k).2.2.1 = some (tyJ6 k) := by decide +kernel
abbrev cJ6_init : ByteArray := prog_29_method_1_code
def yJ6_init : MethodName := ⟨RJ6, "<init>", "()V"⟩
theorem dJ6_init_0 : decode cJ6_init 0 = .ok (.aload_n 0, 1) := by decide +kernel
theorem dJ6_init_1 : decode cJ6_init 1 = .ok (.invokespecial 1, 3) := by decide +kernel
theorem dJ6_init_4 : decode cJ6_init 4 = .ok (.return_, 1) := by decide +kernel
theorem q118 : (Jvm.Cond.initialized "java/lang/NullPointerException") ∈ lw_all := lw_g (lw_at lw_m1 25 rfl) rfl
theorem q205 : (Jvm.Cond.selects "java/lang/NullPointerException" ({ cls := "java/lang/Throwable", name := "fillInStackTrace", desc := "()Ljava/lang/Throwable;" } : Jvm.MethodName) ({ cls := "java/lang/NullPointerException", name := "fillInStackTrace", desc := "()Ljava/lang/Throwable;" } : Jvm.MethodName)) ∈ lw_all := lw_g (lw_at lw_m1 112 rfl) rfl
theorem q206 : (Jvm.Cond.instanceMethod ({ cls := "java/lang/NullPointerException", name := "fillInStackTrace", desc := "()Ljava/lang/Throwable;" } : Jvm.MethodName)) ∈ lw_all := lw_g (lw_at lw_m1 113 rfl) rfl
theorem q207 : (Jvm.Cond.codeSync ({ cls := "java/lang/NullPointerException", name := "fillInStackTrace", desc := "()Ljava/lang/Throwable;" } : Jvm.MethodName) prog_29_method_3_code (1 : Nat) (Option.some (Jvm.ClassFile.FieldType.object "java/lang/Throwable"))) ∈ lw_all := lw_g (lw_at lw_m1 114 rfl) rfl
theorem q208 : (Jvm.Cond.methodLink "java/lang/NullPointerException" (16 : Nat) ({ cls := "java/lang/NullPointerException", name := "getExtendedNPEMessage", desc := "()Ljava/lang/String;" } : Jvm.MethodName)) ∈ lw_all := lw_g (lw_at lw_m1 115 rfl) rfl
theorem q209 : (Jvm.Cond.privateMethod ({ cls := "java/lang/NullPointerException", name := "getExtendedNPEMessage", desc := "()Ljava/lang/String;" } : Jvm.MethodName)) ∈ lw_tbl := lw_at lw_m1 116 rfl
theorem q210 : (Jvm.Cond.instanceMethod ({ cls := "java/lang/NullPointerException", name := "getExtendedNPEMessage", desc := "()Ljava/lang/String;" } : Jvm.MethodName)) ∈ lw_all := lw_g (lw_at lw_m1 117 rfl) rfl
theorem q211 : (Jvm.Cond.instantiable "java/lang/NullPointerException" (8 : Nat)) ∈ lw_all := lw_g (lw_at lw_m1 118 rfl) rfl
theorem q212 : (Jvm.Cond.native ({ cls := "java/lang/NullPointerException", name := "getExtendedNPEMessage", desc := "()Ljava/lang/String;" } : Jvm.MethodName)) ∈ lw_all := lw_g (lw_at lw_m1 119 rfl) rfl
theorem q213 : (Jvm.Cond.methodLink "java/lang/NullPointerException" (24 : Nat) ({ cls := "java/lang/RuntimeException", name := "fillInStackTrace", desc := "()Ljava/lang/Throwable;" } : Jvm.MethodName)) ∈ lw_all := lw_g (lw_at lw_m1 120 rfl) rfl
theorem q216 : (Jvm.Cond.superclass "java/lang/NullPointerException" "java/lang/RuntimeException") ∈ lw_all := lw_g (lw_at lw_m1 123 rfl) rfl
theorem q1001 : (Jvm.Cond.instanceMethod ({ cls := "java/lang/NullPointerException", name := "<init>", desc := "()V" } : Jvm.MethodName)) ∈ lw_all := lw_g (lw_at lw_m4 188 rfl) rfl
theorem q1002 : (Jvm.Cond.code ({ cls := "java/lang/NullPointerException", name := "<init>", desc := "()V" } : Jvm.MethodName) prog_29_method_1_code (1 : Nat) (Option.none : Option Jvm.ClassFile.FieldType)) ∈ lw_all := lw_g (lw_at lw_m4 189 rfl) rfl
theorem q1003 : (Jvm.Cond.methodLink "java/lang/NullPointerException" (1 : Nat) ({ cls := "java/lang/RuntimeException", name := "<init>", desc := "()V" } : Jvm.MethodName)) ∈ lw_all := lw_g (lw_at lw_m4 190 rfl) rfl
theorem q1010 : (Jvm.Cond.fieldLink "java/lang/NullPointerException" (10 : Nat) "java/lang/NullPointerException" "extendedMessageState" "I") ∈ lw_all := lw_g (lw_at lw_m4 197 rfl) rfl
theorem q1011 : (Jvm.Cond.fieldLink "java/lang/NullPointerException" (20 : Nat) "java/lang/NullPointerException" "extendedMessage" "Ljava/lang/String;") ∈ lw_all := lw_g (lw_at lw_m4 198 rfl) rfl
theorem q1012 : (Jvm.Cond.lays "java/lang/NullPointerException" "java/lang/NullPointerException" "extendedMessageState" "I") ∈ lw_all := lw_g (lw_at lw_m4 199 rfl) rfl
theorem q1013 : (Jvm.Cond.soleField "java/lang/NullPointerException" "extendedMessageState") ∈ lw_all := lw_g (lw_at lw_m4 200 rfl) rfl
theorem q1014 : (Jvm.Cond.lays "java/lang/NullPointerException" "java/lang/NullPointerException" "extendedMessage" "Ljava/lang/String;") ∈ lw_all := lw_g (lw_at lw_m4 201 rfl) rfl
theorem q1015 : (Jvm.Cond.soleField "java/lang/NullPointerException" "extendedMessage") ∈ lw_all := lw_g (lw_at lw_m4 202 rfl) rfl
theorem q1016 : (Jvm.Cond.lays "java/lang/NullPointerException" "java/lang/Throwable" "backtrace" "Ljava/lang/Object;") ∈ lw_all := lw_g (lw_at lw_m4 203 rfl) rfl
theorem q1017 : (Jvm.Cond.lays "java/lang/NullPointerException" "java/lang/Throwable" "detailMessage" "Ljava/lang/String;") ∈ lw_all := lw_g (lw_at lw_m4 204 rfl) rfl
theorem q1018 : (Jvm.Cond.lays "java/lang/NullPointerException" "java/lang/Throwable" "cause" "Ljava/lang/Throwable;") ∈ lw_all := lw_g (lw_at lw_m4 205 rfl) rfl
theorem q1019 : (Jvm.Cond.lays "java/lang/NullPointerException" "java/lang/Throwable" "stackTrace" "[Ljava/lang/StackTraceElement;") ∈ lw_all := lw_g (lw_at lw_m4 206 rfl) rfl
theorem q1020 : (Jvm.Cond.lays "java/lang/NullPointerException" "java/lang/Throwable" "depth" "I") ∈ lw_all := lw_g (lw_at lw_m4 207 rfl) rfl
theorem q1021 : (Jvm.Cond.lays "java/lang/NullPointerException" "java/lang/Throwable" "suppressedExceptions" "Ljava/util/List;") ∈ lw_all := lw_g (lw_at lw_m4 208 rfl) rfl
theorem q1022 : (Jvm.Cond.castable "java/lang/NullPointerException" "java/lang/NullPointerException") ∈ lw_tbl := lw_at lw_m4 209 rfl
theorem q1023 : (Jvm.Cond.selects "java/lang/NullPointerException" ({ cls := "java/lang/Throwable", name := "fillInStackTrace", desc := "(I)Ljava/lang/Throwable;" } : Jvm.MethodName) ({ cls := "java/lang/Throwable", name := "fillInStackTrace", desc := "(I)Ljava/lang/Throwable;" } : Jvm.MethodName)) ∈ lw_all := lw_g (lw_at lw_m4 210 rfl) rfl
theorem in_J6 : ∀ w ∈ wsJ60, w ∈ lw_all := lw_in wsJ60 [1016, 1017, 1018, 1019, 1020, 1021, 1012, 1014] (by decide +kernel) (by decide +kernel)
/-! java/lang/IndexOutOfBoundsException -/
set_option maxRecDepth 100000
def RJ7 : String := "java/lang/IndexOutOfBoundsException"
abbrev cJ7_init : ByteArray := prog_26_method_2_code
def yJ7_init : MethodName := ⟨RJ7, "<init>", "(Ljava/lang/String;)V"⟩
def dkwJ7_init_0 : List UInt8 := [42, 43, 183, 0, 7, 177]
abbrev dktJ7_init_0 : List UInt8 := dkwJ7_init_0 ++ []
theorem dksJ7_init_0 : cJ7_init.data.toList.drop 0 = dktJ7_init_0 := by decide +kernel
theorem dJ7_init_0 : decode cJ7_init 0 = .ok (.aload_n 0, 1) := dk_42 (dk_at dksJ7_init_0 0 rfl rfl)
theorem dJ7_init_1 : decode cJ7_init 1 = .ok (.aload_n 1, 1) := dk_43 (dk_at dksJ7_init_0 1 rfl rfl)
theorem dJ7_init_2 : decode cJ7_init 2 = .ok (.invokespecial 7, 3) := dk_183 0 7 (dk_at dksJ7_init_0 2 rfl rfl)
theorem dJ7_init_5 : decode cJ7_init 5 = .ok (.return_, 1) := dk_177 (dk_at dksJ7_init_0 5 rfl rfl)
theorem q119 : (Jvm.Cond.initialized "java/lang/IndexOutOfBoundsException") ∈ lw_all := lw_g (lw_at lw_m1 26 rfl) rfl
theorem q1030 : (Jvm.Cond.instanceMethod ({ cls := "java/lang/IndexOutOfBoundsException", name := "<init>", desc := "(Ljava/lang/String;)V" } : Jvm.MethodName)) ∈ lw_all := lw_g (lw_at lw_m4 217 rfl) rfl
theorem q1031 : (Jvm.Cond.code ({ cls := "java/lang/IndexOutOfBoundsException", name := "<init>", desc := "(Ljava/lang/String;)V" } : Jvm.MethodName) prog_26_method_2_code (2 : Nat) (Option.none : Option Jvm.ClassFile.FieldType)) ∈ lw_all := lw_g (lw_at lw_m4 218 rfl) rfl
theorem q1032 : (Jvm.Cond.methodLink "java/lang/IndexOutOfBoundsException" (7 : Nat) ({ cls := "java/lang/RuntimeException", name := "<init>", desc := "(Ljava/lang/String;)V" } : Jvm.MethodName)) ∈ lw_all := lw_g (lw_at lw_m4 219 rfl) rfl
theorem q1041 : (Jvm.Cond.declares ({ cls := "java/lang/IndexOutOfBoundsException", name := "<init>", desc := "()V" } : Jvm.MethodName)) ∈ lw_tbl := lw_at lw_m4 228 rfl
theorem q1042 : (Jvm.Cond.declares ({ cls := "java/lang/IndexOutOfBoundsException", name := "<init>", desc := "(Ljava/lang/String;)V" } : Jvm.MethodName)) ∈ lw_tbl := lw_at lw_m4 229 rfl
/-! java/lang/ArrayIndexOutOfBoundsException -/
set_option maxRecDepth 100000
def RJ8 : String := "java/lang/ArrayIndexOutOfBoundsException"
def TJ8 : u_T := fun k => match k with
  | 0 => ("java/lang/Throwable", "backtrace", "Ljava/lang/Object;", false)
  | 1 => ("java/lang/Throwable", "detailMessage", "Ljava/lang/String;", false)
  | 2 => ("java/lang/Throwable", "cause", "Ljava/lang/Throwable;", false)
  | 3 => ("java/lang/Throwable", "stackTrace", "[Ljava/lang/StackTraceElement;", false)
  | 4 => ("java/lang/Throwable", "depth", "I", false)
  | _ => ("java/lang/Throwable", "suppressedExceptions", "Ljava/util/List;", false)
def tyJ8 : Nat → FieldType := fun k => match k with
  | 0 => .object "java/lang/Object"
  | 1 => .object "java/lang/String"
  | 2 => .object "java/lang/Throwable"
  | 3 => .array (.object "java/lang/StackTraceElement")
  | 4 => .int
  | _ => .object "java/util/List"
abbrev wsJ80 : List Cond := u_ws RJ8 TJ8 6
theorem nmJ8 : ∀ a, a < 6 → ∀ b, b < 6 → a ≠ b → (TJ8 a).2.1 ≠ (TJ8 b).2.1 := by decide +kernel
theorem tyJ8_ok : ∀ k, k < 6 → parseFieldDescriptor (TJ8 k).2.2.1 = some (tyJ8 k) := by decide +kernel
abbrev cJ8_init : ByteArray := prog_22_method_2_code
def yJ8_init : MethodName := ⟨RJ8, "<init>", "(Ljava/lang/String;)V"⟩
def dkwJ8_init_0 : List UInt8 := [42, 43, 183, 0, 7, 177]
abbrev dktJ8_init_0 : List UInt8 := dkwJ8_init_0 ++ []
theorem dksJ8_init_0 : cJ8_init.data.toList.drop 0 = dktJ8_init_0 := by decide +kernel
theorem dJ8_init_0 : decode cJ8_init 0 = .ok (.aload_n 0, 1) := dk_42 (dk_at dksJ8_init_0 0 rfl rfl)
theorem dJ8_init_1 : decode cJ8_init 1 = .ok (.aload_n 1, 1) := dk_43 (dk_at dksJ8_init_0 1 rfl rfl)
theorem dJ8_init_2 : decode cJ8_init 2 = .ok (.invokespecial 7, 3) := dk_183 0 7 (dk_at dksJ8_init_0 2 rfl rfl)
theorem dJ8_init_5 : decode cJ8_init 5 = .ok (.return_, 1) := dk_177 (dk_at dksJ8_init_0 5 rfl rfl)
theorem q120 : (Jvm.Cond.initialized "java/lang/ArrayIndexOutOfBoundsException") ∈ lw_all := lw_g (lw_at lw_m1 27 rfl) rfl
theorem q202 : (Jvm.Cond.selects "java/lang/ArrayIndexOutOfBoundsException" ({ cls := "java/lang/Throwable", name := "fillInStackTrace", desc := "()Ljava/lang/Throwable;" } : Jvm.MethodName) ({ cls := "java/lang/Throwable", name := "fillInStackTrace", desc := "()Ljava/lang/Throwable;" } : Jvm.MethodName)) ∈ lw_all := lw_g (lw_at lw_m1 109 rfl) rfl
theorem q1026 : (Jvm.Cond.instantiable "java/lang/ArrayIndexOutOfBoundsException" (6 : Nat)) ∈ lw_all := lw_g (lw_at lw_m4 213 rfl) rfl
theorem q1027 : (Jvm.Cond.instanceMethod ({ cls := "java/lang/ArrayIndexOutOfBoundsException", name := "<init>", desc := "(Ljava/lang/String;)V" } : Jvm.MethodName)) ∈ lw_all := lw_g (lw_at lw_m4 214 rfl) rfl
theorem q1028 : (Jvm.Cond.code ({ cls := "java/lang/ArrayIndexOutOfBoundsException", name := "<init>", desc := "(Ljava/lang/String;)V" } : Jvm.MethodName) prog_22_method_2_code (2 : Nat) (Option.none : Option Jvm.ClassFile.FieldType)) ∈ lw_all := lw_g (lw_at lw_m4 215 rfl) rfl
theorem q1029 : (Jvm.Cond.methodLink "java/lang/ArrayIndexOutOfBoundsException" (7 : Nat) ({ cls := "java/lang/IndexOutOfBoundsException", name := "<init>", desc := "(Ljava/lang/String;)V" } : Jvm.MethodName)) ∈ lw_all := lw_g (lw_at lw_m4 216 rfl) rfl
theorem q1033 : (Jvm.Cond.lays "java/lang/ArrayIndexOutOfBoundsException" "java/lang/Throwable" "backtrace" "Ljava/lang/Object;") ∈ lw_all := lw_g (lw_at lw_m4 220 rfl) rfl
theorem q1034 : (Jvm.Cond.lays "java/lang/ArrayIndexOutOfBoundsException" "java/lang/Throwable" "detailMessage" "Ljava/lang/String;") ∈ lw_all := lw_g (lw_at lw_m4 221 rfl) rfl
theorem q1035 : (Jvm.Cond.lays "java/lang/ArrayIndexOutOfBoundsException" "java/lang/Throwable" "cause" "Ljava/lang/Throwable;") ∈ lw_all := lw_g (lw_at lw_m4 222 rfl) rfl
theorem q1036 : (Jvm.Cond.lays "java/lang/ArrayIndexOutOfBoundsException" "java/lang/Throwable" "stackTrace" "[Ljava/lang/StackTraceElement;") ∈ lw_all := lw_g (lw_at lw_m4 223 rfl) rfl
theorem q1037 : (Jvm.Cond.lays "java/lang/ArrayIndexOutOfBoundsException" "java/lang/Throwable" "depth" "I") ∈ lw_all := lw_g (lw_at lw_m4 224 rfl) rfl
theorem q1038 : (Jvm.Cond.lays "java/lang/ArrayIndexOutOfBoundsException" "java/lang/Throwable" "suppressedExceptions" "Ljava/util/List;") ∈ lw_all := lw_g (lw_at lw_m4 225 rfl) rfl
theorem q1039 : (Jvm.Cond.superclass "java/lang/ArrayIndexOutOfBoundsException" "java/lang/IndexOutOfBoundsException") ∈ lw_all := lw_g (lw_at lw_m4 226 rfl) rfl
theorem q1040 : (Jvm.Cond.castable "java/lang/ArrayIndexOutOfBoundsException" "java/lang/ArrayIndexOutOfBoundsException") ∈ lw_tbl := lw_at lw_m4 227 rfl
theorem q1043 : (Jvm.Cond.selects "java/lang/ArrayIndexOutOfBoundsException" ({ cls := "java/lang/Throwable", name := "fillInStackTrace", desc := "(I)Ljava/lang/Throwable;" } : Jvm.MethodName) ({ cls := "java/lang/Throwable", name := "fillInStackTrace", desc := "(I)Ljava/lang/Throwable;" } : Jvm.MethodName)) ∈ lw_all := lw_g (lw_at lw_m4 230 rfl) rfl
theorem in_J8 : ∀ w ∈ wsJ80, w ∈ lw_all := lw_in wsJ80 [1033, 1034, 1035, 1036, 1037, 1038] (by decide +kernel) (by decide +kernel)
/-! java/lang/ClassCastException -/
set_option maxRecDepth 100000
def RJ9 : String := "java/lang/ClassCastException"
def TJ9 : u_T := fun k => match k with
  | 0 => ("java/lang/Throwable", "backtrace", "Ljava/lang/Object;", false)
  | 1 => ("java/lang/Throwable", "detailMessage", "Ljava/lang/String;", false)
  | 2 => ("java/lang/Throwable", "cause", "Ljava/lang/Throwable;", false)
  | 3 => ("java/lang/Throwable", "stackTrace", "[Ljava/lang/StackTraceElement;", false)
  | 4 => ("java/lang/Throwable", "depth", "I", false)
  | _ => ("java/lang/Throwable", "suppressedExceptions", "Ljava/util/List;", false)
def tyJ9 : Nat → FieldType := fun k => match k with
  | 0 => .object "java/lang/Object"
  | 1 => .object "java/lang/String"
  | 2 => .object "java/lang/Throwable"
  | 3 => .array (.object "java/lang/StackTraceElement")
  | 4 => .int
  | _ => .object "java/util/List"
abbrev wsJ90 : List Cond := u_ws RJ9 TJ9 6
theorem nmJ9 : ∀ a, a < 6 → ∀ b, b < 6 → a ≠ b → (TJ9 a).2.1 ≠ (TJ9 b).2.1 := by decide +kernel
theorem tyJ9_ok : ∀ k, k < 6 → parseFieldDescriptor (TJ9 k).2.2.1 = some (tyJ9 k) := by decide +kernel
abbrev cJ9_init : ByteArray := prog_23_method_2_code
def yJ9_init : MethodName := ⟨RJ9, "<init>", "(Ljava/lang/String;)V"⟩
def dkwJ9_init_0 : List UInt8 := [42, 43, 183, 0, 7, 177]
abbrev dktJ9_init_0 : List UInt8 := dkwJ9_init_0 ++ []
theorem dksJ9_init_0 : cJ9_init.data.toList.drop 0 = dktJ9_init_0 := by decide +kernel
theorem dJ9_init_0 : decode cJ9_init 0 = .ok (.aload_n 0, 1) := dk_42 (dk_at dksJ9_init_0 0 rfl rfl)
theorem dJ9_init_1 : decode cJ9_init 1 = .ok (.aload_n 1, 1) := dk_43 (dk_at dksJ9_init_0 1 rfl rfl)
theorem dJ9_init_2 : decode cJ9_init 2 = .ok (.invokespecial 7, 3) := dk_183 0 7 (dk_at dksJ9_init_0 2 rfl rfl)
theorem dJ9_init_5 : decode cJ9_init 5 = .ok (.return_, 1) := dk_177 (dk_at dksJ9_init_0 5 rfl rfl)
theorem q121 : (Jvm.Cond.initialized "java/lang/ClassCastException") ∈ lw_all := lw_g (lw_at lw_m1 28 rfl) rfl
theorem q203 : (Jvm.Cond.selects "java/lang/ClassCastException" ({ cls := "java/lang/Throwable", name := "fillInStackTrace", desc := "()Ljava/lang/Throwable;" } : Jvm.MethodName) ({ cls := "java/lang/Throwable", name := "fillInStackTrace", desc := "()Ljava/lang/Throwable;" } : Jvm.MethodName)) ∈ lw_all := lw_g (lw_at lw_m1 110 rfl) rfl
theorem q1053 : (Jvm.Cond.instantiable "java/lang/ClassCastException" (6 : Nat)) ∈ lw_all := lw_g (lw_at lw_m5 0 rfl) rfl
theorem q1054 : (Jvm.Cond.instanceMethod ({ cls := "java/lang/ClassCastException", name := "<init>", desc := "(Ljava/lang/String;)V" } : Jvm.MethodName)) ∈ lw_all := lw_g (lw_at lw_m5 1 rfl) rfl
theorem q1055 : (Jvm.Cond.code ({ cls := "java/lang/ClassCastException", name := "<init>", desc := "(Ljava/lang/String;)V" } : Jvm.MethodName) prog_23_method_2_code (2 : Nat) (Option.none : Option Jvm.ClassFile.FieldType)) ∈ lw_all := lw_g (lw_at lw_m5 2 rfl) rfl
theorem q1056 : (Jvm.Cond.methodLink "java/lang/ClassCastException" (7 : Nat) ({ cls := "java/lang/RuntimeException", name := "<init>", desc := "(Ljava/lang/String;)V" } : Jvm.MethodName)) ∈ lw_all := lw_g (lw_at lw_m5 3 rfl) rfl
theorem q1057 : (Jvm.Cond.lays "java/lang/ClassCastException" "java/lang/Throwable" "backtrace" "Ljava/lang/Object;") ∈ lw_all := lw_g (lw_at lw_m5 4 rfl) rfl
theorem q1058 : (Jvm.Cond.lays "java/lang/ClassCastException" "java/lang/Throwable" "detailMessage" "Ljava/lang/String;") ∈ lw_all := lw_g (lw_at lw_m5 5 rfl) rfl
theorem q1059 : (Jvm.Cond.lays "java/lang/ClassCastException" "java/lang/Throwable" "cause" "Ljava/lang/Throwable;") ∈ lw_all := lw_g (lw_at lw_m5 6 rfl) rfl
theorem q1060 : (Jvm.Cond.lays "java/lang/ClassCastException" "java/lang/Throwable" "stackTrace" "[Ljava/lang/StackTraceElement;") ∈ lw_all := lw_g (lw_at lw_m5 7 rfl) rfl
theorem q1061 : (Jvm.Cond.lays "java/lang/ClassCastException" "java/lang/Throwable" "depth" "I") ∈ lw_all := lw_g (lw_at lw_m5 8 rfl) rfl
theorem q1062 : (Jvm.Cond.lays "java/lang/ClassCastException" "java/lang/Throwable" "suppressedExceptions" "Ljava/util/List;") ∈ lw_all := lw_g (lw_at lw_m5 9 rfl) rfl
theorem q1063 : (Jvm.Cond.superclass "java/lang/ClassCastException" "java/lang/RuntimeException") ∈ lw_all := lw_g (lw_at lw_m5 10 rfl) rfl
theorem q1064 : (Jvm.Cond.castable "java/lang/ClassCastException" "java/lang/ClassCastException") ∈ lw_tbl := lw_at lw_m5 11 rfl
theorem q1065 : (Jvm.Cond.selects "java/lang/ClassCastException" ({ cls := "java/lang/Throwable", name := "fillInStackTrace", desc := "(I)Ljava/lang/Throwable;" } : Jvm.MethodName) ({ cls := "java/lang/Throwable", name := "fillInStackTrace", desc := "(I)Ljava/lang/Throwable;" } : Jvm.MethodName)) ∈ lw_all := lw_g (lw_at lw_m5 12 rfl) rfl
theorem in_J9 : ∀ w ∈ wsJ90, w ∈ lw_all := lw_in wsJ90 [1057, 1058, 1059, 1060, 1061, 1062] (by decide +kernel) (by decide +kernel)
/-! PromiseTries -/
set_option maxRecDepth 100000
def RX0 : String := "PromiseTries"
def TX0 : u_T := fun k => match k with
  | 0 => ("PromiseTries", "tape", "[B", true)
  | 1 => ("PromiseTries", "taped", "I", false)
  | 2 => ("PromiseTries", "fault", "I", false)
  | 3 => ("PromiseTries", "promises", "[LPromiseTries$Promise;", false)
  | 4 => ("PromiseTries", "many", "I", false)
  | 5 => ("PromiseTries", "trace", "[I", true)
  | 6 => ("PromiseTries", "ticks", "I", false)
  | 7 => ("PromiseTries", "isRun", "Z", false)
  | 8 => ("PromiseTries", "verdicts", "[[I", true)
  | 9 => ("PromiseTries", "decisions", "[[I", true)
  | 10 => ("PromiseTries", "duties", "[I", true)
  | 11 => ("PromiseTries", "drawn", "I", false)
  | 12 => ("PromiseTries", "images", "[[I", true)
  | 13 => ("PromiseTries", "sheets", "[LPromiseTries$Sheet;", true)
  | 14 => ("PromiseTries", "lanes", "[LPromiseTries$Cells;", true)
  | _ => ("PromiseTries", "torn", "I", false)
def tyX0 : Nat → FieldType := fun k => match k with
  | 0 => .array .byte
  | 1 => .int
  | 2 => .int
  | 3 => .array (.object "PromiseTries$Promise")
  | 4 => .int
  | 5 => .array .int
  | 6 => .int
  | 7 => .boolean
  | 8 => .array (.array .int)
  | 9 => .array (.array .int)
  | 10 => .array .int
  | 11 => .int
  | 12 => .array (.array .int)
  | 13 => .array (.object "PromiseTries$Sheet")
  | 14 => .array (.object "PromiseTries$Cells")
  | _ => .int
abbrev wsX00 : List Cond := u_ws RX0 TX0 16
set_option maxRecDepth 100000 in
theorem nmX0 : ∀ a, a < 16 → ∀ b, b < 16 → a ≠ b → (TX0 a).2.1 ≠ (TX0 b).2.1 := by decide +kernel
set_option maxRecDepth 100000 in
theorem tyX0_ok : ∀ k, k < 16 → parseFieldDescriptor (TX0 k).2.2.1 = some (tyX0 k) := by decide +kernel
abbrev cX0_feed : ByteArray := prog_1_method_4_code
def yX0_feed : MethodName := ⟨RX0, "feed", "(I)I"⟩
def dkwX0_feed_2 : List UInt8 := [42, 180, 0, 21, 172]
abbrev dktX0_feed_2 : List UInt8 := dkwX0_feed_2 ++ []
def dkwX0_feed_1 : List UInt8 := [16, 253, 172, 42, 180, 0, 25, 42, 180, 0, 21, 27, 145, 84, 42, 89, 180, 0, 21, 4, 96, 181, 0, 21]
abbrev dktX0_feed_1 : List UInt8 := dkwX0_feed_1 ++ dktX0_feed_2
def dkwX0_feed_0 : List UInt8 := [27, 133, 9, 20, 0, 15, 184, 0, 17, 154, 0, 5, 2, 172, 42, 180, 0, 21, 17, 0, 200, 160, 0, 6]
abbrev dktX0_feed_0 : List UInt8 := dkwX0_feed_0 ++ dktX0_feed_1
theorem dksX0_feed_0 : cX0_feed.data.toList.drop 0 = dktX0_feed_0 := by decide +kernel
theorem dksX0_feed_1 : cX0_feed.data.toList.drop 24 = dktX0_feed_1 := dk_seg dksX0_feed_0 24 rfl rfl
theorem dksX0_feed_2 : cX0_feed.data.toList.drop 48 = dktX0_feed_2 := dk_seg dksX0_feed_1 24 rfl rfl
theorem dX0_feed_0 : decode cX0_feed 0 = .ok (.iload_n 1, 1) := dk_27 (dk_at dksX0_feed_0 0 rfl rfl)
theorem dX0_feed_1 : decode cX0_feed 1 = .ok (.i2l, 1) := dk_133 (dk_at dksX0_feed_0 1 rfl rfl)
theorem dX0_feed_2 : decode cX0_feed 2 = .ok (.lconst 0, 1) := dk_9 (dk_at dksX0_feed_0 2 rfl rfl)
theorem dX0_feed_3 : decode cX0_feed 3 = .ok (.ldc2_w 15, 3) := dk_20 0 15 (dk_at dksX0_feed_0 3 rfl rfl)
theorem dX0_feed_6 : decode cX0_feed 6 = .ok (.invokestatic 17, 3) := dk_184 0 17 (dk_at dksX0_feed_0 6 rfl rfl)
theorem dX0_feed_9 : decode cX0_feed 9 = .ok (.ifCond .ne 5, 3) := dk_154 0 5 (dk_at dksX0_feed_0 9 rfl rfl)
theorem dX0_feed_12 : decode cX0_feed 12 = .ok (.iconst (-1), 1) := dk_2 (dk_at dksX0_feed_0 12 rfl rfl)
theorem dX0_feed_13 : decode cX0_feed 13 = .ok (.ireturn, 1) := dk_172 (dk_at dksX0_feed_0 13 rfl rfl)
theorem dX0_feed_14 : decode cX0_feed 14 = .ok (.aload_n 0, 1) := dk_42 (dk_at dksX0_feed_0 14 rfl rfl)
theorem dX0_feed_15 : decode cX0_feed 15 = .ok (.getfield 21, 3) := dk_180 0 21 (dk_at dksX0_feed_0 15 rfl rfl)
theorem dX0_feed_18 : decode cX0_feed 18 = .ok (.sipush 200, 3) := dk_17 0 200 (dk_at dksX0_feed_0 18 rfl rfl)
theorem dX0_feed_21 : decode cX0_feed 21 = .ok (.if_icmp .ne 6, 3) := dk_160 0 6 (dk_at dksX0_feed_0 21 rfl rfl)
theorem dX0_feed_24 : decode cX0_feed 24 = .ok (.bipush (-3), 2) := dk_16 253 (dk_at dksX0_feed_1 0 rfl rfl)
theorem dX0_feed_26 : decode cX0_feed 26 = .ok (.ireturn, 1) := dk_172 (dk_at dksX0_feed_1 2 rfl rfl)
theorem dX0_feed_27 : decode cX0_feed 27 = .ok (.aload_n 0, 1) := dk_42 (dk_at dksX0_feed_1 3 rfl rfl)
theorem dX0_feed_28 : decode cX0_feed 28 = .ok (.getfield 25, 3) := dk_180 0 25 (dk_at dksX0_feed_1 4 rfl rfl)
theorem dX0_feed_31 : decode cX0_feed 31 = .ok (.aload_n 0, 1) := dk_42 (dk_at dksX0_feed_1 7 rfl rfl)
theorem dX0_feed_32 : decode cX0_feed 32 = .ok (.getfield 21, 3) := dk_180 0 21 (dk_at dksX0_feed_1 8 rfl rfl)
theorem dX0_feed_35 : decode cX0_feed 35 = .ok (.iload_n 1, 1) := dk_27 (dk_at dksX0_feed_1 11 rfl rfl)
theorem dX0_feed_36 : decode cX0_feed 36 = .ok (.i2b, 1) := dk_145 (dk_at dksX0_feed_1 12 rfl rfl)
theorem dX0_feed_37 : decode cX0_feed 37 = .ok (.bastore, 1) := dk_84 (dk_at dksX0_feed_1 13 rfl rfl)
theorem dX0_feed_38 : decode cX0_feed 38 = .ok (.aload_n 0, 1) := dk_42 (dk_at dksX0_feed_1 14 rfl rfl)
theorem dX0_feed_39 : decode cX0_feed 39 = .ok (.dup, 1) := dk_89 (dk_at dksX0_feed_1 15 rfl rfl)
theorem dX0_feed_40 : decode cX0_feed 40 = .ok (.getfield 21, 3) := dk_180 0 21 (dk_at dksX0_feed_1 16 rfl rfl)
theorem dX0_feed_43 : decode cX0_feed 43 = .ok (.iconst 1, 1) := dk_4 (dk_at dksX0_feed_1 19 rfl rfl)
theorem dX0_feed_44 : decode cX0_feed 44 = .ok (.iadd, 1) := dk_96 (dk_at dksX0_feed_1 20 rfl rfl)
theorem dX0_feed_45 : decode cX0_feed 45 = .ok (.putfield 21, 3) := dk_181 0 21 (dk_at dksX0_feed_1 21 rfl rfl)
theorem dX0_feed_48 : decode cX0_feed 48 = .ok (.aload_n 0, 1) := dk_42 (dk_at dksX0_feed_2 0 rfl rfl)
theorem dX0_feed_49 : decode cX0_feed 49 = .ok (.getfield 21, 3) := dk_180 0 21 (dk_at dksX0_feed_2 1 rfl rfl)
theorem dX0_feed_52 : decode cX0_feed 52 = .ok (.ireturn, 1) := dk_172 (dk_at dksX0_feed_2 4 rfl rfl)
abbrev cX0_isIn : ByteArray := prog_1_method_1_code
def yX0_isIn : MethodName := ⟨RX0, "isIn", "(JJJ)Z"⟩
def dkwX0_isIn_0 : List UInt8 := [30, 32, 148, 155, 0, 14, 30, 22, 4, 148, 157, 0, 7, 4, 167, 0, 4, 3, 172]
abbrev dktX0_isIn_0 : List UInt8 := dkwX0_isIn_0 ++ []
theorem dksX0_isIn_0 : cX0_isIn.data.toList.drop 0 = dktX0_isIn_0 := by decide +kernel
theorem dX0_isIn_0 : decode cX0_isIn 0 = .ok (.lload_n 0, 1) := dk_30 (dk_at dksX0_isIn_0 0 rfl rfl)
theorem dX0_isIn_1 : decode cX0_isIn 1 = .ok (.lload_n 2, 1) := dk_32 (dk_at dksX0_isIn_0 1 rfl rfl)
theorem dX0_isIn_2 : decode cX0_isIn 2 = .ok (.lcmp, 1) := dk_148 (dk_at dksX0_isIn_0 2 rfl rfl)
theorem dX0_isIn_3 : decode cX0_isIn 3 = .ok (.ifCond .lt 14, 3) := dk_155 0 14 (dk_at dksX0_isIn_0 3 rfl rfl)
theorem dX0_isIn_6 : decode cX0_isIn 6 = .ok (.lload_n 0, 1) := dk_30 (dk_at dksX0_isIn_0 6 rfl rfl)
theorem dX0_isIn_7 : decode cX0_isIn 7 = .ok (.lload 4, 2) := dk_22 4 (dk_at dksX0_isIn_0 7 rfl rfl)
theorem dX0_isIn_9 : decode cX0_isIn 9 = .ok (.lcmp, 1) := dk_148 (dk_at dksX0_isIn_0 9 rfl rfl)
theorem dX0_isIn_10 : decode cX0_isIn 10 = .ok (.ifCond .gt 7, 3) := dk_157 0 7 (dk_at dksX0_isIn_0 10 rfl rfl)
theorem dX0_isIn_13 : decode cX0_isIn 13 = .ok (.iconst 1, 1) := dk_4 (dk_at dksX0_isIn_0 13 rfl rfl)
theorem dX0_isIn_14 : decode cX0_isIn 14 = .ok (.goto 4, 3) := dk_167 0 4 (dk_at dksX0_isIn_0 14 rfl rfl)
theorem dX0_isIn_17 : decode cX0_isIn 17 = .ok (.iconst 0, 1) := dk_3 (dk_at dksX0_isIn_0 17 rfl rfl)
theorem dX0_isIn_18 : decode cX0_isIn 18 = .ok (.ireturn, 1) := dk_172 (dk_at dksX0_isIn_0 18 rfl rfl)
abbrev cX0_end : ByteArray := prog_1_method_5_code
def yX0_end : MethodName := ⟨RX0, "end", "(I)I"⟩
def dkwX0_end_1 : List UInt8 := [181, 0, 21, 28, 172]
abbrev dktX0_end_1 : List UInt8 := dkwX0_end_1 ++ []
def dkwX0_end_0 : List UInt8 := [27, 133, 9, 42, 180, 0, 21, 133, 184, 0, 17, 154, 0, 5, 2, 172, 42, 180, 0, 21, 61, 42, 27]
abbrev dktX0_end_0 : List UInt8 := dkwX0_end_0 ++ dktX0_end_1
theorem dksX0_end_0 : cX0_end.data.toList.drop 0 = dktX0_end_0 := by decide +kernel
theorem dksX0_end_1 : cX0_end.data.toList.drop 23 = dktX0_end_1 := dk_seg dksX0_end_0 23 rfl rfl
theorem dX0_end_0 : decode cX0_end 0 = .ok (.iload_n 1, 1) := dk_27 (dk_at dksX0_end_0 0 rfl rfl)
theorem dX0_end_1 : decode cX0_end 1 = .ok (.i2l, 1) := dk_133 (dk_at dksX0_end_0 1 rfl rfl)
theorem dX0_end_2 : decode cX0_end 2 = .ok (.lconst 0, 1) := dk_9 (dk_at dksX0_end_0 2 rfl rfl)
theorem dX0_end_3 : decode cX0_end 3 = .ok (.aload_n 0, 1) := dk_42 (dk_at dksX0_end_0 3 rfl rfl)
theorem dX0_end_4 : decode cX0_end 4 = .ok (.getfield 21, 3) := dk_180 0 21 (dk_at dksX0_end_0 4 rfl rfl)
theorem dX0_end_7 : decode cX0_end 7 = .ok (.i2l, 1) := dk_133 (dk_at dksX0_end_0 7 rfl rfl)
theorem dX0_end_8 : decode cX0_end 8 = .ok (.invokestatic 17, 3) := dk_184 0 17 (dk_at dksX0_end_0 8 rfl rfl)
theorem dX0_end_11 : decode cX0_end 11 = .ok (.ifCond .ne 5, 3) := dk_154 0 5 (dk_at dksX0_end_0 11 rfl rfl)
theorem dX0_end_14 : decode cX0_end 14 = .ok (.iconst (-1), 1) := dk_2 (dk_at dksX0_end_0 14 rfl rfl)
theorem dX0_end_15 : decode cX0_end 15 = .ok (.ireturn, 1) := dk_172 (dk_at dksX0_end_0 15 rfl rfl)
theorem dX0_end_16 : decode cX0_end 16 = .ok (.aload_n 0, 1) := dk_42 (dk_at dksX0_end_0 16 rfl rfl)
theorem dX0_end_17 : decode cX0_end 17 = .ok (.getfield 21, 3) := dk_180 0 21 (dk_at dksX0_end_0 17 rfl rfl)
theorem dX0_end_20 : decode cX0_end 20 = .ok (.istore_n 2, 1) := dk_61 (dk_at dksX0_end_0 20 rfl rfl)
theorem dX0_end_21 : decode cX0_end 21 = .ok (.aload_n 0, 1) := dk_42 (dk_at dksX0_end_0 21 rfl rfl)
theorem dX0_end_22 : decode cX0_end 22 = .ok (.iload_n 1, 1) := dk_27 (dk_at dksX0_end_0 22 rfl rfl)
theorem dX0_end_23 : decode cX0_end 23 = .ok (.putfield 21, 3) := dk_181 0 21 (dk_at dksX0_end_1 0 rfl rfl)
theorem dX0_end_26 : decode cX0_end 26 = .ok (.iload_n 2, 1) := dk_28 (dk_at dksX0_end_1 3 rfl rfl)
theorem dX0_end_27 : decode cX0_end 27 = .ok (.ireturn, 1) := dk_172 (dk_at dksX0_end_1 4 rfl rfl)
abbrev cX0_text : ByteArray := prog_1_method_6_code
def yX0_text : MethodName := ⟨RX0, "text", "()I"⟩
def dkwX0_text_4 : List UInt8 := [44, 180, 0, 70, 100, 172]
abbrev dktX0_text_4 : List UInt8 := dkwX0_text_4 ++ []
def dkwX0_text_3 : List UInt8 := [181, 0, 58, 42, 3, 181, 0, 62, 42, 180, 0, 53, 172, 77, 42, 44, 180, 0, 67, 181, 0, 62, 16, 246]
abbrev dktX0_text_3 : List UInt8 := dkwX0_text_3 ++ dktX0_text_4
def dkwX0_text_2 : List UInt8 := [44, 180, 0, 50, 181, 0, 53, 42, 180, 0, 54, 3, 1, 83, 42, 180, 0, 54, 4, 1, 83, 42, 3]
abbrev dktX0_text_2 : List UInt8 := dkwX0_text_2 ++ dktX0_text_3
def dkwX0_text_1 : List UInt8 := [181, 0, 21, 187, 0, 35, 89, 43, 183, 0, 37, 182, 0, 41, 77, 42, 44, 180, 0, 45, 181, 0, 49, 42]
abbrev dktX0_text_1 : List UInt8 := dkwX0_text_1 ++ dktX0_text_2
def dkwX0_text_0 : List UInt8 := [42, 180, 0, 21, 188, 8, 76, 42, 180, 0, 25, 3, 43, 3, 42, 180, 0, 21, 184, 0, 29, 42, 3]
abbrev dktX0_text_0 : List UInt8 := dkwX0_text_0 ++ dktX0_text_1
theorem dksX0_text_0 : cX0_text.data.toList.drop 0 = dktX0_text_0 := by decide +kernel
theorem dksX0_text_1 : cX0_text.data.toList.drop 23 = dktX0_text_1 := dk_seg dksX0_text_0 23 rfl rfl
theorem dksX0_text_2 : cX0_text.data.toList.drop 47 = dktX0_text_2 := dk_seg dksX0_text_1 24 rfl rfl
theorem dksX0_text_3 : cX0_text.data.toList.drop 70 = dktX0_text_3 := dk_seg dksX0_text_2 23 rfl rfl
theorem dksX0_text_4 : cX0_text.data.toList.drop 94 = dktX0_text_4 := dk_seg dksX0_text_3 24 rfl rfl
theorem dX0_text_0 : decode cX0_text 0 = .ok (.aload_n 0, 1) := dk_42 (dk_at dksX0_text_0 0 rfl rfl)
theorem dX0_text_1 : decode cX0_text 1 = .ok (.getfield 21, 3) := dk_180 0 21 (dk_at dksX0_text_0 1 rfl rfl)
theorem dX0_text_4 : decode cX0_text 4 = .ok (.newarray .byte, 2) := dk_188_8 (dk_at dksX0_text_0 4 rfl rfl)
theorem dX0_text_6 : decode cX0_text 6 = .ok (.astore_n 1, 1) := dk_76 (dk_at dksX0_text_0 6 rfl rfl)
theorem dX0_text_7 : decode cX0_text 7 = .ok (.aload_n 0, 1) := dk_42 (dk_at dksX0_text_0 7 rfl rfl)
theorem dX0_text_8 : decode cX0_text 8 = .ok (.getfield 25, 3) := dk_180 0 25 (dk_at dksX0_text_0 8 rfl rfl)
theorem dX0_text_11 : decode cX0_text 11 = .ok (.iconst 0, 1) := dk_3 (dk_at dksX0_text_0 11 rfl rfl)
theorem dX0_text_12 : decode cX0_text 12 = .ok (.aload_n 1, 1) := dk_43 (dk_at dksX0_text_0 12 rfl rfl)
theorem dX0_text_13 : decode cX0_text 13 = .ok (.iconst 0, 1) := dk_3 (dk_at dksX0_text_0 13 rfl rfl)
theorem dX0_text_14 : decode cX0_text 14 = .ok (.aload_n 0, 1) := dk_42 (dk_at dksX0_text_0 14 rfl rfl)
theorem dX0_text_15 : decode cX0_text 15 = .ok (.getfield 21, 3) := dk_180 0 21 (dk_at dksX0_text_0 15 rfl rfl)
theorem dX0_text_18 : decode cX0_text 18 = .ok (.invokestatic 29, 3) := dk_184 0 29 (dk_at dksX0_text_0 18 rfl rfl)
theorem dX0_text_21 : decode cX0_text 21 = .ok (.aload_n 0, 1) := dk_42 (dk_at dksX0_text_0 21 rfl rfl)
theorem dX0_text_22 : decode cX0_text 22 = .ok (.iconst 0, 1) := dk_3 (dk_at dksX0_text_0 22 rfl rfl)
theorem dX0_text_23 : decode cX0_text 23 = .ok (.putfield 21, 3) := dk_181 0 21 (dk_at dksX0_text_1 0 rfl rfl)
theorem dX0_text_26 : decode cX0_text 26 = .ok (.new 35, 3) := dk_187 0 35 (dk_at dksX0_text_1 3 rfl rfl)
theorem dX0_text_29 : decode cX0_text 29 = .ok (.dup, 1) := dk_89 (dk_at dksX0_text_1 6 rfl rfl)
theorem dX0_text_30 : decode cX0_text 30 = .ok (.aload_n 1, 1) := dk_43 (dk_at dksX0_text_1 7 rfl rfl)
theorem dX0_text_31 : decode cX0_text 31 = .ok (.invokespecial 37, 3) := dk_183 0 37 (dk_at dksX0_text_1 8 rfl rfl)
theorem dX0_text_34 : decode cX0_text 34 = .ok (.invokevirtual 41, 3) := dk_182 0 41 (dk_at dksX0_text_1 11 rfl rfl)
theorem dX0_text_37 : decode cX0_text 37 = .ok (.astore_n 2, 1) := dk_77 (dk_at dksX0_text_1 14 rfl rfl)
theorem dX0_text_38 : decode cX0_text 38 = .ok (.aload_n 0, 1) := dk_42 (dk_at dksX0_text_1 15 rfl rfl)
theorem dX0_text_39 : decode cX0_text 39 = .ok (.aload_n 2, 1) := dk_44 (dk_at dksX0_text_1 16 rfl rfl)
theorem dX0_text_40 : decode cX0_text 40 = .ok (.getfield 45, 3) := dk_180 0 45 (dk_at dksX0_text_1 17 rfl rfl)
theorem dX0_text_43 : decode cX0_text 43 = .ok (.putfield 49, 3) := dk_181 0 49 (dk_at dksX0_text_1 20 rfl rfl)
theorem dX0_text_46 : decode cX0_text 46 = .ok (.aload_n 0, 1) := dk_42 (dk_at dksX0_text_1 23 rfl rfl)
theorem dX0_text_47 : decode cX0_text 47 = .ok (.aload_n 2, 1) := dk_44 (dk_at dksX0_text_2 0 rfl rfl)
theorem dX0_text_48 : decode cX0_text 48 = .ok (.getfield 50, 3) := dk_180 0 50 (dk_at dksX0_text_2 1 rfl rfl)
theorem dX0_text_51 : decode cX0_text 51 = .ok (.putfield 53, 3) := dk_181 0 53 (dk_at dksX0_text_2 4 rfl rfl)
theorem dX0_text_54 : decode cX0_text 54 = .ok (.aload_n 0, 1) := dk_42 (dk_at dksX0_text_2 7 rfl rfl)
theorem dX0_text_55 : decode cX0_text 55 = .ok (.getfield 54, 3) := dk_180 0 54 (dk_at dksX0_text_2 8 rfl rfl)
theorem dX0_text_58 : decode cX0_text 58 = .ok (.iconst 0, 1) := dk_3 (dk_at dksX0_text_2 11 rfl rfl)
theorem dX0_text_59 : decode cX0_text 59 = .ok (.aconst_null, 1) := dk_1 (dk_at dksX0_text_2 12 rfl rfl)
theorem dX0_text_60 : decode cX0_text 60 = .ok (.aastore, 1) := dk_83 (dk_at dksX0_text_2 13 rfl rfl)
theorem dX0_text_61 : decode cX0_text 61 = .ok (.aload_n 0, 1) := dk_42 (dk_at dksX0_text_2 14 rfl rfl)
theorem dX0_text_62 : decode cX0_text 62 = .ok (.getfield 54, 3) := dk_180 0 54 (dk_at dksX0_text_2 15 rfl rfl)
theorem dX0_text_65 : decode cX0_text 65 = .ok (.iconst 1, 1) := dk_4 (dk_at dksX0_text_2 18 rfl rfl)
theorem dX0_text_66 : decode cX0_text 66 = .ok (.aconst_null, 1) := dk_1 (dk_at dksX0_text_2 19 rfl rfl)
theorem dX0_text_67 : decode cX0_text 67 = .ok (.aastore, 1) := dk_83 (dk_at dksX0_text_2 20 rfl rfl)
theorem dX0_text_68 : decode cX0_text 68 = .ok (.aload_n 0, 1) := dk_42 (dk_at dksX0_text_2 21 rfl rfl)
theorem dX0_text_69 : decode cX0_text 69 = .ok (.iconst 0, 1) := dk_3 (dk_at dksX0_text_2 22 rfl rfl)
theorem dX0_text_70 : decode cX0_text 70 = .ok (.putfield 58, 3) := dk_181 0 58 (dk_at dksX0_text_3 0 rfl rfl)
theorem dX0_text_73 : decode cX0_text 73 = .ok (.aload_n 0, 1) := dk_42 (dk_at dksX0_text_3 3 rfl rfl)
theorem dX0_text_74 : decode cX0_text 74 = .ok (.iconst 0, 1) := dk_3 (dk_at dksX0_text_3 4 rfl rfl)
theorem dX0_text_75 : decode cX0_text 75 = .ok (.putfield 62, 3) := dk_181 0 62 (dk_at dksX0_text_3 5 rfl rfl)
theorem dX0_text_78 : decode cX0_text 78 = .ok (.aload_n 0, 1) := dk_42 (dk_at dksX0_text_3 8 rfl rfl)
theorem dX0_text_79 : decode cX0_text 79 = .ok (.getfield 53, 3) := dk_180 0 53 (dk_at dksX0_text_3 9 rfl rfl)
theorem dX0_text_82 : decode cX0_text 82 = .ok (.ireturn, 1) := dk_172 (dk_at dksX0_text_3 12 rfl rfl)
theorem dX0_text_83 : decode cX0_text 83 = .ok (.astore_n 2, 1) := dk_77 (dk_at dksX0_text_3 13 rfl rfl)
theorem dX0_text_84 : decode cX0_text 84 = .ok (.aload_n 0, 1) := dk_42 (dk_at dksX0_text_3 14 rfl rfl)
theorem dX0_text_85 : decode cX0_text 85 = .ok (.aload_n 2, 1) := dk_44 (dk_at dksX0_text_3 15 rfl rfl)
theorem dX0_text_86 : decode cX0_text 86 = .ok (.getfield 67, 3) := dk_180 0 67 (dk_at dksX0_text_3 16 rfl rfl)
theorem dX0_text_89 : decode cX0_text 89 = .ok (.putfield 62, 3) := dk_181 0 62 (dk_at dksX0_text_3 19 rfl rfl)
theorem dX0_text_92 : decode cX0_text 92 = .ok (.bipush (-10), 2) := dk_16 246 (dk_at dksX0_text_3 22 rfl rfl)
theorem dX0_text_94 : decode cX0_text 94 = .ok (.aload_n 2, 1) := dk_44 (dk_at dksX0_text_4 0 rfl rfl)
theorem dX0_text_95 : decode cX0_text 95 = .ok (.getfield 70, 3) := dk_180 0 70 (dk_at dksX0_text_4 1 rfl rfl)
theorem dX0_text_98 : decode cX0_text 98 = .ok (.isub, 1) := dk_100 (dk_at dksX0_text_4 4 rfl rfl)
theorem dX0_text_99 : decode cX0_text 99 = .ok (.ireturn, 1) := dk_172 (dk_at dksX0_text_4 5 rfl rfl)
abbrev cX0_capped : ByteArray := prog_1_method_2_code
def yX0_capped : MethodName := ⟨RX0, "capped", "(I)I"⟩
def dkwX0_capped_0 : List UInt8 := [26, 17, 3, 232, 184, 0, 1, 172]
abbrev dktX0_capped_0 : List UInt8 := dkwX0_capped_0 ++ []
theorem dksX0_capped_0 : cX0_capped.data.toList.drop 0 = dktX0_capped_0 := by decide +kernel
theorem dX0_capped_0 : decode cX0_capped 0 = .ok (.iload_n 0, 1) := dk_26 (dk_at dksX0_capped_0 0 rfl rfl)
theorem dX0_capped_1 : decode cX0_capped 1 = .ok (.sipush 1000, 3) := dk_17 3 232 (dk_at dksX0_capped_0 1 rfl rfl)
theorem dX0_capped_4 : decode cX0_capped 4 = .ok (.invokestatic 1, 3) := dk_184 0 1 (dk_at dksX0_capped_0 4 rfl rfl)
theorem dX0_capped_7 : decode cX0_capped 7 = .ok (.ireturn, 1) := dk_172 (dk_at dksX0_capped_0 7 rfl rfl)
abbrev cX0_fulfilling : ByteArray := prog_1_method_3_code
def yX0_fulfilling : MethodName := ⟨RX0, "fulfilling", "(LPromiseTries$Holds;)I"⟩
def dkwX0_fulfilling_1 : List UInt8 := [167, 0, 4, 3, 96, 60, 132, 2, 1, 167, 255, 228, 27, 172]
abbrev dktX0_fulfilling_1 : List UInt8 := dkwX0_fulfilling_1 ++ []
def dkwX0_fulfilling_0 : List UInt8 := [3, 60, 3, 61, 28, 17, 0, 255, 163, 0, 27, 27, 42, 28, 185, 0, 9, 2, 0, 153, 0, 7, 4]
abbrev dktX0_fulfilling_0 : List UInt8 := dkwX0_fulfilling_0 ++ dktX0_fulfilling_1
theorem dksX0_fulfilling_0 : cX0_fulfilling.data.toList.drop 0 = dktX0_fulfilling_0 := by decide +kernel
theorem dksX0_fulfilling_1 : cX0_fulfilling.data.toList.drop 23 = dktX0_fulfilling_1 := dk_seg dksX0_fulfilling_0 23 rfl rfl
theorem dX0_fulfilling_0 : decode cX0_fulfilling 0 = .ok (.iconst 0, 1) := dk_3 (dk_at dksX0_fulfilling_0 0 rfl rfl)
theorem dX0_fulfilling_1 : decode cX0_fulfilling 1 = .ok (.istore_n 1, 1) := dk_60 (dk_at dksX0_fulfilling_0 1 rfl rfl)
theorem dX0_fulfilling_2 : decode cX0_fulfilling 2 = .ok (.iconst 0, 1) := dk_3 (dk_at dksX0_fulfilling_0 2 rfl rfl)
theorem dX0_fulfilling_3 : decode cX0_fulfilling 3 = .ok (.istore_n 2, 1) := dk_61 (dk_at dksX0_fulfilling_0 3 rfl rfl)
theorem dX0_fulfilling_4 : decode cX0_fulfilling 4 = .ok (.iload_n 2, 1) := dk_28 (dk_at dksX0_fulfilling_0 4 rfl rfl)
theorem dX0_fulfilling_5 : decode cX0_fulfilling 5 = .ok (.sipush 255, 3) := dk_17 0 255 (dk_at dksX0_fulfilling_0 5 rfl rfl)
theorem dX0_fulfilling_8 : decode cX0_fulfilling 8 = .ok (.if_icmp .gt 27, 3) := dk_163 0 27 (dk_at dksX0_fulfilling_0 8 rfl rfl)
theorem dX0_fulfilling_11 : decode cX0_fulfilling 11 = .ok (.iload_n 1, 1) := dk_27 (dk_at dksX0_fulfilling_0 11 rfl rfl)
theorem dX0_fulfilling_12 : decode cX0_fulfilling 12 = .ok (.aload_n 0, 1) := dk_42 (dk_at dksX0_fulfilling_0 12 rfl rfl)
theorem dX0_fulfilling_13 : decode cX0_fulfilling 13 = .ok (.iload_n 2, 1) := dk_28 (dk_at dksX0_fulfilling_0 13 rfl rfl)
theorem dX0_fulfilling_14 : decode cX0_fulfilling 14 = .ok (.invokeinterface 9 2, 5) := by decide +kernel
theorem dX0_fulfilling_19 : decode cX0_fulfilling 19 = .ok (.ifCond .eq 7, 3) := dk_153 0 7 (dk_at dksX0_fulfilling_0 19 rfl rfl)
theorem dX0_fulfilling_22 : decode cX0_fulfilling 22 = .ok (.iconst 1, 1) := dk_4 (dk_at dksX0_fulfilling_0 22 rfl rfl)
theorem dX0_fulfilling_23 : decode cX0_fulfilling 23 = .ok (.goto 4, 3) := dk_167 0 4 (dk_at dksX0_fulfilling_1 0 rfl rfl)
theorem dX0_fulfilling_26 : decode cX0_fulfilling 26 = .ok (.iconst 0, 1) := dk_3 (dk_at dksX0_fulfilling_1 3 rfl rfl)
theorem dX0_fulfilling_27 : decode cX0_fulfilling 27 = .ok (.iadd, 1) := dk_96 (dk_at dksX0_fulfilling_1 4 rfl rfl)
theorem dX0_fulfilling_28 : decode cX0_fulfilling 28 = .ok (.istore_n 1, 1) := dk_60 (dk_at dksX0_fulfilling_1 5 rfl rfl)
theorem dX0_fulfilling_29 : decode cX0_fulfilling 29 = .ok (.iinc 2 1, 3) := dk_132 2 1 (dk_at dksX0_fulfilling_1 6 rfl rfl)
theorem dX0_fulfilling_32 : decode cX0_fulfilling 32 = .ok (.goto (-28), 3) := dk_167 255 228 (dk_at dksX0_fulfilling_1 9 rfl rfl)
theorem dX0_fulfilling_35 : decode cX0_fulfilling 35 = .ok (.iload_n 1, 1) := dk_27 (dk_at dksX0_fulfilling_1 12 rfl rfl)
theorem dX0_fulfilling_36 : decode cX0_fulfilling 36 = .ok (.ireturn, 1) := dk_172 (dk_at dksX0_fulfilling_1 13 rfl rfl)
abbrev cX0_fault : ByteArray := prog_1_method_7_code
def yX0_fault : MethodName := ⟨RX0, "fault", "()I"⟩
theorem dX0_fault_0 : decode cX0_fault 0 = .ok (.aload_n 0, 1) := by decide +kernel
theorem dX0_fault_1 : decode cX0_fault 1 = .ok (.getfield 62, 3) := by decide +kernel
theorem dX0_fault_4 : decode cX0_fault 4 = .ok (.ireturn, 1) := by decide +kernel
abbrev cX0_rule : ByteArray := prog_1_method_22_code
def yX0_rule : MethodName := ⟨RX0, "rule", "(I)I"⟩
def dkwX0_rule_2 : List UInt8 := [42, 180, 0, 53, 172, 42, 180, 0, 73, 172, 42, 27, 5, 100, 182, 0, 184, 172, 2, 172]
abbrev dktX0_rule_2 : List UInt8 := dkwX0_rule_2 ++ []
def dkwX0_rule_1 : List UInt8 := [170, 0, 0, 0, 0, 0, 65, 0, 0, 0, 0, 0, 0, 0, 7, 0, 0, 0, 47, 0, 0, 0, 52, 0, 0, 0, 57, 0, 0, 0, 57, 0, 0, 0, 57, 0, 0, 0, 57, 0, 0, 0, 57, 0, 0, 0, 57]
abbrev dktX0_rule_1 : List UInt8 := dkwX0_rule_1 ++ dktX0_rule_2
def dkwX0_rule_0 : List UInt8 := [27]
abbrev dktX0_rule_0 : List UInt8 := dkwX0_rule_0 ++ dktX0_rule_1
theorem dksX0_rule_0 : cX0_rule.data.toList.drop 0 = dktX0_rule_0 := by decide +kernel
theorem dksX0_rule_1 : cX0_rule.data.toList.drop 1 = dktX0_rule_1 := dk_seg dksX0_rule_0 1 rfl rfl
theorem dksX0_rule_2 : cX0_rule.data.toList.drop 48 = dktX0_rule_2 := dk_seg dksX0_rule_1 47 rfl rfl
theorem dX0_rule_0 : decode cX0_rule 0 = .ok (.iload_n 1, 1) := dk_27 (dk_at dksX0_rule_0 0 rfl rfl)
theorem dX0_rule_1 : decode cX0_rule 1 = .ok (.tableswitch 65 0 7 #[47, 52, 57, 57, 57, 57, 57, 57], 47) := by decide +kernel
theorem dX0_rule_48 : decode cX0_rule 48 = .ok (.aload_n 0, 1) := dk_42 (dk_at dksX0_rule_2 0 rfl rfl)
theorem dX0_rule_49 : decode cX0_rule 49 = .ok (.getfield 53, 3) := dk_180 0 53 (dk_at dksX0_rule_2 1 rfl rfl)
theorem dX0_rule_52 : decode cX0_rule 52 = .ok (.ireturn, 1) := dk_172 (dk_at dksX0_rule_2 4 rfl rfl)
theorem dX0_rule_53 : decode cX0_rule 53 = .ok (.aload_n 0, 1) := dk_42 (dk_at dksX0_rule_2 5 rfl rfl)
theorem dX0_rule_54 : decode cX0_rule 54 = .ok (.getfield 73, 3) := dk_180 0 73 (dk_at dksX0_rule_2 6 rfl rfl)
theorem dX0_rule_57 : decode cX0_rule 57 = .ok (.ireturn, 1) := dk_172 (dk_at dksX0_rule_2 9 rfl rfl)
theorem dX0_rule_58 : decode cX0_rule 58 = .ok (.aload_n 0, 1) := dk_42 (dk_at dksX0_rule_2 10 rfl rfl)
theorem dX0_rule_59 : decode cX0_rule 59 = .ok (.iload_n 1, 1) := dk_27 (dk_at dksX0_rule_2 11 rfl rfl)
theorem dX0_rule_60 : decode cX0_rule 60 = .ok (.iconst 2, 1) := dk_5 (dk_at dksX0_rule_2 12 rfl rfl)
theorem dX0_rule_61 : decode cX0_rule 61 = .ok (.isub, 1) := dk_100 (dk_at dksX0_rule_2 13 rfl rfl)
theorem dX0_rule_62 : decode cX0_rule 62 = .ok (.invokevirtual 184, 3) := dk_182 0 184 (dk_at dksX0_rule_2 14 rfl rfl)
theorem dX0_rule_65 : decode cX0_rule 65 = .ok (.ireturn, 1) := dk_172 (dk_at dksX0_rule_2 17 rfl rfl)
theorem dX0_rule_66 : decode cX0_rule 66 = .ok (.iconst (-1), 1) := dk_2 (dk_at dksX0_rule_2 18 rfl rfl)
theorem dX0_rule_67 : decode cX0_rule 67 = .ok (.ireturn, 1) := dk_172 (dk_at dksX0_rule_2 19 rfl rfl)
abbrev cX0_countedAll : ByteArray := prog_1_method_21_code
def yX0_countedAll : MethodName := ⟨RX0, "countedAll", "(I)I"⟩
def dkwX0_countedAll_1 : List UInt8 := [61, 132, 3, 1, 167, 255, 236, 28, 172]
abbrev dktX0_countedAll_1 : List UInt8 := dkwX0_countedAll_1 ++ []
def dkwX0_countedAll_0 : List UInt8 := [42, 182, 0, 177, 3, 61, 3, 62, 29, 42, 180, 0, 53, 162, 0, 18, 28, 42, 29, 27, 182, 0, 181, 96]
abbrev dktX0_countedAll_0 : List UInt8 := dkwX0_countedAll_0 ++ dktX0_countedAll_1
theorem dksX0_countedAll_0 : cX0_countedAll.data.toList.drop 0 = dktX0_countedAll_0 := by decide +kernel
theorem dksX0_countedAll_1 : cX0_countedAll.data.toList.drop 24 = dktX0_countedAll_1 := dk_seg dksX0_countedAll_0 24 rfl rfl
theorem dX0_countedAll_0 : decode cX0_countedAll 0 = .ok (.aload_n 0, 1) := dk_42 (dk_at dksX0_countedAll_0 0 rfl rfl)
theorem dX0_countedAll_1 : decode cX0_countedAll 1 = .ok (.invokevirtual 177, 3) := dk_182 0 177 (dk_at dksX0_countedAll_0 1 rfl rfl)
theorem dX0_countedAll_4 : decode cX0_countedAll 4 = .ok (.iconst 0, 1) := dk_3 (dk_at dksX0_countedAll_0 4 rfl rfl)
theorem dX0_countedAll_5 : decode cX0_countedAll 5 = .ok (.istore_n 2, 1) := dk_61 (dk_at dksX0_countedAll_0 5 rfl rfl)
theorem dX0_countedAll_6 : decode cX0_countedAll 6 = .ok (.iconst 0, 1) := dk_3 (dk_at dksX0_countedAll_0 6 rfl rfl)
theorem dX0_countedAll_7 : decode cX0_countedAll 7 = .ok (.istore_n 3, 1) := dk_62 (dk_at dksX0_countedAll_0 7 rfl rfl)
theorem dX0_countedAll_8 : decode cX0_countedAll 8 = .ok (.iload_n 3, 1) := dk_29 (dk_at dksX0_countedAll_0 8 rfl rfl)
theorem dX0_countedAll_9 : decode cX0_countedAll 9 = .ok (.aload_n 0, 1) := dk_42 (dk_at dksX0_countedAll_0 9 rfl rfl)
theorem dX0_countedAll_10 : decode cX0_countedAll 10 = .ok (.getfield 53, 3) := dk_180 0 53 (dk_at dksX0_countedAll_0 10 rfl rfl)
theorem dX0_countedAll_13 : decode cX0_countedAll 13 = .ok (.if_icmp .ge 18, 3) := dk_162 0 18 (dk_at dksX0_countedAll_0 13 rfl rfl)
theorem dX0_countedAll_16 : decode cX0_countedAll 16 = .ok (.iload_n 2, 1) := dk_28 (dk_at dksX0_countedAll_0 16 rfl rfl)
theorem dX0_countedAll_17 : decode cX0_countedAll 17 = .ok (.aload_n 0, 1) := dk_42 (dk_at dksX0_countedAll_0 17 rfl rfl)
theorem dX0_countedAll_18 : decode cX0_countedAll 18 = .ok (.iload_n 3, 1) := dk_29 (dk_at dksX0_countedAll_0 18 rfl rfl)
theorem dX0_countedAll_19 : decode cX0_countedAll 19 = .ok (.iload_n 1, 1) := dk_27 (dk_at dksX0_countedAll_0 19 rfl rfl)
theorem dX0_countedAll_20 : decode cX0_countedAll 20 = .ok (.invokevirtual 181, 3) := dk_182 0 181 (dk_at dksX0_countedAll_0 20 rfl rfl)
theorem dX0_countedAll_23 : decode cX0_countedAll 23 = .ok (.iadd, 1) := dk_96 (dk_at dksX0_countedAll_0 23 rfl rfl)
theorem dX0_countedAll_24 : decode cX0_countedAll 24 = .ok (.istore_n 2, 1) := dk_61 (dk_at dksX0_countedAll_1 0 rfl rfl)
theorem dX0_countedAll_25 : decode cX0_countedAll 25 = .ok (.iinc 3 1, 3) := dk_132 3 1 (dk_at dksX0_countedAll_1 1 rfl rfl)
theorem dX0_countedAll_28 : decode cX0_countedAll 28 = .ok (.goto (-20), 3) := dk_167 255 236 (dk_at dksX0_countedAll_1 4 rfl rfl)
theorem dX0_countedAll_31 : decode cX0_countedAll 31 = .ok (.iload_n 2, 1) := dk_28 (dk_at dksX0_countedAll_1 7 rfl rfl)
theorem dX0_countedAll_32 : decode cX0_countedAll 32 = .ok (.ireturn, 1) := dk_172 (dk_at dksX0_countedAll_1 8 rfl rfl)
abbrev cX0_runsAll : ByteArray := prog_1_method_16_code
def yX0_runsAll : MethodName := ⟨RX0, "runsAll", "()V"⟩
def dkwX0_runsAll_2 : List UInt8 := [4, 50, 182, 0, 167, 42, 27, 182, 0, 170, 132, 1, 1, 167, 255, 210, 177]
abbrev dktX0_runsAll_2 : List UInt8 := dkwX0_runsAll_2 ++ []
def dkwX0_runsAll_1 : List UInt8 := [42, 180, 0, 49, 27, 50, 180, 0, 127, 3, 50, 182, 0, 167, 42, 42, 180, 0, 49, 27, 50, 180, 0, 127]
abbrev dktX0_runsAll_1 : List UInt8 := dkwX0_runsAll_1 ++ dktX0_runsAll_2
def dkwX0_runsAll_0 : List UInt8 := [42, 180, 0, 58, 153, 0, 4, 177, 42, 4, 181, 0, 58, 3, 60, 27, 42, 180, 0, 53, 162, 0, 44, 42]
abbrev dktX0_runsAll_0 : List UInt8 := dkwX0_runsAll_0 ++ dktX0_runsAll_1
theorem dksX0_runsAll_0 : cX0_runsAll.data.toList.drop 0 = dktX0_runsAll_0 := by decide +kernel
theorem dksX0_runsAll_1 : cX0_runsAll.data.toList.drop 24 = dktX0_runsAll_1 := dk_seg dksX0_runsAll_0 24 rfl rfl
theorem dksX0_runsAll_2 : cX0_runsAll.data.toList.drop 48 = dktX0_runsAll_2 := dk_seg dksX0_runsAll_1 24 rfl rfl
theorem dX0_runsAll_0 : decode cX0_runsAll 0 = .ok (.aload_n 0, 1) := dk_42 (dk_at dksX0_runsAll_0 0 rfl rfl)
theorem dX0_runsAll_1 : decode cX0_runsAll 1 = .ok (.getfield 58, 3) := dk_180 0 58 (dk_at dksX0_runsAll_0 1 rfl rfl)
theorem dX0_runsAll_4 : decode cX0_runsAll 4 = .ok (.ifCond .eq 4, 3) := dk_153 0 4 (dk_at dksX0_runsAll_0 4 rfl rfl)
theorem dX0_runsAll_7 : decode cX0_runsAll 7 = .ok (.return_, 1) := dk_177 (dk_at dksX0_runsAll_0 7 rfl rfl)
theorem dX0_runsAll_8 : decode cX0_runsAll 8 = .ok (.aload_n 0, 1) := dk_42 (dk_at dksX0_runsAll_0 8 rfl rfl)
theorem dX0_runsAll_9 : decode cX0_runsAll 9 = .ok (.iconst 1, 1) := dk_4 (dk_at dksX0_runsAll_0 9 rfl rfl)
theorem dX0_runsAll_10 : decode cX0_runsAll 10 = .ok (.putfield 58, 3) := dk_181 0 58 (dk_at dksX0_runsAll_0 10 rfl rfl)
theorem dX0_runsAll_13 : decode cX0_runsAll 13 = .ok (.iconst 0, 1) := dk_3 (dk_at dksX0_runsAll_0 13 rfl rfl)
theorem dX0_runsAll_14 : decode cX0_runsAll 14 = .ok (.istore_n 1, 1) := dk_60 (dk_at dksX0_runsAll_0 14 rfl rfl)
theorem dX0_runsAll_15 : decode cX0_runsAll 15 = .ok (.iload_n 1, 1) := dk_27 (dk_at dksX0_runsAll_0 15 rfl rfl)
theorem dX0_runsAll_16 : decode cX0_runsAll 16 = .ok (.aload_n 0, 1) := dk_42 (dk_at dksX0_runsAll_0 16 rfl rfl)
theorem dX0_runsAll_17 : decode cX0_runsAll 17 = .ok (.getfield 53, 3) := dk_180 0 53 (dk_at dksX0_runsAll_0 17 rfl rfl)
theorem dX0_runsAll_20 : decode cX0_runsAll 20 = .ok (.if_icmp .ge 44, 3) := dk_162 0 44 (dk_at dksX0_runsAll_0 20 rfl rfl)
theorem dX0_runsAll_23 : decode cX0_runsAll 23 = .ok (.aload_n 0, 1) := dk_42 (dk_at dksX0_runsAll_0 23 rfl rfl)
theorem dX0_runsAll_24 : decode cX0_runsAll 24 = .ok (.aload_n 0, 1) := dk_42 (dk_at dksX0_runsAll_1 0 rfl rfl)
theorem dX0_runsAll_25 : decode cX0_runsAll 25 = .ok (.getfield 49, 3) := dk_180 0 49 (dk_at dksX0_runsAll_1 1 rfl rfl)
theorem dX0_runsAll_28 : decode cX0_runsAll 28 = .ok (.iload_n 1, 1) := dk_27 (dk_at dksX0_runsAll_1 4 rfl rfl)
theorem dX0_runsAll_29 : decode cX0_runsAll 29 = .ok (.aaload, 1) := dk_50 (dk_at dksX0_runsAll_1 5 rfl rfl)
theorem dX0_runsAll_30 : decode cX0_runsAll 30 = .ok (.getfield 127, 3) := dk_180 0 127 (dk_at dksX0_runsAll_1 6 rfl rfl)
theorem dX0_runsAll_33 : decode cX0_runsAll 33 = .ok (.iconst 0, 1) := dk_3 (dk_at dksX0_runsAll_1 9 rfl rfl)
theorem dX0_runsAll_34 : decode cX0_runsAll 34 = .ok (.aaload, 1) := dk_50 (dk_at dksX0_runsAll_1 10 rfl rfl)
theorem dX0_runsAll_35 : decode cX0_runsAll 35 = .ok (.invokevirtual 167, 3) := dk_182 0 167 (dk_at dksX0_runsAll_1 11 rfl rfl)
theorem dX0_runsAll_38 : decode cX0_runsAll 38 = .ok (.aload_n 0, 1) := dk_42 (dk_at dksX0_runsAll_1 14 rfl rfl)
theorem dX0_runsAll_39 : decode cX0_runsAll 39 = .ok (.aload_n 0, 1) := dk_42 (dk_at dksX0_runsAll_1 15 rfl rfl)
theorem dX0_runsAll_40 : decode cX0_runsAll 40 = .ok (.getfield 49, 3) := dk_180 0 49 (dk_at dksX0_runsAll_1 16 rfl rfl)
theorem dX0_runsAll_43 : decode cX0_runsAll 43 = .ok (.iload_n 1, 1) := dk_27 (dk_at dksX0_runsAll_1 19 rfl rfl)
theorem dX0_runsAll_44 : decode cX0_runsAll 44 = .ok (.aaload, 1) := dk_50 (dk_at dksX0_runsAll_1 20 rfl rfl)
theorem dX0_runsAll_45 : decode cX0_runsAll 45 = .ok (.getfield 127, 3) := dk_180 0 127 (dk_at dksX0_runsAll_1 21 rfl rfl)
theorem dX0_runsAll_48 : decode cX0_runsAll 48 = .ok (.iconst 1, 1) := dk_4 (dk_at dksX0_runsAll_2 0 rfl rfl)
theorem dX0_runsAll_49 : decode cX0_runsAll 49 = .ok (.aaload, 1) := dk_50 (dk_at dksX0_runsAll_2 1 rfl rfl)
theorem dX0_runsAll_50 : decode cX0_runsAll 50 = .ok (.invokevirtual 167, 3) := dk_182 0 167 (dk_at dksX0_runsAll_2 2 rfl rfl)
theorem dX0_runsAll_53 : decode cX0_runsAll 53 = .ok (.aload_n 0, 1) := dk_42 (dk_at dksX0_runsAll_2 5 rfl rfl)
theorem dX0_runsAll_54 : decode cX0_runsAll 54 = .ok (.iload_n 1, 1) := dk_27 (dk_at dksX0_runsAll_2 6 rfl rfl)
theorem dX0_runsAll_55 : decode cX0_runsAll 55 = .ok (.invokevirtual 170, 3) := dk_182 0 170 (dk_at dksX0_runsAll_2 7 rfl rfl)
theorem dX0_runsAll_58 : decode cX0_runsAll 58 = .ok (.iinc 1 1, 3) := dk_132 1 1 (dk_at dksX0_runsAll_2 10 rfl rfl)
theorem dX0_runsAll_61 : decode cX0_runsAll 61 = .ok (.goto (-46), 3) := dk_167 255 210 (dk_at dksX0_runsAll_2 13 rfl rfl)
theorem dX0_runsAll_64 : decode cX0_runsAll 64 = .ok (.return_, 1) := dk_177 (dk_at dksX0_runsAll_2 16 rfl rfl)
abbrev cX0_runs : ByteArray := prog_1_method_8_code
def yX0_runs : MethodName := ⟨RX0, "runs", "(LPromiseTries$Side;)V"⟩
def dkwX0_runs_3 : List UInt8 := [132, 2, 1, 167, 255, 184, 177]
abbrev dktX0_runs_3 : List UInt8 := dkwX0_runs_3 ++ []
def dkwX0_runs_2 : List UInt8 := [180, 0, 96, 28, 50, 21, 5, 33, 80, 43, 180, 0, 76, 33, 182, 0, 100, 66, 132, 5, 1, 167, 255, 209]
abbrev dktX0_runs_2 : List UInt8 := dkwX0_runs_2 ++ dktX0_runs_3
def dkwX0_runs_1 : List UInt8 := [180, 0, 73, 162, 0, 44, 43, 180, 0, 76, 33, 42, 180, 0, 88, 21, 5, 46, 182, 0, 92, 66, 43]
abbrev dktX0_runs_1 : List UInt8 := dkwX0_runs_1 ++ dktX0_runs_2
def dkwX0_runs_0 : List UInt8 := [3, 61, 28, 42, 180, 0, 73, 162, 0, 70, 43, 180, 0, 76, 180, 0, 82, 66, 28, 54, 5, 21, 5, 42]
abbrev dktX0_runs_0 : List UInt8 := dkwX0_runs_0 ++ dktX0_runs_1
theorem dksX0_runs_0 : cX0_runs.data.toList.drop 0 = dktX0_runs_0 := by decide +kernel
theorem dksX0_runs_1 : cX0_runs.data.toList.drop 24 = dktX0_runs_1 := dk_seg dksX0_runs_0 24 rfl rfl
theorem dksX0_runs_2 : cX0_runs.data.toList.drop 47 = dktX0_runs_2 := dk_seg dksX0_runs_1 23 rfl rfl
theorem dksX0_runs_3 : cX0_runs.data.toList.drop 71 = dktX0_runs_3 := dk_seg dksX0_runs_2 24 rfl rfl
theorem dX0_runs_0 : decode cX0_runs 0 = .ok (.iconst 0, 1) := dk_3 (dk_at dksX0_runs_0 0 rfl rfl)
theorem dX0_runs_1 : decode cX0_runs 1 = .ok (.istore_n 2, 1) := dk_61 (dk_at dksX0_runs_0 1 rfl rfl)
theorem dX0_runs_2 : decode cX0_runs 2 = .ok (.iload_n 2, 1) := dk_28 (dk_at dksX0_runs_0 2 rfl rfl)
theorem dX0_runs_3 : decode cX0_runs 3 = .ok (.aload_n 0, 1) := dk_42 (dk_at dksX0_runs_0 3 rfl rfl)
theorem dX0_runs_4 : decode cX0_runs 4 = .ok (.getfield 73, 3) := dk_180 0 73 (dk_at dksX0_runs_0 4 rfl rfl)
theorem dX0_runs_7 : decode cX0_runs 7 = .ok (.if_icmp .ge 70, 3) := dk_162 0 70 (dk_at dksX0_runs_0 7 rfl rfl)
theorem dX0_runs_10 : decode cX0_runs 10 = .ok (.aload_n 1, 1) := dk_43 (dk_at dksX0_runs_0 10 rfl rfl)
theorem dX0_runs_11 : decode cX0_runs 11 = .ok (.getfield 76, 3) := dk_180 0 76 (dk_at dksX0_runs_0 11 rfl rfl)
theorem dX0_runs_14 : decode cX0_runs 14 = .ok (.getfield 82, 3) := dk_180 0 82 (dk_at dksX0_runs_0 14 rfl rfl)
theorem dX0_runs_17 : decode cX0_runs 17 = .ok (.lstore_n 3, 1) := dk_66 (dk_at dksX0_runs_0 17 rfl rfl)
theorem dX0_runs_18 : decode cX0_runs 18 = .ok (.iload_n 2, 1) := dk_28 (dk_at dksX0_runs_0 18 rfl rfl)
theorem dX0_runs_19 : decode cX0_runs 19 = .ok (.istore 5, 2) := dk_54 5 (dk_at dksX0_runs_0 19 rfl rfl)
theorem dX0_runs_21 : decode cX0_runs 21 = .ok (.iload 5, 2) := dk_21 5 (dk_at dksX0_runs_0 21 rfl rfl)
theorem dX0_runs_23 : decode cX0_runs 23 = .ok (.aload_n 0, 1) := dk_42 (dk_at dksX0_runs_0 23 rfl rfl)
theorem dX0_runs_24 : decode cX0_runs 24 = .ok (.getfield 73, 3) := dk_180 0 73 (dk_at dksX0_runs_1 0 rfl rfl)
theorem dX0_runs_27 : decode cX0_runs 27 = .ok (.if_icmp .ge 44, 3) := dk_162 0 44 (dk_at dksX0_runs_1 3 rfl rfl)
theorem dX0_runs_30 : decode cX0_runs 30 = .ok (.aload_n 1, 1) := dk_43 (dk_at dksX0_runs_1 6 rfl rfl)
theorem dX0_runs_31 : decode cX0_runs 31 = .ok (.getfield 76, 3) := dk_180 0 76 (dk_at dksX0_runs_1 7 rfl rfl)
theorem dX0_runs_34 : decode cX0_runs 34 = .ok (.lload_n 3, 1) := dk_33 (dk_at dksX0_runs_1 10 rfl rfl)
theorem dX0_runs_35 : decode cX0_runs 35 = .ok (.aload_n 0, 1) := dk_42 (dk_at dksX0_runs_1 11 rfl rfl)
theorem dX0_runs_36 : decode cX0_runs 36 = .ok (.getfield 88, 3) := dk_180 0 88 (dk_at dksX0_runs_1 12 rfl rfl)
theorem dX0_runs_39 : decode cX0_runs 39 = .ok (.iload 5, 2) := dk_21 5 (dk_at dksX0_runs_1 15 rfl rfl)
theorem dX0_runs_41 : decode cX0_runs 41 = .ok (.iaload, 1) := dk_46 (dk_at dksX0_runs_1 17 rfl rfl)
theorem dX0_runs_42 : decode cX0_runs 42 = .ok (.invokevirtual 92, 3) := dk_182 0 92 (dk_at dksX0_runs_1 18 rfl rfl)
theorem dX0_runs_45 : decode cX0_runs 45 = .ok (.lstore_n 3, 1) := dk_66 (dk_at dksX0_runs_1 21 rfl rfl)
theorem dX0_runs_46 : decode cX0_runs 46 = .ok (.aload_n 1, 1) := dk_43 (dk_at dksX0_runs_1 22 rfl rfl)
theorem dX0_runs_47 : decode cX0_runs 47 = .ok (.getfield 96, 3) := dk_180 0 96 (dk_at dksX0_runs_2 0 rfl rfl)
theorem dX0_runs_50 : decode cX0_runs 50 = .ok (.iload_n 2, 1) := dk_28 (dk_at dksX0_runs_2 3 rfl rfl)
theorem dX0_runs_51 : decode cX0_runs 51 = .ok (.aaload, 1) := dk_50 (dk_at dksX0_runs_2 4 rfl rfl)
theorem dX0_runs_52 : decode cX0_runs 52 = .ok (.iload 5, 2) := dk_21 5 (dk_at dksX0_runs_2 5 rfl rfl)
theorem dX0_runs_54 : decode cX0_runs 54 = .ok (.lload_n 3, 1) := dk_33 (dk_at dksX0_runs_2 7 rfl rfl)
theorem dX0_runs_55 : decode cX0_runs 55 = .ok (.lastore, 1) := dk_80 (dk_at dksX0_runs_2 8 rfl rfl)
theorem dX0_runs_56 : decode cX0_runs 56 = .ok (.aload_n 1, 1) := dk_43 (dk_at dksX0_runs_2 9 rfl rfl)
theorem dX0_runs_57 : decode cX0_runs 57 = .ok (.getfield 76, 3) := dk_180 0 76 (dk_at dksX0_runs_2 10 rfl rfl)
theorem dX0_runs_60 : decode cX0_runs 60 = .ok (.lload_n 3, 1) := dk_33 (dk_at dksX0_runs_2 13 rfl rfl)
theorem dX0_runs_61 : decode cX0_runs 61 = .ok (.invokevirtual 100, 3) := dk_182 0 100 (dk_at dksX0_runs_2 14 rfl rfl)
theorem dX0_runs_64 : decode cX0_runs 64 = .ok (.lstore_n 3, 1) := dk_66 (dk_at dksX0_runs_2 17 rfl rfl)
theorem dX0_runs_65 : decode cX0_runs 65 = .ok (.iinc 5 1, 3) := dk_132 5 1 (dk_at dksX0_runs_2 18 rfl rfl)
theorem dX0_runs_68 : decode cX0_runs 68 = .ok (.goto (-47), 3) := dk_167 255 209 (dk_at dksX0_runs_2 21 rfl rfl)
theorem dX0_runs_71 : decode cX0_runs 71 = .ok (.iinc 2 1, 3) := dk_132 2 1 (dk_at dksX0_runs_3 0 rfl rfl)
theorem dX0_runs_74 : decode cX0_runs 74 = .ok (.goto (-72), 3) := dk_167 255 184 (dk_at dksX0_runs_3 3 rfl rfl)
theorem dX0_runs_77 : decode cX0_runs 77 = .ok (.return_, 1) := dk_177 (dk_at dksX0_runs_3 6 rfl rfl)
abbrev cX0_judges : ByteArray := prog_1_method_15_code
def yX0_judges : MethodName := ⟨RX0, "judges", "(I)V"⟩
def dkwX0_judges_6 : List UInt8 := [79, 132, 3, 1, 167, 255, 148, 177]
abbrev dktX0_judges_6 : List UInt8 := dkwX0_judges_6 ++ []
def dkwX0_judges_5 : List UInt8 := [180, 0, 164, 27, 50, 29, 42, 180, 0, 157, 27, 50, 29, 46, 154, 0, 8, 16, 252, 167, 0, 5, 21, 4]
abbrev dktX0_judges_5 : List UInt8 := dkwX0_judges_5 ++ dktX0_judges_6
def dkwX0_judges_4 : List UInt8 := [180, 0, 157, 27, 50, 29, 42, 44, 29, 21, 4, 42, 180, 0, 150, 182, 0, 160, 79, 167, 255, 211, 42]
abbrev dktX0_judges_4 : List UInt8 := dkwX0_judges_4 ++ dktX0_judges_5
def dkwX0_judges_3 : List UInt8 := [27, 50, 29, 46, 154, 0, 40, 21, 4, 4, 96, 42, 180, 0, 73, 162, 0, 29, 132, 4, 1, 42]
abbrev dktX0_judges_3 : List UInt8 := dkwX0_judges_3 ++ dktX0_judges_4
def dkwX0_judges_2 : List UInt8 := [42, 180, 0, 157, 27, 50, 29, 42, 44, 29, 21, 4, 42, 180, 0, 150, 182, 0, 160, 79, 42, 180, 0, 157]
abbrev dktX0_judges_2 : List UInt8 := dkwX0_judges_2 ++ dktX0_judges_3
def dkwX0_judges_1 : List UInt8 := [29, 182, 0, 153, 79, 132, 3, 1, 167, 255, 233, 3, 62, 29, 42, 180, 0, 73, 162, 0, 106, 29, 54, 4]
abbrev dktX0_judges_1 : List UInt8 := dkwX0_judges_1 ++ dktX0_judges_2
def dkwX0_judges_0 : List UInt8 := [42, 180, 0, 49, 27, 50, 77, 3, 62, 29, 42, 180, 0, 73, 162, 0, 21, 42, 180, 0, 150, 29, 42, 44]
abbrev dktX0_judges_0 : List UInt8 := dkwX0_judges_0 ++ dktX0_judges_1
theorem dksX0_judges_0 : cX0_judges.data.toList.drop 0 = dktX0_judges_0 := by decide +kernel
theorem dksX0_judges_1 : cX0_judges.data.toList.drop 24 = dktX0_judges_1 := dk_seg dksX0_judges_0 24 rfl rfl
theorem dksX0_judges_2 : cX0_judges.data.toList.drop 48 = dktX0_judges_2 := dk_seg dksX0_judges_1 24 rfl rfl
theorem dksX0_judges_3 : cX0_judges.data.toList.drop 72 = dktX0_judges_3 := dk_seg dksX0_judges_2 24 rfl rfl
theorem dksX0_judges_4 : cX0_judges.data.toList.drop 94 = dktX0_judges_4 := dk_seg dksX0_judges_3 22 rfl rfl
theorem dksX0_judges_5 : cX0_judges.data.toList.drop 117 = dktX0_judges_5 := dk_seg dksX0_judges_4 23 rfl rfl
theorem dksX0_judges_6 : cX0_judges.data.toList.drop 141 = dktX0_judges_6 := dk_seg dksX0_judges_5 24 rfl rfl
theorem dX0_judges_0 : decode cX0_judges 0 = .ok (.aload_n 0, 1) := dk_42 (dk_at dksX0_judges_0 0 rfl rfl)
theorem dX0_judges_1 : decode cX0_judges 1 = .ok (.getfield 49, 3) := dk_180 0 49 (dk_at dksX0_judges_0 1 rfl rfl)
theorem dX0_judges_4 : decode cX0_judges 4 = .ok (.iload_n 1, 1) := dk_27 (dk_at dksX0_judges_0 4 rfl rfl)
theorem dX0_judges_5 : decode cX0_judges 5 = .ok (.aaload, 1) := dk_50 (dk_at dksX0_judges_0 5 rfl rfl)
theorem dX0_judges_6 : decode cX0_judges 6 = .ok (.astore_n 2, 1) := dk_77 (dk_at dksX0_judges_0 6 rfl rfl)
theorem dX0_judges_7 : decode cX0_judges 7 = .ok (.iconst 0, 1) := dk_3 (dk_at dksX0_judges_0 7 rfl rfl)
theorem dX0_judges_8 : decode cX0_judges 8 = .ok (.istore_n 3, 1) := dk_62 (dk_at dksX0_judges_0 8 rfl rfl)
theorem dX0_judges_9 : decode cX0_judges 9 = .ok (.iload_n 3, 1) := dk_29 (dk_at dksX0_judges_0 9 rfl rfl)
theorem dX0_judges_10 : decode cX0_judges 10 = .ok (.aload_n 0, 1) := dk_42 (dk_at dksX0_judges_0 10 rfl rfl)
theorem dX0_judges_11 : decode cX0_judges 11 = .ok (.getfield 73, 3) := dk_180 0 73 (dk_at dksX0_judges_0 11 rfl rfl)
theorem dX0_judges_14 : decode cX0_judges 14 = .ok (.if_icmp .ge 21, 3) := dk_162 0 21 (dk_at dksX0_judges_0 14 rfl rfl)
theorem dX0_judges_17 : decode cX0_judges 17 = .ok (.aload_n 0, 1) := dk_42 (dk_at dksX0_judges_0 17 rfl rfl)
theorem dX0_judges_18 : decode cX0_judges 18 = .ok (.getfield 150, 3) := dk_180 0 150 (dk_at dksX0_judges_0 18 rfl rfl)
theorem dX0_judges_21 : decode cX0_judges 21 = .ok (.iload_n 3, 1) := dk_29 (dk_at dksX0_judges_0 21 rfl rfl)
theorem dX0_judges_22 : decode cX0_judges 22 = .ok (.aload_n 0, 1) := dk_42 (dk_at dksX0_judges_0 22 rfl rfl)
theorem dX0_judges_23 : decode cX0_judges 23 = .ok (.aload_n 2, 1) := dk_44 (dk_at dksX0_judges_0 23 rfl rfl)
theorem dX0_judges_24 : decode cX0_judges 24 = .ok (.iload_n 3, 1) := dk_29 (dk_at dksX0_judges_1 0 rfl rfl)
theorem dX0_judges_25 : decode cX0_judges 25 = .ok (.invokevirtual 153, 3) := dk_182 0 153 (dk_at dksX0_judges_1 1 rfl rfl)
theorem dX0_judges_28 : decode cX0_judges 28 = .ok (.iastore, 1) := dk_79 (dk_at dksX0_judges_1 4 rfl rfl)
theorem dX0_judges_29 : decode cX0_judges 29 = .ok (.iinc 3 1, 3) := dk_132 3 1 (dk_at dksX0_judges_1 5 rfl rfl)
theorem dX0_judges_32 : decode cX0_judges 32 = .ok (.goto (-23), 3) := dk_167 255 233 (dk_at dksX0_judges_1 8 rfl rfl)
theorem dX0_judges_35 : decode cX0_judges 35 = .ok (.iconst 0, 1) := dk_3 (dk_at dksX0_judges_1 11 rfl rfl)
theorem dX0_judges_36 : decode cX0_judges 36 = .ok (.istore_n 3, 1) := dk_62 (dk_at dksX0_judges_1 12 rfl rfl)
theorem dX0_judges_37 : decode cX0_judges 37 = .ok (.iload_n 3, 1) := dk_29 (dk_at dksX0_judges_1 13 rfl rfl)
theorem dX0_judges_38 : decode cX0_judges 38 = .ok (.aload_n 0, 1) := dk_42 (dk_at dksX0_judges_1 14 rfl rfl)
theorem dX0_judges_39 : decode cX0_judges 39 = .ok (.getfield 73, 3) := dk_180 0 73 (dk_at dksX0_judges_1 15 rfl rfl)
theorem dX0_judges_42 : decode cX0_judges 42 = .ok (.if_icmp .ge 106, 3) := dk_162 0 106 (dk_at dksX0_judges_1 18 rfl rfl)
theorem dX0_judges_45 : decode cX0_judges 45 = .ok (.iload_n 3, 1) := dk_29 (dk_at dksX0_judges_1 21 rfl rfl)
theorem dX0_judges_46 : decode cX0_judges 46 = .ok (.istore 4, 2) := dk_54 4 (dk_at dksX0_judges_1 22 rfl rfl)
theorem dX0_judges_48 : decode cX0_judges 48 = .ok (.aload_n 0, 1) := dk_42 (dk_at dksX0_judges_2 0 rfl rfl)
theorem dX0_judges_49 : decode cX0_judges 49 = .ok (.getfield 157, 3) := dk_180 0 157 (dk_at dksX0_judges_2 1 rfl rfl)
theorem dX0_judges_52 : decode cX0_judges 52 = .ok (.iload_n 1, 1) := dk_27 (dk_at dksX0_judges_2 4 rfl rfl)
theorem dX0_judges_53 : decode cX0_judges 53 = .ok (.aaload, 1) := dk_50 (dk_at dksX0_judges_2 5 rfl rfl)
theorem dX0_judges_54 : decode cX0_judges 54 = .ok (.iload_n 3, 1) := dk_29 (dk_at dksX0_judges_2 6 rfl rfl)
theorem dX0_judges_55 : decode cX0_judges 55 = .ok (.aload_n 0, 1) := dk_42 (dk_at dksX0_judges_2 7 rfl rfl)
theorem dX0_judges_56 : decode cX0_judges 56 = .ok (.aload_n 2, 1) := dk_44 (dk_at dksX0_judges_2 8 rfl rfl)
theorem dX0_judges_57 : decode cX0_judges 57 = .ok (.iload_n 3, 1) := dk_29 (dk_at dksX0_judges_2 9 rfl rfl)
theorem dX0_judges_58 : decode cX0_judges 58 = .ok (.iload 4, 2) := dk_21 4 (dk_at dksX0_judges_2 10 rfl rfl)
theorem dX0_judges_60 : decode cX0_judges 60 = .ok (.aload_n 0, 1) := dk_42 (dk_at dksX0_judges_2 12 rfl rfl)
theorem dX0_judges_61 : decode cX0_judges 61 = .ok (.getfield 150, 3) := dk_180 0 150 (dk_at dksX0_judges_2 13 rfl rfl)
theorem dX0_judges_64 : decode cX0_judges 64 = .ok (.invokevirtual 160, 3) := dk_182 0 160 (dk_at dksX0_judges_2 16 rfl rfl)
theorem dX0_judges_67 : decode cX0_judges 67 = .ok (.iastore, 1) := dk_79 (dk_at dksX0_judges_2 19 rfl rfl)
theorem dX0_judges_68 : decode cX0_judges 68 = .ok (.aload_n 0, 1) := dk_42 (dk_at dksX0_judges_2 20 rfl rfl)
theorem dX0_judges_69 : decode cX0_judges 69 = .ok (.getfield 157, 3) := dk_180 0 157 (dk_at dksX0_judges_2 21 rfl rfl)
theorem dX0_judges_72 : decode cX0_judges 72 = .ok (.iload_n 1, 1) := dk_27 (dk_at dksX0_judges_3 0 rfl rfl)
theorem dX0_judges_73 : decode cX0_judges 73 = .ok (.aaload, 1) := dk_50 (dk_at dksX0_judges_3 1 rfl rfl)
theorem dX0_judges_74 : decode cX0_judges 74 = .ok (.iload_n 3, 1) := dk_29 (dk_at dksX0_judges_3 2 rfl rfl)
theorem dX0_judges_75 : decode cX0_judges 75 = .ok (.iaload, 1) := dk_46 (dk_at dksX0_judges_3 3 rfl rfl)
theorem dX0_judges_76 : decode cX0_judges 76 = .ok (.ifCond .ne 40, 3) := dk_154 0 40 (dk_at dksX0_judges_3 4 rfl rfl)
theorem dX0_judges_79 : decode cX0_judges 79 = .ok (.iload 4, 2) := dk_21 4 (dk_at dksX0_judges_3 7 rfl rfl)
theorem dX0_judges_81 : decode cX0_judges 81 = .ok (.iconst 1, 1) := dk_4 (dk_at dksX0_judges_3 9 rfl rfl)
theorem dX0_judges_82 : decode cX0_judges 82 = .ok (.iadd, 1) := dk_96 (dk_at dksX0_judges_3 10 rfl rfl)
theorem dX0_judges_83 : decode cX0_judges 83 = .ok (.aload_n 0, 1) := dk_42 (dk_at dksX0_judges_3 11 rfl rfl)
theorem dX0_judges_84 : decode cX0_judges 84 = .ok (.getfield 73, 3) := dk_180 0 73 (dk_at dksX0_judges_3 12 rfl rfl)
theorem dX0_judges_87 : decode cX0_judges 87 = .ok (.if_icmp .ge 29, 3) := dk_162 0 29 (dk_at dksX0_judges_3 15 rfl rfl)
theorem dX0_judges_90 : decode cX0_judges 90 = .ok (.iinc 4 1, 3) := dk_132 4 1 (dk_at dksX0_judges_3 18 rfl rfl)
theorem dX0_judges_93 : decode cX0_judges 93 = .ok (.aload_n 0, 1) := dk_42 (dk_at dksX0_judges_3 21 rfl rfl)
theorem dX0_judges_94 : decode cX0_judges 94 = .ok (.getfield 157, 3) := dk_180 0 157 (dk_at dksX0_judges_4 0 rfl rfl)
theorem dX0_judges_97 : decode cX0_judges 97 = .ok (.iload_n 1, 1) := dk_27 (dk_at dksX0_judges_4 3 rfl rfl)
theorem dX0_judges_98 : decode cX0_judges 98 = .ok (.aaload, 1) := dk_50 (dk_at dksX0_judges_4 4 rfl rfl)
theorem dX0_judges_99 : decode cX0_judges 99 = .ok (.iload_n 3, 1) := dk_29 (dk_at dksX0_judges_4 5 rfl rfl)
theorem dX0_judges_100 : decode cX0_judges 100 = .ok (.aload_n 0, 1) := dk_42 (dk_at dksX0_judges_4 6 rfl rfl)
theorem dX0_judges_101 : decode cX0_judges 101 = .ok (.aload_n 2, 1) := dk_44 (dk_at dksX0_judges_4 7 rfl rfl)
theorem dX0_judges_102 : decode cX0_judges 102 = .ok (.iload_n 3, 1) := dk_29 (dk_at dksX0_judges_4 8 rfl rfl)
theorem dX0_judges_103 : decode cX0_judges 103 = .ok (.iload 4, 2) := dk_21 4 (dk_at dksX0_judges_4 9 rfl rfl)
theorem dX0_judges_105 : decode cX0_judges 105 = .ok (.aload_n 0, 1) := dk_42 (dk_at dksX0_judges_4 11 rfl rfl)
theorem dX0_judges_106 : decode cX0_judges 106 = .ok (.getfield 150, 3) := dk_180 0 150 (dk_at dksX0_judges_4 12 rfl rfl)
theorem dX0_judges_109 : decode cX0_judges 109 = .ok (.invokevirtual 160, 3) := dk_182 0 160 (dk_at dksX0_judges_4 15 rfl rfl)
theorem dX0_judges_112 : decode cX0_judges 112 = .ok (.iastore, 1) := dk_79 (dk_at dksX0_judges_4 18 rfl rfl)
theorem dX0_judges_113 : decode cX0_judges 113 = .ok (.goto (-45), 3) := dk_167 255 211 (dk_at dksX0_judges_4 19 rfl rfl)
theorem dX0_judges_116 : decode cX0_judges 116 = .ok (.aload_n 0, 1) := dk_42 (dk_at dksX0_judges_4 22 rfl rfl)
theorem dX0_judges_117 : decode cX0_judges 117 = .ok (.getfield 164, 3) := dk_180 0 164 (dk_at dksX0_judges_5 0 rfl rfl)
theorem dX0_judges_120 : decode cX0_judges 120 = .ok (.iload_n 1, 1) := dk_27 (dk_at dksX0_judges_5 3 rfl rfl)
theorem dX0_judges_121 : decode cX0_judges 121 = .ok (.aaload, 1) := dk_50 (dk_at dksX0_judges_5 4 rfl rfl)
theorem dX0_judges_122 : decode cX0_judges 122 = .ok (.iload_n 3, 1) := dk_29 (dk_at dksX0_judges_5 5 rfl rfl)
theorem dX0_judges_123 : decode cX0_judges 123 = .ok (.aload_n 0, 1) := dk_42 (dk_at dksX0_judges_5 6 rfl rfl)
theorem dX0_judges_124 : decode cX0_judges 124 = .ok (.getfield 157, 3) := dk_180 0 157 (dk_at dksX0_judges_5 7 rfl rfl)
theorem dX0_judges_127 : decode cX0_judges 127 = .ok (.iload_n 1, 1) := dk_27 (dk_at dksX0_judges_5 10 rfl rfl)
theorem dX0_judges_128 : decode cX0_judges 128 = .ok (.aaload, 1) := dk_50 (dk_at dksX0_judges_5 11 rfl rfl)
theorem dX0_judges_129 : decode cX0_judges 129 = .ok (.iload_n 3, 1) := dk_29 (dk_at dksX0_judges_5 12 rfl rfl)
theorem dX0_judges_130 : decode cX0_judges 130 = .ok (.iaload, 1) := dk_46 (dk_at dksX0_judges_5 13 rfl rfl)
theorem dX0_judges_131 : decode cX0_judges 131 = .ok (.ifCond .ne 8, 3) := dk_154 0 8 (dk_at dksX0_judges_5 14 rfl rfl)
theorem dX0_judges_134 : decode cX0_judges 134 = .ok (.bipush (-4), 2) := dk_16 252 (dk_at dksX0_judges_5 17 rfl rfl)
theorem dX0_judges_136 : decode cX0_judges 136 = .ok (.goto 5, 3) := dk_167 0 5 (dk_at dksX0_judges_5 19 rfl rfl)
theorem dX0_judges_139 : decode cX0_judges 139 = .ok (.iload 4, 2) := dk_21 4 (dk_at dksX0_judges_5 22 rfl rfl)
theorem dX0_judges_141 : decode cX0_judges 141 = .ok (.iastore, 1) := dk_79 (dk_at dksX0_judges_6 0 rfl rfl)
theorem dX0_judges_142 : decode cX0_judges 142 = .ok (.iinc 3 1, 3) := dk_132 3 1 (dk_at dksX0_judges_6 1 rfl rfl)
theorem dX0_judges_145 : decode cX0_judges 145 = .ok (.goto (-108), 3) := dk_167 255 148 (dk_at dksX0_judges_6 4 rfl rfl)
theorem dX0_judges_148 : decode cX0_judges 148 = .ok (.return_, 1) := dk_177 (dk_at dksX0_judges_6 7 rfl rfl)
abbrev cX0_dutyOf : ByteArray := prog_1_method_11_code
def yX0_dutyOf : MethodName := ⟨RX0, "dutyOf", "(LPromiseTries$Promise;I)I"⟩
def dkwX0_dutyOf_3 : List UInt8 := [167, 0, 9, 7, 21, 5, 104, 5, 96, 172]
abbrev dktX0_dutyOf_3 : List UInt8 := dkwX0_dutyOf_3 ++ []
def dkwX0_dutyOf_2 : List UInt8 := [172, 42, 43, 180, 0, 127, 4, 50, 29, 28, 182, 0, 135, 54, 5, 21, 5, 16, 252, 160, 0, 7, 3]
abbrev dktX0_dutyOf_2 : List UInt8 := dkwX0_dutyOf_2 ++ dktX0_dutyOf_3
def dkwX0_dutyOf_1 : List UInt8 := [29, 182, 0, 131, 167, 0, 5, 16, 252, 54, 4, 21, 4, 16, 252, 159, 0, 10, 7, 21, 4, 104, 4, 96]
abbrev dktX0_dutyOf_1 : List UInt8 := dkwX0_dutyOf_1 ++ dktX0_dutyOf_2
def dkwX0_dutyOf_0 : List UInt8 := [43, 182, 0, 115, 28, 182, 0, 121, 62, 29, 42, 180, 0, 73, 162, 0, 17, 42, 43, 180, 0, 127, 4, 50]
abbrev dktX0_dutyOf_0 : List UInt8 := dkwX0_dutyOf_0 ++ dktX0_dutyOf_1
theorem dksX0_dutyOf_0 : cX0_dutyOf.data.toList.drop 0 = dktX0_dutyOf_0 := by decide +kernel
theorem dksX0_dutyOf_1 : cX0_dutyOf.data.toList.drop 24 = dktX0_dutyOf_1 := dk_seg dksX0_dutyOf_0 24 rfl rfl
theorem dksX0_dutyOf_2 : cX0_dutyOf.data.toList.drop 48 = dktX0_dutyOf_2 := dk_seg dksX0_dutyOf_1 24 rfl rfl
theorem dksX0_dutyOf_3 : cX0_dutyOf.data.toList.drop 71 = dktX0_dutyOf_3 := dk_seg dksX0_dutyOf_2 23 rfl rfl
theorem dX0_dutyOf_0 : decode cX0_dutyOf 0 = .ok (.aload_n 1, 1) := dk_43 (dk_at dksX0_dutyOf_0 0 rfl rfl)
theorem dX0_dutyOf_1 : decode cX0_dutyOf 1 = .ok (.invokevirtual 115, 3) := dk_182 0 115 (dk_at dksX0_dutyOf_0 1 rfl rfl)
theorem dX0_dutyOf_4 : decode cX0_dutyOf 4 = .ok (.iload_n 2, 1) := dk_28 (dk_at dksX0_dutyOf_0 4 rfl rfl)
theorem dX0_dutyOf_5 : decode cX0_dutyOf 5 = .ok (.invokevirtual 121, 3) := dk_182 0 121 (dk_at dksX0_dutyOf_0 5 rfl rfl)
theorem dX0_dutyOf_8 : decode cX0_dutyOf 8 = .ok (.istore_n 3, 1) := dk_62 (dk_at dksX0_dutyOf_0 8 rfl rfl)
theorem dX0_dutyOf_9 : decode cX0_dutyOf 9 = .ok (.iload_n 3, 1) := dk_29 (dk_at dksX0_dutyOf_0 9 rfl rfl)
theorem dX0_dutyOf_10 : decode cX0_dutyOf 10 = .ok (.aload_n 0, 1) := dk_42 (dk_at dksX0_dutyOf_0 10 rfl rfl)
theorem dX0_dutyOf_11 : decode cX0_dutyOf 11 = .ok (.getfield 73, 3) := dk_180 0 73 (dk_at dksX0_dutyOf_0 11 rfl rfl)
theorem dX0_dutyOf_14 : decode cX0_dutyOf 14 = .ok (.if_icmp .ge 17, 3) := dk_162 0 17 (dk_at dksX0_dutyOf_0 14 rfl rfl)
theorem dX0_dutyOf_17 : decode cX0_dutyOf 17 = .ok (.aload_n 0, 1) := dk_42 (dk_at dksX0_dutyOf_0 17 rfl rfl)
theorem dX0_dutyOf_18 : decode cX0_dutyOf 18 = .ok (.aload_n 1, 1) := dk_43 (dk_at dksX0_dutyOf_0 18 rfl rfl)
theorem dX0_dutyOf_19 : decode cX0_dutyOf 19 = .ok (.getfield 127, 3) := dk_180 0 127 (dk_at dksX0_dutyOf_0 19 rfl rfl)
theorem dX0_dutyOf_22 : decode cX0_dutyOf 22 = .ok (.iconst 1, 1) := dk_4 (dk_at dksX0_dutyOf_0 22 rfl rfl)
theorem dX0_dutyOf_23 : decode cX0_dutyOf 23 = .ok (.aaload, 1) := dk_50 (dk_at dksX0_dutyOf_0 23 rfl rfl)
theorem dX0_dutyOf_24 : decode cX0_dutyOf 24 = .ok (.iload_n 3, 1) := dk_29 (dk_at dksX0_dutyOf_1 0 rfl rfl)
theorem dX0_dutyOf_25 : decode cX0_dutyOf 25 = .ok (.invokevirtual 131, 3) := dk_182 0 131 (dk_at dksX0_dutyOf_1 1 rfl rfl)
theorem dX0_dutyOf_28 : decode cX0_dutyOf 28 = .ok (.goto 5, 3) := dk_167 0 5 (dk_at dksX0_dutyOf_1 4 rfl rfl)
theorem dX0_dutyOf_31 : decode cX0_dutyOf 31 = .ok (.bipush (-4), 2) := dk_16 252 (dk_at dksX0_dutyOf_1 7 rfl rfl)
theorem dX0_dutyOf_33 : decode cX0_dutyOf 33 = .ok (.istore 4, 2) := dk_54 4 (dk_at dksX0_dutyOf_1 9 rfl rfl)
theorem dX0_dutyOf_35 : decode cX0_dutyOf 35 = .ok (.iload 4, 2) := dk_21 4 (dk_at dksX0_dutyOf_1 11 rfl rfl)
theorem dX0_dutyOf_37 : decode cX0_dutyOf 37 = .ok (.bipush (-4), 2) := dk_16 252 (dk_at dksX0_dutyOf_1 13 rfl rfl)
theorem dX0_dutyOf_39 : decode cX0_dutyOf 39 = .ok (.if_icmp .eq 10, 3) := dk_159 0 10 (dk_at dksX0_dutyOf_1 15 rfl rfl)
theorem dX0_dutyOf_42 : decode cX0_dutyOf 42 = .ok (.iconst 4, 1) := dk_7 (dk_at dksX0_dutyOf_1 18 rfl rfl)
theorem dX0_dutyOf_43 : decode cX0_dutyOf 43 = .ok (.iload 4, 2) := dk_21 4 (dk_at dksX0_dutyOf_1 19 rfl rfl)
theorem dX0_dutyOf_45 : decode cX0_dutyOf 45 = .ok (.imul, 1) := dk_104 (dk_at dksX0_dutyOf_1 21 rfl rfl)
theorem dX0_dutyOf_46 : decode cX0_dutyOf 46 = .ok (.iconst 1, 1) := dk_4 (dk_at dksX0_dutyOf_1 22 rfl rfl)
theorem dX0_dutyOf_47 : decode cX0_dutyOf 47 = .ok (.iadd, 1) := dk_96 (dk_at dksX0_dutyOf_1 23 rfl rfl)
theorem dX0_dutyOf_48 : decode cX0_dutyOf 48 = .ok (.ireturn, 1) := dk_172 (dk_at dksX0_dutyOf_2 0 rfl rfl)
theorem dX0_dutyOf_49 : decode cX0_dutyOf 49 = .ok (.aload_n 0, 1) := dk_42 (dk_at dksX0_dutyOf_2 1 rfl rfl)
theorem dX0_dutyOf_50 : decode cX0_dutyOf 50 = .ok (.aload_n 1, 1) := dk_43 (dk_at dksX0_dutyOf_2 2 rfl rfl)
theorem dX0_dutyOf_51 : decode cX0_dutyOf 51 = .ok (.getfield 127, 3) := dk_180 0 127 (dk_at dksX0_dutyOf_2 3 rfl rfl)
theorem dX0_dutyOf_54 : decode cX0_dutyOf 54 = .ok (.iconst 1, 1) := dk_4 (dk_at dksX0_dutyOf_2 6 rfl rfl)
theorem dX0_dutyOf_55 : decode cX0_dutyOf 55 = .ok (.aaload, 1) := dk_50 (dk_at dksX0_dutyOf_2 7 rfl rfl)
theorem dX0_dutyOf_56 : decode cX0_dutyOf 56 = .ok (.iload_n 3, 1) := dk_29 (dk_at dksX0_dutyOf_2 8 rfl rfl)
theorem dX0_dutyOf_57 : decode cX0_dutyOf 57 = .ok (.iload_n 2, 1) := dk_28 (dk_at dksX0_dutyOf_2 9 rfl rfl)
theorem dX0_dutyOf_58 : decode cX0_dutyOf 58 = .ok (.invokevirtual 135, 3) := dk_182 0 135 (dk_at dksX0_dutyOf_2 10 rfl rfl)
theorem dX0_dutyOf_61 : decode cX0_dutyOf 61 = .ok (.istore 5, 2) := dk_54 5 (dk_at dksX0_dutyOf_2 13 rfl rfl)
theorem dX0_dutyOf_63 : decode cX0_dutyOf 63 = .ok (.iload 5, 2) := dk_21 5 (dk_at dksX0_dutyOf_2 15 rfl rfl)
theorem dX0_dutyOf_65 : decode cX0_dutyOf 65 = .ok (.bipush (-4), 2) := dk_16 252 (dk_at dksX0_dutyOf_2 17 rfl rfl)
theorem dX0_dutyOf_67 : decode cX0_dutyOf 67 = .ok (.if_icmp .ne 7, 3) := dk_160 0 7 (dk_at dksX0_dutyOf_2 19 rfl rfl)
theorem dX0_dutyOf_70 : decode cX0_dutyOf 70 = .ok (.iconst 0, 1) := dk_3 (dk_at dksX0_dutyOf_2 22 rfl rfl)
theorem dX0_dutyOf_71 : decode cX0_dutyOf 71 = .ok (.goto 9, 3) := dk_167 0 9 (dk_at dksX0_dutyOf_3 0 rfl rfl)
theorem dX0_dutyOf_74 : decode cX0_dutyOf 74 = .ok (.iconst 4, 1) := dk_7 (dk_at dksX0_dutyOf_3 3 rfl rfl)
theorem dX0_dutyOf_75 : decode cX0_dutyOf 75 = .ok (.iload 5, 2) := dk_21 5 (dk_at dksX0_dutyOf_3 4 rfl rfl)
theorem dX0_dutyOf_77 : decode cX0_dutyOf 77 = .ok (.imul, 1) := dk_104 (dk_at dksX0_dutyOf_3 6 rfl rfl)
theorem dX0_dutyOf_78 : decode cX0_dutyOf 78 = .ok (.iconst 2, 1) := dk_5 (dk_at dksX0_dutyOf_3 7 rfl rfl)
theorem dX0_dutyOf_79 : decode cX0_dutyOf 79 = .ok (.iadd, 1) := dk_96 (dk_at dksX0_dutyOf_3 8 rfl rfl)
theorem dX0_dutyOf_80 : decode cX0_dutyOf 80 = .ok (.ireturn, 1) := dk_172 (dk_at dksX0_dutyOf_3 9 rfl rfl)
abbrev cX0_firstEnd : ByteArray := prog_1_method_9_code
def yX0_firstEnd : MethodName := ⟨RX0, "firstEnd", "(LPromiseTries$Side;I)I"⟩
def dkwX0_firstEnd_1 : List UInt8 := [182, 0, 104, 153, 0, 5, 29, 172, 132, 3, 1, 167, 255, 225, 16, 252, 172]
abbrev dktX0_firstEnd_1 : List UInt8 := dkwX0_firstEnd_1 ++ []
def dkwX0_firstEnd_0 : List UInt8 := [28, 62, 29, 42, 180, 0, 73, 162, 0, 29, 43, 180, 0, 76, 43, 180, 0, 96, 28, 50, 29, 47]
abbrev dktX0_firstEnd_0 : List UInt8 := dkwX0_firstEnd_0 ++ dktX0_firstEnd_1
theorem dksX0_firstEnd_0 : cX0_firstEnd.data.toList.drop 0 = dktX0_firstEnd_0 := by decide +kernel
theorem dksX0_firstEnd_1 : cX0_firstEnd.data.toList.drop 22 = dktX0_firstEnd_1 := dk_seg dksX0_firstEnd_0 22 rfl rfl
theorem dX0_firstEnd_0 : decode cX0_firstEnd 0 = .ok (.iload_n 2, 1) := dk_28 (dk_at dksX0_firstEnd_0 0 rfl rfl)
theorem dX0_firstEnd_1 : decode cX0_firstEnd 1 = .ok (.istore_n 3, 1) := dk_62 (dk_at dksX0_firstEnd_0 1 rfl rfl)
theorem dX0_firstEnd_2 : decode cX0_firstEnd 2 = .ok (.iload_n 3, 1) := dk_29 (dk_at dksX0_firstEnd_0 2 rfl rfl)
theorem dX0_firstEnd_3 : decode cX0_firstEnd 3 = .ok (.aload_n 0, 1) := dk_42 (dk_at dksX0_firstEnd_0 3 rfl rfl)
theorem dX0_firstEnd_4 : decode cX0_firstEnd 4 = .ok (.getfield 73, 3) := dk_180 0 73 (dk_at dksX0_firstEnd_0 4 rfl rfl)
theorem dX0_firstEnd_7 : decode cX0_firstEnd 7 = .ok (.if_icmp .ge 29, 3) := dk_162 0 29 (dk_at dksX0_firstEnd_0 7 rfl rfl)
theorem dX0_firstEnd_10 : decode cX0_firstEnd 10 = .ok (.aload_n 1, 1) := dk_43 (dk_at dksX0_firstEnd_0 10 rfl rfl)
theorem dX0_firstEnd_11 : decode cX0_firstEnd 11 = .ok (.getfield 76, 3) := dk_180 0 76 (dk_at dksX0_firstEnd_0 11 rfl rfl)
theorem dX0_firstEnd_14 : decode cX0_firstEnd 14 = .ok (.aload_n 1, 1) := dk_43 (dk_at dksX0_firstEnd_0 14 rfl rfl)
theorem dX0_firstEnd_15 : decode cX0_firstEnd 15 = .ok (.getfield 96, 3) := dk_180 0 96 (dk_at dksX0_firstEnd_0 15 rfl rfl)
theorem dX0_firstEnd_18 : decode cX0_firstEnd 18 = .ok (.iload_n 2, 1) := dk_28 (dk_at dksX0_firstEnd_0 18 rfl rfl)
theorem dX0_firstEnd_19 : decode cX0_firstEnd 19 = .ok (.aaload, 1) := dk_50 (dk_at dksX0_firstEnd_0 19 rfl rfl)
theorem dX0_firstEnd_20 : decode cX0_firstEnd 20 = .ok (.iload_n 3, 1) := dk_29 (dk_at dksX0_firstEnd_0 20 rfl rfl)
theorem dX0_firstEnd_21 : decode cX0_firstEnd 21 = .ok (.laload, 1) := dk_47 (dk_at dksX0_firstEnd_0 21 rfl rfl)
theorem dX0_firstEnd_22 : decode cX0_firstEnd 22 = .ok (.invokevirtual 104, 3) := dk_182 0 104 (dk_at dksX0_firstEnd_1 0 rfl rfl)
theorem dX0_firstEnd_25 : decode cX0_firstEnd 25 = .ok (.ifCond .eq 5, 3) := dk_153 0 5 (dk_at dksX0_firstEnd_1 3 rfl rfl)
theorem dX0_firstEnd_28 : decode cX0_firstEnd 28 = .ok (.iload_n 3, 1) := dk_29 (dk_at dksX0_firstEnd_1 6 rfl rfl)
theorem dX0_firstEnd_29 : decode cX0_firstEnd 29 = .ok (.ireturn, 1) := dk_172 (dk_at dksX0_firstEnd_1 7 rfl rfl)
theorem dX0_firstEnd_30 : decode cX0_firstEnd 30 = .ok (.iinc 3 1, 3) := dk_132 3 1 (dk_at dksX0_firstEnd_1 8 rfl rfl)
theorem dX0_firstEnd_33 : decode cX0_firstEnd 33 = .ok (.goto (-31), 3) := dk_167 255 225 (dk_at dksX0_firstEnd_1 11 rfl rfl)
theorem dX0_firstEnd_36 : decode cX0_firstEnd 36 = .ok (.bipush (-4), 2) := dk_16 252 (dk_at dksX0_firstEnd_1 14 rfl rfl)
theorem dX0_firstEnd_38 : decode cX0_firstEnd 38 = .ok (.ireturn, 1) := dk_172 (dk_at dksX0_firstEnd_1 16 rfl rfl)
abbrev cX0_firstLost : ByteArray := prog_1_method_10_code
def yX0_firstLost : MethodName := ⟨RX0, "firstLost", "(LPromiseTries$Side;II)I"⟩
def dkwX0_firstLost_2 : List UInt8 := [21, 5, 154, 0, 6, 21, 4, 172, 132, 4, 1, 167, 255, 202, 16, 252, 172]
abbrev dktX0_firstLost_2 : List UInt8 := dkwX0_firstLost_2 ++ []
def dkwX0_firstLost_1 : List UInt8 := [182, 0, 108, 167, 0, 19, 43, 180, 0, 76, 43, 180, 0, 96, 28, 50, 21, 4, 47, 182, 0, 112, 54, 5]
abbrev dktX0_firstLost_1 : List UInt8 := dkwX0_firstLost_1 ++ dktX0_firstLost_2
def dkwX0_firstLost_0 : List UInt8 := [29, 54, 4, 21, 4, 42, 180, 0, 73, 162, 0, 51, 21, 4, 28, 162, 0, 13, 43, 180, 0, 76]
abbrev dktX0_firstLost_0 : List UInt8 := dkwX0_firstLost_0 ++ dktX0_firstLost_1
theorem dksX0_firstLost_0 : cX0_firstLost.data.toList.drop 0 = dktX0_firstLost_0 := by decide +kernel
theorem dksX0_firstLost_1 : cX0_firstLost.data.toList.drop 22 = dktX0_firstLost_1 := dk_seg dksX0_firstLost_0 22 rfl rfl
theorem dksX0_firstLost_2 : cX0_firstLost.data.toList.drop 46 = dktX0_firstLost_2 := dk_seg dksX0_firstLost_1 24 rfl rfl
theorem dX0_firstLost_0 : decode cX0_firstLost 0 = .ok (.iload_n 3, 1) := dk_29 (dk_at dksX0_firstLost_0 0 rfl rfl)
theorem dX0_firstLost_1 : decode cX0_firstLost 1 = .ok (.istore 4, 2) := dk_54 4 (dk_at dksX0_firstLost_0 1 rfl rfl)
theorem dX0_firstLost_3 : decode cX0_firstLost 3 = .ok (.iload 4, 2) := dk_21 4 (dk_at dksX0_firstLost_0 3 rfl rfl)
theorem dX0_firstLost_5 : decode cX0_firstLost 5 = .ok (.aload_n 0, 1) := dk_42 (dk_at dksX0_firstLost_0 5 rfl rfl)
theorem dX0_firstLost_6 : decode cX0_firstLost 6 = .ok (.getfield 73, 3) := dk_180 0 73 (dk_at dksX0_firstLost_0 6 rfl rfl)
theorem dX0_firstLost_9 : decode cX0_firstLost 9 = .ok (.if_icmp .ge 51, 3) := dk_162 0 51 (dk_at dksX0_firstLost_0 9 rfl rfl)
theorem dX0_firstLost_12 : decode cX0_firstLost 12 = .ok (.iload 4, 2) := dk_21 4 (dk_at dksX0_firstLost_0 12 rfl rfl)
theorem dX0_firstLost_14 : decode cX0_firstLost 14 = .ok (.iload_n 2, 1) := dk_28 (dk_at dksX0_firstLost_0 14 rfl rfl)
theorem dX0_firstLost_15 : decode cX0_firstLost 15 = .ok (.if_icmp .ge 13, 3) := dk_162 0 13 (dk_at dksX0_firstLost_0 15 rfl rfl)
theorem dX0_firstLost_18 : decode cX0_firstLost 18 = .ok (.aload_n 1, 1) := dk_43 (dk_at dksX0_firstLost_0 18 rfl rfl)
theorem dX0_firstLost_19 : decode cX0_firstLost 19 = .ok (.getfield 76, 3) := dk_180 0 76 (dk_at dksX0_firstLost_0 19 rfl rfl)
theorem dX0_firstLost_22 : decode cX0_firstLost 22 = .ok (.invokevirtual 108, 3) := dk_182 0 108 (dk_at dksX0_firstLost_1 0 rfl rfl)
theorem dX0_firstLost_25 : decode cX0_firstLost 25 = .ok (.goto 19, 3) := dk_167 0 19 (dk_at dksX0_firstLost_1 3 rfl rfl)
theorem dX0_firstLost_28 : decode cX0_firstLost 28 = .ok (.aload_n 1, 1) := dk_43 (dk_at dksX0_firstLost_1 6 rfl rfl)
theorem dX0_firstLost_29 : decode cX0_firstLost 29 = .ok (.getfield 76, 3) := dk_180 0 76 (dk_at dksX0_firstLost_1 7 rfl rfl)
theorem dX0_firstLost_32 : decode cX0_firstLost 32 = .ok (.aload_n 1, 1) := dk_43 (dk_at dksX0_firstLost_1 10 rfl rfl)
theorem dX0_firstLost_33 : decode cX0_firstLost 33 = .ok (.getfield 96, 3) := dk_180 0 96 (dk_at dksX0_firstLost_1 11 rfl rfl)
theorem dX0_firstLost_36 : decode cX0_firstLost 36 = .ok (.iload_n 2, 1) := dk_28 (dk_at dksX0_firstLost_1 14 rfl rfl)
theorem dX0_firstLost_37 : decode cX0_firstLost 37 = .ok (.aaload, 1) := dk_50 (dk_at dksX0_firstLost_1 15 rfl rfl)
theorem dX0_firstLost_38 : decode cX0_firstLost 38 = .ok (.iload 4, 2) := dk_21 4 (dk_at dksX0_firstLost_1 16 rfl rfl)
theorem dX0_firstLost_40 : decode cX0_firstLost 40 = .ok (.laload, 1) := dk_47 (dk_at dksX0_firstLost_1 18 rfl rfl)
theorem dX0_firstLost_41 : decode cX0_firstLost 41 = .ok (.invokevirtual 112, 3) := dk_182 0 112 (dk_at dksX0_firstLost_1 19 rfl rfl)
theorem dX0_firstLost_44 : decode cX0_firstLost 44 = .ok (.istore 5, 2) := dk_54 5 (dk_at dksX0_firstLost_1 22 rfl rfl)
theorem dX0_firstLost_46 : decode cX0_firstLost 46 = .ok (.iload 5, 2) := dk_21 5 (dk_at dksX0_firstLost_2 0 rfl rfl)
theorem dX0_firstLost_48 : decode cX0_firstLost 48 = .ok (.ifCond .ne 6, 3) := dk_154 0 6 (dk_at dksX0_firstLost_2 2 rfl rfl)
theorem dX0_firstLost_51 : decode cX0_firstLost 51 = .ok (.iload 4, 2) := dk_21 4 (dk_at dksX0_firstLost_2 5 rfl rfl)
theorem dX0_firstLost_53 : decode cX0_firstLost 53 = .ok (.ireturn, 1) := dk_172 (dk_at dksX0_firstLost_2 7 rfl rfl)
theorem dX0_firstLost_54 : decode cX0_firstLost 54 = .ok (.iinc 4 1, 3) := dk_132 4 1 (dk_at dksX0_firstLost_2 8 rfl rfl)
theorem dX0_firstLost_57 : decode cX0_firstLost 57 = .ok (.goto (-54), 3) := dk_167 255 202 (dk_at dksX0_firstLost_2 11 rfl rfl)
theorem dX0_firstLost_60 : decode cX0_firstLost 60 = .ok (.bipush (-4), 2) := dk_16 252 (dk_at dksX0_firstLost_2 14 rfl rfl)
theorem dX0_firstLost_62 : decode cX0_firstLost 62 = .ok (.ireturn, 1) := dk_172 (dk_at dksX0_firstLost_2 16 rfl rfl)
abbrev cX0_judged : ByteArray := prog_1_method_14_code
def yX0_judged : MethodName := ⟨RX0, "judged", "(LPromiseTries$Promise;II[I)I"⟩
def dkwX0_judged_6 : List UInt8 := [167, 0, 22, 21, 5, 153, 0, 7, 3, 167, 0, 13, 21, 7, 153, 0, 7, 4, 167, 0, 4, 6, 172]
abbrev dktX0_judged_6 : List UInt8 := dkwX0_judged_6 ++ []
def dkwX0_judged_5 : List UInt8 := [21, 9, 154, 0, 7, 4, 167, 0, 4, 3, 54, 5, 132, 8, 1, 167, 255, 187, 21, 6, 153, 0, 7, 5]
abbrev dktX0_judged_5 : List UInt8 := dkwX0_judged_5 ++ dktX0_judged_6
def dkwX0_judged_4 : List UInt8 := [21, 6, 154, 0, 9, 21, 9, 5, 160, 0, 7, 4, 167, 0, 4, 3, 54, 6, 21, 5, 154, 0, 8]
abbrev dktX0_judged_4 : List UInt8 := dkwX0_judged_4 ++ dktX0_judged_5
def dkwX0_judged_3 : List UInt8 := [43, 28, 21, 8, 182, 0, 143, 153, 0, 52, 25, 4, 21, 8, 46, 29, 184, 0, 147, 54, 9, 4, 54, 7]
abbrev dktX0_judged_3 : List UInt8 := dkwX0_judged_3 ++ dktX0_judged_4
def dkwX0_judged_2 : List UInt8 := [50, 29, 47, 182, 0, 112, 54, 5, 3, 54, 6, 3, 54, 7, 28, 54, 8, 21, 8, 29, 163, 0, 69, 42]
abbrev dktX0_judged_2 : List UInt8 := dkwX0_judged_2 ++ dktX0_judged_3
def dkwX0_judged_1 : List UInt8 := [153, 0, 5, 7, 172, 43, 180, 0, 127, 3, 50, 180, 0, 76, 43, 180, 0, 127, 3, 50, 180, 0, 96, 28]
abbrev dktX0_judged_1 : List UInt8 := dkwX0_judged_1 ++ dktX0_judged_2
def dkwX0_judged_0 : List UInt8 := [43, 180, 0, 139, 198, 0, 23, 43, 180, 0, 139, 42, 180, 0, 88, 29, 46, 185, 0, 9, 2, 0]
abbrev dktX0_judged_0 : List UInt8 := dkwX0_judged_0 ++ dktX0_judged_1
theorem dksX0_judged_0 : cX0_judged.data.toList.drop 0 = dktX0_judged_0 := by decide +kernel
theorem dksX0_judged_1 : cX0_judged.data.toList.drop 22 = dktX0_judged_1 := dk_seg dksX0_judged_0 22 rfl rfl
theorem dksX0_judged_2 : cX0_judged.data.toList.drop 46 = dktX0_judged_2 := dk_seg dksX0_judged_1 24 rfl rfl
theorem dksX0_judged_3 : cX0_judged.data.toList.drop 70 = dktX0_judged_3 := dk_seg dksX0_judged_2 24 rfl rfl
theorem dksX0_judged_4 : cX0_judged.data.toList.drop 94 = dktX0_judged_4 := dk_seg dksX0_judged_3 24 rfl rfl
theorem dksX0_judged_5 : cX0_judged.data.toList.drop 117 = dktX0_judged_5 := dk_seg dksX0_judged_4 23 rfl rfl
theorem dksX0_judged_6 : cX0_judged.data.toList.drop 141 = dktX0_judged_6 := dk_seg dksX0_judged_5 24 rfl rfl
theorem dX0_judged_0 : decode cX0_judged 0 = .ok (.aload_n 1, 1) := dk_43 (dk_at dksX0_judged_0 0 rfl rfl)
theorem dX0_judged_1 : decode cX0_judged 1 = .ok (.getfield 139, 3) := dk_180 0 139 (dk_at dksX0_judged_0 1 rfl rfl)
theorem dX0_judged_4 : decode cX0_judged 4 = .ok (.ifnull 23, 3) := dk_198 0 23 (dk_at dksX0_judged_0 4 rfl rfl)
theorem dX0_judged_7 : decode cX0_judged 7 = .ok (.aload_n 1, 1) := dk_43 (dk_at dksX0_judged_0 7 rfl rfl)
theorem dX0_judged_8 : decode cX0_judged 8 = .ok (.getfield 139, 3) := dk_180 0 139 (dk_at dksX0_judged_0 8 rfl rfl)
theorem dX0_judged_11 : decode cX0_judged 11 = .ok (.aload_n 0, 1) := dk_42 (dk_at dksX0_judged_0 11 rfl rfl)
theorem dX0_judged_12 : decode cX0_judged 12 = .ok (.getfield 88, 3) := dk_180 0 88 (dk_at dksX0_judged_0 12 rfl rfl)
theorem dX0_judged_15 : decode cX0_judged 15 = .ok (.iload_n 3, 1) := dk_29 (dk_at dksX0_judged_0 15 rfl rfl)
theorem dX0_judged_16 : decode cX0_judged 16 = .ok (.iaload, 1) := dk_46 (dk_at dksX0_judged_0 16 rfl rfl)
theorem dX0_judged_17 : decode cX0_judged 17 = .ok (.invokeinterface 9 2, 5) := by decide +kernel
theorem dX0_judged_22 : decode cX0_judged 22 = .ok (.ifCond .eq 5, 3) := dk_153 0 5 (dk_at dksX0_judged_1 0 rfl rfl)
theorem dX0_judged_25 : decode cX0_judged 25 = .ok (.iconst 4, 1) := dk_7 (dk_at dksX0_judged_1 3 rfl rfl)
theorem dX0_judged_26 : decode cX0_judged 26 = .ok (.ireturn, 1) := dk_172 (dk_at dksX0_judged_1 4 rfl rfl)
theorem dX0_judged_27 : decode cX0_judged 27 = .ok (.aload_n 1, 1) := dk_43 (dk_at dksX0_judged_1 5 rfl rfl)
theorem dX0_judged_28 : decode cX0_judged 28 = .ok (.getfield 127, 3) := dk_180 0 127 (dk_at dksX0_judged_1 6 rfl rfl)
theorem dX0_judged_31 : decode cX0_judged 31 = .ok (.iconst 0, 1) := dk_3 (dk_at dksX0_judged_1 9 rfl rfl)
theorem dX0_judged_32 : decode cX0_judged 32 = .ok (.aaload, 1) := dk_50 (dk_at dksX0_judged_1 10 rfl rfl)
theorem dX0_judged_33 : decode cX0_judged 33 = .ok (.getfield 76, 3) := dk_180 0 76 (dk_at dksX0_judged_1 11 rfl rfl)
theorem dX0_judged_36 : decode cX0_judged 36 = .ok (.aload_n 1, 1) := dk_43 (dk_at dksX0_judged_1 14 rfl rfl)
theorem dX0_judged_37 : decode cX0_judged 37 = .ok (.getfield 127, 3) := dk_180 0 127 (dk_at dksX0_judged_1 15 rfl rfl)
theorem dX0_judged_40 : decode cX0_judged 40 = .ok (.iconst 0, 1) := dk_3 (dk_at dksX0_judged_1 18 rfl rfl)
theorem dX0_judged_41 : decode cX0_judged 41 = .ok (.aaload, 1) := dk_50 (dk_at dksX0_judged_1 19 rfl rfl)
theorem dX0_judged_42 : decode cX0_judged 42 = .ok (.getfield 96, 3) := dk_180 0 96 (dk_at dksX0_judged_1 20 rfl rfl)
theorem dX0_judged_45 : decode cX0_judged 45 = .ok (.iload_n 2, 1) := dk_28 (dk_at dksX0_judged_1 23 rfl rfl)
theorem dX0_judged_46 : decode cX0_judged 46 = .ok (.aaload, 1) := dk_50 (dk_at dksX0_judged_2 0 rfl rfl)
theorem dX0_judged_47 : decode cX0_judged 47 = .ok (.iload_n 3, 1) := dk_29 (dk_at dksX0_judged_2 1 rfl rfl)
theorem dX0_judged_48 : decode cX0_judged 48 = .ok (.laload, 1) := dk_47 (dk_at dksX0_judged_2 2 rfl rfl)
theorem dX0_judged_49 : decode cX0_judged 49 = .ok (.invokevirtual 112, 3) := dk_182 0 112 (dk_at dksX0_judged_2 3 rfl rfl)
theorem dX0_judged_52 : decode cX0_judged 52 = .ok (.istore 5, 2) := dk_54 5 (dk_at dksX0_judged_2 6 rfl rfl)
theorem dX0_judged_54 : decode cX0_judged 54 = .ok (.iconst 0, 1) := dk_3 (dk_at dksX0_judged_2 8 rfl rfl)
theorem dX0_judged_55 : decode cX0_judged 55 = .ok (.istore 6, 2) := dk_54 6 (dk_at dksX0_judged_2 9 rfl rfl)
theorem dX0_judged_57 : decode cX0_judged 57 = .ok (.iconst 0, 1) := dk_3 (dk_at dksX0_judged_2 11 rfl rfl)
theorem dX0_judged_58 : decode cX0_judged 58 = .ok (.istore 7, 2) := dk_54 7 (dk_at dksX0_judged_2 12 rfl rfl)
theorem dX0_judged_60 : decode cX0_judged 60 = .ok (.iload_n 2, 1) := dk_28 (dk_at dksX0_judged_2 14 rfl rfl)
theorem dX0_judged_61 : decode cX0_judged 61 = .ok (.istore 8, 2) := dk_54 8 (dk_at dksX0_judged_2 15 rfl rfl)
theorem dX0_judged_63 : decode cX0_judged 63 = .ok (.iload 8, 2) := dk_21 8 (dk_at dksX0_judged_2 17 rfl rfl)
theorem dX0_judged_65 : decode cX0_judged 65 = .ok (.iload_n 3, 1) := dk_29 (dk_at dksX0_judged_2 19 rfl rfl)
theorem dX0_judged_66 : decode cX0_judged 66 = .ok (.if_icmp .gt 69, 3) := dk_163 0 69 (dk_at dksX0_judged_2 20 rfl rfl)
theorem dX0_judged_69 : decode cX0_judged 69 = .ok (.aload_n 0, 1) := dk_42 (dk_at dksX0_judged_2 23 rfl rfl)
theorem dX0_judged_70 : decode cX0_judged 70 = .ok (.aload_n 1, 1) := dk_43 (dk_at dksX0_judged_3 0 rfl rfl)
theorem dX0_judged_71 : decode cX0_judged 71 = .ok (.iload_n 2, 1) := dk_28 (dk_at dksX0_judged_3 1 rfl rfl)
theorem dX0_judged_72 : decode cX0_judged 72 = .ok (.iload 8, 2) := dk_21 8 (dk_at dksX0_judged_3 2 rfl rfl)
theorem dX0_judged_74 : decode cX0_judged 74 = .ok (.invokevirtual 143, 3) := dk_182 0 143 (dk_at dksX0_judged_3 4 rfl rfl)
theorem dX0_judged_77 : decode cX0_judged 77 = .ok (.ifCond .eq 52, 3) := dk_153 0 52 (dk_at dksX0_judged_3 7 rfl rfl)
theorem dX0_judged_80 : decode cX0_judged 80 = .ok (.aload 4, 2) := dk_25 4 (dk_at dksX0_judged_3 10 rfl rfl)
theorem dX0_judged_82 : decode cX0_judged 82 = .ok (.iload 8, 2) := dk_21 8 (dk_at dksX0_judged_3 12 rfl rfl)
theorem dX0_judged_84 : decode cX0_judged 84 = .ok (.iaload, 1) := dk_46 (dk_at dksX0_judged_3 14 rfl rfl)
theorem dX0_judged_85 : decode cX0_judged 85 = .ok (.iload_n 3, 1) := dk_29 (dk_at dksX0_judged_3 15 rfl rfl)
theorem dX0_judged_86 : decode cX0_judged 86 = .ok (.invokestatic 147, 3) := dk_184 0 147 (dk_at dksX0_judged_3 16 rfl rfl)
theorem dX0_judged_89 : decode cX0_judged 89 = .ok (.istore 9, 2) := dk_54 9 (dk_at dksX0_judged_3 19 rfl rfl)
theorem dX0_judged_91 : decode cX0_judged 91 = .ok (.iconst 1, 1) := dk_4 (dk_at dksX0_judged_3 21 rfl rfl)
theorem dX0_judged_92 : decode cX0_judged 92 = .ok (.istore 7, 2) := dk_54 7 (dk_at dksX0_judged_3 22 rfl rfl)
theorem dX0_judged_94 : decode cX0_judged 94 = .ok (.iload 6, 2) := dk_21 6 (dk_at dksX0_judged_4 0 rfl rfl)
theorem dX0_judged_96 : decode cX0_judged 96 = .ok (.ifCond .ne 9, 3) := dk_154 0 9 (dk_at dksX0_judged_4 2 rfl rfl)
theorem dX0_judged_99 : decode cX0_judged 99 = .ok (.iload 9, 2) := dk_21 9 (dk_at dksX0_judged_4 5 rfl rfl)
theorem dX0_judged_101 : decode cX0_judged 101 = .ok (.iconst 2, 1) := dk_5 (dk_at dksX0_judged_4 7 rfl rfl)
theorem dX0_judged_102 : decode cX0_judged 102 = .ok (.if_icmp .ne 7, 3) := dk_160 0 7 (dk_at dksX0_judged_4 8 rfl rfl)
theorem dX0_judged_105 : decode cX0_judged 105 = .ok (.iconst 1, 1) := dk_4 (dk_at dksX0_judged_4 11 rfl rfl)
theorem dX0_judged_106 : decode cX0_judged 106 = .ok (.goto 4, 3) := dk_167 0 4 (dk_at dksX0_judged_4 12 rfl rfl)
theorem dX0_judged_109 : decode cX0_judged 109 = .ok (.iconst 0, 1) := dk_3 (dk_at dksX0_judged_4 15 rfl rfl)
theorem dX0_judged_110 : decode cX0_judged 110 = .ok (.istore 6, 2) := dk_54 6 (dk_at dksX0_judged_4 16 rfl rfl)
theorem dX0_judged_112 : decode cX0_judged 112 = .ok (.iload 5, 2) := dk_21 5 (dk_at dksX0_judged_4 18 rfl rfl)
theorem dX0_judged_114 : decode cX0_judged 114 = .ok (.ifCond .ne 8, 3) := dk_154 0 8 (dk_at dksX0_judged_4 20 rfl rfl)
theorem dX0_judged_117 : decode cX0_judged 117 = .ok (.iload 9, 2) := dk_21 9 (dk_at dksX0_judged_5 0 rfl rfl)
theorem dX0_judged_119 : decode cX0_judged 119 = .ok (.ifCond .ne 7, 3) := dk_154 0 7 (dk_at dksX0_judged_5 2 rfl rfl)
theorem dX0_judged_122 : decode cX0_judged 122 = .ok (.iconst 1, 1) := dk_4 (dk_at dksX0_judged_5 5 rfl rfl)
theorem dX0_judged_123 : decode cX0_judged 123 = .ok (.goto 4, 3) := dk_167 0 4 (dk_at dksX0_judged_5 6 rfl rfl)
theorem dX0_judged_126 : decode cX0_judged 126 = .ok (.iconst 0, 1) := dk_3 (dk_at dksX0_judged_5 9 rfl rfl)
theorem dX0_judged_127 : decode cX0_judged 127 = .ok (.istore 5, 2) := dk_54 5 (dk_at dksX0_judged_5 10 rfl rfl)
theorem dX0_judged_129 : decode cX0_judged 129 = .ok (.iinc 8 1, 3) := dk_132 8 1 (dk_at dksX0_judged_5 12 rfl rfl)
theorem dX0_judged_132 : decode cX0_judged 132 = .ok (.goto (-69), 3) := dk_167 255 187 (dk_at dksX0_judged_5 15 rfl rfl)
theorem dX0_judged_135 : decode cX0_judged 135 = .ok (.iload 6, 2) := dk_21 6 (dk_at dksX0_judged_5 18 rfl rfl)
theorem dX0_judged_137 : decode cX0_judged 137 = .ok (.ifCond .eq 7, 3) := dk_153 0 7 (dk_at dksX0_judged_5 20 rfl rfl)
theorem dX0_judged_140 : decode cX0_judged 140 = .ok (.iconst 2, 1) := dk_5 (dk_at dksX0_judged_5 23 rfl rfl)
theorem dX0_judged_141 : decode cX0_judged 141 = .ok (.goto 22, 3) := dk_167 0 22 (dk_at dksX0_judged_6 0 rfl rfl)
theorem dX0_judged_144 : decode cX0_judged 144 = .ok (.iload 5, 2) := dk_21 5 (dk_at dksX0_judged_6 3 rfl rfl)
theorem dX0_judged_146 : decode cX0_judged 146 = .ok (.ifCond .eq 7, 3) := dk_153 0 7 (dk_at dksX0_judged_6 5 rfl rfl)
theorem dX0_judged_149 : decode cX0_judged 149 = .ok (.iconst 0, 1) := dk_3 (dk_at dksX0_judged_6 8 rfl rfl)
theorem dX0_judged_150 : decode cX0_judged 150 = .ok (.goto 13, 3) := dk_167 0 13 (dk_at dksX0_judged_6 9 rfl rfl)
theorem dX0_judged_153 : decode cX0_judged 153 = .ok (.iload 7, 2) := dk_21 7 (dk_at dksX0_judged_6 12 rfl rfl)
theorem dX0_judged_155 : decode cX0_judged 155 = .ok (.ifCond .eq 7, 3) := dk_153 0 7 (dk_at dksX0_judged_6 14 rfl rfl)
theorem dX0_judged_158 : decode cX0_judged 158 = .ok (.iconst 1, 1) := dk_4 (dk_at dksX0_judged_6 17 rfl rfl)
theorem dX0_judged_159 : decode cX0_judged 159 = .ok (.goto 4, 3) := dk_167 0 4 (dk_at dksX0_judged_6 18 rfl rfl)
theorem dX0_judged_162 : decode cX0_judged 162 = .ok (.iconst 3, 1) := dk_6 (dk_at dksX0_judged_6 21 rfl rfl)
theorem dX0_judged_163 : decode cX0_judged 163 = .ok (.ireturn, 1) := dk_172 (dk_at dksX0_judged_6 22 rfl rfl)
abbrev cX0_isDuty : ByteArray := prog_1_method_13_code
def yX0_isDuty : MethodName := ⟨RX0, "isDuty", "(LPromiseTries$Promise;II)Z"⟩
def dkwX0_isDuty_1 : List UInt8 := [182, 0, 104, 172]
abbrev dktX0_isDuty_1 : List UInt8 := dkwX0_isDuty_1 ++ []
def dkwX0_isDuty_0 : List UInt8 := [43, 180, 0, 127, 3, 50, 58, 4, 25, 4, 180, 0, 76, 25, 4, 180, 0, 96, 28, 50, 29, 47]
abbrev dktX0_isDuty_0 : List UInt8 := dkwX0_isDuty_0 ++ dktX0_isDuty_1
theorem dksX0_isDuty_0 : cX0_isDuty.data.toList.drop 0 = dktX0_isDuty_0 := by decide +kernel
theorem dksX0_isDuty_1 : cX0_isDuty.data.toList.drop 22 = dktX0_isDuty_1 := dk_seg dksX0_isDuty_0 22 rfl rfl
theorem dX0_isDuty_0 : decode cX0_isDuty 0 = .ok (.aload_n 1, 1) := dk_43 (dk_at dksX0_isDuty_0 0 rfl rfl)
theorem dX0_isDuty_1 : decode cX0_isDuty 1 = .ok (.getfield 127, 3) := dk_180 0 127 (dk_at dksX0_isDuty_0 1 rfl rfl)
theorem dX0_isDuty_4 : decode cX0_isDuty 4 = .ok (.iconst 0, 1) := dk_3 (dk_at dksX0_isDuty_0 4 rfl rfl)
theorem dX0_isDuty_5 : decode cX0_isDuty 5 = .ok (.aaload, 1) := dk_50 (dk_at dksX0_isDuty_0 5 rfl rfl)
theorem dX0_isDuty_6 : decode cX0_isDuty 6 = .ok (.astore 4, 2) := dk_58 4 (dk_at dksX0_isDuty_0 6 rfl rfl)
theorem dX0_isDuty_8 : decode cX0_isDuty 8 = .ok (.aload 4, 2) := dk_25 4 (dk_at dksX0_isDuty_0 8 rfl rfl)
theorem dX0_isDuty_10 : decode cX0_isDuty 10 = .ok (.getfield 76, 3) := dk_180 0 76 (dk_at dksX0_isDuty_0 10 rfl rfl)
theorem dX0_isDuty_13 : decode cX0_isDuty 13 = .ok (.aload 4, 2) := dk_25 4 (dk_at dksX0_isDuty_0 13 rfl rfl)
theorem dX0_isDuty_15 : decode cX0_isDuty 15 = .ok (.getfield 96, 3) := dk_180 0 96 (dk_at dksX0_isDuty_0 15 rfl rfl)
theorem dX0_isDuty_18 : decode cX0_isDuty 18 = .ok (.iload_n 2, 1) := dk_28 (dk_at dksX0_isDuty_0 18 rfl rfl)
theorem dX0_isDuty_19 : decode cX0_isDuty 19 = .ok (.aaload, 1) := dk_50 (dk_at dksX0_isDuty_0 19 rfl rfl)
theorem dX0_isDuty_20 : decode cX0_isDuty 20 = .ok (.iload_n 3, 1) := dk_29 (dk_at dksX0_isDuty_0 20 rfl rfl)
theorem dX0_isDuty_21 : decode cX0_isDuty 21 = .ok (.laload, 1) := dk_47 (dk_at dksX0_isDuty_0 21 rfl rfl)
theorem dX0_isDuty_22 : decode cX0_isDuty 22 = .ok (.invokevirtual 104, 3) := dk_182 0 104 (dk_at dksX0_isDuty_1 0 rfl rfl)
theorem dX0_isDuty_25 : decode cX0_isDuty 25 = .ok (.ireturn, 1) := dk_172 (dk_at dksX0_isDuty_1 3 rfl rfl)
abbrev cX0_dutyBy : ByteArray := prog_1_method_12_code
def yX0_dutyBy : MethodName := ⟨RX0, "dutyBy", "(II)I"⟩
def dkwX0_dutyBy_0 : List UInt8 := [26, 5, 122, 27, 163, 0, 9, 26, 6, 126, 167, 0, 4, 3, 172]
abbrev dktX0_dutyBy_0 : List UInt8 := dkwX0_dutyBy_0 ++ []
theorem dksX0_dutyBy_0 : cX0_dutyBy.data.toList.drop 0 = dktX0_dutyBy_0 := by decide +kernel
theorem dX0_dutyBy_0 : decode cX0_dutyBy 0 = .ok (.iload_n 0, 1) := dk_26 (dk_at dksX0_dutyBy_0 0 rfl rfl)
theorem dX0_dutyBy_1 : decode cX0_dutyBy 1 = .ok (.iconst 2, 1) := dk_5 (dk_at dksX0_dutyBy_0 1 rfl rfl)
theorem dX0_dutyBy_2 : decode cX0_dutyBy 2 = .ok (.ishr, 1) := dk_122 (dk_at dksX0_dutyBy_0 2 rfl rfl)
theorem dX0_dutyBy_3 : decode cX0_dutyBy 3 = .ok (.iload_n 1, 1) := dk_27 (dk_at dksX0_dutyBy_0 3 rfl rfl)
theorem dX0_dutyBy_4 : decode cX0_dutyBy 4 = .ok (.if_icmp .gt 9, 3) := dk_163 0 9 (dk_at dksX0_dutyBy_0 4 rfl rfl)
theorem dX0_dutyBy_7 : decode cX0_dutyBy 7 = .ok (.iload_n 0, 1) := dk_26 (dk_at dksX0_dutyBy_0 7 rfl rfl)
theorem dX0_dutyBy_8 : decode cX0_dutyBy 8 = .ok (.iconst 3, 1) := dk_6 (dk_at dksX0_dutyBy_0 8 rfl rfl)
theorem dX0_dutyBy_9 : decode cX0_dutyBy 9 = .ok (.iand, 1) := dk_126 (dk_at dksX0_dutyBy_0 9 rfl rfl)
theorem dX0_dutyBy_10 : decode cX0_dutyBy 10 = .ok (.goto 4, 3) := dk_167 0 4 (dk_at dksX0_dutyBy_0 10 rfl rfl)
theorem dX0_dutyBy_13 : decode cX0_dutyBy 13 = .ok (.iconst 0, 1) := dk_3 (dk_at dksX0_dutyBy_0 13 rfl rfl)
theorem dX0_dutyBy_14 : decode cX0_dutyBy 14 = .ok (.ireturn, 1) := dk_172 (dk_at dksX0_dutyBy_0 14 rfl rfl)
abbrev cX0_counted : ByteArray := prog_1_method_20_code
def yX0_counted : MethodName := ⟨RX0, "counted", "(II)I"⟩
def dkwX0_counted_2 : List UInt8 := [96, 62, 132, 4, 1, 167, 255, 208, 29, 172]
abbrev dktX0_counted_2 : List UInt8 := dkwX0_counted_2 ++ []
def dkwX0_counted_1 : List UInt8 := [182, 0, 174, 167, 0, 21, 42, 180, 0, 157, 27, 50, 21, 4, 46, 28, 160, 0, 7, 4, 167, 0, 4, 3]
abbrev dktX0_counted_1 : List UInt8 := dkwX0_counted_1 ++ dktX0_counted_2
def dkwX0_counted_0 : List UInt8 := [3, 62, 3, 54, 4, 21, 4, 42, 180, 0, 73, 162, 0, 45, 29, 28, 8, 160, 0, 13, 42, 27, 21, 4]
abbrev dktX0_counted_0 : List UInt8 := dkwX0_counted_0 ++ dktX0_counted_1
theorem dksX0_counted_0 : cX0_counted.data.toList.drop 0 = dktX0_counted_0 := by decide +kernel
theorem dksX0_counted_1 : cX0_counted.data.toList.drop 24 = dktX0_counted_1 := dk_seg dksX0_counted_0 24 rfl rfl
theorem dksX0_counted_2 : cX0_counted.data.toList.drop 48 = dktX0_counted_2 := dk_seg dksX0_counted_1 24 rfl rfl
theorem dX0_counted_0 : decode cX0_counted 0 = .ok (.iconst 0, 1) := dk_3 (dk_at dksX0_counted_0 0 rfl rfl)
theorem dX0_counted_1 : decode cX0_counted 1 = .ok (.istore_n 3, 1) := dk_62 (dk_at dksX0_counted_0 1 rfl rfl)
theorem dX0_counted_2 : decode cX0_counted 2 = .ok (.iconst 0, 1) := dk_3 (dk_at dksX0_counted_0 2 rfl rfl)
theorem dX0_counted_3 : decode cX0_counted 3 = .ok (.istore 4, 2) := dk_54 4 (dk_at dksX0_counted_0 3 rfl rfl)
theorem dX0_counted_5 : decode cX0_counted 5 = .ok (.iload 4, 2) := dk_21 4 (dk_at dksX0_counted_0 5 rfl rfl)
theorem dX0_counted_7 : decode cX0_counted 7 = .ok (.aload_n 0, 1) := dk_42 (dk_at dksX0_counted_0 7 rfl rfl)
theorem dX0_counted_8 : decode cX0_counted 8 = .ok (.getfield 73, 3) := dk_180 0 73 (dk_at dksX0_counted_0 8 rfl rfl)
theorem dX0_counted_11 : decode cX0_counted 11 = .ok (.if_icmp .ge 45, 3) := dk_162 0 45 (dk_at dksX0_counted_0 11 rfl rfl)
theorem dX0_counted_14 : decode cX0_counted 14 = .ok (.iload_n 3, 1) := dk_29 (dk_at dksX0_counted_0 14 rfl rfl)
theorem dX0_counted_15 : decode cX0_counted 15 = .ok (.iload_n 2, 1) := dk_28 (dk_at dksX0_counted_0 15 rfl rfl)
theorem dX0_counted_16 : decode cX0_counted 16 = .ok (.iconst 5, 1) := dk_8 (dk_at dksX0_counted_0 16 rfl rfl)
theorem dX0_counted_17 : decode cX0_counted 17 = .ok (.if_icmp .ne 13, 3) := dk_160 0 13 (dk_at dksX0_counted_0 17 rfl rfl)
theorem dX0_counted_20 : decode cX0_counted 20 = .ok (.aload_n 0, 1) := dk_42 (dk_at dksX0_counted_0 20 rfl rfl)
theorem dX0_counted_21 : decode cX0_counted 21 = .ok (.iload_n 1, 1) := dk_27 (dk_at dksX0_counted_0 21 rfl rfl)
theorem dX0_counted_22 : decode cX0_counted 22 = .ok (.iload 4, 2) := dk_21 4 (dk_at dksX0_counted_0 22 rfl rfl)
theorem dX0_counted_24 : decode cX0_counted 24 = .ok (.invokevirtual 174, 3) := dk_182 0 174 (dk_at dksX0_counted_1 0 rfl rfl)
theorem dX0_counted_27 : decode cX0_counted 27 = .ok (.goto 21, 3) := dk_167 0 21 (dk_at dksX0_counted_1 3 rfl rfl)
theorem dX0_counted_30 : decode cX0_counted 30 = .ok (.aload_n 0, 1) := dk_42 (dk_at dksX0_counted_1 6 rfl rfl)
theorem dX0_counted_31 : decode cX0_counted 31 = .ok (.getfield 157, 3) := dk_180 0 157 (dk_at dksX0_counted_1 7 rfl rfl)
theorem dX0_counted_34 : decode cX0_counted 34 = .ok (.iload_n 1, 1) := dk_27 (dk_at dksX0_counted_1 10 rfl rfl)
theorem dX0_counted_35 : decode cX0_counted 35 = .ok (.aaload, 1) := dk_50 (dk_at dksX0_counted_1 11 rfl rfl)
theorem dX0_counted_36 : decode cX0_counted 36 = .ok (.iload 4, 2) := dk_21 4 (dk_at dksX0_counted_1 12 rfl rfl)
theorem dX0_counted_38 : decode cX0_counted 38 = .ok (.iaload, 1) := dk_46 (dk_at dksX0_counted_1 14 rfl rfl)
theorem dX0_counted_39 : decode cX0_counted 39 = .ok (.iload_n 2, 1) := dk_28 (dk_at dksX0_counted_1 15 rfl rfl)
theorem dX0_counted_40 : decode cX0_counted 40 = .ok (.if_icmp .ne 7, 3) := dk_160 0 7 (dk_at dksX0_counted_1 16 rfl rfl)
theorem dX0_counted_43 : decode cX0_counted 43 = .ok (.iconst 1, 1) := dk_4 (dk_at dksX0_counted_1 19 rfl rfl)
theorem dX0_counted_44 : decode cX0_counted 44 = .ok (.goto 4, 3) := dk_167 0 4 (dk_at dksX0_counted_1 20 rfl rfl)
theorem dX0_counted_47 : decode cX0_counted 47 = .ok (.iconst 0, 1) := dk_3 (dk_at dksX0_counted_1 23 rfl rfl)
theorem dX0_counted_48 : decode cX0_counted 48 = .ok (.iadd, 1) := dk_96 (dk_at dksX0_counted_2 0 rfl rfl)
theorem dX0_counted_49 : decode cX0_counted 49 = .ok (.istore_n 3, 1) := dk_62 (dk_at dksX0_counted_2 1 rfl rfl)
theorem dX0_counted_50 : decode cX0_counted 50 = .ok (.iinc 4 1, 3) := dk_132 4 1 (dk_at dksX0_counted_2 2 rfl rfl)
theorem dX0_counted_53 : decode cX0_counted 53 = .ok (.goto (-48), 3) := dk_167 255 208 (dk_at dksX0_counted_2 5 rfl rfl)
theorem dX0_counted_56 : decode cX0_counted 56 = .ok (.iload_n 3, 1) := dk_29 (dk_at dksX0_counted_2 8 rfl rfl)
theorem dX0_counted_57 : decode cX0_counted 57 = .ok (.ireturn, 1) := dk_172 (dk_at dksX0_counted_2 9 rfl rfl)
abbrev cX0_dutiesOf : ByteArray := prog_1_method_19_code
def yX0_dutiesOf : MethodName := ⟨RX0, "dutiesOf", "(II)I"⟩
def dkwX0_dutiesOf_1 : List UInt8 := [21, 4, 182, 0, 143, 153, 0, 7, 4, 167, 0, 4, 3, 96, 62, 132, 4, 1, 167, 255, 220, 29, 172]
abbrev dktX0_dutiesOf_1 : List UInt8 := dkwX0_dutiesOf_1 ++ []
def dkwX0_dutiesOf_0 : List UInt8 := [3, 62, 28, 54, 4, 21, 4, 42, 180, 0, 73, 162, 0, 33, 29, 42, 42, 180, 0, 49, 27, 50, 28]
abbrev dktX0_dutiesOf_0 : List UInt8 := dkwX0_dutiesOf_0 ++ dktX0_dutiesOf_1
theorem dksX0_dutiesOf_0 : cX0_dutiesOf.data.toList.drop 0 = dktX0_dutiesOf_0 := by decide +kernel
theorem dksX0_dutiesOf_1 : cX0_dutiesOf.data.toList.drop 23 = dktX0_dutiesOf_1 := dk_seg dksX0_dutiesOf_0 23 rfl rfl
theorem dX0_dutiesOf_0 : decode cX0_dutiesOf 0 = .ok (.iconst 0, 1) := dk_3 (dk_at dksX0_dutiesOf_0 0 rfl rfl)
theorem dX0_dutiesOf_1 : decode cX0_dutiesOf 1 = .ok (.istore_n 3, 1) := dk_62 (dk_at dksX0_dutiesOf_0 1 rfl rfl)
theorem dX0_dutiesOf_2 : decode cX0_dutiesOf 2 = .ok (.iload_n 2, 1) := dk_28 (dk_at dksX0_dutiesOf_0 2 rfl rfl)
theorem dX0_dutiesOf_3 : decode cX0_dutiesOf 3 = .ok (.istore 4, 2) := dk_54 4 (dk_at dksX0_dutiesOf_0 3 rfl rfl)
theorem dX0_dutiesOf_5 : decode cX0_dutiesOf 5 = .ok (.iload 4, 2) := dk_21 4 (dk_at dksX0_dutiesOf_0 5 rfl rfl)
theorem dX0_dutiesOf_7 : decode cX0_dutiesOf 7 = .ok (.aload_n 0, 1) := dk_42 (dk_at dksX0_dutiesOf_0 7 rfl rfl)
theorem dX0_dutiesOf_8 : decode cX0_dutiesOf 8 = .ok (.getfield 73, 3) := dk_180 0 73 (dk_at dksX0_dutiesOf_0 8 rfl rfl)
theorem dX0_dutiesOf_11 : decode cX0_dutiesOf 11 = .ok (.if_icmp .ge 33, 3) := dk_162 0 33 (dk_at dksX0_dutiesOf_0 11 rfl rfl)
theorem dX0_dutiesOf_14 : decode cX0_dutiesOf 14 = .ok (.iload_n 3, 1) := dk_29 (dk_at dksX0_dutiesOf_0 14 rfl rfl)
theorem dX0_dutiesOf_15 : decode cX0_dutiesOf 15 = .ok (.aload_n 0, 1) := dk_42 (dk_at dksX0_dutiesOf_0 15 rfl rfl)
theorem dX0_dutiesOf_16 : decode cX0_dutiesOf 16 = .ok (.aload_n 0, 1) := dk_42 (dk_at dksX0_dutiesOf_0 16 rfl rfl)
theorem dX0_dutiesOf_17 : decode cX0_dutiesOf 17 = .ok (.getfield 49, 3) := dk_180 0 49 (dk_at dksX0_dutiesOf_0 17 rfl rfl)
theorem dX0_dutiesOf_20 : decode cX0_dutiesOf 20 = .ok (.iload_n 1, 1) := dk_27 (dk_at dksX0_dutiesOf_0 20 rfl rfl)
theorem dX0_dutiesOf_21 : decode cX0_dutiesOf 21 = .ok (.aaload, 1) := dk_50 (dk_at dksX0_dutiesOf_0 21 rfl rfl)
theorem dX0_dutiesOf_22 : decode cX0_dutiesOf 22 = .ok (.iload_n 2, 1) := dk_28 (dk_at dksX0_dutiesOf_0 22 rfl rfl)
theorem dX0_dutiesOf_23 : decode cX0_dutiesOf 23 = .ok (.iload 4, 2) := dk_21 4 (dk_at dksX0_dutiesOf_1 0 rfl rfl)
theorem dX0_dutiesOf_25 : decode cX0_dutiesOf 25 = .ok (.invokevirtual 143, 3) := dk_182 0 143 (dk_at dksX0_dutiesOf_1 2 rfl rfl)
theorem dX0_dutiesOf_28 : decode cX0_dutiesOf 28 = .ok (.ifCond .eq 7, 3) := dk_153 0 7 (dk_at dksX0_dutiesOf_1 5 rfl rfl)
theorem dX0_dutiesOf_31 : decode cX0_dutiesOf 31 = .ok (.iconst 1, 1) := dk_4 (dk_at dksX0_dutiesOf_1 8 rfl rfl)
theorem dX0_dutiesOf_32 : decode cX0_dutiesOf 32 = .ok (.goto 4, 3) := dk_167 0 4 (dk_at dksX0_dutiesOf_1 9 rfl rfl)
theorem dX0_dutiesOf_35 : decode cX0_dutiesOf 35 = .ok (.iconst 0, 1) := dk_3 (dk_at dksX0_dutiesOf_1 12 rfl rfl)
theorem dX0_dutiesOf_36 : decode cX0_dutiesOf 36 = .ok (.iadd, 1) := dk_96 (dk_at dksX0_dutiesOf_1 13 rfl rfl)
theorem dX0_dutiesOf_37 : decode cX0_dutiesOf 37 = .ok (.istore_n 3, 1) := dk_62 (dk_at dksX0_dutiesOf_1 14 rfl rfl)
theorem dX0_dutiesOf_38 : decode cX0_dutiesOf 38 = .ok (.iinc 4 1, 3) := dk_132 4 1 (dk_at dksX0_dutiesOf_1 15 rfl rfl)
theorem dX0_dutiesOf_41 : decode cX0_dutiesOf 41 = .ok (.goto (-36), 3) := dk_167 255 220 (dk_at dksX0_dutiesOf_1 18 rfl rfl)
theorem dX0_dutiesOf_44 : decode cX0_dutiesOf 44 = .ok (.iload_n 3, 1) := dk_29 (dk_at dksX0_dutiesOf_1 21 rfl rfl)
theorem dX0_dutiesOf_45 : decode cX0_dutiesOf 45 = .ok (.ireturn, 1) := dk_172 (dk_at dksX0_dutiesOf_1 22 rfl rfl)
abbrev cX0_promise : ByteArray := prog_1_method_23_code
def yX0_promise : MethodName := ⟨RX0, "promise", "(II)I"⟩
def dkwX0_promise_5 : List UInt8 := [25, 4, 180, 0, 195, 182, 0, 208, 172]
abbrev dktX0_promise_5 : List UInt8 := dkwX0_promise_5 ++ []
def dkwX0_promise_4 : List UInt8 := [25, 4, 180, 0, 194, 172, 25, 4, 180, 0, 195, 182, 0, 199, 172, 25, 4, 180, 0, 195, 182, 0, 205, 172]
abbrev dktX0_promise_4 : List UInt8 := dkwX0_promise_4 ++ dktX0_promise_5
def dkwX0_promise_3 : List UInt8 := [28, 154, 0, 10, 45, 180, 0, 192, 167, 0, 15, 45, 180, 0, 139, 199, 0, 7, 3, 167, 0, 4, 4, 172]
abbrev dktX0_promise_3 : List UInt8 := dkwX0_promise_3 ++ dktX0_promise_4
def dkwX0_promise_2 : List UInt8 := [170, 0, 0, 0, 0, 78, 0, 0, 0, 0, 0, 0, 0, 3, 0, 0, 0, 30, 0, 0, 0, 54, 0, 0, 0, 60, 0, 0, 0, 69]
abbrev dktX0_promise_2 : List UInt8 := dkwX0_promise_2 ++ dktX0_promise_3
def dkwX0_promise_1 : List UInt8 := [180, 0, 49, 27, 50, 78, 45, 180, 0, 127, 28, 4, 126, 50, 58, 4, 28, 5, 108]
abbrev dktX0_promise_1 : List UInt8 := dkwX0_promise_1 ++ dktX0_promise_2
def dkwX0_promise_0 : List UInt8 := [42, 27, 182, 0, 187, 153, 0, 15, 28, 133, 9, 20, 0, 190, 184, 0, 17, 154, 0, 5, 2, 172, 42]
abbrev dktX0_promise_0 : List UInt8 := dkwX0_promise_0 ++ dktX0_promise_1
theorem dksX0_promise_0 : cX0_promise.data.toList.drop 0 = dktX0_promise_0 := by decide +kernel
theorem dksX0_promise_1 : cX0_promise.data.toList.drop 23 = dktX0_promise_1 := dk_seg dksX0_promise_0 23 rfl rfl
theorem dksX0_promise_2 : cX0_promise.data.toList.drop 42 = dktX0_promise_2 := dk_seg dksX0_promise_1 19 rfl rfl
theorem dksX0_promise_3 : cX0_promise.data.toList.drop 72 = dktX0_promise_3 := dk_seg dksX0_promise_2 30 rfl rfl
theorem dksX0_promise_4 : cX0_promise.data.toList.drop 96 = dktX0_promise_4 := dk_seg dksX0_promise_3 24 rfl rfl
theorem dksX0_promise_5 : cX0_promise.data.toList.drop 120 = dktX0_promise_5 := dk_seg dksX0_promise_4 24 rfl rfl
theorem dX0_promise_0 : decode cX0_promise 0 = .ok (.aload_n 0, 1) := dk_42 (dk_at dksX0_promise_0 0 rfl rfl)
theorem dX0_promise_1 : decode cX0_promise 1 = .ok (.iload_n 1, 1) := dk_27 (dk_at dksX0_promise_0 1 rfl rfl)
theorem dX0_promise_2 : decode cX0_promise 2 = .ok (.invokevirtual 187, 3) := dk_182 0 187 (dk_at dksX0_promise_0 2 rfl rfl)
theorem dX0_promise_5 : decode cX0_promise 5 = .ok (.ifCond .eq 15, 3) := dk_153 0 15 (dk_at dksX0_promise_0 5 rfl rfl)
theorem dX0_promise_8 : decode cX0_promise 8 = .ok (.iload_n 2, 1) := dk_28 (dk_at dksX0_promise_0 8 rfl rfl)
theorem dX0_promise_9 : decode cX0_promise 9 = .ok (.i2l, 1) := dk_133 (dk_at dksX0_promise_0 9 rfl rfl)
theorem dX0_promise_10 : decode cX0_promise 10 = .ok (.lconst 0, 1) := dk_9 (dk_at dksX0_promise_0 10 rfl rfl)
theorem dX0_promise_11 : decode cX0_promise 11 = .ok (.ldc2_w 190, 3) := dk_20 0 190 (dk_at dksX0_promise_0 11 rfl rfl)
theorem dX0_promise_14 : decode cX0_promise 14 = .ok (.invokestatic 17, 3) := dk_184 0 17 (dk_at dksX0_promise_0 14 rfl rfl)
theorem dX0_promise_17 : decode cX0_promise 17 = .ok (.ifCond .ne 5, 3) := dk_154 0 5 (dk_at dksX0_promise_0 17 rfl rfl)
theorem dX0_promise_20 : decode cX0_promise 20 = .ok (.iconst (-1), 1) := dk_2 (dk_at dksX0_promise_0 20 rfl rfl)
theorem dX0_promise_21 : decode cX0_promise 21 = .ok (.ireturn, 1) := dk_172 (dk_at dksX0_promise_0 21 rfl rfl)
theorem dX0_promise_22 : decode cX0_promise 22 = .ok (.aload_n 0, 1) := dk_42 (dk_at dksX0_promise_0 22 rfl rfl)
theorem dX0_promise_23 : decode cX0_promise 23 = .ok (.getfield 49, 3) := dk_180 0 49 (dk_at dksX0_promise_1 0 rfl rfl)
theorem dX0_promise_26 : decode cX0_promise 26 = .ok (.iload_n 1, 1) := dk_27 (dk_at dksX0_promise_1 3 rfl rfl)
theorem dX0_promise_27 : decode cX0_promise 27 = .ok (.aaload, 1) := dk_50 (dk_at dksX0_promise_1 4 rfl rfl)
theorem dX0_promise_28 : decode cX0_promise 28 = .ok (.astore_n 3, 1) := dk_78 (dk_at dksX0_promise_1 5 rfl rfl)
theorem dX0_promise_29 : decode cX0_promise 29 = .ok (.aload_n 3, 1) := dk_45 (dk_at dksX0_promise_1 6 rfl rfl)
theorem dX0_promise_30 : decode cX0_promise 30 = .ok (.getfield 127, 3) := dk_180 0 127 (dk_at dksX0_promise_1 7 rfl rfl)
theorem dX0_promise_33 : decode cX0_promise 33 = .ok (.iload_n 2, 1) := dk_28 (dk_at dksX0_promise_1 10 rfl rfl)
theorem dX0_promise_34 : decode cX0_promise 34 = .ok (.iconst 1, 1) := dk_4 (dk_at dksX0_promise_1 11 rfl rfl)
theorem dX0_promise_35 : decode cX0_promise 35 = .ok (.iand, 1) := dk_126 (dk_at dksX0_promise_1 12 rfl rfl)
theorem dX0_promise_36 : decode cX0_promise 36 = .ok (.aaload, 1) := dk_50 (dk_at dksX0_promise_1 13 rfl rfl)
theorem dX0_promise_37 : decode cX0_promise 37 = .ok (.astore 4, 2) := dk_58 4 (dk_at dksX0_promise_1 14 rfl rfl)
theorem dX0_promise_39 : decode cX0_promise 39 = .ok (.iload_n 2, 1) := dk_28 (dk_at dksX0_promise_1 16 rfl rfl)
theorem dX0_promise_40 : decode cX0_promise 40 = .ok (.iconst 2, 1) := dk_5 (dk_at dksX0_promise_1 17 rfl rfl)
theorem dX0_promise_41 : decode cX0_promise 41 = .ok (.idiv, 1) := dk_108 (dk_at dksX0_promise_1 18 rfl rfl)
theorem dX0_promise_42 : decode cX0_promise 42 = .ok (.tableswitch 78 0 3 #[30, 54, 60, 69], 30) := by decide +kernel
theorem dX0_promise_72 : decode cX0_promise 72 = .ok (.iload_n 2, 1) := dk_28 (dk_at dksX0_promise_3 0 rfl rfl)
theorem dX0_promise_73 : decode cX0_promise 73 = .ok (.ifCond .ne 10, 3) := dk_154 0 10 (dk_at dksX0_promise_3 1 rfl rfl)
theorem dX0_promise_76 : decode cX0_promise 76 = .ok (.aload_n 3, 1) := dk_45 (dk_at dksX0_promise_3 4 rfl rfl)
theorem dX0_promise_77 : decode cX0_promise 77 = .ok (.getfield 192, 3) := dk_180 0 192 (dk_at dksX0_promise_3 5 rfl rfl)
theorem dX0_promise_80 : decode cX0_promise 80 = .ok (.goto 15, 3) := dk_167 0 15 (dk_at dksX0_promise_3 8 rfl rfl)
theorem dX0_promise_83 : decode cX0_promise 83 = .ok (.aload_n 3, 1) := dk_45 (dk_at dksX0_promise_3 11 rfl rfl)
theorem dX0_promise_84 : decode cX0_promise 84 = .ok (.getfield 139, 3) := dk_180 0 139 (dk_at dksX0_promise_3 12 rfl rfl)
theorem dX0_promise_87 : decode cX0_promise 87 = .ok (.ifnonnull 7, 3) := dk_199 0 7 (dk_at dksX0_promise_3 15 rfl rfl)
theorem dX0_promise_90 : decode cX0_promise 90 = .ok (.iconst 0, 1) := dk_3 (dk_at dksX0_promise_3 18 rfl rfl)
theorem dX0_promise_91 : decode cX0_promise 91 = .ok (.goto 4, 3) := dk_167 0 4 (dk_at dksX0_promise_3 19 rfl rfl)
theorem dX0_promise_94 : decode cX0_promise 94 = .ok (.iconst 1, 1) := dk_4 (dk_at dksX0_promise_3 22 rfl rfl)
theorem dX0_promise_95 : decode cX0_promise 95 = .ok (.ireturn, 1) := dk_172 (dk_at dksX0_promise_3 23 rfl rfl)
theorem dX0_promise_96 : decode cX0_promise 96 = .ok (.aload 4, 2) := dk_25 4 (dk_at dksX0_promise_4 0 rfl rfl)
theorem dX0_promise_98 : decode cX0_promise 98 = .ok (.getfield 194, 3) := dk_180 0 194 (dk_at dksX0_promise_4 2 rfl rfl)
theorem dX0_promise_101 : decode cX0_promise 101 = .ok (.ireturn, 1) := dk_172 (dk_at dksX0_promise_4 5 rfl rfl)
theorem dX0_promise_102 : decode cX0_promise 102 = .ok (.aload 4, 2) := dk_25 4 (dk_at dksX0_promise_4 6 rfl rfl)
theorem dX0_promise_104 : decode cX0_promise 104 = .ok (.getfield 195, 3) := dk_180 0 195 (dk_at dksX0_promise_4 8 rfl rfl)
theorem dX0_promise_107 : decode cX0_promise 107 = .ok (.invokevirtual 199, 3) := dk_182 0 199 (dk_at dksX0_promise_4 11 rfl rfl)
theorem dX0_promise_110 : decode cX0_promise 110 = .ok (.ireturn, 1) := dk_172 (dk_at dksX0_promise_4 14 rfl rfl)
theorem dX0_promise_111 : decode cX0_promise 111 = .ok (.aload 4, 2) := dk_25 4 (dk_at dksX0_promise_4 15 rfl rfl)
theorem dX0_promise_113 : decode cX0_promise 113 = .ok (.getfield 195, 3) := dk_180 0 195 (dk_at dksX0_promise_4 17 rfl rfl)
theorem dX0_promise_116 : decode cX0_promise 116 = .ok (.invokevirtual 205, 3) := dk_182 0 205 (dk_at dksX0_promise_4 20 rfl rfl)
theorem dX0_promise_119 : decode cX0_promise 119 = .ok (.ireturn, 1) := dk_172 (dk_at dksX0_promise_4 23 rfl rfl)
theorem dX0_promise_120 : decode cX0_promise 120 = .ok (.aload 4, 2) := dk_25 4 (dk_at dksX0_promise_5 0 rfl rfl)
theorem dX0_promise_122 : decode cX0_promise 122 = .ok (.getfield 195, 3) := dk_180 0 195 (dk_at dksX0_promise_5 2 rfl rfl)
theorem dX0_promise_125 : decode cX0_promise 125 = .ok (.invokevirtual 208, 3) := dk_182 0 208 (dk_at dksX0_promise_5 5 rfl rfl)
theorem dX0_promise_128 : decode cX0_promise 128 = .ok (.ireturn, 1) := dk_172 (dk_at dksX0_promise_5 8 rfl rfl)
abbrev cX0_isPromise : ByteArray := prog_1_method_17_code
def yX0_isPromise : MethodName := ⟨RX0, "isPromise", "(I)Z"⟩
def dkwX0_isPromise_0 : List UInt8 := [27, 133, 9, 42, 180, 0, 53, 4, 100, 133, 184, 0, 17, 172]
abbrev dktX0_isPromise_0 : List UInt8 := dkwX0_isPromise_0 ++ []
theorem dksX0_isPromise_0 : cX0_isPromise.data.toList.drop 0 = dktX0_isPromise_0 := by decide +kernel
theorem dX0_isPromise_0 : decode cX0_isPromise 0 = .ok (.iload_n 1, 1) := dk_27 (dk_at dksX0_isPromise_0 0 rfl rfl)
theorem dX0_isPromise_1 : decode cX0_isPromise 1 = .ok (.i2l, 1) := dk_133 (dk_at dksX0_isPromise_0 1 rfl rfl)
theorem dX0_isPromise_2 : decode cX0_isPromise 2 = .ok (.lconst 0, 1) := dk_9 (dk_at dksX0_isPromise_0 2 rfl rfl)
theorem dX0_isPromise_3 : decode cX0_isPromise 3 = .ok (.aload_n 0, 1) := dk_42 (dk_at dksX0_isPromise_0 3 rfl rfl)
theorem dX0_isPromise_4 : decode cX0_isPromise 4 = .ok (.getfield 53, 3) := dk_180 0 53 (dk_at dksX0_isPromise_0 4 rfl rfl)
theorem dX0_isPromise_7 : decode cX0_isPromise 7 = .ok (.iconst 1, 1) := dk_4 (dk_at dksX0_isPromise_0 7 rfl rfl)
theorem dX0_isPromise_8 : decode cX0_isPromise 8 = .ok (.isub, 1) := dk_100 (dk_at dksX0_isPromise_0 8 rfl rfl)
theorem dX0_isPromise_9 : decode cX0_isPromise 9 = .ok (.i2l, 1) := dk_133 (dk_at dksX0_isPromise_0 9 rfl rfl)
theorem dX0_isPromise_10 : decode cX0_isPromise 10 = .ok (.invokestatic 17, 3) := dk_184 0 17 (dk_at dksX0_isPromise_0 10 rfl rfl)
theorem dX0_isPromise_13 : decode cX0_isPromise 13 = .ok (.ireturn, 1) := dk_172 (dk_at dksX0_isPromise_0 13 rfl rfl)
abbrev cX0_fulfils : ByteArray := prog_1_method_25_code
def yX0_fulfils : MethodName := ⟨RX0, "fulfils", "(IIII)I"⟩
def dkwX0_fulfils_2 : List UInt8 := [172]
abbrev dktX0_fulfils_2 : List UInt8 := dkwX0_fulfils_2 ++ []
def dkwX0_fulfils_1 : List UInt8 := [154, 0, 7, 2, 167, 0, 20, 25, 5, 21, 4, 185, 0, 9, 2, 0, 153, 0, 7, 4, 167, 0, 4, 3]
abbrev dktX0_fulfils_1 : List UInt8 := dkwX0_fulfils_1 ++ dktX0_fulfils_2
def dkwX0_fulfils_0 : List UInt8 := [42, 27, 28, 29, 182, 0, 217, 58, 5, 25, 5, 198, 0, 16, 21, 4, 133, 9, 20, 0, 221, 184, 0, 17]
abbrev dktX0_fulfils_0 : List UInt8 := dkwX0_fulfils_0 ++ dktX0_fulfils_1
theorem dksX0_fulfils_0 : cX0_fulfils.data.toList.drop 0 = dktX0_fulfils_0 := by decide +kernel
theorem dksX0_fulfils_1 : cX0_fulfils.data.toList.drop 24 = dktX0_fulfils_1 := dk_seg dksX0_fulfils_0 24 rfl rfl
theorem dksX0_fulfils_2 : cX0_fulfils.data.toList.drop 48 = dktX0_fulfils_2 := dk_seg dksX0_fulfils_1 24 rfl rfl
theorem dX0_fulfils_0 : decode cX0_fulfils 0 = .ok (.aload_n 0, 1) := dk_42 (dk_at dksX0_fulfils_0 0 rfl rfl)
theorem dX0_fulfils_1 : decode cX0_fulfils 1 = .ok (.iload_n 1, 1) := dk_27 (dk_at dksX0_fulfils_0 1 rfl rfl)
theorem dX0_fulfils_2 : decode cX0_fulfils 2 = .ok (.iload_n 2, 1) := dk_28 (dk_at dksX0_fulfils_0 2 rfl rfl)
theorem dX0_fulfils_3 : decode cX0_fulfils 3 = .ok (.iload_n 3, 1) := dk_29 (dk_at dksX0_fulfils_0 3 rfl rfl)
theorem dX0_fulfils_4 : decode cX0_fulfils 4 = .ok (.invokevirtual 217, 3) := dk_182 0 217 (dk_at dksX0_fulfils_0 4 rfl rfl)
theorem dX0_fulfils_7 : decode cX0_fulfils 7 = .ok (.astore 5, 2) := dk_58 5 (dk_at dksX0_fulfils_0 7 rfl rfl)
theorem dX0_fulfils_9 : decode cX0_fulfils 9 = .ok (.aload 5, 2) := dk_25 5 (dk_at dksX0_fulfils_0 9 rfl rfl)
theorem dX0_fulfils_11 : decode cX0_fulfils 11 = .ok (.ifnull 16, 3) := dk_198 0 16 (dk_at dksX0_fulfils_0 11 rfl rfl)
theorem dX0_fulfils_14 : decode cX0_fulfils 14 = .ok (.iload 4, 2) := dk_21 4 (dk_at dksX0_fulfils_0 14 rfl rfl)
theorem dX0_fulfils_16 : decode cX0_fulfils 16 = .ok (.i2l, 1) := dk_133 (dk_at dksX0_fulfils_0 16 rfl rfl)
theorem dX0_fulfils_17 : decode cX0_fulfils 17 = .ok (.lconst 0, 1) := dk_9 (dk_at dksX0_fulfils_0 17 rfl rfl)
theorem dX0_fulfils_18 : decode cX0_fulfils 18 = .ok (.ldc2_w 221, 3) := dk_20 0 221 (dk_at dksX0_fulfils_0 18 rfl rfl)
theorem dX0_fulfils_21 : decode cX0_fulfils 21 = .ok (.invokestatic 17, 3) := dk_184 0 17 (dk_at dksX0_fulfils_0 21 rfl rfl)
theorem dX0_fulfils_24 : decode cX0_fulfils 24 = .ok (.ifCond .ne 7, 3) := dk_154 0 7 (dk_at dksX0_fulfils_1 0 rfl rfl)
theorem dX0_fulfils_27 : decode cX0_fulfils 27 = .ok (.iconst (-1), 1) := dk_2 (dk_at dksX0_fulfils_1 3 rfl rfl)
theorem dX0_fulfils_28 : decode cX0_fulfils 28 = .ok (.goto 20, 3) := dk_167 0 20 (dk_at dksX0_fulfils_1 4 rfl rfl)
theorem dX0_fulfils_31 : decode cX0_fulfils 31 = .ok (.aload 5, 2) := dk_25 5 (dk_at dksX0_fulfils_1 7 rfl rfl)
theorem dX0_fulfils_33 : decode cX0_fulfils 33 = .ok (.iload 4, 2) := dk_21 4 (dk_at dksX0_fulfils_1 9 rfl rfl)
theorem dX0_fulfils_35 : decode cX0_fulfils 35 = .ok (.invokeinterface 9 2, 5) := by decide +kernel
theorem dX0_fulfils_40 : decode cX0_fulfils 40 = .ok (.ifCond .eq 7, 3) := dk_153 0 7 (dk_at dksX0_fulfils_1 16 rfl rfl)
theorem dX0_fulfils_43 : decode cX0_fulfils 43 = .ok (.iconst 1, 1) := dk_4 (dk_at dksX0_fulfils_1 19 rfl rfl)
theorem dX0_fulfils_44 : decode cX0_fulfils 44 = .ok (.goto 4, 3) := dk_167 0 4 (dk_at dksX0_fulfils_1 20 rfl rfl)
theorem dX0_fulfils_47 : decode cX0_fulfils 47 = .ok (.iconst 0, 1) := dk_3 (dk_at dksX0_fulfils_1 23 rfl rfl)
theorem dX0_fulfils_48 : decode cX0_fulfils 48 = .ok (.ireturn, 1) := dk_172 (dk_at dksX0_fulfils_2 0 rfl rfl)
abbrev cX0_conditionOf : ByteArray := prog_1_method_24_code
def yX0_conditionOf : MethodName := ⟨RX0, "conditionOf", "(III)LPromiseTries$Holds;"⟩
def dkwX0_conditionOf_3 : List UInt8 := [29, 50, 167, 0, 4, 1, 176]
abbrev dktX0_conditionOf_3 : List UInt8 := dkwX0_conditionOf_3 ++ []
def dkwX0_conditionOf_2 : List UInt8 := [58, 4, 29, 133, 9, 25, 4, 180, 0, 194, 4, 100, 133, 184, 0, 17, 153, 0, 13, 25, 4, 180, 0, 213]
abbrev dktX0_conditionOf_2 : List UInt8 := dkwX0_conditionOf_2 ++ dktX0_conditionOf_3
def dkwX0_conditionOf_1 : List UInt8 := [160, 0, 13, 42, 180, 0, 49, 27, 50, 180, 0, 139, 176, 42, 180, 0, 49, 27, 50, 180, 0, 127, 28, 50]
abbrev dktX0_conditionOf_1 : List UInt8 := dkwX0_conditionOf_1 ++ dktX0_conditionOf_2
def dkwX0_conditionOf_0 : List UInt8 := [42, 27, 182, 0, 187, 153, 0, 15, 28, 133, 9, 20, 0, 211, 184, 0, 17, 154, 0, 5, 1, 176, 28, 5]
abbrev dktX0_conditionOf_0 : List UInt8 := dkwX0_conditionOf_0 ++ dktX0_conditionOf_1
theorem dksX0_conditionOf_0 : cX0_conditionOf.data.toList.drop 0 = dktX0_conditionOf_0 := by decide +kernel
theorem dksX0_conditionOf_1 : cX0_conditionOf.data.toList.drop 24 = dktX0_conditionOf_1 := dk_seg dksX0_conditionOf_0 24 rfl rfl
theorem dksX0_conditionOf_2 : cX0_conditionOf.data.toList.drop 48 = dktX0_conditionOf_2 := dk_seg dksX0_conditionOf_1 24 rfl rfl
theorem dksX0_conditionOf_3 : cX0_conditionOf.data.toList.drop 72 = dktX0_conditionOf_3 := dk_seg dksX0_conditionOf_2 24 rfl rfl
theorem dX0_conditionOf_0 : decode cX0_conditionOf 0 = .ok (.aload_n 0, 1) := dk_42 (dk_at dksX0_conditionOf_0 0 rfl rfl)
theorem dX0_conditionOf_1 : decode cX0_conditionOf 1 = .ok (.iload_n 1, 1) := dk_27 (dk_at dksX0_conditionOf_0 1 rfl rfl)
theorem dX0_conditionOf_2 : decode cX0_conditionOf 2 = .ok (.invokevirtual 187, 3) := dk_182 0 187 (dk_at dksX0_conditionOf_0 2 rfl rfl)
theorem dX0_conditionOf_5 : decode cX0_conditionOf 5 = .ok (.ifCond .eq 15, 3) := dk_153 0 15 (dk_at dksX0_conditionOf_0 5 rfl rfl)
theorem dX0_conditionOf_8 : decode cX0_conditionOf 8 = .ok (.iload_n 2, 1) := dk_28 (dk_at dksX0_conditionOf_0 8 rfl rfl)
theorem dX0_conditionOf_9 : decode cX0_conditionOf 9 = .ok (.i2l, 1) := dk_133 (dk_at dksX0_conditionOf_0 9 rfl rfl)
theorem dX0_conditionOf_10 : decode cX0_conditionOf 10 = .ok (.lconst 0, 1) := dk_9 (dk_at dksX0_conditionOf_0 10 rfl rfl)
theorem dX0_conditionOf_11 : decode cX0_conditionOf 11 = .ok (.ldc2_w 211, 3) := dk_20 0 211 (dk_at dksX0_conditionOf_0 11 rfl rfl)
theorem dX0_conditionOf_14 : decode cX0_conditionOf 14 = .ok (.invokestatic 17, 3) := dk_184 0 17 (dk_at dksX0_conditionOf_0 14 rfl rfl)
theorem dX0_conditionOf_17 : decode cX0_conditionOf 17 = .ok (.ifCond .ne 5, 3) := dk_154 0 5 (dk_at dksX0_conditionOf_0 17 rfl rfl)
theorem dX0_conditionOf_20 : decode cX0_conditionOf 20 = .ok (.aconst_null, 1) := dk_1 (dk_at dksX0_conditionOf_0 20 rfl rfl)
theorem dX0_conditionOf_21 : decode cX0_conditionOf 21 = .ok (.areturn, 1) := dk_176 (dk_at dksX0_conditionOf_0 21 rfl rfl)
theorem dX0_conditionOf_22 : decode cX0_conditionOf 22 = .ok (.iload_n 2, 1) := dk_28 (dk_at dksX0_conditionOf_0 22 rfl rfl)
theorem dX0_conditionOf_23 : decode cX0_conditionOf 23 = .ok (.iconst 2, 1) := dk_5 (dk_at dksX0_conditionOf_0 23 rfl rfl)
theorem dX0_conditionOf_24 : decode cX0_conditionOf 24 = .ok (.if_icmp .ne 13, 3) := dk_160 0 13 (dk_at dksX0_conditionOf_1 0 rfl rfl)
theorem dX0_conditionOf_27 : decode cX0_conditionOf 27 = .ok (.aload_n 0, 1) := dk_42 (dk_at dksX0_conditionOf_1 3 rfl rfl)
theorem dX0_conditionOf_28 : decode cX0_conditionOf 28 = .ok (.getfield 49, 3) := dk_180 0 49 (dk_at dksX0_conditionOf_1 4 rfl rfl)
theorem dX0_conditionOf_31 : decode cX0_conditionOf 31 = .ok (.iload_n 1, 1) := dk_27 (dk_at dksX0_conditionOf_1 7 rfl rfl)
theorem dX0_conditionOf_32 : decode cX0_conditionOf 32 = .ok (.aaload, 1) := dk_50 (dk_at dksX0_conditionOf_1 8 rfl rfl)
theorem dX0_conditionOf_33 : decode cX0_conditionOf 33 = .ok (.getfield 139, 3) := dk_180 0 139 (dk_at dksX0_conditionOf_1 9 rfl rfl)
theorem dX0_conditionOf_36 : decode cX0_conditionOf 36 = .ok (.areturn, 1) := dk_176 (dk_at dksX0_conditionOf_1 12 rfl rfl)
theorem dX0_conditionOf_37 : decode cX0_conditionOf 37 = .ok (.aload_n 0, 1) := dk_42 (dk_at dksX0_conditionOf_1 13 rfl rfl)
theorem dX0_conditionOf_38 : decode cX0_conditionOf 38 = .ok (.getfield 49, 3) := dk_180 0 49 (dk_at dksX0_conditionOf_1 14 rfl rfl)
theorem dX0_conditionOf_41 : decode cX0_conditionOf 41 = .ok (.iload_n 1, 1) := dk_27 (dk_at dksX0_conditionOf_1 17 rfl rfl)
theorem dX0_conditionOf_42 : decode cX0_conditionOf 42 = .ok (.aaload, 1) := dk_50 (dk_at dksX0_conditionOf_1 18 rfl rfl)
theorem dX0_conditionOf_43 : decode cX0_conditionOf 43 = .ok (.getfield 127, 3) := dk_180 0 127 (dk_at dksX0_conditionOf_1 19 rfl rfl)
theorem dX0_conditionOf_46 : decode cX0_conditionOf 46 = .ok (.iload_n 2, 1) := dk_28 (dk_at dksX0_conditionOf_1 22 rfl rfl)
theorem dX0_conditionOf_47 : decode cX0_conditionOf 47 = .ok (.aaload, 1) := dk_50 (dk_at dksX0_conditionOf_1 23 rfl rfl)
theorem dX0_conditionOf_48 : decode cX0_conditionOf 48 = .ok (.astore 4, 2) := dk_58 4 (dk_at dksX0_conditionOf_2 0 rfl rfl)
theorem dX0_conditionOf_50 : decode cX0_conditionOf 50 = .ok (.iload_n 3, 1) := dk_29 (dk_at dksX0_conditionOf_2 2 rfl rfl)
theorem dX0_conditionOf_51 : decode cX0_conditionOf 51 = .ok (.i2l, 1) := dk_133 (dk_at dksX0_conditionOf_2 3 rfl rfl)
theorem dX0_conditionOf_52 : decode cX0_conditionOf 52 = .ok (.lconst 0, 1) := dk_9 (dk_at dksX0_conditionOf_2 4 rfl rfl)
theorem dX0_conditionOf_53 : decode cX0_conditionOf 53 = .ok (.aload 4, 2) := dk_25 4 (dk_at dksX0_conditionOf_2 5 rfl rfl)
theorem dX0_conditionOf_55 : decode cX0_conditionOf 55 = .ok (.getfield 194, 3) := dk_180 0 194 (dk_at dksX0_conditionOf_2 7 rfl rfl)
theorem dX0_conditionOf_58 : decode cX0_conditionOf 58 = .ok (.iconst 1, 1) := dk_4 (dk_at dksX0_conditionOf_2 10 rfl rfl)
theorem dX0_conditionOf_59 : decode cX0_conditionOf 59 = .ok (.isub, 1) := dk_100 (dk_at dksX0_conditionOf_2 11 rfl rfl)
theorem dX0_conditionOf_60 : decode cX0_conditionOf 60 = .ok (.i2l, 1) := dk_133 (dk_at dksX0_conditionOf_2 12 rfl rfl)
theorem dX0_conditionOf_61 : decode cX0_conditionOf 61 = .ok (.invokestatic 17, 3) := dk_184 0 17 (dk_at dksX0_conditionOf_2 13 rfl rfl)
theorem dX0_conditionOf_64 : decode cX0_conditionOf 64 = .ok (.ifCond .eq 13, 3) := dk_153 0 13 (dk_at dksX0_conditionOf_2 16 rfl rfl)
theorem dX0_conditionOf_67 : decode cX0_conditionOf 67 = .ok (.aload 4, 2) := dk_25 4 (dk_at dksX0_conditionOf_2 19 rfl rfl)
theorem dX0_conditionOf_69 : decode cX0_conditionOf 69 = .ok (.getfield 213, 3) := dk_180 0 213 (dk_at dksX0_conditionOf_2 21 rfl rfl)
theorem dX0_conditionOf_72 : decode cX0_conditionOf 72 = .ok (.iload_n 3, 1) := dk_29 (dk_at dksX0_conditionOf_3 0 rfl rfl)
theorem dX0_conditionOf_73 : decode cX0_conditionOf 73 = .ok (.aaload, 1) := dk_50 (dk_at dksX0_conditionOf_3 1 rfl rfl)
theorem dX0_conditionOf_74 : decode cX0_conditionOf 74 = .ok (.goto 4, 3) := dk_167 0 4 (dk_at dksX0_conditionOf_3 2 rfl rfl)
theorem dX0_conditionOf_77 : decode cX0_conditionOf 77 = .ok (.aconst_null, 1) := dk_1 (dk_at dksX0_conditionOf_3 5 rfl rfl)
theorem dX0_conditionOf_78 : decode cX0_conditionOf 78 = .ok (.areturn, 1) := dk_176 (dk_at dksX0_conditionOf_3 6 rfl rfl)
abbrev cX0_fulfilled : ByteArray := prog_1_method_26_code
def yX0_fulfilled : MethodName := ⟨RX0, "fulfilled", "(III)I"⟩
def dkwX0_fulfilled_0 : List UInt8 := [42, 27, 28, 29, 182, 0, 217, 58, 4, 25, 4, 199, 0, 7, 2, 167, 0, 8, 25, 4, 184, 0, 223, 172]
abbrev dktX0_fulfilled_0 : List UInt8 := dkwX0_fulfilled_0 ++ []
theorem dksX0_fulfilled_0 : cX0_fulfilled.data.toList.drop 0 = dktX0_fulfilled_0 := by decide +kernel
theorem dX0_fulfilled_0 : decode cX0_fulfilled 0 = .ok (.aload_n 0, 1) := dk_42 (dk_at dksX0_fulfilled_0 0 rfl rfl)
theorem dX0_fulfilled_1 : decode cX0_fulfilled 1 = .ok (.iload_n 1, 1) := dk_27 (dk_at dksX0_fulfilled_0 1 rfl rfl)
theorem dX0_fulfilled_2 : decode cX0_fulfilled 2 = .ok (.iload_n 2, 1) := dk_28 (dk_at dksX0_fulfilled_0 2 rfl rfl)
theorem dX0_fulfilled_3 : decode cX0_fulfilled 3 = .ok (.iload_n 3, 1) := dk_29 (dk_at dksX0_fulfilled_0 3 rfl rfl)
theorem dX0_fulfilled_4 : decode cX0_fulfilled 4 = .ok (.invokevirtual 217, 3) := dk_182 0 217 (dk_at dksX0_fulfilled_0 4 rfl rfl)
theorem dX0_fulfilled_7 : decode cX0_fulfilled 7 = .ok (.astore 4, 2) := dk_58 4 (dk_at dksX0_fulfilled_0 7 rfl rfl)
theorem dX0_fulfilled_9 : decode cX0_fulfilled 9 = .ok (.aload 4, 2) := dk_25 4 (dk_at dksX0_fulfilled_0 9 rfl rfl)
theorem dX0_fulfilled_11 : decode cX0_fulfilled 11 = .ok (.ifnonnull 7, 3) := dk_199 0 7 (dk_at dksX0_fulfilled_0 11 rfl rfl)
theorem dX0_fulfilled_14 : decode cX0_fulfilled 14 = .ok (.iconst (-1), 1) := dk_2 (dk_at dksX0_fulfilled_0 14 rfl rfl)
theorem dX0_fulfilled_15 : decode cX0_fulfilled 15 = .ok (.goto 8, 3) := dk_167 0 8 (dk_at dksX0_fulfilled_0 15 rfl rfl)
theorem dX0_fulfilled_18 : decode cX0_fulfilled 18 = .ok (.aload 4, 2) := dk_25 4 (dk_at dksX0_fulfilled_0 18 rfl rfl)
theorem dX0_fulfilled_20 : decode cX0_fulfilled 20 = .ok (.invokestatic 223, 3) := dk_184 0 223 (dk_at dksX0_fulfilled_0 20 rfl rfl)
theorem dX0_fulfilled_23 : decode cX0_fulfilled 23 = .ok (.ireturn, 1) := dk_172 (dk_at dksX0_fulfilled_0 23 rfl rfl)
abbrev cX0_matches : ByteArray := prog_1_method_28_code
def yX0_matches : MethodName := ⟨RX0, "matches", "(IIII)I"⟩
def dkwX0_matches_3 : List UInt8 := [50, 21, 4, 47, 182, 0, 104, 153, 0, 7, 4, 167, 0, 4, 3, 172]
abbrev dktX0_matches_3 : List UInt8 := dkwX0_matches_3 ++ []
def dkwX0_matches_2 : List UInt8 := [180, 0, 127, 28, 50, 58, 5, 21, 4, 29, 161, 0, 28, 25, 5, 180, 0, 76, 25, 5, 180, 0, 96, 29]
abbrev dktX0_matches_2 : List UInt8 := dkwX0_matches_2 ++ dktX0_matches_3
def dkwX0_matches_1 : List UInt8 := [184, 0, 231, 4, 100, 133, 184, 0, 17, 154, 0, 5, 2, 172, 42, 182, 0, 177, 42, 180, 0, 49, 27, 50]
abbrev dktX0_matches_1 : List UInt8 := dkwX0_matches_1 ++ dktX0_matches_2
def dkwX0_matches_0 : List UInt8 := [42, 27, 28, 29, 182, 0, 227, 153, 0, 27, 21, 4, 133, 29, 4, 100, 133, 29, 42, 180, 0, 73]
abbrev dktX0_matches_0 : List UInt8 := dkwX0_matches_0 ++ dktX0_matches_1
theorem dksX0_matches_0 : cX0_matches.data.toList.drop 0 = dktX0_matches_0 := by decide +kernel
theorem dksX0_matches_1 : cX0_matches.data.toList.drop 22 = dktX0_matches_1 := dk_seg dksX0_matches_0 22 rfl rfl
theorem dksX0_matches_2 : cX0_matches.data.toList.drop 46 = dktX0_matches_2 := dk_seg dksX0_matches_1 24 rfl rfl
theorem dksX0_matches_3 : cX0_matches.data.toList.drop 70 = dktX0_matches_3 := dk_seg dksX0_matches_2 24 rfl rfl
theorem dX0_matches_0 : decode cX0_matches 0 = .ok (.aload_n 0, 1) := dk_42 (dk_at dksX0_matches_0 0 rfl rfl)
theorem dX0_matches_1 : decode cX0_matches 1 = .ok (.iload_n 1, 1) := dk_27 (dk_at dksX0_matches_0 1 rfl rfl)
theorem dX0_matches_2 : decode cX0_matches 2 = .ok (.iload_n 2, 1) := dk_28 (dk_at dksX0_matches_0 2 rfl rfl)
theorem dX0_matches_3 : decode cX0_matches 3 = .ok (.iload_n 3, 1) := dk_29 (dk_at dksX0_matches_0 3 rfl rfl)
theorem dX0_matches_4 : decode cX0_matches 4 = .ok (.invokevirtual 227, 3) := dk_182 0 227 (dk_at dksX0_matches_0 4 rfl rfl)
theorem dX0_matches_7 : decode cX0_matches 7 = .ok (.ifCond .eq 27, 3) := dk_153 0 27 (dk_at dksX0_matches_0 7 rfl rfl)
theorem dX0_matches_10 : decode cX0_matches 10 = .ok (.iload 4, 2) := dk_21 4 (dk_at dksX0_matches_0 10 rfl rfl)
theorem dX0_matches_12 : decode cX0_matches 12 = .ok (.i2l, 1) := dk_133 (dk_at dksX0_matches_0 12 rfl rfl)
theorem dX0_matches_13 : decode cX0_matches 13 = .ok (.iload_n 3, 1) := dk_29 (dk_at dksX0_matches_0 13 rfl rfl)
theorem dX0_matches_14 : decode cX0_matches 14 = .ok (.iconst 1, 1) := dk_4 (dk_at dksX0_matches_0 14 rfl rfl)
theorem dX0_matches_15 : decode cX0_matches 15 = .ok (.isub, 1) := dk_100 (dk_at dksX0_matches_0 15 rfl rfl)
theorem dX0_matches_16 : decode cX0_matches 16 = .ok (.i2l, 1) := dk_133 (dk_at dksX0_matches_0 16 rfl rfl)
theorem dX0_matches_17 : decode cX0_matches 17 = .ok (.iload_n 3, 1) := dk_29 (dk_at dksX0_matches_0 17 rfl rfl)
theorem dX0_matches_18 : decode cX0_matches 18 = .ok (.aload_n 0, 1) := dk_42 (dk_at dksX0_matches_0 18 rfl rfl)
theorem dX0_matches_19 : decode cX0_matches 19 = .ok (.getfield 73, 3) := dk_180 0 73 (dk_at dksX0_matches_0 19 rfl rfl)
theorem dX0_matches_22 : decode cX0_matches 22 = .ok (.invokestatic 231, 3) := dk_184 0 231 (dk_at dksX0_matches_1 0 rfl rfl)
theorem dX0_matches_25 : decode cX0_matches 25 = .ok (.iconst 1, 1) := dk_4 (dk_at dksX0_matches_1 3 rfl rfl)
theorem dX0_matches_26 : decode cX0_matches 26 = .ok (.isub, 1) := dk_100 (dk_at dksX0_matches_1 4 rfl rfl)
theorem dX0_matches_27 : decode cX0_matches 27 = .ok (.i2l, 1) := dk_133 (dk_at dksX0_matches_1 5 rfl rfl)
theorem dX0_matches_28 : decode cX0_matches 28 = .ok (.invokestatic 17, 3) := dk_184 0 17 (dk_at dksX0_matches_1 6 rfl rfl)
theorem dX0_matches_31 : decode cX0_matches 31 = .ok (.ifCond .ne 5, 3) := dk_154 0 5 (dk_at dksX0_matches_1 9 rfl rfl)
theorem dX0_matches_34 : decode cX0_matches 34 = .ok (.iconst (-1), 1) := dk_2 (dk_at dksX0_matches_1 12 rfl rfl)
theorem dX0_matches_35 : decode cX0_matches 35 = .ok (.ireturn, 1) := dk_172 (dk_at dksX0_matches_1 13 rfl rfl)
theorem dX0_matches_36 : decode cX0_matches 36 = .ok (.aload_n 0, 1) := dk_42 (dk_at dksX0_matches_1 14 rfl rfl)
theorem dX0_matches_37 : decode cX0_matches 37 = .ok (.invokevirtual 177, 3) := dk_182 0 177 (dk_at dksX0_matches_1 15 rfl rfl)
theorem dX0_matches_40 : decode cX0_matches 40 = .ok (.aload_n 0, 1) := dk_42 (dk_at dksX0_matches_1 18 rfl rfl)
theorem dX0_matches_41 : decode cX0_matches 41 = .ok (.getfield 49, 3) := dk_180 0 49 (dk_at dksX0_matches_1 19 rfl rfl)
theorem dX0_matches_44 : decode cX0_matches 44 = .ok (.iload_n 1, 1) := dk_27 (dk_at dksX0_matches_1 22 rfl rfl)
theorem dX0_matches_45 : decode cX0_matches 45 = .ok (.aaload, 1) := dk_50 (dk_at dksX0_matches_1 23 rfl rfl)
theorem dX0_matches_46 : decode cX0_matches 46 = .ok (.getfield 127, 3) := dk_180 0 127 (dk_at dksX0_matches_2 0 rfl rfl)
theorem dX0_matches_49 : decode cX0_matches 49 = .ok (.iload_n 2, 1) := dk_28 (dk_at dksX0_matches_2 3 rfl rfl)
theorem dX0_matches_50 : decode cX0_matches 50 = .ok (.aaload, 1) := dk_50 (dk_at dksX0_matches_2 4 rfl rfl)
theorem dX0_matches_51 : decode cX0_matches 51 = .ok (.astore 5, 2) := dk_58 5 (dk_at dksX0_matches_2 5 rfl rfl)
theorem dX0_matches_53 : decode cX0_matches 53 = .ok (.iload 4, 2) := dk_21 4 (dk_at dksX0_matches_2 7 rfl rfl)
theorem dX0_matches_55 : decode cX0_matches 55 = .ok (.iload_n 3, 1) := dk_29 (dk_at dksX0_matches_2 9 rfl rfl)
theorem dX0_matches_56 : decode cX0_matches 56 = .ok (.if_icmp .lt 28, 3) := dk_161 0 28 (dk_at dksX0_matches_2 10 rfl rfl)
theorem dX0_matches_59 : decode cX0_matches 59 = .ok (.aload 5, 2) := dk_25 5 (dk_at dksX0_matches_2 13 rfl rfl)
theorem dX0_matches_61 : decode cX0_matches 61 = .ok (.getfield 76, 3) := dk_180 0 76 (dk_at dksX0_matches_2 15 rfl rfl)
theorem dX0_matches_64 : decode cX0_matches 64 = .ok (.aload 5, 2) := dk_25 5 (dk_at dksX0_matches_2 18 rfl rfl)
theorem dX0_matches_66 : decode cX0_matches 66 = .ok (.getfield 96, 3) := dk_180 0 96 (dk_at dksX0_matches_2 20 rfl rfl)
theorem dX0_matches_69 : decode cX0_matches 69 = .ok (.iload_n 3, 1) := dk_29 (dk_at dksX0_matches_2 23 rfl rfl)
theorem dX0_matches_70 : decode cX0_matches 70 = .ok (.aaload, 1) := dk_50 (dk_at dksX0_matches_3 0 rfl rfl)
theorem dX0_matches_71 : decode cX0_matches 71 = .ok (.iload 4, 2) := dk_21 4 (dk_at dksX0_matches_3 1 rfl rfl)
theorem dX0_matches_73 : decode cX0_matches 73 = .ok (.laload, 1) := dk_47 (dk_at dksX0_matches_3 3 rfl rfl)
theorem dX0_matches_74 : decode cX0_matches 74 = .ok (.invokevirtual 104, 3) := dk_182 0 104 (dk_at dksX0_matches_3 4 rfl rfl)
theorem dX0_matches_77 : decode cX0_matches 77 = .ok (.ifCond .eq 7, 3) := dk_153 0 7 (dk_at dksX0_matches_3 7 rfl rfl)
theorem dX0_matches_80 : decode cX0_matches 80 = .ok (.iconst 1, 1) := dk_4 (dk_at dksX0_matches_3 10 rfl rfl)
theorem dX0_matches_81 : decode cX0_matches 81 = .ok (.goto 4, 3) := dk_167 0 4 (dk_at dksX0_matches_3 11 rfl rfl)
theorem dX0_matches_84 : decode cX0_matches 84 = .ok (.iconst 0, 1) := dk_3 (dk_at dksX0_matches_3 14 rfl rfl)
theorem dX0_matches_85 : decode cX0_matches 85 = .ok (.ireturn, 1) := dk_172 (dk_at dksX0_matches_3 15 rfl rfl)
abbrev cX0_isSide : ByteArray := prog_1_method_27_code
def yX0_isSide : MethodName := ⟨RX0, "isSide", "(III)Z"⟩
def dkwX0_isSide_1 : List UInt8 := [180, 0, 73, 133, 184, 0, 17, 153, 0, 7, 4, 167, 0, 4, 3, 172]
abbrev dktX0_isSide_1 : List UInt8 := dkwX0_isSide_1 ++ []
def dkwX0_isSide_0 : List UInt8 := [42, 27, 182, 0, 187, 153, 0, 31, 28, 133, 9, 10, 184, 0, 17, 153, 0, 21, 29, 133, 9, 42]
abbrev dktX0_isSide_0 : List UInt8 := dkwX0_isSide_0 ++ dktX0_isSide_1
theorem dksX0_isSide_0 : cX0_isSide.data.toList.drop 0 = dktX0_isSide_0 := by decide +kernel
theorem dksX0_isSide_1 : cX0_isSide.data.toList.drop 22 = dktX0_isSide_1 := dk_seg dksX0_isSide_0 22 rfl rfl
theorem dX0_isSide_0 : decode cX0_isSide 0 = .ok (.aload_n 0, 1) := dk_42 (dk_at dksX0_isSide_0 0 rfl rfl)
theorem dX0_isSide_1 : decode cX0_isSide 1 = .ok (.iload_n 1, 1) := dk_27 (dk_at dksX0_isSide_0 1 rfl rfl)
theorem dX0_isSide_2 : decode cX0_isSide 2 = .ok (.invokevirtual 187, 3) := dk_182 0 187 (dk_at dksX0_isSide_0 2 rfl rfl)
theorem dX0_isSide_5 : decode cX0_isSide 5 = .ok (.ifCond .eq 31, 3) := dk_153 0 31 (dk_at dksX0_isSide_0 5 rfl rfl)
theorem dX0_isSide_8 : decode cX0_isSide 8 = .ok (.iload_n 2, 1) := dk_28 (dk_at dksX0_isSide_0 8 rfl rfl)
theorem dX0_isSide_9 : decode cX0_isSide 9 = .ok (.i2l, 1) := dk_133 (dk_at dksX0_isSide_0 9 rfl rfl)
theorem dX0_isSide_10 : decode cX0_isSide 10 = .ok (.lconst 0, 1) := dk_9 (dk_at dksX0_isSide_0 10 rfl rfl)
theorem dX0_isSide_11 : decode cX0_isSide 11 = .ok (.lconst 1, 1) := dk_10 (dk_at dksX0_isSide_0 11 rfl rfl)
theorem dX0_isSide_12 : decode cX0_isSide 12 = .ok (.invokestatic 17, 3) := dk_184 0 17 (dk_at dksX0_isSide_0 12 rfl rfl)
theorem dX0_isSide_15 : decode cX0_isSide 15 = .ok (.ifCond .eq 21, 3) := dk_153 0 21 (dk_at dksX0_isSide_0 15 rfl rfl)
theorem dX0_isSide_18 : decode cX0_isSide 18 = .ok (.iload_n 3, 1) := dk_29 (dk_at dksX0_isSide_0 18 rfl rfl)
theorem dX0_isSide_19 : decode cX0_isSide 19 = .ok (.i2l, 1) := dk_133 (dk_at dksX0_isSide_0 19 rfl rfl)
theorem dX0_isSide_20 : decode cX0_isSide 20 = .ok (.lconst 0, 1) := dk_9 (dk_at dksX0_isSide_0 20 rfl rfl)
theorem dX0_isSide_21 : decode cX0_isSide 21 = .ok (.aload_n 0, 1) := dk_42 (dk_at dksX0_isSide_0 21 rfl rfl)
theorem dX0_isSide_22 : decode cX0_isSide 22 = .ok (.getfield 73, 3) := dk_180 0 73 (dk_at dksX0_isSide_1 0 rfl rfl)
theorem dX0_isSide_25 : decode cX0_isSide 25 = .ok (.i2l, 1) := dk_133 (dk_at dksX0_isSide_1 3 rfl rfl)
theorem dX0_isSide_26 : decode cX0_isSide 26 = .ok (.invokestatic 17, 3) := dk_184 0 17 (dk_at dksX0_isSide_1 4 rfl rfl)
theorem dX0_isSide_29 : decode cX0_isSide 29 = .ok (.ifCond .eq 7, 3) := dk_153 0 7 (dk_at dksX0_isSide_1 7 rfl rfl)
theorem dX0_isSide_32 : decode cX0_isSide 32 = .ok (.iconst 1, 1) := dk_4 (dk_at dksX0_isSide_1 10 rfl rfl)
theorem dX0_isSide_33 : decode cX0_isSide 33 = .ok (.goto 4, 3) := dk_167 0 4 (dk_at dksX0_isSide_1 11 rfl rfl)
theorem dX0_isSide_36 : decode cX0_isSide 36 = .ok (.iconst 0, 1) := dk_3 (dk_at dksX0_isSide_1 14 rfl rfl)
theorem dX0_isSide_37 : decode cX0_isSide 37 = .ok (.ireturn, 1) := dk_172 (dk_at dksX0_isSide_1 15 rfl rfl)
abbrev cX0_might : ByteArray := prog_1_method_29_code
def yX0_might : MethodName := ⟨RX0, "might", "(III)I"⟩
def dkwX0_might_3 : List UInt8 := [47, 182, 0, 112, 153, 0, 7, 4, 167, 0, 4, 3, 172]
abbrev dktX0_might_3 : List UInt8 := dkwX0_might_3 ++ []
def dkwX0_might_2 : List UInt8 := [153, 0, 35, 167, 0, 28, 25, 4, 180, 0, 76, 25, 4, 180, 0, 96, 29, 50, 42, 180, 0, 73, 4, 100]
abbrev dktX0_might_2 : List UInt8 := dkwX0_might_2 ++ dktX0_might_3
def dkwX0_might_1 : List UInt8 := [180, 0, 127, 28, 50, 58, 4, 29, 42, 180, 0, 73, 160, 0, 17, 25, 4, 180, 0, 76, 182, 0, 108]
abbrev dktX0_might_1 : List UInt8 := dkwX0_might_1 ++ dktX0_might_2
def dkwX0_might_0 : List UInt8 := [42, 27, 28, 29, 182, 0, 227, 154, 0, 5, 2, 172, 42, 182, 0, 177, 42, 180, 0, 49, 27, 50]
abbrev dktX0_might_0 : List UInt8 := dkwX0_might_0 ++ dktX0_might_1
theorem dksX0_might_0 : cX0_might.data.toList.drop 0 = dktX0_might_0 := by decide +kernel
theorem dksX0_might_1 : cX0_might.data.toList.drop 22 = dktX0_might_1 := dk_seg dksX0_might_0 22 rfl rfl
theorem dksX0_might_2 : cX0_might.data.toList.drop 45 = dktX0_might_2 := dk_seg dksX0_might_1 23 rfl rfl
theorem dksX0_might_3 : cX0_might.data.toList.drop 69 = dktX0_might_3 := dk_seg dksX0_might_2 24 rfl rfl
theorem dX0_might_0 : decode cX0_might 0 = .ok (.aload_n 0, 1) := dk_42 (dk_at dksX0_might_0 0 rfl rfl)
theorem dX0_might_1 : decode cX0_might 1 = .ok (.iload_n 1, 1) := dk_27 (dk_at dksX0_might_0 1 rfl rfl)
theorem dX0_might_2 : decode cX0_might 2 = .ok (.iload_n 2, 1) := dk_28 (dk_at dksX0_might_0 2 rfl rfl)
theorem dX0_might_3 : decode cX0_might 3 = .ok (.iload_n 3, 1) := dk_29 (dk_at dksX0_might_0 3 rfl rfl)
theorem dX0_might_4 : decode cX0_might 4 = .ok (.invokevirtual 227, 3) := dk_182 0 227 (dk_at dksX0_might_0 4 rfl rfl)
theorem dX0_might_7 : decode cX0_might 7 = .ok (.ifCond .ne 5, 3) := dk_154 0 5 (dk_at dksX0_might_0 7 rfl rfl)
theorem dX0_might_10 : decode cX0_might 10 = .ok (.iconst (-1), 1) := dk_2 (dk_at dksX0_might_0 10 rfl rfl)
theorem dX0_might_11 : decode cX0_might 11 = .ok (.ireturn, 1) := dk_172 (dk_at dksX0_might_0 11 rfl rfl)
theorem dX0_might_12 : decode cX0_might 12 = .ok (.aload_n 0, 1) := dk_42 (dk_at dksX0_might_0 12 rfl rfl)
theorem dX0_might_13 : decode cX0_might 13 = .ok (.invokevirtual 177, 3) := dk_182 0 177 (dk_at dksX0_might_0 13 rfl rfl)
theorem dX0_might_16 : decode cX0_might 16 = .ok (.aload_n 0, 1) := dk_42 (dk_at dksX0_might_0 16 rfl rfl)
theorem dX0_might_17 : decode cX0_might 17 = .ok (.getfield 49, 3) := dk_180 0 49 (dk_at dksX0_might_0 17 rfl rfl)
theorem dX0_might_20 : decode cX0_might 20 = .ok (.iload_n 1, 1) := dk_27 (dk_at dksX0_might_0 20 rfl rfl)
theorem dX0_might_21 : decode cX0_might 21 = .ok (.aaload, 1) := dk_50 (dk_at dksX0_might_0 21 rfl rfl)
theorem dX0_might_22 : decode cX0_might 22 = .ok (.getfield 127, 3) := dk_180 0 127 (dk_at dksX0_might_1 0 rfl rfl)
theorem dX0_might_25 : decode cX0_might 25 = .ok (.iload_n 2, 1) := dk_28 (dk_at dksX0_might_1 3 rfl rfl)
theorem dX0_might_26 : decode cX0_might 26 = .ok (.aaload, 1) := dk_50 (dk_at dksX0_might_1 4 rfl rfl)
theorem dX0_might_27 : decode cX0_might 27 = .ok (.astore 4, 2) := dk_58 4 (dk_at dksX0_might_1 5 rfl rfl)
theorem dX0_might_29 : decode cX0_might 29 = .ok (.iload_n 3, 1) := dk_29 (dk_at dksX0_might_1 7 rfl rfl)
theorem dX0_might_30 : decode cX0_might 30 = .ok (.aload_n 0, 1) := dk_42 (dk_at dksX0_might_1 8 rfl rfl)
theorem dX0_might_31 : decode cX0_might 31 = .ok (.getfield 73, 3) := dk_180 0 73 (dk_at dksX0_might_1 9 rfl rfl)
theorem dX0_might_34 : decode cX0_might 34 = .ok (.if_icmp .ne 17, 3) := dk_160 0 17 (dk_at dksX0_might_1 12 rfl rfl)
theorem dX0_might_37 : decode cX0_might 37 = .ok (.aload 4, 2) := dk_25 4 (dk_at dksX0_might_1 15 rfl rfl)
theorem dX0_might_39 : decode cX0_might 39 = .ok (.getfield 76, 3) := dk_180 0 76 (dk_at dksX0_might_1 17 rfl rfl)
theorem dX0_might_42 : decode cX0_might 42 = .ok (.invokevirtual 108, 3) := dk_182 0 108 (dk_at dksX0_might_1 20 rfl rfl)
theorem dX0_might_45 : decode cX0_might 45 = .ok (.ifCond .eq 35, 3) := dk_153 0 35 (dk_at dksX0_might_2 0 rfl rfl)
theorem dX0_might_48 : decode cX0_might 48 = .ok (.goto 28, 3) := dk_167 0 28 (dk_at dksX0_might_2 3 rfl rfl)
theorem dX0_might_51 : decode cX0_might 51 = .ok (.aload 4, 2) := dk_25 4 (dk_at dksX0_might_2 6 rfl rfl)
theorem dX0_might_53 : decode cX0_might 53 = .ok (.getfield 76, 3) := dk_180 0 76 (dk_at dksX0_might_2 8 rfl rfl)
theorem dX0_might_56 : decode cX0_might 56 = .ok (.aload 4, 2) := dk_25 4 (dk_at dksX0_might_2 11 rfl rfl)
theorem dX0_might_58 : decode cX0_might 58 = .ok (.getfield 96, 3) := dk_180 0 96 (dk_at dksX0_might_2 13 rfl rfl)
theorem dX0_might_61 : decode cX0_might 61 = .ok (.iload_n 3, 1) := dk_29 (dk_at dksX0_might_2 16 rfl rfl)
theorem dX0_might_62 : decode cX0_might 62 = .ok (.aaload, 1) := dk_50 (dk_at dksX0_might_2 17 rfl rfl)
theorem dX0_might_63 : decode cX0_might 63 = .ok (.aload_n 0, 1) := dk_42 (dk_at dksX0_might_2 18 rfl rfl)
theorem dX0_might_64 : decode cX0_might 64 = .ok (.getfield 73, 3) := dk_180 0 73 (dk_at dksX0_might_2 19 rfl rfl)
theorem dX0_might_67 : decode cX0_might 67 = .ok (.iconst 1, 1) := dk_4 (dk_at dksX0_might_2 22 rfl rfl)
theorem dX0_might_68 : decode cX0_might 68 = .ok (.isub, 1) := dk_100 (dk_at dksX0_might_2 23 rfl rfl)
theorem dX0_might_69 : decode cX0_might 69 = .ok (.laload, 1) := dk_47 (dk_at dksX0_might_3 0 rfl rfl)
theorem dX0_might_70 : decode cX0_might 70 = .ok (.invokevirtual 112, 3) := dk_182 0 112 (dk_at dksX0_might_3 1 rfl rfl)
theorem dX0_might_73 : decode cX0_might 73 = .ok (.ifCond .eq 7, 3) := dk_153 0 7 (dk_at dksX0_might_3 4 rfl rfl)
theorem dX0_might_76 : decode cX0_might 76 = .ok (.iconst 1, 1) := dk_4 (dk_at dksX0_might_3 7 rfl rfl)
theorem dX0_might_77 : decode cX0_might 77 = .ok (.goto 4, 3) := dk_167 0 4 (dk_at dksX0_might_3 8 rfl rfl)
theorem dX0_might_80 : decode cX0_might 80 = .ok (.iconst 0, 1) := dk_3 (dk_at dksX0_might_3 11 rfl rfl)
theorem dX0_might_81 : decode cX0_might 81 = .ok (.ireturn, 1) := dk_172 (dk_at dksX0_might_3 12 rfl rfl)
abbrev cX0_tick : ByteArray := prog_1_method_32_code
def yX0_tick : MethodName := ⟨RX0, "tick", "(I)I"⟩
def dkwX0_tick_1 : List UInt8 := [16, 253, 172, 42, 27, 182, 0, 234, 42, 42, 180, 0, 73, 4, 100, 182, 0, 237, 172]
abbrev dktX0_tick_1 : List UInt8 := dkwX0_tick_1 ++ []
def dkwX0_tick_0 : List UInt8 := [27, 133, 9, 20, 0, 221, 184, 0, 17, 154, 0, 5, 2, 172, 42, 180, 0, 73, 16, 48, 160, 0, 6]
abbrev dktX0_tick_0 : List UInt8 := dkwX0_tick_0 ++ dktX0_tick_1
theorem dksX0_tick_0 : cX0_tick.data.toList.drop 0 = dktX0_tick_0 := by decide +kernel
theorem dksX0_tick_1 : cX0_tick.data.toList.drop 23 = dktX0_tick_1 := dk_seg dksX0_tick_0 23 rfl rfl
theorem dX0_tick_0 : decode cX0_tick 0 = .ok (.iload_n 1, 1) := dk_27 (dk_at dksX0_tick_0 0 rfl rfl)
theorem dX0_tick_1 : decode cX0_tick 1 = .ok (.i2l, 1) := dk_133 (dk_at dksX0_tick_0 1 rfl rfl)
theorem dX0_tick_2 : decode cX0_tick 2 = .ok (.lconst 0, 1) := dk_9 (dk_at dksX0_tick_0 2 rfl rfl)
theorem dX0_tick_3 : decode cX0_tick 3 = .ok (.ldc2_w 221, 3) := dk_20 0 221 (dk_at dksX0_tick_0 3 rfl rfl)
theorem dX0_tick_6 : decode cX0_tick 6 = .ok (.invokestatic 17, 3) := dk_184 0 17 (dk_at dksX0_tick_0 6 rfl rfl)
theorem dX0_tick_9 : decode cX0_tick 9 = .ok (.ifCond .ne 5, 3) := dk_154 0 5 (dk_at dksX0_tick_0 9 rfl rfl)
theorem dX0_tick_12 : decode cX0_tick 12 = .ok (.iconst (-1), 1) := dk_2 (dk_at dksX0_tick_0 12 rfl rfl)
theorem dX0_tick_13 : decode cX0_tick 13 = .ok (.ireturn, 1) := dk_172 (dk_at dksX0_tick_0 13 rfl rfl)
theorem dX0_tick_14 : decode cX0_tick 14 = .ok (.aload_n 0, 1) := dk_42 (dk_at dksX0_tick_0 14 rfl rfl)
theorem dX0_tick_15 : decode cX0_tick 15 = .ok (.getfield 73, 3) := dk_180 0 73 (dk_at dksX0_tick_0 15 rfl rfl)
theorem dX0_tick_18 : decode cX0_tick 18 = .ok (.bipush 48, 2) := dk_16 48 (dk_at dksX0_tick_0 18 rfl rfl)
theorem dX0_tick_20 : decode cX0_tick 20 = .ok (.if_icmp .ne 6, 3) := dk_160 0 6 (dk_at dksX0_tick_0 20 rfl rfl)
theorem dX0_tick_23 : decode cX0_tick 23 = .ok (.bipush (-3), 2) := dk_16 253 (dk_at dksX0_tick_1 0 rfl rfl)
theorem dX0_tick_25 : decode cX0_tick 25 = .ok (.ireturn, 1) := dk_172 (dk_at dksX0_tick_1 2 rfl rfl)
theorem dX0_tick_26 : decode cX0_tick 26 = .ok (.aload_n 0, 1) := dk_42 (dk_at dksX0_tick_1 3 rfl rfl)
theorem dX0_tick_27 : decode cX0_tick 27 = .ok (.iload_n 1, 1) := dk_27 (dk_at dksX0_tick_1 4 rfl rfl)
theorem dX0_tick_28 : decode cX0_tick 28 = .ok (.invokevirtual 234, 3) := dk_182 0 234 (dk_at dksX0_tick_1 5 rfl rfl)
theorem dX0_tick_31 : decode cX0_tick 31 = .ok (.aload_n 0, 1) := dk_42 (dk_at dksX0_tick_1 8 rfl rfl)
theorem dX0_tick_32 : decode cX0_tick 32 = .ok (.aload_n 0, 1) := dk_42 (dk_at dksX0_tick_1 9 rfl rfl)
theorem dX0_tick_33 : decode cX0_tick 33 = .ok (.getfield 73, 3) := dk_180 0 73 (dk_at dksX0_tick_1 10 rfl rfl)
theorem dX0_tick_36 : decode cX0_tick 36 = .ok (.iconst 1, 1) := dk_4 (dk_at dksX0_tick_1 13 rfl rfl)
theorem dX0_tick_37 : decode cX0_tick 37 = .ok (.isub, 1) := dk_100 (dk_at dksX0_tick_1 14 rfl rfl)
theorem dX0_tick_38 : decode cX0_tick 38 = .ok (.invokevirtual 237, 3) := dk_182 0 237 (dk_at dksX0_tick_1 15 rfl rfl)
theorem dX0_tick_41 : decode cX0_tick 41 = .ok (.ireturn, 1) := dk_172 (dk_at dksX0_tick_1 18 rfl rfl)
abbrev cX0_comes : ByteArray := prog_1_method_31_code
def yX0_comes : MethodName := ⟨RX0, "comes", "(I)V"⟩
def dkwX0_comes_1 : List UInt8 := [181, 0, 58, 177]
abbrev dktX0_comes_1 : List UInt8 := dkwX0_comes_1 ++ []
def dkwX0_comes_0 : List UInt8 := [42, 180, 0, 88, 42, 180, 0, 73, 27, 79, 42, 89, 180, 0, 73, 4, 96, 181, 0, 73, 42, 3]
abbrev dktX0_comes_0 : List UInt8 := dkwX0_comes_0 ++ dktX0_comes_1
theorem dksX0_comes_0 : cX0_comes.data.toList.drop 0 = dktX0_comes_0 := by decide +kernel
theorem dksX0_comes_1 : cX0_comes.data.toList.drop 22 = dktX0_comes_1 := dk_seg dksX0_comes_0 22 rfl rfl
theorem dX0_comes_0 : decode cX0_comes 0 = .ok (.aload_n 0, 1) := dk_42 (dk_at dksX0_comes_0 0 rfl rfl)
theorem dX0_comes_1 : decode cX0_comes 1 = .ok (.getfield 88, 3) := dk_180 0 88 (dk_at dksX0_comes_0 1 rfl rfl)
theorem dX0_comes_4 : decode cX0_comes 4 = .ok (.aload_n 0, 1) := dk_42 (dk_at dksX0_comes_0 4 rfl rfl)
theorem dX0_comes_5 : decode cX0_comes 5 = .ok (.getfield 73, 3) := dk_180 0 73 (dk_at dksX0_comes_0 5 rfl rfl)
theorem dX0_comes_8 : decode cX0_comes 8 = .ok (.iload_n 1, 1) := dk_27 (dk_at dksX0_comes_0 8 rfl rfl)
theorem dX0_comes_9 : decode cX0_comes 9 = .ok (.iastore, 1) := dk_79 (dk_at dksX0_comes_0 9 rfl rfl)
theorem dX0_comes_10 : decode cX0_comes 10 = .ok (.aload_n 0, 1) := dk_42 (dk_at dksX0_comes_0 10 rfl rfl)
theorem dX0_comes_11 : decode cX0_comes 11 = .ok (.dup, 1) := dk_89 (dk_at dksX0_comes_0 11 rfl rfl)
theorem dX0_comes_12 : decode cX0_comes 12 = .ok (.getfield 73, 3) := dk_180 0 73 (dk_at dksX0_comes_0 12 rfl rfl)
theorem dX0_comes_15 : decode cX0_comes 15 = .ok (.iconst 1, 1) := dk_4 (dk_at dksX0_comes_0 15 rfl rfl)
theorem dX0_comes_16 : decode cX0_comes 16 = .ok (.iadd, 1) := dk_96 (dk_at dksX0_comes_0 16 rfl rfl)
theorem dX0_comes_17 : decode cX0_comes 17 = .ok (.putfield 73, 3) := dk_181 0 73 (dk_at dksX0_comes_0 17 rfl rfl)
theorem dX0_comes_20 : decode cX0_comes 20 = .ok (.aload_n 0, 1) := dk_42 (dk_at dksX0_comes_0 20 rfl rfl)
theorem dX0_comes_21 : decode cX0_comes 21 = .ok (.iconst 0, 1) := dk_3 (dk_at dksX0_comes_0 21 rfl rfl)
theorem dX0_comes_22 : decode cX0_comes 22 = .ok (.putfield 58, 3) := dk_181 0 58 (dk_at dksX0_comes_1 0 rfl rfl)
theorem dX0_comes_25 : decode cX0_comes 25 = .ok (.return_, 1) := dk_177 (dk_at dksX0_comes_1 3 rfl rfl)
abbrev cX0_failedBy : ByteArray := prog_1_method_30_code
def yX0_failedBy : MethodName := ⟨RX0, "failedBy", "(I)I"⟩
def dkwX0_failedBy_3 : List UInt8 := [132, 3, 1, 167, 255, 193, 28, 172]
abbrev dktX0_failedBy_3 : List UInt8 := dkwX0_failedBy_3 ++ []
def dkwX0_failedBy_2 : List UInt8 := [29, 50, 21, 4, 46, 27, 160, 0, 7, 4, 167, 0, 4, 3, 96, 61, 132, 4, 1, 167, 255, 210]
abbrev dktX0_failedBy_2 : List UInt8 := dkwX0_failedBy_2 ++ dktX0_failedBy_3
def dkwX0_failedBy_1 : List UInt8 := [180, 0, 73, 162, 0, 43, 28, 42, 180, 0, 157, 29, 50, 21, 4, 46, 5, 160, 0, 20, 42, 180, 0, 164]
abbrev dktX0_failedBy_1 : List UInt8 := dkwX0_failedBy_1 ++ dktX0_failedBy_2
def dkwX0_failedBy_0 : List UInt8 := [42, 182, 0, 177, 3, 61, 3, 62, 29, 42, 180, 0, 53, 162, 0, 61, 3, 54, 4, 21, 4, 42]
abbrev dktX0_failedBy_0 : List UInt8 := dkwX0_failedBy_0 ++ dktX0_failedBy_1
theorem dksX0_failedBy_0 : cX0_failedBy.data.toList.drop 0 = dktX0_failedBy_0 := by decide +kernel
theorem dksX0_failedBy_1 : cX0_failedBy.data.toList.drop 22 = dktX0_failedBy_1 := dk_seg dksX0_failedBy_0 22 rfl rfl
theorem dksX0_failedBy_2 : cX0_failedBy.data.toList.drop 46 = dktX0_failedBy_2 := dk_seg dksX0_failedBy_1 24 rfl rfl
theorem dksX0_failedBy_3 : cX0_failedBy.data.toList.drop 68 = dktX0_failedBy_3 := dk_seg dksX0_failedBy_2 22 rfl rfl
theorem dX0_failedBy_0 : decode cX0_failedBy 0 = .ok (.aload_n 0, 1) := dk_42 (dk_at dksX0_failedBy_0 0 rfl rfl)
theorem dX0_failedBy_1 : decode cX0_failedBy 1 = .ok (.invokevirtual 177, 3) := dk_182 0 177 (dk_at dksX0_failedBy_0 1 rfl rfl)
theorem dX0_failedBy_4 : decode cX0_failedBy 4 = .ok (.iconst 0, 1) := dk_3 (dk_at dksX0_failedBy_0 4 rfl rfl)
theorem dX0_failedBy_5 : decode cX0_failedBy 5 = .ok (.istore_n 2, 1) := dk_61 (dk_at dksX0_failedBy_0 5 rfl rfl)
theorem dX0_failedBy_6 : decode cX0_failedBy 6 = .ok (.iconst 0, 1) := dk_3 (dk_at dksX0_failedBy_0 6 rfl rfl)
theorem dX0_failedBy_7 : decode cX0_failedBy 7 = .ok (.istore_n 3, 1) := dk_62 (dk_at dksX0_failedBy_0 7 rfl rfl)
theorem dX0_failedBy_8 : decode cX0_failedBy 8 = .ok (.iload_n 3, 1) := dk_29 (dk_at dksX0_failedBy_0 8 rfl rfl)
theorem dX0_failedBy_9 : decode cX0_failedBy 9 = .ok (.aload_n 0, 1) := dk_42 (dk_at dksX0_failedBy_0 9 rfl rfl)
theorem dX0_failedBy_10 : decode cX0_failedBy 10 = .ok (.getfield 53, 3) := dk_180 0 53 (dk_at dksX0_failedBy_0 10 rfl rfl)
theorem dX0_failedBy_13 : decode cX0_failedBy 13 = .ok (.if_icmp .ge 61, 3) := dk_162 0 61 (dk_at dksX0_failedBy_0 13 rfl rfl)
theorem dX0_failedBy_16 : decode cX0_failedBy 16 = .ok (.iconst 0, 1) := dk_3 (dk_at dksX0_failedBy_0 16 rfl rfl)
theorem dX0_failedBy_17 : decode cX0_failedBy 17 = .ok (.istore 4, 2) := dk_54 4 (dk_at dksX0_failedBy_0 17 rfl rfl)
theorem dX0_failedBy_19 : decode cX0_failedBy 19 = .ok (.iload 4, 2) := dk_21 4 (dk_at dksX0_failedBy_0 19 rfl rfl)
theorem dX0_failedBy_21 : decode cX0_failedBy 21 = .ok (.aload_n 0, 1) := dk_42 (dk_at dksX0_failedBy_0 21 rfl rfl)
theorem dX0_failedBy_22 : decode cX0_failedBy 22 = .ok (.getfield 73, 3) := dk_180 0 73 (dk_at dksX0_failedBy_1 0 rfl rfl)
theorem dX0_failedBy_25 : decode cX0_failedBy 25 = .ok (.if_icmp .ge 43, 3) := dk_162 0 43 (dk_at dksX0_failedBy_1 3 rfl rfl)
theorem dX0_failedBy_28 : decode cX0_failedBy 28 = .ok (.iload_n 2, 1) := dk_28 (dk_at dksX0_failedBy_1 6 rfl rfl)
theorem dX0_failedBy_29 : decode cX0_failedBy 29 = .ok (.aload_n 0, 1) := dk_42 (dk_at dksX0_failedBy_1 7 rfl rfl)
theorem dX0_failedBy_30 : decode cX0_failedBy 30 = .ok (.getfield 157, 3) := dk_180 0 157 (dk_at dksX0_failedBy_1 8 rfl rfl)
theorem dX0_failedBy_33 : decode cX0_failedBy 33 = .ok (.iload_n 3, 1) := dk_29 (dk_at dksX0_failedBy_1 11 rfl rfl)
theorem dX0_failedBy_34 : decode cX0_failedBy 34 = .ok (.aaload, 1) := dk_50 (dk_at dksX0_failedBy_1 12 rfl rfl)
theorem dX0_failedBy_35 : decode cX0_failedBy 35 = .ok (.iload 4, 2) := dk_21 4 (dk_at dksX0_failedBy_1 13 rfl rfl)
theorem dX0_failedBy_37 : decode cX0_failedBy 37 = .ok (.iaload, 1) := dk_46 (dk_at dksX0_failedBy_1 15 rfl rfl)
theorem dX0_failedBy_38 : decode cX0_failedBy 38 = .ok (.iconst 2, 1) := dk_5 (dk_at dksX0_failedBy_1 16 rfl rfl)
theorem dX0_failedBy_39 : decode cX0_failedBy 39 = .ok (.if_icmp .ne 20, 3) := dk_160 0 20 (dk_at dksX0_failedBy_1 17 rfl rfl)
theorem dX0_failedBy_42 : decode cX0_failedBy 42 = .ok (.aload_n 0, 1) := dk_42 (dk_at dksX0_failedBy_1 20 rfl rfl)
theorem dX0_failedBy_43 : decode cX0_failedBy 43 = .ok (.getfield 164, 3) := dk_180 0 164 (dk_at dksX0_failedBy_1 21 rfl rfl)
theorem dX0_failedBy_46 : decode cX0_failedBy 46 = .ok (.iload_n 3, 1) := dk_29 (dk_at dksX0_failedBy_2 0 rfl rfl)
theorem dX0_failedBy_47 : decode cX0_failedBy 47 = .ok (.aaload, 1) := dk_50 (dk_at dksX0_failedBy_2 1 rfl rfl)
theorem dX0_failedBy_48 : decode cX0_failedBy 48 = .ok (.iload 4, 2) := dk_21 4 (dk_at dksX0_failedBy_2 2 rfl rfl)
theorem dX0_failedBy_50 : decode cX0_failedBy 50 = .ok (.iaload, 1) := dk_46 (dk_at dksX0_failedBy_2 4 rfl rfl)
theorem dX0_failedBy_51 : decode cX0_failedBy 51 = .ok (.iload_n 1, 1) := dk_27 (dk_at dksX0_failedBy_2 5 rfl rfl)
theorem dX0_failedBy_52 : decode cX0_failedBy 52 = .ok (.if_icmp .ne 7, 3) := dk_160 0 7 (dk_at dksX0_failedBy_2 6 rfl rfl)
theorem dX0_failedBy_55 : decode cX0_failedBy 55 = .ok (.iconst 1, 1) := dk_4 (dk_at dksX0_failedBy_2 9 rfl rfl)
theorem dX0_failedBy_56 : decode cX0_failedBy 56 = .ok (.goto 4, 3) := dk_167 0 4 (dk_at dksX0_failedBy_2 10 rfl rfl)
theorem dX0_failedBy_59 : decode cX0_failedBy 59 = .ok (.iconst 0, 1) := dk_3 (dk_at dksX0_failedBy_2 13 rfl rfl)
theorem dX0_failedBy_60 : decode cX0_failedBy 60 = .ok (.iadd, 1) := dk_96 (dk_at dksX0_failedBy_2 14 rfl rfl)
theorem dX0_failedBy_61 : decode cX0_failedBy 61 = .ok (.istore_n 2, 1) := dk_61 (dk_at dksX0_failedBy_2 15 rfl rfl)
theorem dX0_failedBy_62 : decode cX0_failedBy 62 = .ok (.iinc 4 1, 3) := dk_132 4 1 (dk_at dksX0_failedBy_2 16 rfl rfl)
theorem dX0_failedBy_65 : decode cX0_failedBy 65 = .ok (.goto (-46), 3) := dk_167 255 210 (dk_at dksX0_failedBy_2 19 rfl rfl)
theorem dX0_failedBy_68 : decode cX0_failedBy 68 = .ok (.iinc 3 1, 3) := dk_132 3 1 (dk_at dksX0_failedBy_3 0 rfl rfl)
theorem dX0_failedBy_71 : decode cX0_failedBy 71 = .ok (.goto (-63), 3) := dk_167 255 193 (dk_at dksX0_failedBy_3 3 rfl rfl)
theorem dX0_failedBy_74 : decode cX0_failedBy 74 = .ok (.iload_n 2, 1) := dk_28 (dk_at dksX0_failedBy_3 6 rfl rfl)
theorem dX0_failedBy_75 : decode cX0_failedBy 75 = .ok (.ireturn, 1) := dk_172 (dk_at dksX0_failedBy_3 7 rfl rfl)
abbrev cX0_bits : ByteArray := prog_1_method_33_code
def yX0_bits : MethodName := ⟨RX0, "bits", "(I)I"⟩
def dkwX0_bits_0 : List UInt8 := [42, 27, 182, 0, 240, 153, 0, 12, 42, 180, 0, 88, 27, 46, 167, 0, 4, 2, 172]
abbrev dktX0_bits_0 : List UInt8 := dkwX0_bits_0 ++ []
theorem dksX0_bits_0 : cX0_bits.data.toList.drop 0 = dktX0_bits_0 := by decide +kernel
theorem dX0_bits_0 : decode cX0_bits 0 = .ok (.aload_n 0, 1) := dk_42 (dk_at dksX0_bits_0 0 rfl rfl)
theorem dX0_bits_1 : decode cX0_bits 1 = .ok (.iload_n 1, 1) := dk_27 (dk_at dksX0_bits_0 1 rfl rfl)
theorem dX0_bits_2 : decode cX0_bits 2 = .ok (.invokevirtual 240, 3) := dk_182 0 240 (dk_at dksX0_bits_0 2 rfl rfl)
theorem dX0_bits_5 : decode cX0_bits 5 = .ok (.ifCond .eq 12, 3) := dk_153 0 12 (dk_at dksX0_bits_0 5 rfl rfl)
theorem dX0_bits_8 : decode cX0_bits 8 = .ok (.aload_n 0, 1) := dk_42 (dk_at dksX0_bits_0 8 rfl rfl)
theorem dX0_bits_9 : decode cX0_bits 9 = .ok (.getfield 88, 3) := dk_180 0 88 (dk_at dksX0_bits_0 9 rfl rfl)
theorem dX0_bits_12 : decode cX0_bits 12 = .ok (.iload_n 1, 1) := dk_27 (dk_at dksX0_bits_0 12 rfl rfl)
theorem dX0_bits_13 : decode cX0_bits 13 = .ok (.iaload, 1) := dk_46 (dk_at dksX0_bits_0 13 rfl rfl)
theorem dX0_bits_14 : decode cX0_bits 14 = .ok (.goto 4, 3) := dk_167 0 4 (dk_at dksX0_bits_0 14 rfl rfl)
theorem dX0_bits_17 : decode cX0_bits 17 = .ok (.iconst (-1), 1) := dk_2 (dk_at dksX0_bits_0 17 rfl rfl)
theorem dX0_bits_18 : decode cX0_bits 18 = .ok (.ireturn, 1) := dk_172 (dk_at dksX0_bits_0 18 rfl rfl)
abbrev cX0_isTick : ByteArray := prog_1_method_18_code
def yX0_isTick : MethodName := ⟨RX0, "isTick", "(I)Z"⟩
def dkwX0_isTick_0 : List UInt8 := [27, 133, 9, 42, 180, 0, 73, 4, 100, 133, 184, 0, 17, 172]
abbrev dktX0_isTick_0 : List UInt8 := dkwX0_isTick_0 ++ []
theorem dksX0_isTick_0 : cX0_isTick.data.toList.drop 0 = dktX0_isTick_0 := by decide +kernel
theorem dX0_isTick_0 : decode cX0_isTick 0 = .ok (.iload_n 1, 1) := dk_27 (dk_at dksX0_isTick_0 0 rfl rfl)
theorem dX0_isTick_1 : decode cX0_isTick 1 = .ok (.i2l, 1) := dk_133 (dk_at dksX0_isTick_0 1 rfl rfl)
theorem dX0_isTick_2 : decode cX0_isTick 2 = .ok (.lconst 0, 1) := dk_9 (dk_at dksX0_isTick_0 2 rfl rfl)
theorem dX0_isTick_3 : decode cX0_isTick 3 = .ok (.aload_n 0, 1) := dk_42 (dk_at dksX0_isTick_0 3 rfl rfl)
theorem dX0_isTick_4 : decode cX0_isTick 4 = .ok (.getfield 73, 3) := dk_180 0 73 (dk_at dksX0_isTick_0 4 rfl rfl)
theorem dX0_isTick_7 : decode cX0_isTick 7 = .ok (.iconst 1, 1) := dk_4 (dk_at dksX0_isTick_0 7 rfl rfl)
theorem dX0_isTick_8 : decode cX0_isTick 8 = .ok (.isub, 1) := dk_100 (dk_at dksX0_isTick_0 8 rfl rfl)
theorem dX0_isTick_9 : decode cX0_isTick 9 = .ok (.i2l, 1) := dk_133 (dk_at dksX0_isTick_0 9 rfl rfl)
theorem dX0_isTick_10 : decode cX0_isTick 10 = .ok (.invokestatic 17, 3) := dk_184 0 17 (dk_at dksX0_isTick_0 10 rfl rfl)
theorem dX0_isTick_13 : decode cX0_isTick 13 = .ok (.ireturn, 1) := dk_172 (dk_at dksX0_isTick_0 13 rfl rfl)
abbrev cX0_put : ByteArray := prog_1_method_34_code
def yX0_put : MethodName := ⟨RX0, "put", "(II)I"⟩
def dkwX0_put_1 : List UInt8 := [180, 0, 88, 27, 46, 62, 42, 180, 0, 88, 27, 28, 79, 42, 3, 181, 0, 58, 29, 172]
abbrev dktX0_put_1 : List UInt8 := dkwX0_put_1 ++ []
def dkwX0_put_0 : List UInt8 := [42, 27, 182, 0, 240, 153, 0, 15, 28, 133, 9, 20, 0, 221, 184, 0, 17, 154, 0, 5, 2, 172, 42]
abbrev dktX0_put_0 : List UInt8 := dkwX0_put_0 ++ dktX0_put_1
theorem dksX0_put_0 : cX0_put.data.toList.drop 0 = dktX0_put_0 := by decide +kernel
theorem dksX0_put_1 : cX0_put.data.toList.drop 23 = dktX0_put_1 := dk_seg dksX0_put_0 23 rfl rfl
theorem dX0_put_0 : decode cX0_put 0 = .ok (.aload_n 0, 1) := dk_42 (dk_at dksX0_put_0 0 rfl rfl)
theorem dX0_put_1 : decode cX0_put 1 = .ok (.iload_n 1, 1) := dk_27 (dk_at dksX0_put_0 1 rfl rfl)
theorem dX0_put_2 : decode cX0_put 2 = .ok (.invokevirtual 240, 3) := dk_182 0 240 (dk_at dksX0_put_0 2 rfl rfl)
theorem dX0_put_5 : decode cX0_put 5 = .ok (.ifCond .eq 15, 3) := dk_153 0 15 (dk_at dksX0_put_0 5 rfl rfl)
theorem dX0_put_8 : decode cX0_put 8 = .ok (.iload_n 2, 1) := dk_28 (dk_at dksX0_put_0 8 rfl rfl)
theorem dX0_put_9 : decode cX0_put 9 = .ok (.i2l, 1) := dk_133 (dk_at dksX0_put_0 9 rfl rfl)
theorem dX0_put_10 : decode cX0_put 10 = .ok (.lconst 0, 1) := dk_9 (dk_at dksX0_put_0 10 rfl rfl)
theorem dX0_put_11 : decode cX0_put 11 = .ok (.ldc2_w 221, 3) := dk_20 0 221 (dk_at dksX0_put_0 11 rfl rfl)
theorem dX0_put_14 : decode cX0_put 14 = .ok (.invokestatic 17, 3) := dk_184 0 17 (dk_at dksX0_put_0 14 rfl rfl)
theorem dX0_put_17 : decode cX0_put 17 = .ok (.ifCond .ne 5, 3) := dk_154 0 5 (dk_at dksX0_put_0 17 rfl rfl)
theorem dX0_put_20 : decode cX0_put 20 = .ok (.iconst (-1), 1) := dk_2 (dk_at dksX0_put_0 20 rfl rfl)
theorem dX0_put_21 : decode cX0_put 21 = .ok (.ireturn, 1) := dk_172 (dk_at dksX0_put_0 21 rfl rfl)
theorem dX0_put_22 : decode cX0_put 22 = .ok (.aload_n 0, 1) := dk_42 (dk_at dksX0_put_0 22 rfl rfl)
theorem dX0_put_23 : decode cX0_put 23 = .ok (.getfield 88, 3) := dk_180 0 88 (dk_at dksX0_put_1 0 rfl rfl)
theorem dX0_put_26 : decode cX0_put 26 = .ok (.iload_n 1, 1) := dk_27 (dk_at dksX0_put_1 3 rfl rfl)
theorem dX0_put_27 : decode cX0_put 27 = .ok (.iaload, 1) := dk_46 (dk_at dksX0_put_1 4 rfl rfl)
theorem dX0_put_28 : decode cX0_put 28 = .ok (.istore_n 3, 1) := dk_62 (dk_at dksX0_put_1 5 rfl rfl)
theorem dX0_put_29 : decode cX0_put 29 = .ok (.aload_n 0, 1) := dk_42 (dk_at dksX0_put_1 6 rfl rfl)
theorem dX0_put_30 : decode cX0_put 30 = .ok (.getfield 88, 3) := dk_180 0 88 (dk_at dksX0_put_1 7 rfl rfl)
theorem dX0_put_33 : decode cX0_put 33 = .ok (.iload_n 1, 1) := dk_27 (dk_at dksX0_put_1 10 rfl rfl)
theorem dX0_put_34 : decode cX0_put 34 = .ok (.iload_n 2, 1) := dk_28 (dk_at dksX0_put_1 11 rfl rfl)
theorem dX0_put_35 : decode cX0_put 35 = .ok (.iastore, 1) := dk_79 (dk_at dksX0_put_1 12 rfl rfl)
theorem dX0_put_36 : decode cX0_put 36 = .ok (.aload_n 0, 1) := dk_42 (dk_at dksX0_put_1 13 rfl rfl)
theorem dX0_put_37 : decode cX0_put 37 = .ok (.iconst 0, 1) := dk_3 (dk_at dksX0_put_1 14 rfl rfl)
theorem dX0_put_38 : decode cX0_put 38 = .ok (.putfield 58, 3) := dk_181 0 58 (dk_at dksX0_put_1 15 rfl rfl)
theorem dX0_put_41 : decode cX0_put 41 = .ok (.iload_n 3, 1) := dk_29 (dk_at dksX0_put_1 18 rfl rfl)
theorem dX0_put_42 : decode cX0_put 42 = .ok (.ireturn, 1) := dk_172 (dk_at dksX0_put_1 19 rfl rfl)
abbrev cX0_keeps : ByteArray := prog_1_method_35_code
def yX0_keeps : MethodName := ⟨RX0, "keeps", "(I)I"⟩
def dkwX0_keeps_1 : List UInt8 := [181, 0, 73, 42, 3, 181, 0, 58, 28, 172]
abbrev dktX0_keeps_1 : List UInt8 := dkwX0_keeps_1 ++ []
def dkwX0_keeps_0 : List UInt8 := [27, 133, 9, 42, 180, 0, 73, 133, 184, 0, 17, 154, 0, 5, 2, 172, 42, 180, 0, 73, 61, 42, 27]
abbrev dktX0_keeps_0 : List UInt8 := dkwX0_keeps_0 ++ dktX0_keeps_1
theorem dksX0_keeps_0 : cX0_keeps.data.toList.drop 0 = dktX0_keeps_0 := by decide +kernel
theorem dksX0_keeps_1 : cX0_keeps.data.toList.drop 23 = dktX0_keeps_1 := dk_seg dksX0_keeps_0 23 rfl rfl
theorem dX0_keeps_0 : decode cX0_keeps 0 = .ok (.iload_n 1, 1) := dk_27 (dk_at dksX0_keeps_0 0 rfl rfl)
theorem dX0_keeps_1 : decode cX0_keeps 1 = .ok (.i2l, 1) := dk_133 (dk_at dksX0_keeps_0 1 rfl rfl)
theorem dX0_keeps_2 : decode cX0_keeps 2 = .ok (.lconst 0, 1) := dk_9 (dk_at dksX0_keeps_0 2 rfl rfl)
theorem dX0_keeps_3 : decode cX0_keeps 3 = .ok (.aload_n 0, 1) := dk_42 (dk_at dksX0_keeps_0 3 rfl rfl)
theorem dX0_keeps_4 : decode cX0_keeps 4 = .ok (.getfield 73, 3) := dk_180 0 73 (dk_at dksX0_keeps_0 4 rfl rfl)
theorem dX0_keeps_7 : decode cX0_keeps 7 = .ok (.i2l, 1) := dk_133 (dk_at dksX0_keeps_0 7 rfl rfl)
theorem dX0_keeps_8 : decode cX0_keeps 8 = .ok (.invokestatic 17, 3) := dk_184 0 17 (dk_at dksX0_keeps_0 8 rfl rfl)
theorem dX0_keeps_11 : decode cX0_keeps 11 = .ok (.ifCond .ne 5, 3) := dk_154 0 5 (dk_at dksX0_keeps_0 11 rfl rfl)
theorem dX0_keeps_14 : decode cX0_keeps 14 = .ok (.iconst (-1), 1) := dk_2 (dk_at dksX0_keeps_0 14 rfl rfl)
theorem dX0_keeps_15 : decode cX0_keeps 15 = .ok (.ireturn, 1) := dk_172 (dk_at dksX0_keeps_0 15 rfl rfl)
theorem dX0_keeps_16 : decode cX0_keeps 16 = .ok (.aload_n 0, 1) := dk_42 (dk_at dksX0_keeps_0 16 rfl rfl)
theorem dX0_keeps_17 : decode cX0_keeps 17 = .ok (.getfield 73, 3) := dk_180 0 73 (dk_at dksX0_keeps_0 17 rfl rfl)
theorem dX0_keeps_20 : decode cX0_keeps 20 = .ok (.istore_n 2, 1) := dk_61 (dk_at dksX0_keeps_0 20 rfl rfl)
theorem dX0_keeps_21 : decode cX0_keeps 21 = .ok (.aload_n 0, 1) := dk_42 (dk_at dksX0_keeps_0 21 rfl rfl)
theorem dX0_keeps_22 : decode cX0_keeps 22 = .ok (.iload_n 1, 1) := dk_27 (dk_at dksX0_keeps_0 22 rfl rfl)
theorem dX0_keeps_23 : decode cX0_keeps 23 = .ok (.putfield 73, 3) := dk_181 0 73 (dk_at dksX0_keeps_1 0 rfl rfl)
theorem dX0_keeps_26 : decode cX0_keeps 26 = .ok (.aload_n 0, 1) := dk_42 (dk_at dksX0_keeps_1 3 rfl rfl)
theorem dX0_keeps_27 : decode cX0_keeps 27 = .ok (.iconst 0, 1) := dk_3 (dk_at dksX0_keeps_1 4 rfl rfl)
theorem dX0_keeps_28 : decode cX0_keeps 28 = .ok (.putfield 58, 3) := dk_181 0 58 (dk_at dksX0_keeps_1 5 rfl rfl)
theorem dX0_keeps_31 : decode cX0_keeps 31 = .ok (.iload_n 2, 1) := dk_28 (dk_at dksX0_keeps_1 8 rfl rfl)
theorem dX0_keeps_32 : decode cX0_keeps 32 = .ok (.ireturn, 1) := dk_172 (dk_at dksX0_keeps_1 9 rfl rfl)
abbrev cX0_draw : ByteArray := prog_1_method_37_code
def yX0_draw : MethodName := ⟨RX0, "draw", "(II)I"⟩
def dkwX0_draw_3 : List UInt8 := [167, 255, 223, 42, 180, 0, 73, 172]
abbrev dktX0_draw_3 : List UInt8 := dkwX0_draw_3 ++ []
def dkwX0_draw_2 : List UInt8 := [17, 1, 0, 112, 54, 4, 42, 21, 4, 42, 182, 0, 249, 17, 1, 0, 112, 126, 182, 0, 234, 132, 3, 1]
abbrev dktX0_draw_2 : List UInt8 := dkwX0_draw_2 ++ dktX0_draw_3
def dkwX0_draw_1 : List UInt8 := [164, 0, 6, 16, 253, 172, 42, 27, 181, 0, 243, 3, 62, 29, 28, 162, 0, 34, 42, 182, 0, 249]
abbrev dktX0_draw_1 : List UInt8 := dkwX0_draw_1 ++ dktX0_draw_2
def dkwX0_draw_0 : List UInt8 := [28, 133, 10, 20, 0, 247, 184, 0, 17, 154, 0, 5, 2, 172, 42, 180, 0, 73, 28, 96, 16, 48]
abbrev dktX0_draw_0 : List UInt8 := dkwX0_draw_0 ++ dktX0_draw_1
theorem dksX0_draw_0 : cX0_draw.data.toList.drop 0 = dktX0_draw_0 := by decide +kernel
theorem dksX0_draw_1 : cX0_draw.data.toList.drop 22 = dktX0_draw_1 := dk_seg dksX0_draw_0 22 rfl rfl
theorem dksX0_draw_2 : cX0_draw.data.toList.drop 44 = dktX0_draw_2 := dk_seg dksX0_draw_1 22 rfl rfl
theorem dksX0_draw_3 : cX0_draw.data.toList.drop 68 = dktX0_draw_3 := dk_seg dksX0_draw_2 24 rfl rfl
theorem dX0_draw_0 : decode cX0_draw 0 = .ok (.iload_n 2, 1) := dk_28 (dk_at dksX0_draw_0 0 rfl rfl)
theorem dX0_draw_1 : decode cX0_draw 1 = .ok (.i2l, 1) := dk_133 (dk_at dksX0_draw_0 1 rfl rfl)
theorem dX0_draw_2 : decode cX0_draw 2 = .ok (.lconst 1, 1) := dk_10 (dk_at dksX0_draw_0 2 rfl rfl)
theorem dX0_draw_3 : decode cX0_draw 3 = .ok (.ldc2_w 247, 3) := dk_20 0 247 (dk_at dksX0_draw_0 3 rfl rfl)
theorem dX0_draw_6 : decode cX0_draw 6 = .ok (.invokestatic 17, 3) := dk_184 0 17 (dk_at dksX0_draw_0 6 rfl rfl)
theorem dX0_draw_9 : decode cX0_draw 9 = .ok (.ifCond .ne 5, 3) := dk_154 0 5 (dk_at dksX0_draw_0 9 rfl rfl)
theorem dX0_draw_12 : decode cX0_draw 12 = .ok (.iconst (-1), 1) := dk_2 (dk_at dksX0_draw_0 12 rfl rfl)
theorem dX0_draw_13 : decode cX0_draw 13 = .ok (.ireturn, 1) := dk_172 (dk_at dksX0_draw_0 13 rfl rfl)
theorem dX0_draw_14 : decode cX0_draw 14 = .ok (.aload_n 0, 1) := dk_42 (dk_at dksX0_draw_0 14 rfl rfl)
theorem dX0_draw_15 : decode cX0_draw 15 = .ok (.getfield 73, 3) := dk_180 0 73 (dk_at dksX0_draw_0 15 rfl rfl)
theorem dX0_draw_18 : decode cX0_draw 18 = .ok (.iload_n 2, 1) := dk_28 (dk_at dksX0_draw_0 18 rfl rfl)
theorem dX0_draw_19 : decode cX0_draw 19 = .ok (.iadd, 1) := dk_96 (dk_at dksX0_draw_0 19 rfl rfl)
theorem dX0_draw_20 : decode cX0_draw 20 = .ok (.bipush 48, 2) := dk_16 48 (dk_at dksX0_draw_0 20 rfl rfl)
theorem dX0_draw_22 : decode cX0_draw 22 = .ok (.if_icmp .le 6, 3) := dk_164 0 6 (dk_at dksX0_draw_1 0 rfl rfl)
theorem dX0_draw_25 : decode cX0_draw 25 = .ok (.bipush (-3), 2) := dk_16 253 (dk_at dksX0_draw_1 3 rfl rfl)
theorem dX0_draw_27 : decode cX0_draw 27 = .ok (.ireturn, 1) := dk_172 (dk_at dksX0_draw_1 5 rfl rfl)
theorem dX0_draw_28 : decode cX0_draw 28 = .ok (.aload_n 0, 1) := dk_42 (dk_at dksX0_draw_1 6 rfl rfl)
theorem dX0_draw_29 : decode cX0_draw 29 = .ok (.iload_n 1, 1) := dk_27 (dk_at dksX0_draw_1 7 rfl rfl)
theorem dX0_draw_30 : decode cX0_draw 30 = .ok (.putfield 243, 3) := dk_181 0 243 (dk_at dksX0_draw_1 8 rfl rfl)
theorem dX0_draw_33 : decode cX0_draw 33 = .ok (.iconst 0, 1) := dk_3 (dk_at dksX0_draw_1 11 rfl rfl)
theorem dX0_draw_34 : decode cX0_draw 34 = .ok (.istore_n 3, 1) := dk_62 (dk_at dksX0_draw_1 12 rfl rfl)
theorem dX0_draw_35 : decode cX0_draw 35 = .ok (.iload_n 3, 1) := dk_29 (dk_at dksX0_draw_1 13 rfl rfl)
theorem dX0_draw_36 : decode cX0_draw 36 = .ok (.iload_n 2, 1) := dk_28 (dk_at dksX0_draw_1 14 rfl rfl)
theorem dX0_draw_37 : decode cX0_draw 37 = .ok (.if_icmp .ge 34, 3) := dk_162 0 34 (dk_at dksX0_draw_1 15 rfl rfl)
theorem dX0_draw_40 : decode cX0_draw 40 = .ok (.aload_n 0, 1) := dk_42 (dk_at dksX0_draw_1 18 rfl rfl)
theorem dX0_draw_41 : decode cX0_draw 41 = .ok (.invokevirtual 249, 3) := dk_182 0 249 (dk_at dksX0_draw_1 19 rfl rfl)
theorem dX0_draw_44 : decode cX0_draw 44 = .ok (.sipush 256, 3) := dk_17 1 0 (dk_at dksX0_draw_2 0 rfl rfl)
theorem dX0_draw_47 : decode cX0_draw 47 = .ok (.irem, 1) := dk_112 (dk_at dksX0_draw_2 3 rfl rfl)
theorem dX0_draw_48 : decode cX0_draw 48 = .ok (.istore 4, 2) := dk_54 4 (dk_at dksX0_draw_2 4 rfl rfl)
theorem dX0_draw_50 : decode cX0_draw 50 = .ok (.aload_n 0, 1) := dk_42 (dk_at dksX0_draw_2 6 rfl rfl)
theorem dX0_draw_51 : decode cX0_draw 51 = .ok (.iload 4, 2) := dk_21 4 (dk_at dksX0_draw_2 7 rfl rfl)
theorem dX0_draw_53 : decode cX0_draw 53 = .ok (.aload_n 0, 1) := dk_42 (dk_at dksX0_draw_2 9 rfl rfl)
theorem dX0_draw_54 : decode cX0_draw 54 = .ok (.invokevirtual 249, 3) := dk_182 0 249 (dk_at dksX0_draw_2 10 rfl rfl)
theorem dX0_draw_57 : decode cX0_draw 57 = .ok (.sipush 256, 3) := dk_17 1 0 (dk_at dksX0_draw_2 13 rfl rfl)
theorem dX0_draw_60 : decode cX0_draw 60 = .ok (.irem, 1) := dk_112 (dk_at dksX0_draw_2 16 rfl rfl)
theorem dX0_draw_61 : decode cX0_draw 61 = .ok (.iand, 1) := dk_126 (dk_at dksX0_draw_2 17 rfl rfl)
theorem dX0_draw_62 : decode cX0_draw 62 = .ok (.invokevirtual 234, 3) := dk_182 0 234 (dk_at dksX0_draw_2 18 rfl rfl)
theorem dX0_draw_65 : decode cX0_draw 65 = .ok (.iinc 3 1, 3) := dk_132 3 1 (dk_at dksX0_draw_2 21 rfl rfl)
theorem dX0_draw_68 : decode cX0_draw 68 = .ok (.goto (-33), 3) := dk_167 255 223 (dk_at dksX0_draw_3 0 rfl rfl)
theorem dX0_draw_71 : decode cX0_draw 71 = .ok (.aload_n 0, 1) := dk_42 (dk_at dksX0_draw_3 3 rfl rfl)
theorem dX0_draw_72 : decode cX0_draw 72 = .ok (.getfield 73, 3) := dk_180 0 73 (dk_at dksX0_draw_3 4 rfl rfl)
theorem dX0_draw_75 : decode cX0_draw 75 = .ok (.ireturn, 1) := dk_172 (dk_at dksX0_draw_3 7 rfl rfl)
abbrev cX0_got : ByteArray := prog_1_method_36_code
def yX0_got : MethodName := ⟨RX0, "got", "()I"⟩
def dkwX0_got_1 : List UInt8 := [17, 127, 255, 126, 172]
abbrev dktX0_got_1 : List UInt8 := dkwX0_got_1 ++ []
def dkwX0_got_0 : List UInt8 := [42, 42, 180, 0, 243, 18, 246, 104, 17, 48, 57, 96, 181, 0, 243, 42, 180, 0, 243, 16, 16, 122]
abbrev dktX0_got_0 : List UInt8 := dkwX0_got_0 ++ dktX0_got_1
theorem dksX0_got_0 : cX0_got.data.toList.drop 0 = dktX0_got_0 := by decide +kernel
theorem dksX0_got_1 : cX0_got.data.toList.drop 22 = dktX0_got_1 := dk_seg dksX0_got_0 22 rfl rfl
theorem dX0_got_0 : decode cX0_got 0 = .ok (.aload_n 0, 1) := dk_42 (dk_at dksX0_got_0 0 rfl rfl)
theorem dX0_got_1 : decode cX0_got 1 = .ok (.aload_n 0, 1) := dk_42 (dk_at dksX0_got_0 1 rfl rfl)
theorem dX0_got_2 : decode cX0_got 2 = .ok (.getfield 243, 3) := dk_180 0 243 (dk_at dksX0_got_0 2 rfl rfl)
theorem dX0_got_5 : decode cX0_got 5 = .ok (.ldc 246, 2) := dk_18 246 (dk_at dksX0_got_0 5 rfl rfl)
theorem dX0_got_7 : decode cX0_got 7 = .ok (.imul, 1) := dk_104 (dk_at dksX0_got_0 7 rfl rfl)
theorem dX0_got_8 : decode cX0_got 8 = .ok (.sipush 12345, 3) := dk_17 48 57 (dk_at dksX0_got_0 8 rfl rfl)
theorem dX0_got_11 : decode cX0_got 11 = .ok (.iadd, 1) := dk_96 (dk_at dksX0_got_0 11 rfl rfl)
theorem dX0_got_12 : decode cX0_got 12 = .ok (.putfield 243, 3) := dk_181 0 243 (dk_at dksX0_got_0 12 rfl rfl)
theorem dX0_got_15 : decode cX0_got 15 = .ok (.aload_n 0, 1) := dk_42 (dk_at dksX0_got_0 15 rfl rfl)
theorem dX0_got_16 : decode cX0_got 16 = .ok (.getfield 243, 3) := dk_180 0 243 (dk_at dksX0_got_0 16 rfl rfl)
theorem dX0_got_19 : decode cX0_got 19 = .ok (.bipush 16, 2) := dk_16 16 (dk_at dksX0_got_0 19 rfl rfl)
theorem dX0_got_21 : decode cX0_got 21 = .ok (.ishr, 1) := dk_122 (dk_at dksX0_got_0 21 rfl rfl)
theorem dX0_got_22 : decode cX0_got 22 = .ok (.sipush 32767, 3) := dk_17 127 255 (dk_at dksX0_got_1 0 rfl rfl)
theorem dX0_got_25 : decode cX0_got 25 = .ok (.iand, 1) := dk_126 (dk_at dksX0_got_1 3 rfl rfl)
theorem dX0_got_26 : decode cX0_got 26 = .ok (.ireturn, 1) := dk_172 (dk_at dksX0_got_1 4 rfl rfl)
abbrev cX0_verdict : ByteArray := prog_1_method_38_code
def yX0_verdict : MethodName := ⟨RX0, "verdict", "(II)I"⟩
def dkwX0_verdict_1 : List UInt8 := [180, 0, 157, 27, 50, 28, 46, 172]
abbrev dktX0_verdict_1 : List UInt8 := dkwX0_verdict_1 ++ []
def dkwX0_verdict_0 : List UInt8 := [42, 27, 182, 0, 187, 153, 0, 11, 42, 28, 182, 0, 240, 154, 0, 5, 2, 172, 42, 182, 0, 177, 42]
abbrev dktX0_verdict_0 : List UInt8 := dkwX0_verdict_0 ++ dktX0_verdict_1
theorem dksX0_verdict_0 : cX0_verdict.data.toList.drop 0 = dktX0_verdict_0 := by decide +kernel
theorem dksX0_verdict_1 : cX0_verdict.data.toList.drop 23 = dktX0_verdict_1 := dk_seg dksX0_verdict_0 23 rfl rfl
theorem dX0_verdict_0 : decode cX0_verdict 0 = .ok (.aload_n 0, 1) := dk_42 (dk_at dksX0_verdict_0 0 rfl rfl)
theorem dX0_verdict_1 : decode cX0_verdict 1 = .ok (.iload_n 1, 1) := dk_27 (dk_at dksX0_verdict_0 1 rfl rfl)
theorem dX0_verdict_2 : decode cX0_verdict 2 = .ok (.invokevirtual 187, 3) := dk_182 0 187 (dk_at dksX0_verdict_0 2 rfl rfl)
theorem dX0_verdict_5 : decode cX0_verdict 5 = .ok (.ifCond .eq 11, 3) := dk_153 0 11 (dk_at dksX0_verdict_0 5 rfl rfl)
theorem dX0_verdict_8 : decode cX0_verdict 8 = .ok (.aload_n 0, 1) := dk_42 (dk_at dksX0_verdict_0 8 rfl rfl)
theorem dX0_verdict_9 : decode cX0_verdict 9 = .ok (.iload_n 2, 1) := dk_28 (dk_at dksX0_verdict_0 9 rfl rfl)
theorem dX0_verdict_10 : decode cX0_verdict 10 = .ok (.invokevirtual 240, 3) := dk_182 0 240 (dk_at dksX0_verdict_0 10 rfl rfl)
theorem dX0_verdict_13 : decode cX0_verdict 13 = .ok (.ifCond .ne 5, 3) := dk_154 0 5 (dk_at dksX0_verdict_0 13 rfl rfl)
theorem dX0_verdict_16 : decode cX0_verdict 16 = .ok (.iconst (-1), 1) := dk_2 (dk_at dksX0_verdict_0 16 rfl rfl)
theorem dX0_verdict_17 : decode cX0_verdict 17 = .ok (.ireturn, 1) := dk_172 (dk_at dksX0_verdict_0 17 rfl rfl)
theorem dX0_verdict_18 : decode cX0_verdict 18 = .ok (.aload_n 0, 1) := dk_42 (dk_at dksX0_verdict_0 18 rfl rfl)
theorem dX0_verdict_19 : decode cX0_verdict 19 = .ok (.invokevirtual 177, 3) := dk_182 0 177 (dk_at dksX0_verdict_0 19 rfl rfl)
theorem dX0_verdict_22 : decode cX0_verdict 22 = .ok (.aload_n 0, 1) := dk_42 (dk_at dksX0_verdict_0 22 rfl rfl)
theorem dX0_verdict_23 : decode cX0_verdict 23 = .ok (.getfield 157, 3) := dk_180 0 157 (dk_at dksX0_verdict_1 0 rfl rfl)
theorem dX0_verdict_26 : decode cX0_verdict 26 = .ok (.iload_n 1, 1) := dk_27 (dk_at dksX0_verdict_1 3 rfl rfl)
theorem dX0_verdict_27 : decode cX0_verdict 27 = .ok (.aaload, 1) := dk_50 (dk_at dksX0_verdict_1 4 rfl rfl)
theorem dX0_verdict_28 : decode cX0_verdict 28 = .ok (.iload_n 2, 1) := dk_28 (dk_at dksX0_verdict_1 5 rfl rfl)
theorem dX0_verdict_29 : decode cX0_verdict 29 = .ok (.iaload, 1) := dk_46 (dk_at dksX0_verdict_1 6 rfl rfl)
theorem dX0_verdict_30 : decode cX0_verdict 30 = .ok (.ireturn, 1) := dk_172 (dk_at dksX0_verdict_1 7 rfl rfl)
abbrev cX0_decided : ByteArray := prog_1_method_39_code
def yX0_decided : MethodName := ⟨RX0, "decided", "(II)I"⟩
def dkwX0_decided_1 : List UInt8 := [180, 0, 164, 27, 50, 28, 46, 172]
abbrev dktX0_decided_1 : List UInt8 := dkwX0_decided_1 ++ []
def dkwX0_decided_0 : List UInt8 := [42, 27, 182, 0, 187, 153, 0, 11, 42, 28, 182, 0, 240, 154, 0, 5, 2, 172, 42, 182, 0, 177, 42]
abbrev dktX0_decided_0 : List UInt8 := dkwX0_decided_0 ++ dktX0_decided_1
theorem dksX0_decided_0 : cX0_decided.data.toList.drop 0 = dktX0_decided_0 := by decide +kernel
theorem dksX0_decided_1 : cX0_decided.data.toList.drop 23 = dktX0_decided_1 := dk_seg dksX0_decided_0 23 rfl rfl
theorem dX0_decided_0 : decode cX0_decided 0 = .ok (.aload_n 0, 1) := dk_42 (dk_at dksX0_decided_0 0 rfl rfl)
theorem dX0_decided_1 : decode cX0_decided 1 = .ok (.iload_n 1, 1) := dk_27 (dk_at dksX0_decided_0 1 rfl rfl)
theorem dX0_decided_2 : decode cX0_decided 2 = .ok (.invokevirtual 187, 3) := dk_182 0 187 (dk_at dksX0_decided_0 2 rfl rfl)
theorem dX0_decided_5 : decode cX0_decided 5 = .ok (.ifCond .eq 11, 3) := dk_153 0 11 (dk_at dksX0_decided_0 5 rfl rfl)
theorem dX0_decided_8 : decode cX0_decided 8 = .ok (.aload_n 0, 1) := dk_42 (dk_at dksX0_decided_0 8 rfl rfl)
theorem dX0_decided_9 : decode cX0_decided 9 = .ok (.iload_n 2, 1) := dk_28 (dk_at dksX0_decided_0 9 rfl rfl)
theorem dX0_decided_10 : decode cX0_decided 10 = .ok (.invokevirtual 240, 3) := dk_182 0 240 (dk_at dksX0_decided_0 10 rfl rfl)
theorem dX0_decided_13 : decode cX0_decided 13 = .ok (.ifCond .ne 5, 3) := dk_154 0 5 (dk_at dksX0_decided_0 13 rfl rfl)
theorem dX0_decided_16 : decode cX0_decided 16 = .ok (.iconst (-1), 1) := dk_2 (dk_at dksX0_decided_0 16 rfl rfl)
theorem dX0_decided_17 : decode cX0_decided 17 = .ok (.ireturn, 1) := dk_172 (dk_at dksX0_decided_0 17 rfl rfl)
theorem dX0_decided_18 : decode cX0_decided 18 = .ok (.aload_n 0, 1) := dk_42 (dk_at dksX0_decided_0 18 rfl rfl)
theorem dX0_decided_19 : decode cX0_decided 19 = .ok (.invokevirtual 177, 3) := dk_182 0 177 (dk_at dksX0_decided_0 19 rfl rfl)
theorem dX0_decided_22 : decode cX0_decided 22 = .ok (.aload_n 0, 1) := dk_42 (dk_at dksX0_decided_0 22 rfl rfl)
theorem dX0_decided_23 : decode cX0_decided 23 = .ok (.getfield 164, 3) := dk_180 0 164 (dk_at dksX0_decided_1 0 rfl rfl)
theorem dX0_decided_26 : decode cX0_decided 26 = .ok (.iload_n 1, 1) := dk_27 (dk_at dksX0_decided_1 3 rfl rfl)
theorem dX0_decided_27 : decode cX0_decided 27 = .ok (.aaload, 1) := dk_50 (dk_at dksX0_decided_1 4 rfl rfl)
theorem dX0_decided_28 : decode cX0_decided 28 = .ok (.iload_n 2, 1) := dk_28 (dk_at dksX0_decided_1 5 rfl rfl)
theorem dX0_decided_29 : decode cX0_decided 29 = .ok (.iaload, 1) := dk_46 (dk_at dksX0_decided_1 6 rfl rfl)
theorem dX0_decided_30 : decode cX0_decided 30 = .ok (.ireturn, 1) := dk_172 (dk_at dksX0_decided_1 7 rfl rfl)
abbrev cX0_duties : ByteArray := prog_1_method_40_code
def yX0_duties : MethodName := ⟨RX0, "duties", "(II)I"⟩
def dkwX0_duties_1 : List UInt8 := [28, 182, 0, 174, 172]
abbrev dktX0_duties_1 : List UInt8 := dkwX0_duties_1 ++ []
def dkwX0_duties_0 : List UInt8 := [42, 27, 182, 0, 187, 153, 0, 11, 42, 28, 182, 0, 240, 154, 0, 5, 2, 172, 42, 182, 0, 177, 42, 27]
abbrev dktX0_duties_0 : List UInt8 := dkwX0_duties_0 ++ dktX0_duties_1
theorem dksX0_duties_0 : cX0_duties.data.toList.drop 0 = dktX0_duties_0 := by decide +kernel
theorem dksX0_duties_1 : cX0_duties.data.toList.drop 24 = dktX0_duties_1 := dk_seg dksX0_duties_0 24 rfl rfl
theorem dX0_duties_0 : decode cX0_duties 0 = .ok (.aload_n 0, 1) := dk_42 (dk_at dksX0_duties_0 0 rfl rfl)
theorem dX0_duties_1 : decode cX0_duties 1 = .ok (.iload_n 1, 1) := dk_27 (dk_at dksX0_duties_0 1 rfl rfl)
theorem dX0_duties_2 : decode cX0_duties 2 = .ok (.invokevirtual 187, 3) := dk_182 0 187 (dk_at dksX0_duties_0 2 rfl rfl)
theorem dX0_duties_5 : decode cX0_duties 5 = .ok (.ifCond .eq 11, 3) := dk_153 0 11 (dk_at dksX0_duties_0 5 rfl rfl)
theorem dX0_duties_8 : decode cX0_duties 8 = .ok (.aload_n 0, 1) := dk_42 (dk_at dksX0_duties_0 8 rfl rfl)
theorem dX0_duties_9 : decode cX0_duties 9 = .ok (.iload_n 2, 1) := dk_28 (dk_at dksX0_duties_0 9 rfl rfl)
theorem dX0_duties_10 : decode cX0_duties 10 = .ok (.invokevirtual 240, 3) := dk_182 0 240 (dk_at dksX0_duties_0 10 rfl rfl)
theorem dX0_duties_13 : decode cX0_duties 13 = .ok (.ifCond .ne 5, 3) := dk_154 0 5 (dk_at dksX0_duties_0 13 rfl rfl)
theorem dX0_duties_16 : decode cX0_duties 16 = .ok (.iconst (-1), 1) := dk_2 (dk_at dksX0_duties_0 16 rfl rfl)
theorem dX0_duties_17 : decode cX0_duties 17 = .ok (.ireturn, 1) := dk_172 (dk_at dksX0_duties_0 17 rfl rfl)
theorem dX0_duties_18 : decode cX0_duties 18 = .ok (.aload_n 0, 1) := dk_42 (dk_at dksX0_duties_0 18 rfl rfl)
theorem dX0_duties_19 : decode cX0_duties 19 = .ok (.invokevirtual 177, 3) := dk_182 0 177 (dk_at dksX0_duties_0 19 rfl rfl)
theorem dX0_duties_22 : decode cX0_duties 22 = .ok (.aload_n 0, 1) := dk_42 (dk_at dksX0_duties_0 22 rfl rfl)
theorem dX0_duties_23 : decode cX0_duties 23 = .ok (.iload_n 1, 1) := dk_27 (dk_at dksX0_duties_0 23 rfl rfl)
theorem dX0_duties_24 : decode cX0_duties 24 = .ok (.iload_n 2, 1) := dk_28 (dk_at dksX0_duties_1 0 rfl rfl)
theorem dX0_duties_25 : decode cX0_duties 25 = .ok (.invokevirtual 174, 3) := dk_182 0 174 (dk_at dksX0_duties_1 1 rfl rfl)
theorem dX0_duties_28 : decode cX0_duties 28 = .ok (.ireturn, 1) := dk_172 (dk_at dksX0_duties_1 4 rfl rfl)
abbrev cX0_duty : ByteArray := prog_1_method_42_code
def yX0_duty : MethodName := ⟨RX0, "duty", "(IIII)I"⟩
def dkwX0_duty_4 : List UInt8 := [21, 6, 154, 0, 8, 16, 252, 167, 0, 12, 21, 5, 21, 6, 5, 122, 184, 0, 231, 172]
abbrev dktX0_duty_4 : List UInt8 := dkwX0_duty_4 ++ []
def dkwX0_duty_3 : List UInt8 := [21, 4, 154, 0, 8, 21, 5, 167, 0, 35, 21, 4, 4, 160, 0, 10, 21, 6, 6, 126, 167, 0, 22]
abbrev dktX0_duty_3 : List UInt8 := dkwX0_duty_3 ++ dktX0_duty_4
def dkwX0_duty_2 : List UInt8 := [21, 5, 16, 252, 160, 0, 6, 16, 252, 172, 42, 42, 180, 0, 49, 27, 50, 21, 5, 182, 0, 153, 54, 6]
abbrev dktX0_duty_2 : List UInt8 := dkwX0_duty_2 ++ dktX0_duty_3
def dkwX0_duty_1 : List UInt8 := [20, 0, 211, 184, 0, 17, 154, 0, 5, 2, 172, 42, 182, 0, 177, 42, 27, 28, 29, 182, 0, 252, 54, 5]
abbrev dktX0_duty_1 : List UInt8 := dkwX0_duty_1 ++ dktX0_duty_2
def dkwX0_duty_0 : List UInt8 := [42, 27, 182, 0, 187, 153, 0, 28, 42, 28, 182, 0, 240, 153, 0, 20, 29, 155, 0, 16, 21, 4, 133, 9]
abbrev dktX0_duty_0 : List UInt8 := dkwX0_duty_0 ++ dktX0_duty_1
theorem dksX0_duty_0 : cX0_duty.data.toList.drop 0 = dktX0_duty_0 := by decide +kernel
theorem dksX0_duty_1 : cX0_duty.data.toList.drop 24 = dktX0_duty_1 := dk_seg dksX0_duty_0 24 rfl rfl
theorem dksX0_duty_2 : cX0_duty.data.toList.drop 48 = dktX0_duty_2 := dk_seg dksX0_duty_1 24 rfl rfl
theorem dksX0_duty_3 : cX0_duty.data.toList.drop 72 = dktX0_duty_3 := dk_seg dksX0_duty_2 24 rfl rfl
theorem dksX0_duty_4 : cX0_duty.data.toList.drop 95 = dktX0_duty_4 := dk_seg dksX0_duty_3 23 rfl rfl
theorem dX0_duty_0 : decode cX0_duty 0 = .ok (.aload_n 0, 1) := dk_42 (dk_at dksX0_duty_0 0 rfl rfl)
theorem dX0_duty_1 : decode cX0_duty 1 = .ok (.iload_n 1, 1) := dk_27 (dk_at dksX0_duty_0 1 rfl rfl)
theorem dX0_duty_2 : decode cX0_duty 2 = .ok (.invokevirtual 187, 3) := dk_182 0 187 (dk_at dksX0_duty_0 2 rfl rfl)
theorem dX0_duty_5 : decode cX0_duty 5 = .ok (.ifCond .eq 28, 3) := dk_153 0 28 (dk_at dksX0_duty_0 5 rfl rfl)
theorem dX0_duty_8 : decode cX0_duty 8 = .ok (.aload_n 0, 1) := dk_42 (dk_at dksX0_duty_0 8 rfl rfl)
theorem dX0_duty_9 : decode cX0_duty 9 = .ok (.iload_n 2, 1) := dk_28 (dk_at dksX0_duty_0 9 rfl rfl)
theorem dX0_duty_10 : decode cX0_duty 10 = .ok (.invokevirtual 240, 3) := dk_182 0 240 (dk_at dksX0_duty_0 10 rfl rfl)
theorem dX0_duty_13 : decode cX0_duty 13 = .ok (.ifCond .eq 20, 3) := dk_153 0 20 (dk_at dksX0_duty_0 13 rfl rfl)
theorem dX0_duty_16 : decode cX0_duty 16 = .ok (.iload_n 3, 1) := dk_29 (dk_at dksX0_duty_0 16 rfl rfl)
theorem dX0_duty_17 : decode cX0_duty 17 = .ok (.ifCond .lt 16, 3) := dk_155 0 16 (dk_at dksX0_duty_0 17 rfl rfl)
theorem dX0_duty_20 : decode cX0_duty 20 = .ok (.iload 4, 2) := dk_21 4 (dk_at dksX0_duty_0 20 rfl rfl)
theorem dX0_duty_22 : decode cX0_duty 22 = .ok (.i2l, 1) := dk_133 (dk_at dksX0_duty_0 22 rfl rfl)
theorem dX0_duty_23 : decode cX0_duty 23 = .ok (.lconst 0, 1) := dk_9 (dk_at dksX0_duty_0 23 rfl rfl)
theorem dX0_duty_24 : decode cX0_duty 24 = .ok (.ldc2_w 211, 3) := dk_20 0 211 (dk_at dksX0_duty_1 0 rfl rfl)
theorem dX0_duty_27 : decode cX0_duty 27 = .ok (.invokestatic 17, 3) := dk_184 0 17 (dk_at dksX0_duty_1 3 rfl rfl)
theorem dX0_duty_30 : decode cX0_duty 30 = .ok (.ifCond .ne 5, 3) := dk_154 0 5 (dk_at dksX0_duty_1 6 rfl rfl)
theorem dX0_duty_33 : decode cX0_duty 33 = .ok (.iconst (-1), 1) := dk_2 (dk_at dksX0_duty_1 9 rfl rfl)
theorem dX0_duty_34 : decode cX0_duty 34 = .ok (.ireturn, 1) := dk_172 (dk_at dksX0_duty_1 10 rfl rfl)
theorem dX0_duty_35 : decode cX0_duty 35 = .ok (.aload_n 0, 1) := dk_42 (dk_at dksX0_duty_1 11 rfl rfl)
theorem dX0_duty_36 : decode cX0_duty 36 = .ok (.invokevirtual 177, 3) := dk_182 0 177 (dk_at dksX0_duty_1 12 rfl rfl)
theorem dX0_duty_39 : decode cX0_duty 39 = .ok (.aload_n 0, 1) := dk_42 (dk_at dksX0_duty_1 15 rfl rfl)
theorem dX0_duty_40 : decode cX0_duty 40 = .ok (.iload_n 1, 1) := dk_27 (dk_at dksX0_duty_1 16 rfl rfl)
theorem dX0_duty_41 : decode cX0_duty 41 = .ok (.iload_n 2, 1) := dk_28 (dk_at dksX0_duty_1 17 rfl rfl)
theorem dX0_duty_42 : decode cX0_duty 42 = .ok (.iload_n 3, 1) := dk_29 (dk_at dksX0_duty_1 18 rfl rfl)
theorem dX0_duty_43 : decode cX0_duty 43 = .ok (.invokevirtual 252, 3) := dk_182 0 252 (dk_at dksX0_duty_1 19 rfl rfl)
theorem dX0_duty_46 : decode cX0_duty 46 = .ok (.istore 5, 2) := dk_54 5 (dk_at dksX0_duty_1 22 rfl rfl)
theorem dX0_duty_48 : decode cX0_duty 48 = .ok (.iload 5, 2) := dk_21 5 (dk_at dksX0_duty_2 0 rfl rfl)
theorem dX0_duty_50 : decode cX0_duty 50 = .ok (.bipush (-4), 2) := dk_16 252 (dk_at dksX0_duty_2 2 rfl rfl)
theorem dX0_duty_52 : decode cX0_duty 52 = .ok (.if_icmp .ne 6, 3) := dk_160 0 6 (dk_at dksX0_duty_2 4 rfl rfl)
theorem dX0_duty_55 : decode cX0_duty 55 = .ok (.bipush (-4), 2) := dk_16 252 (dk_at dksX0_duty_2 7 rfl rfl)
theorem dX0_duty_57 : decode cX0_duty 57 = .ok (.ireturn, 1) := dk_172 (dk_at dksX0_duty_2 9 rfl rfl)
theorem dX0_duty_58 : decode cX0_duty 58 = .ok (.aload_n 0, 1) := dk_42 (dk_at dksX0_duty_2 10 rfl rfl)
theorem dX0_duty_59 : decode cX0_duty 59 = .ok (.aload_n 0, 1) := dk_42 (dk_at dksX0_duty_2 11 rfl rfl)
theorem dX0_duty_60 : decode cX0_duty 60 = .ok (.getfield 49, 3) := dk_180 0 49 (dk_at dksX0_duty_2 12 rfl rfl)
theorem dX0_duty_63 : decode cX0_duty 63 = .ok (.iload_n 1, 1) := dk_27 (dk_at dksX0_duty_2 15 rfl rfl)
theorem dX0_duty_64 : decode cX0_duty 64 = .ok (.aaload, 1) := dk_50 (dk_at dksX0_duty_2 16 rfl rfl)
theorem dX0_duty_65 : decode cX0_duty 65 = .ok (.iload 5, 2) := dk_21 5 (dk_at dksX0_duty_2 17 rfl rfl)
theorem dX0_duty_67 : decode cX0_duty 67 = .ok (.invokevirtual 153, 3) := dk_182 0 153 (dk_at dksX0_duty_2 19 rfl rfl)
theorem dX0_duty_70 : decode cX0_duty 70 = .ok (.istore 6, 2) := dk_54 6 (dk_at dksX0_duty_2 22 rfl rfl)
theorem dX0_duty_72 : decode cX0_duty 72 = .ok (.iload 4, 2) := dk_21 4 (dk_at dksX0_duty_3 0 rfl rfl)
theorem dX0_duty_74 : decode cX0_duty 74 = .ok (.ifCond .ne 8, 3) := dk_154 0 8 (dk_at dksX0_duty_3 2 rfl rfl)
theorem dX0_duty_77 : decode cX0_duty 77 = .ok (.iload 5, 2) := dk_21 5 (dk_at dksX0_duty_3 5 rfl rfl)
theorem dX0_duty_79 : decode cX0_duty 79 = .ok (.goto 35, 3) := dk_167 0 35 (dk_at dksX0_duty_3 7 rfl rfl)
theorem dX0_duty_82 : decode cX0_duty 82 = .ok (.iload 4, 2) := dk_21 4 (dk_at dksX0_duty_3 10 rfl rfl)
theorem dX0_duty_84 : decode cX0_duty 84 = .ok (.iconst 1, 1) := dk_4 (dk_at dksX0_duty_3 12 rfl rfl)
theorem dX0_duty_85 : decode cX0_duty 85 = .ok (.if_icmp .ne 10, 3) := dk_160 0 10 (dk_at dksX0_duty_3 13 rfl rfl)
theorem dX0_duty_88 : decode cX0_duty 88 = .ok (.iload 6, 2) := dk_21 6 (dk_at dksX0_duty_3 16 rfl rfl)
theorem dX0_duty_90 : decode cX0_duty 90 = .ok (.iconst 3, 1) := dk_6 (dk_at dksX0_duty_3 18 rfl rfl)
theorem dX0_duty_91 : decode cX0_duty 91 = .ok (.iand, 1) := dk_126 (dk_at dksX0_duty_3 19 rfl rfl)
theorem dX0_duty_92 : decode cX0_duty 92 = .ok (.goto 22, 3) := dk_167 0 22 (dk_at dksX0_duty_3 20 rfl rfl)
theorem dX0_duty_95 : decode cX0_duty 95 = .ok (.iload 6, 2) := dk_21 6 (dk_at dksX0_duty_4 0 rfl rfl)
theorem dX0_duty_97 : decode cX0_duty 97 = .ok (.ifCond .ne 8, 3) := dk_154 0 8 (dk_at dksX0_duty_4 2 rfl rfl)
theorem dX0_duty_100 : decode cX0_duty 100 = .ok (.bipush (-4), 2) := dk_16 252 (dk_at dksX0_duty_4 5 rfl rfl)
theorem dX0_duty_102 : decode cX0_duty 102 = .ok (.goto 12, 3) := dk_167 0 12 (dk_at dksX0_duty_4 7 rfl rfl)
theorem dX0_duty_105 : decode cX0_duty 105 = .ok (.iload 5, 2) := dk_21 5 (dk_at dksX0_duty_4 10 rfl rfl)
theorem dX0_duty_107 : decode cX0_duty 107 = .ok (.iload 6, 2) := dk_21 6 (dk_at dksX0_duty_4 12 rfl rfl)
theorem dX0_duty_109 : decode cX0_duty 109 = .ok (.iconst 2, 1) := dk_5 (dk_at dksX0_duty_4 14 rfl rfl)
theorem dX0_duty_110 : decode cX0_duty 110 = .ok (.ishr, 1) := dk_122 (dk_at dksX0_duty_4 15 rfl rfl)
theorem dX0_duty_111 : decode cX0_duty 111 = .ok (.invokestatic 231, 3) := dk_184 0 231 (dk_at dksX0_duty_4 16 rfl rfl)
theorem dX0_duty_114 : decode cX0_duty 114 = .ok (.ireturn, 1) := dk_172 (dk_at dksX0_duty_4 19 rfl rfl)
abbrev cX0_dutyAt : ByteArray := prog_1_method_41_code
def yX0_dutyAt : MethodName := ⟨RX0, "dutyAt", "(III)I"⟩
def dkwX0_dutyAt_2 : List UInt8 := [167, 255, 217, 16, 252, 172]
abbrev dktX0_dutyAt_2 : List UInt8 := dkwX0_dutyAt_2 ++ []
def dkwX0_dutyAt_1 : List UInt8 := [21, 5, 182, 0, 143, 153, 0, 14, 21, 4, 154, 0, 6, 21, 5, 172, 132, 4, 255, 132, 5, 1]
abbrev dktX0_dutyAt_1 : List UInt8 := dkwX0_dutyAt_1 ++ dktX0_dutyAt_2
def dkwX0_dutyAt_0 : List UInt8 := [29, 54, 4, 28, 54, 5, 21, 5, 42, 180, 0, 73, 162, 0, 36, 42, 42, 180, 0, 49, 27, 50, 28]
abbrev dktX0_dutyAt_0 : List UInt8 := dkwX0_dutyAt_0 ++ dktX0_dutyAt_1
theorem dksX0_dutyAt_0 : cX0_dutyAt.data.toList.drop 0 = dktX0_dutyAt_0 := by decide +kernel
theorem dksX0_dutyAt_1 : cX0_dutyAt.data.toList.drop 23 = dktX0_dutyAt_1 := dk_seg dksX0_dutyAt_0 23 rfl rfl
theorem dksX0_dutyAt_2 : cX0_dutyAt.data.toList.drop 45 = dktX0_dutyAt_2 := dk_seg dksX0_dutyAt_1 22 rfl rfl
theorem dX0_dutyAt_0 : decode cX0_dutyAt 0 = .ok (.iload_n 3, 1) := dk_29 (dk_at dksX0_dutyAt_0 0 rfl rfl)
theorem dX0_dutyAt_1 : decode cX0_dutyAt 1 = .ok (.istore 4, 2) := dk_54 4 (dk_at dksX0_dutyAt_0 1 rfl rfl)
theorem dX0_dutyAt_3 : decode cX0_dutyAt 3 = .ok (.iload_n 2, 1) := dk_28 (dk_at dksX0_dutyAt_0 3 rfl rfl)
theorem dX0_dutyAt_4 : decode cX0_dutyAt 4 = .ok (.istore 5, 2) := dk_54 5 (dk_at dksX0_dutyAt_0 4 rfl rfl)
theorem dX0_dutyAt_6 : decode cX0_dutyAt 6 = .ok (.iload 5, 2) := dk_21 5 (dk_at dksX0_dutyAt_0 6 rfl rfl)
theorem dX0_dutyAt_8 : decode cX0_dutyAt 8 = .ok (.aload_n 0, 1) := dk_42 (dk_at dksX0_dutyAt_0 8 rfl rfl)
theorem dX0_dutyAt_9 : decode cX0_dutyAt 9 = .ok (.getfield 73, 3) := dk_180 0 73 (dk_at dksX0_dutyAt_0 9 rfl rfl)
theorem dX0_dutyAt_12 : decode cX0_dutyAt 12 = .ok (.if_icmp .ge 36, 3) := dk_162 0 36 (dk_at dksX0_dutyAt_0 12 rfl rfl)
theorem dX0_dutyAt_15 : decode cX0_dutyAt 15 = .ok (.aload_n 0, 1) := dk_42 (dk_at dksX0_dutyAt_0 15 rfl rfl)
theorem dX0_dutyAt_16 : decode cX0_dutyAt 16 = .ok (.aload_n 0, 1) := dk_42 (dk_at dksX0_dutyAt_0 16 rfl rfl)
theorem dX0_dutyAt_17 : decode cX0_dutyAt 17 = .ok (.getfield 49, 3) := dk_180 0 49 (dk_at dksX0_dutyAt_0 17 rfl rfl)
theorem dX0_dutyAt_20 : decode cX0_dutyAt 20 = .ok (.iload_n 1, 1) := dk_27 (dk_at dksX0_dutyAt_0 20 rfl rfl)
theorem dX0_dutyAt_21 : decode cX0_dutyAt 21 = .ok (.aaload, 1) := dk_50 (dk_at dksX0_dutyAt_0 21 rfl rfl)
theorem dX0_dutyAt_22 : decode cX0_dutyAt 22 = .ok (.iload_n 2, 1) := dk_28 (dk_at dksX0_dutyAt_0 22 rfl rfl)
theorem dX0_dutyAt_23 : decode cX0_dutyAt 23 = .ok (.iload 5, 2) := dk_21 5 (dk_at dksX0_dutyAt_1 0 rfl rfl)
theorem dX0_dutyAt_25 : decode cX0_dutyAt 25 = .ok (.invokevirtual 143, 3) := dk_182 0 143 (dk_at dksX0_dutyAt_1 2 rfl rfl)
theorem dX0_dutyAt_28 : decode cX0_dutyAt 28 = .ok (.ifCond .eq 14, 3) := dk_153 0 14 (dk_at dksX0_dutyAt_1 5 rfl rfl)
theorem dX0_dutyAt_31 : decode cX0_dutyAt 31 = .ok (.iload 4, 2) := dk_21 4 (dk_at dksX0_dutyAt_1 8 rfl rfl)
theorem dX0_dutyAt_33 : decode cX0_dutyAt 33 = .ok (.ifCond .ne 6, 3) := dk_154 0 6 (dk_at dksX0_dutyAt_1 10 rfl rfl)
theorem dX0_dutyAt_36 : decode cX0_dutyAt 36 = .ok (.iload 5, 2) := dk_21 5 (dk_at dksX0_dutyAt_1 13 rfl rfl)
theorem dX0_dutyAt_38 : decode cX0_dutyAt 38 = .ok (.ireturn, 1) := dk_172 (dk_at dksX0_dutyAt_1 15 rfl rfl)
theorem dX0_dutyAt_39 : decode cX0_dutyAt 39 = .ok (.iinc 4 (-1), 3) := dk_132 4 255 (dk_at dksX0_dutyAt_1 16 rfl rfl)
theorem dX0_dutyAt_42 : decode cX0_dutyAt 42 = .ok (.iinc 5 1, 3) := dk_132 5 1 (dk_at dksX0_dutyAt_1 19 rfl rfl)
theorem dX0_dutyAt_45 : decode cX0_dutyAt 45 = .ok (.goto (-39), 3) := dk_167 255 217 (dk_at dksX0_dutyAt_2 0 rfl rfl)
theorem dX0_dutyAt_48 : decode cX0_dutyAt 48 = .ok (.bipush (-4), 2) := dk_16 252 (dk_at dksX0_dutyAt_2 3 rfl rfl)
theorem dX0_dutyAt_50 : decode cX0_dutyAt 50 = .ok (.ireturn, 1) := dk_172 (dk_at dksX0_dutyAt_2 5 rfl rfl)
abbrev cX0_tries : ByteArray := prog_1_method_43_code
def yX0_tries : MethodName := ⟨RX0, "tries", "(II)I"⟩
def dkwX0_tries_1 : List UInt8 := [182, 0, 177, 42, 27, 28, 182, 0, 181, 172]
abbrev dktX0_tries_1 : List UInt8 := dkwX0_tries_1 ++ []
def dkwX0_tries_0 : List UInt8 := [42, 27, 182, 0, 187, 153, 0, 15, 28, 133, 9, 20, 1, 0, 184, 0, 17, 154, 0, 5, 2, 172, 42]
abbrev dktX0_tries_0 : List UInt8 := dkwX0_tries_0 ++ dktX0_tries_1
theorem dksX0_tries_0 : cX0_tries.data.toList.drop 0 = dktX0_tries_0 := by decide +kernel
theorem dksX0_tries_1 : cX0_tries.data.toList.drop 23 = dktX0_tries_1 := dk_seg dksX0_tries_0 23 rfl rfl
theorem dX0_tries_0 : decode cX0_tries 0 = .ok (.aload_n 0, 1) := dk_42 (dk_at dksX0_tries_0 0 rfl rfl)
theorem dX0_tries_1 : decode cX0_tries 1 = .ok (.iload_n 1, 1) := dk_27 (dk_at dksX0_tries_0 1 rfl rfl)
theorem dX0_tries_2 : decode cX0_tries 2 = .ok (.invokevirtual 187, 3) := dk_182 0 187 (dk_at dksX0_tries_0 2 rfl rfl)
theorem dX0_tries_5 : decode cX0_tries 5 = .ok (.ifCond .eq 15, 3) := dk_153 0 15 (dk_at dksX0_tries_0 5 rfl rfl)
theorem dX0_tries_8 : decode cX0_tries 8 = .ok (.iload_n 2, 1) := dk_28 (dk_at dksX0_tries_0 8 rfl rfl)
theorem dX0_tries_9 : decode cX0_tries 9 = .ok (.i2l, 1) := dk_133 (dk_at dksX0_tries_0 9 rfl rfl)
theorem dX0_tries_10 : decode cX0_tries 10 = .ok (.lconst 0, 1) := dk_9 (dk_at dksX0_tries_0 10 rfl rfl)
theorem dX0_tries_11 : decode cX0_tries 11 = .ok (.ldc2_w 256, 3) := dk_20 1 0 (dk_at dksX0_tries_0 11 rfl rfl)
theorem dX0_tries_14 : decode cX0_tries 14 = .ok (.invokestatic 17, 3) := dk_184 0 17 (dk_at dksX0_tries_0 14 rfl rfl)
theorem dX0_tries_17 : decode cX0_tries 17 = .ok (.ifCond .ne 5, 3) := dk_154 0 5 (dk_at dksX0_tries_0 17 rfl rfl)
theorem dX0_tries_20 : decode cX0_tries 20 = .ok (.iconst (-1), 1) := dk_2 (dk_at dksX0_tries_0 20 rfl rfl)
theorem dX0_tries_21 : decode cX0_tries 21 = .ok (.ireturn, 1) := dk_172 (dk_at dksX0_tries_0 21 rfl rfl)
theorem dX0_tries_22 : decode cX0_tries 22 = .ok (.aload_n 0, 1) := dk_42 (dk_at dksX0_tries_0 22 rfl rfl)
theorem dX0_tries_23 : decode cX0_tries 23 = .ok (.invokevirtual 177, 3) := dk_182 0 177 (dk_at dksX0_tries_1 0 rfl rfl)
theorem dX0_tries_26 : decode cX0_tries 26 = .ok (.aload_n 0, 1) := dk_42 (dk_at dksX0_tries_1 3 rfl rfl)
theorem dX0_tries_27 : decode cX0_tries 27 = .ok (.iload_n 1, 1) := dk_27 (dk_at dksX0_tries_1 4 rfl rfl)
theorem dX0_tries_28 : decode cX0_tries 28 = .ok (.iload_n 2, 1) := dk_28 (dk_at dksX0_tries_1 5 rfl rfl)
theorem dX0_tries_29 : decode cX0_tries 29 = .ok (.invokevirtual 181, 3) := dk_182 0 181 (dk_at dksX0_tries_1 6 rfl rfl)
theorem dX0_tries_32 : decode cX0_tries 32 = .ok (.ireturn, 1) := dk_172 (dk_at dksX0_tries_1 9 rfl rfl)
abbrev cX0_first : ByteArray := prog_1_method_44_code
def yX0_first : MethodName := ⟨RX0, "first", "(II)I"⟩
def dkwX0_first_2 : List UInt8 := [160, 0, 5, 29, 172, 132, 3, 1, 167, 255, 231, 16, 252, 172]
abbrev dktX0_first_2 : List UInt8 := dkwX0_first_2 ++ []
def dkwX0_first_1 : List UInt8 := [182, 0, 177, 3, 62, 29, 42, 180, 0, 73, 162, 0, 23, 42, 180, 0, 157, 27, 50, 29, 46, 28]
abbrev dktX0_first_1 : List UInt8 := dkwX0_first_1 ++ dktX0_first_2
def dkwX0_first_0 : List UInt8 := [42, 27, 182, 0, 187, 153, 0, 15, 28, 133, 9, 20, 1, 0, 184, 0, 17, 154, 0, 5, 2, 172, 42]
abbrev dktX0_first_0 : List UInt8 := dkwX0_first_0 ++ dktX0_first_1
theorem dksX0_first_0 : cX0_first.data.toList.drop 0 = dktX0_first_0 := by decide +kernel
theorem dksX0_first_1 : cX0_first.data.toList.drop 23 = dktX0_first_1 := dk_seg dksX0_first_0 23 rfl rfl
theorem dksX0_first_2 : cX0_first.data.toList.drop 45 = dktX0_first_2 := dk_seg dksX0_first_1 22 rfl rfl
theorem dX0_first_0 : decode cX0_first 0 = .ok (.aload_n 0, 1) := dk_42 (dk_at dksX0_first_0 0 rfl rfl)
theorem dX0_first_1 : decode cX0_first 1 = .ok (.iload_n 1, 1) := dk_27 (dk_at dksX0_first_0 1 rfl rfl)
theorem dX0_first_2 : decode cX0_first 2 = .ok (.invokevirtual 187, 3) := dk_182 0 187 (dk_at dksX0_first_0 2 rfl rfl)
theorem dX0_first_5 : decode cX0_first 5 = .ok (.ifCond .eq 15, 3) := dk_153 0 15 (dk_at dksX0_first_0 5 rfl rfl)
theorem dX0_first_8 : decode cX0_first 8 = .ok (.iload_n 2, 1) := dk_28 (dk_at dksX0_first_0 8 rfl rfl)
theorem dX0_first_9 : decode cX0_first 9 = .ok (.i2l, 1) := dk_133 (dk_at dksX0_first_0 9 rfl rfl)
theorem dX0_first_10 : decode cX0_first 10 = .ok (.lconst 0, 1) := dk_9 (dk_at dksX0_first_0 10 rfl rfl)
theorem dX0_first_11 : decode cX0_first 11 = .ok (.ldc2_w 256, 3) := dk_20 1 0 (dk_at dksX0_first_0 11 rfl rfl)
theorem dX0_first_14 : decode cX0_first 14 = .ok (.invokestatic 17, 3) := dk_184 0 17 (dk_at dksX0_first_0 14 rfl rfl)
theorem dX0_first_17 : decode cX0_first 17 = .ok (.ifCond .ne 5, 3) := dk_154 0 5 (dk_at dksX0_first_0 17 rfl rfl)
theorem dX0_first_20 : decode cX0_first 20 = .ok (.iconst (-1), 1) := dk_2 (dk_at dksX0_first_0 20 rfl rfl)
theorem dX0_first_21 : decode cX0_first 21 = .ok (.ireturn, 1) := dk_172 (dk_at dksX0_first_0 21 rfl rfl)
theorem dX0_first_22 : decode cX0_first 22 = .ok (.aload_n 0, 1) := dk_42 (dk_at dksX0_first_0 22 rfl rfl)
theorem dX0_first_23 : decode cX0_first 23 = .ok (.invokevirtual 177, 3) := dk_182 0 177 (dk_at dksX0_first_1 0 rfl rfl)
theorem dX0_first_26 : decode cX0_first 26 = .ok (.iconst 0, 1) := dk_3 (dk_at dksX0_first_1 3 rfl rfl)
theorem dX0_first_27 : decode cX0_first 27 = .ok (.istore_n 3, 1) := dk_62 (dk_at dksX0_first_1 4 rfl rfl)
theorem dX0_first_28 : decode cX0_first 28 = .ok (.iload_n 3, 1) := dk_29 (dk_at dksX0_first_1 5 rfl rfl)
theorem dX0_first_29 : decode cX0_first 29 = .ok (.aload_n 0, 1) := dk_42 (dk_at dksX0_first_1 6 rfl rfl)
theorem dX0_first_30 : decode cX0_first 30 = .ok (.getfield 73, 3) := dk_180 0 73 (dk_at dksX0_first_1 7 rfl rfl)
theorem dX0_first_33 : decode cX0_first 33 = .ok (.if_icmp .ge 23, 3) := dk_162 0 23 (dk_at dksX0_first_1 10 rfl rfl)
theorem dX0_first_36 : decode cX0_first 36 = .ok (.aload_n 0, 1) := dk_42 (dk_at dksX0_first_1 13 rfl rfl)
theorem dX0_first_37 : decode cX0_first 37 = .ok (.getfield 157, 3) := dk_180 0 157 (dk_at dksX0_first_1 14 rfl rfl)
theorem dX0_first_40 : decode cX0_first 40 = .ok (.iload_n 1, 1) := dk_27 (dk_at dksX0_first_1 17 rfl rfl)
theorem dX0_first_41 : decode cX0_first 41 = .ok (.aaload, 1) := dk_50 (dk_at dksX0_first_1 18 rfl rfl)
theorem dX0_first_42 : decode cX0_first 42 = .ok (.iload_n 3, 1) := dk_29 (dk_at dksX0_first_1 19 rfl rfl)
theorem dX0_first_43 : decode cX0_first 43 = .ok (.iaload, 1) := dk_46 (dk_at dksX0_first_1 20 rfl rfl)
theorem dX0_first_44 : decode cX0_first 44 = .ok (.iload_n 2, 1) := dk_28 (dk_at dksX0_first_1 21 rfl rfl)
theorem dX0_first_45 : decode cX0_first 45 = .ok (.if_icmp .ne 5, 3) := dk_160 0 5 (dk_at dksX0_first_2 0 rfl rfl)
theorem dX0_first_48 : decode cX0_first 48 = .ok (.iload_n 3, 1) := dk_29 (dk_at dksX0_first_2 3 rfl rfl)
theorem dX0_first_49 : decode cX0_first 49 = .ok (.ireturn, 1) := dk_172 (dk_at dksX0_first_2 4 rfl rfl)
theorem dX0_first_50 : decode cX0_first 50 = .ok (.iinc 3 1, 3) := dk_132 3 1 (dk_at dksX0_first_2 5 rfl rfl)
theorem dX0_first_53 : decode cX0_first 53 = .ok (.goto (-25), 3) := dk_167 255 231 (dk_at dksX0_first_2 8 rfl rfl)
theorem dX0_first_56 : decode cX0_first 56 = .ok (.bipush (-4), 2) := dk_16 252 (dk_at dksX0_first_2 11 rfl rfl)
theorem dX0_first_58 : decode cX0_first 58 = .ok (.ireturn, 1) := dk_172 (dk_at dksX0_first_2 13 rfl rfl)
abbrev cX0_keep : ByteArray := prog_1_method_46_code
def yX0_keep : MethodName := ⟨RX0, "keep", "(I)I"⟩
def dkwX0_keep_2 : List UInt8 := [42, 180, 0, 73, 184, 0, 29, 28, 172]
abbrev dktX0_keep_2 : List UInt8 := dkwX0_keep_2 ++ []
def dkwX0_keep_1 : List UInt8 := [42, 180, 0, 54, 27, 42, 180, 0, 73, 188, 10, 83, 42, 180, 0, 88, 3, 42, 180, 0, 54, 27, 50, 3]
abbrev dktX0_keep_1 : List UInt8 := dkwX0_keep_1 ++ dktX0_keep_2
def dkwX0_keep_0 : List UInt8 := [27, 184, 1, 2, 154, 0, 5, 2, 172, 42, 180, 0, 54, 27, 50, 199, 0, 7, 3, 167, 0, 4, 4, 61]
abbrev dktX0_keep_0 : List UInt8 := dkwX0_keep_0 ++ dktX0_keep_1
theorem dksX0_keep_0 : cX0_keep.data.toList.drop 0 = dktX0_keep_0 := by decide +kernel
theorem dksX0_keep_1 : cX0_keep.data.toList.drop 24 = dktX0_keep_1 := dk_seg dksX0_keep_0 24 rfl rfl
theorem dksX0_keep_2 : cX0_keep.data.toList.drop 48 = dktX0_keep_2 := dk_seg dksX0_keep_1 24 rfl rfl
theorem dX0_keep_0 : decode cX0_keep 0 = .ok (.iload_n 1, 1) := dk_27 (dk_at dksX0_keep_0 0 rfl rfl)
theorem dX0_keep_1 : decode cX0_keep 1 = .ok (.invokestatic 258, 3) := dk_184 1 2 (dk_at dksX0_keep_0 1 rfl rfl)
theorem dX0_keep_4 : decode cX0_keep 4 = .ok (.ifCond .ne 5, 3) := dk_154 0 5 (dk_at dksX0_keep_0 4 rfl rfl)
theorem dX0_keep_7 : decode cX0_keep 7 = .ok (.iconst (-1), 1) := dk_2 (dk_at dksX0_keep_0 7 rfl rfl)
theorem dX0_keep_8 : decode cX0_keep 8 = .ok (.ireturn, 1) := dk_172 (dk_at dksX0_keep_0 8 rfl rfl)
theorem dX0_keep_9 : decode cX0_keep 9 = .ok (.aload_n 0, 1) := dk_42 (dk_at dksX0_keep_0 9 rfl rfl)
theorem dX0_keep_10 : decode cX0_keep 10 = .ok (.getfield 54, 3) := dk_180 0 54 (dk_at dksX0_keep_0 10 rfl rfl)
theorem dX0_keep_13 : decode cX0_keep 13 = .ok (.iload_n 1, 1) := dk_27 (dk_at dksX0_keep_0 13 rfl rfl)
theorem dX0_keep_14 : decode cX0_keep 14 = .ok (.aaload, 1) := dk_50 (dk_at dksX0_keep_0 14 rfl rfl)
theorem dX0_keep_15 : decode cX0_keep 15 = .ok (.ifnonnull 7, 3) := dk_199 0 7 (dk_at dksX0_keep_0 15 rfl rfl)
theorem dX0_keep_18 : decode cX0_keep 18 = .ok (.iconst 0, 1) := dk_3 (dk_at dksX0_keep_0 18 rfl rfl)
theorem dX0_keep_19 : decode cX0_keep 19 = .ok (.goto 4, 3) := dk_167 0 4 (dk_at dksX0_keep_0 19 rfl rfl)
theorem dX0_keep_22 : decode cX0_keep 22 = .ok (.iconst 1, 1) := dk_4 (dk_at dksX0_keep_0 22 rfl rfl)
theorem dX0_keep_23 : decode cX0_keep 23 = .ok (.istore_n 2, 1) := dk_61 (dk_at dksX0_keep_0 23 rfl rfl)
theorem dX0_keep_24 : decode cX0_keep 24 = .ok (.aload_n 0, 1) := dk_42 (dk_at dksX0_keep_1 0 rfl rfl)
theorem dX0_keep_25 : decode cX0_keep 25 = .ok (.getfield 54, 3) := dk_180 0 54 (dk_at dksX0_keep_1 1 rfl rfl)
theorem dX0_keep_28 : decode cX0_keep 28 = .ok (.iload_n 1, 1) := dk_27 (dk_at dksX0_keep_1 4 rfl rfl)
theorem dX0_keep_29 : decode cX0_keep 29 = .ok (.aload_n 0, 1) := dk_42 (dk_at dksX0_keep_1 5 rfl rfl)
theorem dX0_keep_30 : decode cX0_keep 30 = .ok (.getfield 73, 3) := dk_180 0 73 (dk_at dksX0_keep_1 6 rfl rfl)
theorem dX0_keep_33 : decode cX0_keep 33 = .ok (.newarray .int, 2) := dk_188_10 (dk_at dksX0_keep_1 9 rfl rfl)
theorem dX0_keep_35 : decode cX0_keep 35 = .ok (.aastore, 1) := dk_83 (dk_at dksX0_keep_1 11 rfl rfl)
theorem dX0_keep_36 : decode cX0_keep 36 = .ok (.aload_n 0, 1) := dk_42 (dk_at dksX0_keep_1 12 rfl rfl)
theorem dX0_keep_37 : decode cX0_keep 37 = .ok (.getfield 88, 3) := dk_180 0 88 (dk_at dksX0_keep_1 13 rfl rfl)
theorem dX0_keep_40 : decode cX0_keep 40 = .ok (.iconst 0, 1) := dk_3 (dk_at dksX0_keep_1 16 rfl rfl)
theorem dX0_keep_41 : decode cX0_keep 41 = .ok (.aload_n 0, 1) := dk_42 (dk_at dksX0_keep_1 17 rfl rfl)
theorem dX0_keep_42 : decode cX0_keep 42 = .ok (.getfield 54, 3) := dk_180 0 54 (dk_at dksX0_keep_1 18 rfl rfl)
theorem dX0_keep_45 : decode cX0_keep 45 = .ok (.iload_n 1, 1) := dk_27 (dk_at dksX0_keep_1 21 rfl rfl)
theorem dX0_keep_46 : decode cX0_keep 46 = .ok (.aaload, 1) := dk_50 (dk_at dksX0_keep_1 22 rfl rfl)
theorem dX0_keep_47 : decode cX0_keep 47 = .ok (.iconst 0, 1) := dk_3 (dk_at dksX0_keep_1 23 rfl rfl)
theorem dX0_keep_48 : decode cX0_keep 48 = .ok (.aload_n 0, 1) := dk_42 (dk_at dksX0_keep_2 0 rfl rfl)
theorem dX0_keep_49 : decode cX0_keep 49 = .ok (.getfield 73, 3) := dk_180 0 73 (dk_at dksX0_keep_2 1 rfl rfl)
theorem dX0_keep_52 : decode cX0_keep 52 = .ok (.invokestatic 29, 3) := dk_184 0 29 (dk_at dksX0_keep_2 4 rfl rfl)
theorem dX0_keep_55 : decode cX0_keep 55 = .ok (.iload_n 2, 1) := dk_28 (dk_at dksX0_keep_2 7 rfl rfl)
theorem dX0_keep_56 : decode cX0_keep 56 = .ok (.ireturn, 1) := dk_172 (dk_at dksX0_keep_2 8 rfl rfl)
abbrev cX0_isImage : ByteArray := prog_1_method_45_code
def yX0_isImage : MethodName := ⟨RX0, "isImage", "(I)Z"⟩
def dkwX0_isImage_0 : List UInt8 := [26, 133, 9, 10, 184, 0, 17, 172]
abbrev dktX0_isImage_0 : List UInt8 := dkwX0_isImage_0 ++ []
theorem dksX0_isImage_0 : cX0_isImage.data.toList.drop 0 = dktX0_isImage_0 := by decide +kernel
theorem dX0_isImage_0 : decode cX0_isImage 0 = .ok (.iload_n 0, 1) := dk_26 (dk_at dksX0_isImage_0 0 rfl rfl)
theorem dX0_isImage_1 : decode cX0_isImage 1 = .ok (.i2l, 1) := dk_133 (dk_at dksX0_isImage_0 1 rfl rfl)
theorem dX0_isImage_2 : decode cX0_isImage 2 = .ok (.lconst 0, 1) := dk_9 (dk_at dksX0_isImage_0 2 rfl rfl)
theorem dX0_isImage_3 : decode cX0_isImage 3 = .ok (.lconst 1, 1) := dk_10 (dk_at dksX0_isImage_0 3 rfl rfl)
theorem dX0_isImage_4 : decode cX0_isImage 4 = .ok (.invokestatic 17, 3) := dk_184 0 17 (dk_at dksX0_isImage_0 4 rfl rfl)
theorem dX0_isImage_7 : decode cX0_isImage 7 = .ok (.ireturn, 1) := dk_172 (dk_at dksX0_isImage_0 7 rfl rfl)
abbrev cX0_back : ByteArray := prog_1_method_47_code
def yX0_back : MethodName := ⟨RX0, "back", "(I)I"⟩
def dkwX0_back_2 : List UInt8 := [180, 0, 73, 184, 0, 29, 42, 3, 181, 0, 58, 42, 180, 0, 73, 172]
abbrev dktX0_back_2 : List UInt8 := dkwX0_back_2 ++ []
def dkwX0_back_1 : List UInt8 := [180, 0, 54, 27, 50, 190, 181, 0, 73, 42, 180, 0, 54, 27, 50, 3, 42, 180, 0, 88, 3, 42]
abbrev dktX0_back_1 : List UInt8 := dkwX0_back_1 ++ dktX0_back_2
def dkwX0_back_0 : List UInt8 := [27, 184, 1, 2, 154, 0, 5, 2, 172, 42, 180, 0, 54, 27, 50, 199, 0, 6, 16, 254, 172, 42, 42]
abbrev dktX0_back_0 : List UInt8 := dkwX0_back_0 ++ dktX0_back_1
theorem dksX0_back_0 : cX0_back.data.toList.drop 0 = dktX0_back_0 := by decide +kernel
theorem dksX0_back_1 : cX0_back.data.toList.drop 23 = dktX0_back_1 := dk_seg dksX0_back_0 23 rfl rfl
theorem dksX0_back_2 : cX0_back.data.toList.drop 45 = dktX0_back_2 := dk_seg dksX0_back_1 22 rfl rfl
theorem dX0_back_0 : decode cX0_back 0 = .ok (.iload_n 1, 1) := dk_27 (dk_at dksX0_back_0 0 rfl rfl)
theorem dX0_back_1 : decode cX0_back 1 = .ok (.invokestatic 258, 3) := dk_184 1 2 (dk_at dksX0_back_0 1 rfl rfl)
theorem dX0_back_4 : decode cX0_back 4 = .ok (.ifCond .ne 5, 3) := dk_154 0 5 (dk_at dksX0_back_0 4 rfl rfl)
theorem dX0_back_7 : decode cX0_back 7 = .ok (.iconst (-1), 1) := dk_2 (dk_at dksX0_back_0 7 rfl rfl)
theorem dX0_back_8 : decode cX0_back 8 = .ok (.ireturn, 1) := dk_172 (dk_at dksX0_back_0 8 rfl rfl)
theorem dX0_back_9 : decode cX0_back 9 = .ok (.aload_n 0, 1) := dk_42 (dk_at dksX0_back_0 9 rfl rfl)
theorem dX0_back_10 : decode cX0_back 10 = .ok (.getfield 54, 3) := dk_180 0 54 (dk_at dksX0_back_0 10 rfl rfl)
theorem dX0_back_13 : decode cX0_back 13 = .ok (.iload_n 1, 1) := dk_27 (dk_at dksX0_back_0 13 rfl rfl)
theorem dX0_back_14 : decode cX0_back 14 = .ok (.aaload, 1) := dk_50 (dk_at dksX0_back_0 14 rfl rfl)
theorem dX0_back_15 : decode cX0_back 15 = .ok (.ifnonnull 6, 3) := dk_199 0 6 (dk_at dksX0_back_0 15 rfl rfl)
theorem dX0_back_18 : decode cX0_back 18 = .ok (.bipush (-2), 2) := dk_16 254 (dk_at dksX0_back_0 18 rfl rfl)
theorem dX0_back_20 : decode cX0_back 20 = .ok (.ireturn, 1) := dk_172 (dk_at dksX0_back_0 20 rfl rfl)
theorem dX0_back_21 : decode cX0_back 21 = .ok (.aload_n 0, 1) := dk_42 (dk_at dksX0_back_0 21 rfl rfl)
theorem dX0_back_22 : decode cX0_back 22 = .ok (.aload_n 0, 1) := dk_42 (dk_at dksX0_back_0 22 rfl rfl)
theorem dX0_back_23 : decode cX0_back 23 = .ok (.getfield 54, 3) := dk_180 0 54 (dk_at dksX0_back_1 0 rfl rfl)
theorem dX0_back_26 : decode cX0_back 26 = .ok (.iload_n 1, 1) := dk_27 (dk_at dksX0_back_1 3 rfl rfl)
theorem dX0_back_27 : decode cX0_back 27 = .ok (.aaload, 1) := dk_50 (dk_at dksX0_back_1 4 rfl rfl)
theorem dX0_back_28 : decode cX0_back 28 = .ok (.arraylength, 1) := dk_190 (dk_at dksX0_back_1 5 rfl rfl)
theorem dX0_back_29 : decode cX0_back 29 = .ok (.putfield 73, 3) := dk_181 0 73 (dk_at dksX0_back_1 6 rfl rfl)
theorem dX0_back_32 : decode cX0_back 32 = .ok (.aload_n 0, 1) := dk_42 (dk_at dksX0_back_1 9 rfl rfl)
theorem dX0_back_33 : decode cX0_back 33 = .ok (.getfield 54, 3) := dk_180 0 54 (dk_at dksX0_back_1 10 rfl rfl)
theorem dX0_back_36 : decode cX0_back 36 = .ok (.iload_n 1, 1) := dk_27 (dk_at dksX0_back_1 13 rfl rfl)
theorem dX0_back_37 : decode cX0_back 37 = .ok (.aaload, 1) := dk_50 (dk_at dksX0_back_1 14 rfl rfl)
theorem dX0_back_38 : decode cX0_back 38 = .ok (.iconst 0, 1) := dk_3 (dk_at dksX0_back_1 15 rfl rfl)
theorem dX0_back_39 : decode cX0_back 39 = .ok (.aload_n 0, 1) := dk_42 (dk_at dksX0_back_1 16 rfl rfl)
theorem dX0_back_40 : decode cX0_back 40 = .ok (.getfield 88, 3) := dk_180 0 88 (dk_at dksX0_back_1 17 rfl rfl)
theorem dX0_back_43 : decode cX0_back 43 = .ok (.iconst 0, 1) := dk_3 (dk_at dksX0_back_1 20 rfl rfl)
theorem dX0_back_44 : decode cX0_back 44 = .ok (.aload_n 0, 1) := dk_42 (dk_at dksX0_back_1 21 rfl rfl)
theorem dX0_back_45 : decode cX0_back 45 = .ok (.getfield 73, 3) := dk_180 0 73 (dk_at dksX0_back_2 0 rfl rfl)
theorem dX0_back_48 : decode cX0_back 48 = .ok (.invokestatic 29, 3) := dk_184 0 29 (dk_at dksX0_back_2 3 rfl rfl)
theorem dX0_back_51 : decode cX0_back 51 = .ok (.aload_n 0, 1) := dk_42 (dk_at dksX0_back_2 6 rfl rfl)
theorem dX0_back_52 : decode cX0_back 52 = .ok (.iconst 0, 1) := dk_3 (dk_at dksX0_back_2 7 rfl rfl)
theorem dX0_back_53 : decode cX0_back 53 = .ok (.putfield 58, 3) := dk_181 0 58 (dk_at dksX0_back_2 8 rfl rfl)
theorem dX0_back_56 : decode cX0_back 56 = .ok (.aload_n 0, 1) := dk_42 (dk_at dksX0_back_2 11 rfl rfl)
theorem dX0_back_57 : decode cX0_back 57 = .ok (.getfield 73, 3) := dk_180 0 73 (dk_at dksX0_back_2 12 rfl rfl)
theorem dX0_back_60 : decode cX0_back 60 = .ok (.ireturn, 1) := dk_172 (dk_at dksX0_back_2 15 rfl rfl)
abbrev cX0_init : ByteArray := prog_1_method_48_code
def yX0_init : MethodName := ⟨RX0, "<init>", "()V"⟩
def dkwX0_init_6 : List UInt8 := [186, 1, 24, 0, 0, 83, 181, 1, 25, 177]
abbrev dktX0_init_6 : List UInt8 := dkwX0_init_6 ++ []
def dkwX0_init_5 : List UInt8 := [189, 1, 18, 89, 3, 186, 1, 20, 0, 0, 83, 89, 4, 186, 1, 23, 0, 0, 83, 89, 5]
abbrev dktX0_init_5 : List UInt8 := dkwX0_init_5 ++ dktX0_init_6
def dkwX0_init_4 : List UInt8 := [187, 1, 11, 89, 183, 1, 13, 83, 89, 6, 187, 1, 11, 89, 183, 1, 13, 83, 181, 1, 14, 42, 6]
abbrev dktX0_init_4 : List UInt8 := dkwX0_init_4 ++ dktX0_init_5
def dkwX0_init_3 : List UInt8 := [89, 3, 187, 1, 11, 89, 183, 1, 13, 83, 89, 4, 187, 1, 11, 89, 183, 1, 13, 83, 89, 5]
abbrev dktX0_init_3 : List UInt8 := dkwX0_init_3 ++ dktX0_init_4
def dkwX0_init_2 : List UInt8 := [181, 0, 164, 42, 16, 48, 188, 10, 181, 0, 150, 42, 5, 189, 1, 10, 181, 0, 54, 42, 7, 189, 1, 11]
abbrev dktX0_init_2 : List UInt8 := dkwX0_init_2 ++ dktX0_init_3
def dkwX0_init_1 : List UInt8 := [188, 10, 181, 0, 88, 42, 7, 16, 48, 197, 1, 9, 2, 181, 0, 157, 42, 7, 16, 48, 197, 1, 9, 2]
abbrev dktX0_init_1 : List UInt8 := dkwX0_init_1 ++ dktX0_init_2
def dkwX0_init_0 : List UInt8 := [42, 183, 1, 5, 42, 17, 0, 200, 188, 8, 181, 0, 25, 42, 7, 189, 0, 116, 181, 0, 49, 42, 16, 48]
abbrev dktX0_init_0 : List UInt8 := dkwX0_init_0 ++ dktX0_init_1
theorem dksX0_init_0 : cX0_init.data.toList.drop 0 = dktX0_init_0 := by decide +kernel
theorem dksX0_init_1 : cX0_init.data.toList.drop 24 = dktX0_init_1 := dk_seg dksX0_init_0 24 rfl rfl
theorem dksX0_init_2 : cX0_init.data.toList.drop 48 = dktX0_init_2 := dk_seg dksX0_init_1 24 rfl rfl
theorem dksX0_init_3 : cX0_init.data.toList.drop 72 = dktX0_init_3 := dk_seg dksX0_init_2 24 rfl rfl
theorem dksX0_init_4 : cX0_init.data.toList.drop 94 = dktX0_init_4 := dk_seg dksX0_init_3 22 rfl rfl
theorem dksX0_init_5 : cX0_init.data.toList.drop 117 = dktX0_init_5 := dk_seg dksX0_init_4 23 rfl rfl
theorem dksX0_init_6 : cX0_init.data.toList.drop 138 = dktX0_init_6 := dk_seg dksX0_init_5 21 rfl rfl
theorem dX0_init_0 : decode cX0_init 0 = .ok (.aload_n 0, 1) := dk_42 (dk_at dksX0_init_0 0 rfl rfl)
theorem dX0_init_1 : decode cX0_init 1 = .ok (.invokespecial 261, 3) := dk_183 1 5 (dk_at dksX0_init_0 1 rfl rfl)
theorem dX0_init_4 : decode cX0_init 4 = .ok (.aload_n 0, 1) := dk_42 (dk_at dksX0_init_0 4 rfl rfl)
theorem dX0_init_5 : decode cX0_init 5 = .ok (.sipush 200, 3) := dk_17 0 200 (dk_at dksX0_init_0 5 rfl rfl)
theorem dX0_init_8 : decode cX0_init 8 = .ok (.newarray .byte, 2) := dk_188_8 (dk_at dksX0_init_0 8 rfl rfl)
theorem dX0_init_10 : decode cX0_init 10 = .ok (.putfield 25, 3) := dk_181 0 25 (dk_at dksX0_init_0 10 rfl rfl)
theorem dX0_init_13 : decode cX0_init 13 = .ok (.aload_n 0, 1) := dk_42 (dk_at dksX0_init_0 13 rfl rfl)
theorem dX0_init_14 : decode cX0_init 14 = .ok (.iconst 4, 1) := dk_7 (dk_at dksX0_init_0 14 rfl rfl)
theorem dX0_init_15 : decode cX0_init 15 = .ok (.anewarray 116, 3) := dk_189 0 116 (dk_at dksX0_init_0 15 rfl rfl)
theorem dX0_init_18 : decode cX0_init 18 = .ok (.putfield 49, 3) := dk_181 0 49 (dk_at dksX0_init_0 18 rfl rfl)
theorem dX0_init_21 : decode cX0_init 21 = .ok (.aload_n 0, 1) := dk_42 (dk_at dksX0_init_0 21 rfl rfl)
theorem dX0_init_22 : decode cX0_init 22 = .ok (.bipush 48, 2) := dk_16 48 (dk_at dksX0_init_0 22 rfl rfl)
theorem dX0_init_24 : decode cX0_init 24 = .ok (.newarray .int, 2) := dk_188_10 (dk_at dksX0_init_1 0 rfl rfl)
theorem dX0_init_26 : decode cX0_init 26 = .ok (.putfield 88, 3) := dk_181 0 88 (dk_at dksX0_init_1 2 rfl rfl)
theorem dX0_init_29 : decode cX0_init 29 = .ok (.aload_n 0, 1) := dk_42 (dk_at dksX0_init_1 5 rfl rfl)
theorem dX0_init_30 : decode cX0_init 30 = .ok (.iconst 4, 1) := dk_7 (dk_at dksX0_init_1 6 rfl rfl)
theorem dX0_init_31 : decode cX0_init 31 = .ok (.bipush 48, 2) := dk_16 48 (dk_at dksX0_init_1 7 rfl rfl)
theorem dX0_init_33 : decode cX0_init 33 = .ok (.multianewarray 265 2, 4) := by decide +kernel
theorem dX0_init_37 : decode cX0_init 37 = .ok (.putfield 157, 3) := dk_181 0 157 (dk_at dksX0_init_1 13 rfl rfl)
theorem dX0_init_40 : decode cX0_init 40 = .ok (.aload_n 0, 1) := dk_42 (dk_at dksX0_init_1 16 rfl rfl)
theorem dX0_init_41 : decode cX0_init 41 = .ok (.iconst 4, 1) := dk_7 (dk_at dksX0_init_1 17 rfl rfl)
theorem dX0_init_42 : decode cX0_init 42 = .ok (.bipush 48, 2) := dk_16 48 (dk_at dksX0_init_1 18 rfl rfl)
theorem dX0_init_44 : decode cX0_init 44 = .ok (.multianewarray 265 2, 4) := by decide +kernel
theorem dX0_init_48 : decode cX0_init 48 = .ok (.putfield 164, 3) := dk_181 0 164 (dk_at dksX0_init_2 0 rfl rfl)
theorem dX0_init_51 : decode cX0_init 51 = .ok (.aload_n 0, 1) := dk_42 (dk_at dksX0_init_2 3 rfl rfl)
theorem dX0_init_52 : decode cX0_init 52 = .ok (.bipush 48, 2) := dk_16 48 (dk_at dksX0_init_2 4 rfl rfl)
theorem dX0_init_54 : decode cX0_init 54 = .ok (.newarray .int, 2) := dk_188_10 (dk_at dksX0_init_2 6 rfl rfl)
theorem dX0_init_56 : decode cX0_init 56 = .ok (.putfield 150, 3) := dk_181 0 150 (dk_at dksX0_init_2 8 rfl rfl)
theorem dX0_init_59 : decode cX0_init 59 = .ok (.aload_n 0, 1) := dk_42 (dk_at dksX0_init_2 11 rfl rfl)
theorem dX0_init_60 : decode cX0_init 60 = .ok (.iconst 2, 1) := dk_5 (dk_at dksX0_init_2 12 rfl rfl)
theorem dX0_init_61 : decode cX0_init 61 = .ok (.anewarray 266, 3) := dk_189 1 10 (dk_at dksX0_init_2 13 rfl rfl)
theorem dX0_init_64 : decode cX0_init 64 = .ok (.putfield 54, 3) := dk_181 0 54 (dk_at dksX0_init_2 16 rfl rfl)
theorem dX0_init_67 : decode cX0_init 67 = .ok (.aload_n 0, 1) := dk_42 (dk_at dksX0_init_2 19 rfl rfl)
theorem dX0_init_68 : decode cX0_init 68 = .ok (.iconst 4, 1) := dk_7 (dk_at dksX0_init_2 20 rfl rfl)
theorem dX0_init_69 : decode cX0_init 69 = .ok (.anewarray 267, 3) := dk_189 1 11 (dk_at dksX0_init_2 21 rfl rfl)
theorem dX0_init_72 : decode cX0_init 72 = .ok (.dup, 1) := dk_89 (dk_at dksX0_init_3 0 rfl rfl)
theorem dX0_init_73 : decode cX0_init 73 = .ok (.iconst 0, 1) := dk_3 (dk_at dksX0_init_3 1 rfl rfl)
theorem dX0_init_74 : decode cX0_init 74 = .ok (.new 267, 3) := dk_187 1 11 (dk_at dksX0_init_3 2 rfl rfl)
theorem dX0_init_77 : decode cX0_init 77 = .ok (.dup, 1) := dk_89 (dk_at dksX0_init_3 5 rfl rfl)
theorem dX0_init_78 : decode cX0_init 78 = .ok (.invokespecial 269, 3) := dk_183 1 13 (dk_at dksX0_init_3 6 rfl rfl)
theorem dX0_init_81 : decode cX0_init 81 = .ok (.aastore, 1) := dk_83 (dk_at dksX0_init_3 9 rfl rfl)
theorem dX0_init_82 : decode cX0_init 82 = .ok (.dup, 1) := dk_89 (dk_at dksX0_init_3 10 rfl rfl)
theorem dX0_init_83 : decode cX0_init 83 = .ok (.iconst 1, 1) := dk_4 (dk_at dksX0_init_3 11 rfl rfl)
theorem dX0_init_84 : decode cX0_init 84 = .ok (.new 267, 3) := dk_187 1 11 (dk_at dksX0_init_3 12 rfl rfl)
theorem dX0_init_87 : decode cX0_init 87 = .ok (.dup, 1) := dk_89 (dk_at dksX0_init_3 15 rfl rfl)
theorem dX0_init_88 : decode cX0_init 88 = .ok (.invokespecial 269, 3) := dk_183 1 13 (dk_at dksX0_init_3 16 rfl rfl)
theorem dX0_init_91 : decode cX0_init 91 = .ok (.aastore, 1) := dk_83 (dk_at dksX0_init_3 19 rfl rfl)
theorem dX0_init_92 : decode cX0_init 92 = .ok (.dup, 1) := dk_89 (dk_at dksX0_init_3 20 rfl rfl)
theorem dX0_init_93 : decode cX0_init 93 = .ok (.iconst 2, 1) := dk_5 (dk_at dksX0_init_3 21 rfl rfl)
theorem dX0_init_94 : decode cX0_init 94 = .ok (.new 267, 3) := dk_187 1 11 (dk_at dksX0_init_4 0 rfl rfl)
theorem dX0_init_97 : decode cX0_init 97 = .ok (.dup, 1) := dk_89 (dk_at dksX0_init_4 3 rfl rfl)
theorem dX0_init_98 : decode cX0_init 98 = .ok (.invokespecial 269, 3) := dk_183 1 13 (dk_at dksX0_init_4 4 rfl rfl)
theorem dX0_init_101 : decode cX0_init 101 = .ok (.aastore, 1) := dk_83 (dk_at dksX0_init_4 7 rfl rfl)
theorem dX0_init_102 : decode cX0_init 102 = .ok (.dup, 1) := dk_89 (dk_at dksX0_init_4 8 rfl rfl)
theorem dX0_init_103 : decode cX0_init 103 = .ok (.iconst 3, 1) := dk_6 (dk_at dksX0_init_4 9 rfl rfl)
theorem dX0_init_104 : decode cX0_init 104 = .ok (.new 267, 3) := dk_187 1 11 (dk_at dksX0_init_4 10 rfl rfl)
theorem dX0_init_107 : decode cX0_init 107 = .ok (.dup, 1) := dk_89 (dk_at dksX0_init_4 13 rfl rfl)
theorem dX0_init_108 : decode cX0_init 108 = .ok (.invokespecial 269, 3) := dk_183 1 13 (dk_at dksX0_init_4 14 rfl rfl)
theorem dX0_init_111 : decode cX0_init 111 = .ok (.aastore, 1) := dk_83 (dk_at dksX0_init_4 17 rfl rfl)
theorem dX0_init_112 : decode cX0_init 112 = .ok (.putfield 270, 3) := dk_181 1 14 (dk_at dksX0_init_4 18 rfl rfl)
theorem dX0_init_115 : decode cX0_init 115 = .ok (.aload_n 0, 1) := dk_42 (dk_at dksX0_init_4 21 rfl rfl)
theorem dX0_init_116 : decode cX0_init 116 = .ok (.iconst 3, 1) := dk_6 (dk_at dksX0_init_4 22 rfl rfl)
theorem dX0_init_117 : decode cX0_init 117 = .ok (.anewarray 274, 3) := dk_189 1 18 (dk_at dksX0_init_5 0 rfl rfl)
theorem dX0_init_120 : decode cX0_init 120 = .ok (.dup, 1) := dk_89 (dk_at dksX0_init_5 3 rfl rfl)
theorem dX0_init_121 : decode cX0_init 121 = .ok (.iconst 0, 1) := dk_3 (dk_at dksX0_init_5 4 rfl rfl)
theorem dX0_init_122 : decode cX0_init 122 = .ok (.invokedynamic 276, 5) := by decide +kernel
theorem dX0_init_127 : decode cX0_init 127 = .ok (.aastore, 1) := dk_83 (dk_at dksX0_init_5 10 rfl rfl)
theorem dX0_init_128 : decode cX0_init 128 = .ok (.dup, 1) := dk_89 (dk_at dksX0_init_5 11 rfl rfl)
theorem dX0_init_129 : decode cX0_init 129 = .ok (.iconst 1, 1) := dk_4 (dk_at dksX0_init_5 12 rfl rfl)
theorem dX0_init_130 : decode cX0_init 130 = .ok (.invokedynamic 279, 5) := by decide +kernel
theorem dX0_init_135 : decode cX0_init 135 = .ok (.aastore, 1) := dk_83 (dk_at dksX0_init_5 18 rfl rfl)
theorem dX0_init_136 : decode cX0_init 136 = .ok (.dup, 1) := dk_89 (dk_at dksX0_init_5 19 rfl rfl)
theorem dX0_init_137 : decode cX0_init 137 = .ok (.iconst 2, 1) := dk_5 (dk_at dksX0_init_5 20 rfl rfl)
theorem dX0_init_138 : decode cX0_init 138 = .ok (.invokedynamic 280, 5) := by decide +kernel
theorem dX0_init_143 : decode cX0_init 143 = .ok (.aastore, 1) := dk_83 (dk_at dksX0_init_6 5 rfl rfl)
theorem dX0_init_144 : decode cX0_init 144 = .ok (.putfield 281, 3) := dk_181 1 25 (dk_at dksX0_init_6 6 rfl rfl)
theorem dX0_init_147 : decode cX0_init 147 = .ok (.return_, 1) := dk_177 (dk_at dksX0_init_6 9 rfl rfl)
abbrev cX0_lambda_new_0 : ByteArray := prog_1_method_59_code
def yX0_lambda_new_0 : MethodName := ⟨RX0, "lambda$new$0", "(Ljava/lang/Object;I)I"⟩
def dkwX0_lambda_new_0_0 : List UInt8 := [42, 192, 1, 48, 27, 51, 172]
abbrev dktX0_lambda_new_0_0 : List UInt8 := dkwX0_lambda_new_0_0 ++ []
theorem dksX0_lambda_new_0_0 : cX0_lambda_new_0.data.toList.drop 0 = dktX0_lambda_new_0_0 := by decide +kernel
theorem dX0_lambda_new_0_0 : decode cX0_lambda_new_0 0 = .ok (.aload_n 0, 1) := dk_42 (dk_at dksX0_lambda_new_0_0 0 rfl rfl)
theorem dX0_lambda_new_0_1 : decode cX0_lambda_new_0 1 = .ok (.checkcast 304, 3) := dk_192 1 48 (dk_at dksX0_lambda_new_0_0 1 rfl rfl)
theorem dX0_lambda_new_0_4 : decode cX0_lambda_new_0 4 = .ok (.iload_n 1, 1) := dk_27 (dk_at dksX0_lambda_new_0_0 4 rfl rfl)
theorem dX0_lambda_new_0_5 : decode cX0_lambda_new_0 5 = .ok (.baload, 1) := dk_51 (dk_at dksX0_lambda_new_0_0 5 rfl rfl)
theorem dX0_lambda_new_0_6 : decode cX0_lambda_new_0 6 = .ok (.ireturn, 1) := dk_172 (dk_at dksX0_lambda_new_0_0 6 rfl rfl)
abbrev cX0_lambda_new_1 : ByteArray := prog_1_method_58_code
def yX0_lambda_new_1 : MethodName := ⟨RX0, "lambda$new$1", "(Ljava/lang/Object;I)I"⟩
def dkwX0_lambda_new_1_0 : List UInt8 := [42, 192, 1, 49, 27, 52, 172]
abbrev dktX0_lambda_new_1_0 : List UInt8 := dkwX0_lambda_new_1_0 ++ []
theorem dksX0_lambda_new_1_0 : cX0_lambda_new_1.data.toList.drop 0 = dktX0_lambda_new_1_0 := by decide +kernel
theorem dX0_lambda_new_1_0 : decode cX0_lambda_new_1 0 = .ok (.aload_n 0, 1) := dk_42 (dk_at dksX0_lambda_new_1_0 0 rfl rfl)
theorem dX0_lambda_new_1_1 : decode cX0_lambda_new_1 1 = .ok (.checkcast 305, 3) := dk_192 1 49 (dk_at dksX0_lambda_new_1_0 1 rfl rfl)
theorem dX0_lambda_new_1_4 : decode cX0_lambda_new_1 4 = .ok (.iload_n 1, 1) := dk_27 (dk_at dksX0_lambda_new_1_0 4 rfl rfl)
theorem dX0_lambda_new_1_5 : decode cX0_lambda_new_1 5 = .ok (.caload, 1) := dk_52 (dk_at dksX0_lambda_new_1_0 5 rfl rfl)
theorem dX0_lambda_new_1_6 : decode cX0_lambda_new_1 6 = .ok (.ireturn, 1) := dk_172 (dk_at dksX0_lambda_new_1_0 6 rfl rfl)
abbrev cX0_lambda_new_2 : ByteArray := prog_1_method_57_code
def yX0_lambda_new_2 : MethodName := ⟨RX0, "lambda$new$2", "(Ljava/lang/Object;I)I"⟩
def dkwX0_lambda_new_2_0 : List UInt8 := [42, 192, 1, 10, 27, 46, 172]
abbrev dktX0_lambda_new_2_0 : List UInt8 := dkwX0_lambda_new_2_0 ++ []
theorem dksX0_lambda_new_2_0 : cX0_lambda_new_2.data.toList.drop 0 = dktX0_lambda_new_2_0 := by decide +kernel
theorem dX0_lambda_new_2_0 : decode cX0_lambda_new_2 0 = .ok (.aload_n 0, 1) := dk_42 (dk_at dksX0_lambda_new_2_0 0 rfl rfl)
theorem dX0_lambda_new_2_1 : decode cX0_lambda_new_2 1 = .ok (.checkcast 266, 3) := dk_192 1 10 (dk_at dksX0_lambda_new_2_0 1 rfl rfl)
theorem dX0_lambda_new_2_4 : decode cX0_lambda_new_2 4 = .ok (.iload_n 1, 1) := dk_27 (dk_at dksX0_lambda_new_2_0 4 rfl rfl)
theorem dX0_lambda_new_2_5 : decode cX0_lambda_new_2 5 = .ok (.iaload, 1) := dk_46 (dk_at dksX0_lambda_new_2_0 5 rfl rfl)
theorem dX0_lambda_new_2_6 : decode cX0_lambda_new_2 6 = .ok (.ireturn, 1) := dk_172 (dk_at dksX0_lambda_new_2_0 6 rfl rfl)
abbrev cX0_sheet : ByteArray := prog_1_method_51_code
def yX0_sheet : MethodName := ⟨RX0, "sheet", "(III)I"⟩
def dkwX0_sheet_1 : List UInt8 := [184, 1, 35, 181, 1, 39, 42, 180, 1, 14, 27, 50, 29, 181, 1, 43, 4, 172, 58, 4, 16, 242, 172]
abbrev dktX0_sheet_1 : List UInt8 := dkwX0_sheet_1 ++ []
def dkwX0_sheet_0 : List UInt8 := [27, 28, 184, 1, 31, 153, 0, 9, 29, 16, 40, 164, 0, 5, 2, 172, 42, 180, 1, 14, 27, 50, 28, 29]
abbrev dktX0_sheet_0 : List UInt8 := dkwX0_sheet_0 ++ dktX0_sheet_1
theorem dksX0_sheet_0 : cX0_sheet.data.toList.drop 0 = dktX0_sheet_0 := by decide +kernel
theorem dksX0_sheet_1 : cX0_sheet.data.toList.drop 24 = dktX0_sheet_1 := dk_seg dksX0_sheet_0 24 rfl rfl
theorem dX0_sheet_0 : decode cX0_sheet 0 = .ok (.iload_n 1, 1) := dk_27 (dk_at dksX0_sheet_0 0 rfl rfl)
theorem dX0_sheet_1 : decode cX0_sheet 1 = .ok (.iload_n 2, 1) := dk_28 (dk_at dksX0_sheet_0 1 rfl rfl)
theorem dX0_sheet_2 : decode cX0_sheet 2 = .ok (.invokestatic 287, 3) := dk_184 1 31 (dk_at dksX0_sheet_0 2 rfl rfl)
theorem dX0_sheet_5 : decode cX0_sheet 5 = .ok (.ifCond .eq 9, 3) := dk_153 0 9 (dk_at dksX0_sheet_0 5 rfl rfl)
theorem dX0_sheet_8 : decode cX0_sheet 8 = .ok (.iload_n 3, 1) := dk_29 (dk_at dksX0_sheet_0 8 rfl rfl)
theorem dX0_sheet_9 : decode cX0_sheet 9 = .ok (.bipush 40, 2) := dk_16 40 (dk_at dksX0_sheet_0 9 rfl rfl)
theorem dX0_sheet_11 : decode cX0_sheet 11 = .ok (.if_icmp .le 5, 3) := dk_164 0 5 (dk_at dksX0_sheet_0 11 rfl rfl)
theorem dX0_sheet_14 : decode cX0_sheet 14 = .ok (.iconst (-1), 1) := dk_2 (dk_at dksX0_sheet_0 14 rfl rfl)
theorem dX0_sheet_15 : decode cX0_sheet 15 = .ok (.ireturn, 1) := dk_172 (dk_at dksX0_sheet_0 15 rfl rfl)
theorem dX0_sheet_16 : decode cX0_sheet 16 = .ok (.aload_n 0, 1) := dk_42 (dk_at dksX0_sheet_0 16 rfl rfl)
theorem dX0_sheet_17 : decode cX0_sheet 17 = .ok (.getfield 270, 3) := dk_180 1 14 (dk_at dksX0_sheet_0 17 rfl rfl)
theorem dX0_sheet_20 : decode cX0_sheet 20 = .ok (.iload_n 1, 1) := dk_27 (dk_at dksX0_sheet_0 20 rfl rfl)
theorem dX0_sheet_21 : decode cX0_sheet 21 = .ok (.aaload, 1) := dk_50 (dk_at dksX0_sheet_0 21 rfl rfl)
theorem dX0_sheet_22 : decode cX0_sheet 22 = .ok (.iload_n 2, 1) := dk_28 (dk_at dksX0_sheet_0 22 rfl rfl)
theorem dX0_sheet_23 : decode cX0_sheet 23 = .ok (.iload_n 3, 1) := dk_29 (dk_at dksX0_sheet_0 23 rfl rfl)
theorem dX0_sheet_24 : decode cX0_sheet 24 = .ok (.invokestatic 291, 3) := dk_184 1 35 (dk_at dksX0_sheet_1 0 rfl rfl)
theorem dX0_sheet_27 : decode cX0_sheet 27 = .ok (.putfield 295, 3) := dk_181 1 39 (dk_at dksX0_sheet_1 3 rfl rfl)
theorem dX0_sheet_30 : decode cX0_sheet 30 = .ok (.aload_n 0, 1) := dk_42 (dk_at dksX0_sheet_1 6 rfl rfl)
theorem dX0_sheet_31 : decode cX0_sheet 31 = .ok (.getfield 270, 3) := dk_180 1 14 (dk_at dksX0_sheet_1 7 rfl rfl)
theorem dX0_sheet_34 : decode cX0_sheet 34 = .ok (.iload_n 1, 1) := dk_27 (dk_at dksX0_sheet_1 10 rfl rfl)
theorem dX0_sheet_35 : decode cX0_sheet 35 = .ok (.aaload, 1) := dk_50 (dk_at dksX0_sheet_1 11 rfl rfl)
theorem dX0_sheet_36 : decode cX0_sheet 36 = .ok (.iload_n 3, 1) := dk_29 (dk_at dksX0_sheet_1 12 rfl rfl)
theorem dX0_sheet_37 : decode cX0_sheet 37 = .ok (.putfield 299, 3) := dk_181 1 43 (dk_at dksX0_sheet_1 13 rfl rfl)
theorem dX0_sheet_40 : decode cX0_sheet 40 = .ok (.iconst 1, 1) := dk_4 (dk_at dksX0_sheet_1 16 rfl rfl)
theorem dX0_sheet_41 : decode cX0_sheet 41 = .ok (.ireturn, 1) := dk_172 (dk_at dksX0_sheet_1 17 rfl rfl)
theorem dX0_sheet_42 : decode cX0_sheet 42 = .ok (.astore 4, 2) := dk_58 4 (dk_at dksX0_sheet_1 18 rfl rfl)
theorem dX0_sheet_44 : decode cX0_sheet 44 = .ok (.bipush (-14), 2) := dk_16 242 (dk_at dksX0_sheet_1 20 rfl rfl)
theorem dX0_sheet_46 : decode cX0_sheet 46 = .ok (.ireturn, 1) := dk_172 (dk_at dksX0_sheet_1 22 rfl rfl)
abbrev cX0_isSheet : ByteArray := prog_1_method_50_code
def yX0_isSheet : MethodName := ⟨RX0, "isSheet", "(II)Z"⟩
def dkwX0_isSheet_1 : List UInt8 := [4, 167, 0, 4, 3, 172]
abbrev dktX0_isSheet_1 : List UInt8 := dkwX0_isSheet_1 ++ []
def dkwX0_isSheet_0 : List UInt8 := [26, 133, 9, 20, 1, 29, 184, 0, 17, 153, 0, 19, 27, 133, 9, 20, 0, 211, 184, 0, 17, 153, 0, 7]
abbrev dktX0_isSheet_0 : List UInt8 := dkwX0_isSheet_0 ++ dktX0_isSheet_1
theorem dksX0_isSheet_0 : cX0_isSheet.data.toList.drop 0 = dktX0_isSheet_0 := by decide +kernel
theorem dksX0_isSheet_1 : cX0_isSheet.data.toList.drop 24 = dktX0_isSheet_1 := dk_seg dksX0_isSheet_0 24 rfl rfl
theorem dX0_isSheet_0 : decode cX0_isSheet 0 = .ok (.iload_n 0, 1) := dk_26 (dk_at dksX0_isSheet_0 0 rfl rfl)
theorem dX0_isSheet_1 : decode cX0_isSheet 1 = .ok (.i2l, 1) := dk_133 (dk_at dksX0_isSheet_0 1 rfl rfl)
theorem dX0_isSheet_2 : decode cX0_isSheet 2 = .ok (.lconst 0, 1) := dk_9 (dk_at dksX0_isSheet_0 2 rfl rfl)
theorem dX0_isSheet_3 : decode cX0_isSheet 3 = .ok (.ldc2_w 285, 3) := dk_20 1 29 (dk_at dksX0_isSheet_0 3 rfl rfl)
theorem dX0_isSheet_6 : decode cX0_isSheet 6 = .ok (.invokestatic 17, 3) := dk_184 0 17 (dk_at dksX0_isSheet_0 6 rfl rfl)
theorem dX0_isSheet_9 : decode cX0_isSheet 9 = .ok (.ifCond .eq 19, 3) := dk_153 0 19 (dk_at dksX0_isSheet_0 9 rfl rfl)
theorem dX0_isSheet_12 : decode cX0_isSheet 12 = .ok (.iload_n 1, 1) := dk_27 (dk_at dksX0_isSheet_0 12 rfl rfl)
theorem dX0_isSheet_13 : decode cX0_isSheet 13 = .ok (.i2l, 1) := dk_133 (dk_at dksX0_isSheet_0 13 rfl rfl)
theorem dX0_isSheet_14 : decode cX0_isSheet 14 = .ok (.lconst 0, 1) := dk_9 (dk_at dksX0_isSheet_0 14 rfl rfl)
theorem dX0_isSheet_15 : decode cX0_isSheet 15 = .ok (.ldc2_w 211, 3) := dk_20 0 211 (dk_at dksX0_isSheet_0 15 rfl rfl)
theorem dX0_isSheet_18 : decode cX0_isSheet 18 = .ok (.invokestatic 17, 3) := dk_184 0 17 (dk_at dksX0_isSheet_0 18 rfl rfl)
theorem dX0_isSheet_21 : decode cX0_isSheet 21 = .ok (.ifCond .eq 7, 3) := dk_153 0 7 (dk_at dksX0_isSheet_0 21 rfl rfl)
theorem dX0_isSheet_24 : decode cX0_isSheet 24 = .ok (.iconst 1, 1) := dk_4 (dk_at dksX0_isSheet_1 0 rfl rfl)
theorem dX0_isSheet_25 : decode cX0_isSheet 25 = .ok (.goto 4, 3) := dk_167 0 4 (dk_at dksX0_isSheet_1 1 rfl rfl)
theorem dX0_isSheet_28 : decode cX0_isSheet 28 = .ok (.iconst 0, 1) := dk_3 (dk_at dksX0_isSheet_1 4 rfl rfl)
theorem dX0_isSheet_29 : decode cX0_isSheet 29 = .ok (.ireturn, 1) := dk_172 (dk_at dksX0_isSheet_1 5 rfl rfl)
abbrev cX0_newRow : ByteArray := prog_1_method_49_code
def yX0_newRow : MethodName := ⟨RX0, "newRow", "(II)Ljava/lang/Object;"⟩
def dkwX0_newRow_2 : List UInt8 := [27, 188, 8, 176, 27, 188, 5, 176, 27, 188, 10, 176]
abbrev dktX0_newRow_2 : List UInt8 := dkwX0_newRow_2 ++ []
def dkwX0_newRow_1 : List UInt8 := [171, 0, 0, 0, 0, 0, 35, 0, 0, 0, 2, 0, 0, 0, 0, 0, 0, 0, 27, 0, 0, 0, 1, 0, 0, 0, 31]
abbrev dktX0_newRow_1 : List UInt8 := dkwX0_newRow_1 ++ dktX0_newRow_2
def dkwX0_newRow_0 : List UInt8 := [26]
abbrev dktX0_newRow_0 : List UInt8 := dkwX0_newRow_0 ++ dktX0_newRow_1
theorem dksX0_newRow_0 : cX0_newRow.data.toList.drop 0 = dktX0_newRow_0 := by decide +kernel
theorem dksX0_newRow_1 : cX0_newRow.data.toList.drop 1 = dktX0_newRow_1 := dk_seg dksX0_newRow_0 1 rfl rfl
theorem dksX0_newRow_2 : cX0_newRow.data.toList.drop 28 = dktX0_newRow_2 := dk_seg dksX0_newRow_1 27 rfl rfl
theorem dX0_newRow_0 : decode cX0_newRow 0 = .ok (.iload_n 0, 1) := dk_26 (dk_at dksX0_newRow_0 0 rfl rfl)
theorem dX0_newRow_1 : decode cX0_newRow 1 = .ok (.lookupswitch 35 #[(0, 27), (1, 31)], 27) := by decide +kernel
theorem dX0_newRow_28 : decode cX0_newRow 28 = .ok (.iload_n 1, 1) := dk_27 (dk_at dksX0_newRow_2 0 rfl rfl)
theorem dX0_newRow_29 : decode cX0_newRow 29 = .ok (.newarray .byte, 2) := dk_188_8 (dk_at dksX0_newRow_2 1 rfl rfl)
theorem dX0_newRow_31 : decode cX0_newRow 31 = .ok (.areturn, 1) := dk_176 (dk_at dksX0_newRow_2 3 rfl rfl)
theorem dX0_newRow_32 : decode cX0_newRow 32 = .ok (.iload_n 1, 1) := dk_27 (dk_at dksX0_newRow_2 4 rfl rfl)
theorem dX0_newRow_33 : decode cX0_newRow 33 = .ok (.newarray .char, 2) := dk_188_5 (dk_at dksX0_newRow_2 5 rfl rfl)
theorem dX0_newRow_35 : decode cX0_newRow 35 = .ok (.areturn, 1) := dk_176 (dk_at dksX0_newRow_2 7 rfl rfl)
theorem dX0_newRow_36 : decode cX0_newRow 36 = .ok (.iload_n 1, 1) := dk_27 (dk_at dksX0_newRow_2 8 rfl rfl)
theorem dX0_newRow_37 : decode cX0_newRow 37 = .ok (.newarray .int, 2) := dk_188_10 (dk_at dksX0_newRow_2 9 rfl rfl)
theorem dX0_newRow_39 : decode cX0_newRow 39 = .ok (.areturn, 1) := dk_176 (dk_at dksX0_newRow_2 11 rfl rfl)
abbrev cX0_lay : ByteArray := prog_1_method_52_code
def yX0_lay : MethodName := ⟨RX0, "lay", "(III)I"⟩
def dkwX0_lay_3 : List UInt8 := [172, 58, 5, 16, 245, 172, 58, 5, 16, 243, 172]
abbrev dktX0_lay_3 : List UInt8 := dkwX0_lay_3 ++ []
def dkwX0_lay_2 : List UInt8 := [153, 0, 15, 25, 4, 192, 1, 49, 28, 29, 146, 85, 167, 0, 11, 25, 4, 192, 1, 10, 28, 29, 79, 4]
abbrev dktX0_lay_2 : List UInt8 := dkwX0_lay_2 ++ dktX0_lay_3
def dkwX0_lay_1 : List UInt8 := [193, 1, 48, 153, 0, 15, 25, 4, 192, 1, 48, 28, 29, 145, 84, 167, 0, 31, 25, 4, 193, 1, 49]
abbrev dktX0_lay_1 : List UInt8 := dkwX0_lay_1 ++ dktX0_lay_2
def dkwX0_lay_0 : List UInt8 := [27, 3, 184, 1, 31, 154, 0, 5, 2, 172, 42, 180, 1, 14, 27, 50, 180, 1, 39, 58, 4, 25, 4]
abbrev dktX0_lay_0 : List UInt8 := dkwX0_lay_0 ++ dktX0_lay_1
theorem dksX0_lay_0 : cX0_lay.data.toList.drop 0 = dktX0_lay_0 := by decide +kernel
theorem dksX0_lay_1 : cX0_lay.data.toList.drop 23 = dktX0_lay_1 := dk_seg dksX0_lay_0 23 rfl rfl
theorem dksX0_lay_2 : cX0_lay.data.toList.drop 46 = dktX0_lay_2 := dk_seg dksX0_lay_1 23 rfl rfl
theorem dksX0_lay_3 : cX0_lay.data.toList.drop 70 = dktX0_lay_3 := dk_seg dksX0_lay_2 24 rfl rfl
theorem dX0_lay_0 : decode cX0_lay 0 = .ok (.iload_n 1, 1) := dk_27 (dk_at dksX0_lay_0 0 rfl rfl)
theorem dX0_lay_1 : decode cX0_lay 1 = .ok (.iconst 0, 1) := dk_3 (dk_at dksX0_lay_0 1 rfl rfl)
theorem dX0_lay_2 : decode cX0_lay 2 = .ok (.invokestatic 287, 3) := dk_184 1 31 (dk_at dksX0_lay_0 2 rfl rfl)
theorem dX0_lay_5 : decode cX0_lay 5 = .ok (.ifCond .ne 5, 3) := dk_154 0 5 (dk_at dksX0_lay_0 5 rfl rfl)
theorem dX0_lay_8 : decode cX0_lay 8 = .ok (.iconst (-1), 1) := dk_2 (dk_at dksX0_lay_0 8 rfl rfl)
theorem dX0_lay_9 : decode cX0_lay 9 = .ok (.ireturn, 1) := dk_172 (dk_at dksX0_lay_0 9 rfl rfl)
theorem dX0_lay_10 : decode cX0_lay 10 = .ok (.aload_n 0, 1) := dk_42 (dk_at dksX0_lay_0 10 rfl rfl)
theorem dX0_lay_11 : decode cX0_lay 11 = .ok (.getfield 270, 3) := dk_180 1 14 (dk_at dksX0_lay_0 11 rfl rfl)
theorem dX0_lay_14 : decode cX0_lay 14 = .ok (.iload_n 1, 1) := dk_27 (dk_at dksX0_lay_0 14 rfl rfl)
theorem dX0_lay_15 : decode cX0_lay 15 = .ok (.aaload, 1) := dk_50 (dk_at dksX0_lay_0 15 rfl rfl)
theorem dX0_lay_16 : decode cX0_lay 16 = .ok (.getfield 295, 3) := dk_180 1 39 (dk_at dksX0_lay_0 16 rfl rfl)
theorem dX0_lay_19 : decode cX0_lay 19 = .ok (.astore 4, 2) := dk_58 4 (dk_at dksX0_lay_0 19 rfl rfl)
theorem dX0_lay_21 : decode cX0_lay 21 = .ok (.aload 4, 2) := dk_25 4 (dk_at dksX0_lay_0 21 rfl rfl)
theorem dX0_lay_23 : decode cX0_lay 23 = .ok (.instanceof 304, 3) := dk_193 1 48 (dk_at dksX0_lay_1 0 rfl rfl)
theorem dX0_lay_26 : decode cX0_lay 26 = .ok (.ifCond .eq 15, 3) := dk_153 0 15 (dk_at dksX0_lay_1 3 rfl rfl)
theorem dX0_lay_29 : decode cX0_lay 29 = .ok (.aload 4, 2) := dk_25 4 (dk_at dksX0_lay_1 6 rfl rfl)
theorem dX0_lay_31 : decode cX0_lay 31 = .ok (.checkcast 304, 3) := dk_192 1 48 (dk_at dksX0_lay_1 8 rfl rfl)
theorem dX0_lay_34 : decode cX0_lay 34 = .ok (.iload_n 2, 1) := dk_28 (dk_at dksX0_lay_1 11 rfl rfl)
theorem dX0_lay_35 : decode cX0_lay 35 = .ok (.iload_n 3, 1) := dk_29 (dk_at dksX0_lay_1 12 rfl rfl)
theorem dX0_lay_36 : decode cX0_lay 36 = .ok (.i2b, 1) := dk_145 (dk_at dksX0_lay_1 13 rfl rfl)
theorem dX0_lay_37 : decode cX0_lay 37 = .ok (.bastore, 1) := dk_84 (dk_at dksX0_lay_1 14 rfl rfl)
theorem dX0_lay_38 : decode cX0_lay 38 = .ok (.goto 31, 3) := dk_167 0 31 (dk_at dksX0_lay_1 15 rfl rfl)
theorem dX0_lay_41 : decode cX0_lay 41 = .ok (.aload 4, 2) := dk_25 4 (dk_at dksX0_lay_1 18 rfl rfl)
theorem dX0_lay_43 : decode cX0_lay 43 = .ok (.instanceof 305, 3) := dk_193 1 49 (dk_at dksX0_lay_1 20 rfl rfl)
theorem dX0_lay_46 : decode cX0_lay 46 = .ok (.ifCond .eq 15, 3) := dk_153 0 15 (dk_at dksX0_lay_2 0 rfl rfl)
theorem dX0_lay_49 : decode cX0_lay 49 = .ok (.aload 4, 2) := dk_25 4 (dk_at dksX0_lay_2 3 rfl rfl)
theorem dX0_lay_51 : decode cX0_lay 51 = .ok (.checkcast 305, 3) := dk_192 1 49 (dk_at dksX0_lay_2 5 rfl rfl)
theorem dX0_lay_54 : decode cX0_lay 54 = .ok (.iload_n 2, 1) := dk_28 (dk_at dksX0_lay_2 8 rfl rfl)
theorem dX0_lay_55 : decode cX0_lay 55 = .ok (.iload_n 3, 1) := dk_29 (dk_at dksX0_lay_2 9 rfl rfl)
theorem dX0_lay_56 : decode cX0_lay 56 = .ok (.i2c, 1) := dk_146 (dk_at dksX0_lay_2 10 rfl rfl)
theorem dX0_lay_57 : decode cX0_lay 57 = .ok (.castore, 1) := dk_85 (dk_at dksX0_lay_2 11 rfl rfl)
theorem dX0_lay_58 : decode cX0_lay 58 = .ok (.goto 11, 3) := dk_167 0 11 (dk_at dksX0_lay_2 12 rfl rfl)
theorem dX0_lay_61 : decode cX0_lay 61 = .ok (.aload 4, 2) := dk_25 4 (dk_at dksX0_lay_2 15 rfl rfl)
theorem dX0_lay_63 : decode cX0_lay 63 = .ok (.checkcast 266, 3) := dk_192 1 10 (dk_at dksX0_lay_2 17 rfl rfl)
theorem dX0_lay_66 : decode cX0_lay 66 = .ok (.iload_n 2, 1) := dk_28 (dk_at dksX0_lay_2 20 rfl rfl)
theorem dX0_lay_67 : decode cX0_lay 67 = .ok (.iload_n 3, 1) := dk_29 (dk_at dksX0_lay_2 21 rfl rfl)
theorem dX0_lay_68 : decode cX0_lay 68 = .ok (.iastore, 1) := dk_79 (dk_at dksX0_lay_2 22 rfl rfl)
theorem dX0_lay_69 : decode cX0_lay 69 = .ok (.iconst 1, 1) := dk_4 (dk_at dksX0_lay_2 23 rfl rfl)
theorem dX0_lay_70 : decode cX0_lay 70 = .ok (.ireturn, 1) := dk_172 (dk_at dksX0_lay_3 0 rfl rfl)
theorem dX0_lay_71 : decode cX0_lay 71 = .ok (.astore 5, 2) := dk_58 5 (dk_at dksX0_lay_3 1 rfl rfl)
theorem dX0_lay_73 : decode cX0_lay 73 = .ok (.bipush (-11), 2) := dk_16 245 (dk_at dksX0_lay_3 3 rfl rfl)
theorem dX0_lay_75 : decode cX0_lay 75 = .ok (.ireturn, 1) := dk_172 (dk_at dksX0_lay_3 5 rfl rfl)
theorem dX0_lay_76 : decode cX0_lay 76 = .ok (.astore 5, 2) := dk_58 5 (dk_at dksX0_lay_3 6 rfl rfl)
theorem dX0_lay_78 : decode cX0_lay 78 = .ok (.bipush (-13), 2) := dk_16 243 (dk_at dksX0_lay_3 8 rfl rfl)
theorem dX0_lay_80 : decode cX0_lay 80 = .ok (.ireturn, 1) := dk_172 (dk_at dksX0_lay_3 10 rfl rfl)
abbrev cX0_run : ByteArray := prog_1_method_54_code
def yX0_run : MethodName := ⟨RX0, "run", "(IIII)I"⟩
def dkwX0_run_1 : List UInt8 := [42, 180, 1, 14, 27, 50, 180, 1, 39, 42, 180, 1, 25, 28, 50, 29, 21, 4, 182, 1, 63, 172]
abbrev dktX0_run_1 : List UInt8 := dkwX0_run_1 ++ []
def dkwX0_run_0 : List UInt8 := [27, 28, 184, 1, 31, 153, 0, 16, 21, 4, 133, 9, 20, 0, 247, 184, 0, 17, 154, 0, 5, 2, 172, 42]
abbrev dktX0_run_0 : List UInt8 := dkwX0_run_0 ++ dktX0_run_1
theorem dksX0_run_0 : cX0_run.data.toList.drop 0 = dktX0_run_0 := by decide +kernel
theorem dksX0_run_1 : cX0_run.data.toList.drop 24 = dktX0_run_1 := dk_seg dksX0_run_0 24 rfl rfl
theorem dX0_run_0 : decode cX0_run 0 = .ok (.iload_n 1, 1) := dk_27 (dk_at dksX0_run_0 0 rfl rfl)
theorem dX0_run_1 : decode cX0_run 1 = .ok (.iload_n 2, 1) := dk_28 (dk_at dksX0_run_0 1 rfl rfl)
theorem dX0_run_2 : decode cX0_run 2 = .ok (.invokestatic 287, 3) := dk_184 1 31 (dk_at dksX0_run_0 2 rfl rfl)
theorem dX0_run_5 : decode cX0_run 5 = .ok (.ifCond .eq 16, 3) := dk_153 0 16 (dk_at dksX0_run_0 5 rfl rfl)
theorem dX0_run_8 : decode cX0_run 8 = .ok (.iload 4, 2) := dk_21 4 (dk_at dksX0_run_0 8 rfl rfl)
theorem dX0_run_10 : decode cX0_run 10 = .ok (.i2l, 1) := dk_133 (dk_at dksX0_run_0 10 rfl rfl)
theorem dX0_run_11 : decode cX0_run 11 = .ok (.lconst 0, 1) := dk_9 (dk_at dksX0_run_0 11 rfl rfl)
theorem dX0_run_12 : decode cX0_run 12 = .ok (.ldc2_w 247, 3) := dk_20 0 247 (dk_at dksX0_run_0 12 rfl rfl)
theorem dX0_run_15 : decode cX0_run 15 = .ok (.invokestatic 17, 3) := dk_184 0 17 (dk_at dksX0_run_0 15 rfl rfl)
theorem dX0_run_18 : decode cX0_run 18 = .ok (.ifCond .ne 5, 3) := dk_154 0 5 (dk_at dksX0_run_0 18 rfl rfl)
theorem dX0_run_21 : decode cX0_run 21 = .ok (.iconst (-1), 1) := dk_2 (dk_at dksX0_run_0 21 rfl rfl)
theorem dX0_run_22 : decode cX0_run 22 = .ok (.ireturn, 1) := dk_172 (dk_at dksX0_run_0 22 rfl rfl)
theorem dX0_run_23 : decode cX0_run 23 = .ok (.aload_n 0, 1) := dk_42 (dk_at dksX0_run_0 23 rfl rfl)
theorem dX0_run_24 : decode cX0_run 24 = .ok (.aload_n 0, 1) := dk_42 (dk_at dksX0_run_1 0 rfl rfl)
theorem dX0_run_25 : decode cX0_run 25 = .ok (.getfield 270, 3) := dk_180 1 14 (dk_at dksX0_run_1 1 rfl rfl)
theorem dX0_run_28 : decode cX0_run 28 = .ok (.iload_n 1, 1) := dk_27 (dk_at dksX0_run_1 4 rfl rfl)
theorem dX0_run_29 : decode cX0_run 29 = .ok (.aaload, 1) := dk_50 (dk_at dksX0_run_1 5 rfl rfl)
theorem dX0_run_30 : decode cX0_run 30 = .ok (.getfield 295, 3) := dk_180 1 39 (dk_at dksX0_run_1 6 rfl rfl)
theorem dX0_run_33 : decode cX0_run 33 = .ok (.aload_n 0, 1) := dk_42 (dk_at dksX0_run_1 9 rfl rfl)
theorem dX0_run_34 : decode cX0_run 34 = .ok (.getfield 281, 3) := dk_180 1 25 (dk_at dksX0_run_1 10 rfl rfl)
theorem dX0_run_37 : decode cX0_run 37 = .ok (.iload_n 2, 1) := dk_28 (dk_at dksX0_run_1 13 rfl rfl)
theorem dX0_run_38 : decode cX0_run 38 = .ok (.aaload, 1) := dk_50 (dk_at dksX0_run_1 14 rfl rfl)
theorem dX0_run_39 : decode cX0_run 39 = .ok (.iload_n 3, 1) := dk_29 (dk_at dksX0_run_1 15 rfl rfl)
theorem dX0_run_40 : decode cX0_run 40 = .ok (.iload 4, 2) := dk_21 4 (dk_at dksX0_run_1 16 rfl rfl)
theorem dX0_run_42 : decode cX0_run 42 = .ok (.invokevirtual 319, 3) := dk_182 1 63 (dk_at dksX0_run_1 18 rfl rfl)
theorem dX0_run_45 : decode cX0_run 45 = .ok (.ireturn, 1) := dk_172 (dk_at dksX0_run_1 21 rfl rfl)
abbrev cX0_comesBy : ByteArray := prog_1_method_53_code
def yX0_comesBy : MethodName := ⟨RX0, "comesBy", "(Ljava/lang/Object;LPromiseTries$Cells;II)I"⟩
def dkwX0_comesBy_3 : List UInt8 := [167, 0, 10, 58, 6, 42, 6, 181, 1, 55, 21, 5, 172]
abbrev dktX0_comesBy_3 : List UInt8 := dkwX0_comesBy_3 ++ []
def dkwX0_comesBy_2 : List UInt8 := [167, 255, 218, 167, 0, 30, 58, 6, 42, 4, 181, 1, 55, 167, 0, 20, 58, 6, 42, 5, 181, 1, 55]
abbrev dktX0_comesBy_2 : List UInt8 := dkwX0_comesBy_2 ++ dktX0_comesBy_3
def dkwX0_comesBy_1 : List UInt8 := [42, 44, 43, 29, 21, 5, 96, 185, 1, 58, 3, 0, 17, 0, 255, 126, 182, 0, 234, 132, 5, 1]
abbrev dktX0_comesBy_1 : List UInt8 := dkwX0_comesBy_1 ++ dktX0_comesBy_2
def dkwX0_comesBy_0 : List UInt8 := [3, 54, 5, 42, 3, 181, 1, 55, 21, 5, 21, 4, 162, 0, 37, 42, 180, 0, 73, 16, 48, 162, 0, 28]
abbrev dktX0_comesBy_0 : List UInt8 := dkwX0_comesBy_0 ++ dktX0_comesBy_1
theorem dksX0_comesBy_0 : cX0_comesBy.data.toList.drop 0 = dktX0_comesBy_0 := by decide +kernel
theorem dksX0_comesBy_1 : cX0_comesBy.data.toList.drop 24 = dktX0_comesBy_1 := dk_seg dksX0_comesBy_0 24 rfl rfl
theorem dksX0_comesBy_2 : cX0_comesBy.data.toList.drop 46 = dktX0_comesBy_2 := dk_seg dksX0_comesBy_1 22 rfl rfl
theorem dksX0_comesBy_3 : cX0_comesBy.data.toList.drop 69 = dktX0_comesBy_3 := dk_seg dksX0_comesBy_2 23 rfl rfl
theorem dX0_comesBy_0 : decode cX0_comesBy 0 = .ok (.iconst 0, 1) := dk_3 (dk_at dksX0_comesBy_0 0 rfl rfl)
theorem dX0_comesBy_1 : decode cX0_comesBy 1 = .ok (.istore 5, 2) := dk_54 5 (dk_at dksX0_comesBy_0 1 rfl rfl)
theorem dX0_comesBy_3 : decode cX0_comesBy 3 = .ok (.aload_n 0, 1) := dk_42 (dk_at dksX0_comesBy_0 3 rfl rfl)
theorem dX0_comesBy_4 : decode cX0_comesBy 4 = .ok (.iconst 0, 1) := dk_3 (dk_at dksX0_comesBy_0 4 rfl rfl)
theorem dX0_comesBy_5 : decode cX0_comesBy 5 = .ok (.putfield 311, 3) := dk_181 1 55 (dk_at dksX0_comesBy_0 5 rfl rfl)
theorem dX0_comesBy_8 : decode cX0_comesBy 8 = .ok (.iload 5, 2) := dk_21 5 (dk_at dksX0_comesBy_0 8 rfl rfl)
theorem dX0_comesBy_10 : decode cX0_comesBy 10 = .ok (.iload 4, 2) := dk_21 4 (dk_at dksX0_comesBy_0 10 rfl rfl)
theorem dX0_comesBy_12 : decode cX0_comesBy 12 = .ok (.if_icmp .ge 37, 3) := dk_162 0 37 (dk_at dksX0_comesBy_0 12 rfl rfl)
theorem dX0_comesBy_15 : decode cX0_comesBy 15 = .ok (.aload_n 0, 1) := dk_42 (dk_at dksX0_comesBy_0 15 rfl rfl)
theorem dX0_comesBy_16 : decode cX0_comesBy 16 = .ok (.getfield 73, 3) := dk_180 0 73 (dk_at dksX0_comesBy_0 16 rfl rfl)
theorem dX0_comesBy_19 : decode cX0_comesBy 19 = .ok (.bipush 48, 2) := dk_16 48 (dk_at dksX0_comesBy_0 19 rfl rfl)
theorem dX0_comesBy_21 : decode cX0_comesBy 21 = .ok (.if_icmp .ge 28, 3) := dk_162 0 28 (dk_at dksX0_comesBy_0 21 rfl rfl)
theorem dX0_comesBy_24 : decode cX0_comesBy 24 = .ok (.aload_n 0, 1) := dk_42 (dk_at dksX0_comesBy_1 0 rfl rfl)
theorem dX0_comesBy_25 : decode cX0_comesBy 25 = .ok (.aload_n 2, 1) := dk_44 (dk_at dksX0_comesBy_1 1 rfl rfl)
theorem dX0_comesBy_26 : decode cX0_comesBy 26 = .ok (.aload_n 1, 1) := dk_43 (dk_at dksX0_comesBy_1 2 rfl rfl)
theorem dX0_comesBy_27 : decode cX0_comesBy 27 = .ok (.iload_n 3, 1) := dk_29 (dk_at dksX0_comesBy_1 3 rfl rfl)
theorem dX0_comesBy_28 : decode cX0_comesBy 28 = .ok (.iload 5, 2) := dk_21 5 (dk_at dksX0_comesBy_1 4 rfl rfl)
theorem dX0_comesBy_30 : decode cX0_comesBy 30 = .ok (.iadd, 1) := dk_96 (dk_at dksX0_comesBy_1 6 rfl rfl)
theorem dX0_comesBy_31 : decode cX0_comesBy 31 = .ok (.invokeinterface 314 3, 5) := by decide +kernel
theorem dX0_comesBy_36 : decode cX0_comesBy 36 = .ok (.sipush 255, 3) := dk_17 0 255 (dk_at dksX0_comesBy_1 12 rfl rfl)
theorem dX0_comesBy_39 : decode cX0_comesBy 39 = .ok (.iand, 1) := dk_126 (dk_at dksX0_comesBy_1 15 rfl rfl)
theorem dX0_comesBy_40 : decode cX0_comesBy 40 = .ok (.invokevirtual 234, 3) := dk_182 0 234 (dk_at dksX0_comesBy_1 16 rfl rfl)
theorem dX0_comesBy_43 : decode cX0_comesBy 43 = .ok (.iinc 5 1, 3) := dk_132 5 1 (dk_at dksX0_comesBy_1 19 rfl rfl)
theorem dX0_comesBy_46 : decode cX0_comesBy 46 = .ok (.goto (-38), 3) := dk_167 255 218 (dk_at dksX0_comesBy_2 0 rfl rfl)
theorem dX0_comesBy_49 : decode cX0_comesBy 49 = .ok (.goto 30, 3) := dk_167 0 30 (dk_at dksX0_comesBy_2 3 rfl rfl)
theorem dX0_comesBy_52 : decode cX0_comesBy 52 = .ok (.astore 6, 2) := dk_58 6 (dk_at dksX0_comesBy_2 6 rfl rfl)
theorem dX0_comesBy_54 : decode cX0_comesBy 54 = .ok (.aload_n 0, 1) := dk_42 (dk_at dksX0_comesBy_2 8 rfl rfl)
theorem dX0_comesBy_55 : decode cX0_comesBy 55 = .ok (.iconst 1, 1) := dk_4 (dk_at dksX0_comesBy_2 9 rfl rfl)
theorem dX0_comesBy_56 : decode cX0_comesBy 56 = .ok (.putfield 311, 3) := dk_181 1 55 (dk_at dksX0_comesBy_2 10 rfl rfl)
theorem dX0_comesBy_59 : decode cX0_comesBy 59 = .ok (.goto 20, 3) := dk_167 0 20 (dk_at dksX0_comesBy_2 13 rfl rfl)
theorem dX0_comesBy_62 : decode cX0_comesBy 62 = .ok (.astore 6, 2) := dk_58 6 (dk_at dksX0_comesBy_2 16 rfl rfl)
theorem dX0_comesBy_64 : decode cX0_comesBy 64 = .ok (.aload_n 0, 1) := dk_42 (dk_at dksX0_comesBy_2 18 rfl rfl)
theorem dX0_comesBy_65 : decode cX0_comesBy 65 = .ok (.iconst 2, 1) := dk_5 (dk_at dksX0_comesBy_2 19 rfl rfl)
theorem dX0_comesBy_66 : decode cX0_comesBy 66 = .ok (.putfield 311, 3) := dk_181 1 55 (dk_at dksX0_comesBy_2 20 rfl rfl)
theorem dX0_comesBy_69 : decode cX0_comesBy 69 = .ok (.goto 10, 3) := dk_167 0 10 (dk_at dksX0_comesBy_3 0 rfl rfl)
theorem dX0_comesBy_72 : decode cX0_comesBy 72 = .ok (.astore 6, 2) := dk_58 6 (dk_at dksX0_comesBy_3 3 rfl rfl)
theorem dX0_comesBy_74 : decode cX0_comesBy 74 = .ok (.aload_n 0, 1) := dk_42 (dk_at dksX0_comesBy_3 5 rfl rfl)
theorem dX0_comesBy_75 : decode cX0_comesBy 75 = .ok (.iconst 3, 1) := dk_6 (dk_at dksX0_comesBy_3 6 rfl rfl)
theorem dX0_comesBy_76 : decode cX0_comesBy 76 = .ok (.putfield 311, 3) := dk_181 1 55 (dk_at dksX0_comesBy_3 7 rfl rfl)
theorem dX0_comesBy_79 : decode cX0_comesBy 79 = .ok (.iload 5, 2) := dk_21 5 (dk_at dksX0_comesBy_3 10 rfl rfl)
theorem dX0_comesBy_81 : decode cX0_comesBy 81 = .ok (.ireturn, 1) := dk_172 (dk_at dksX0_comesBy_3 12 rfl rfl)
abbrev cX0_torn : ByteArray := prog_1_method_55_code
def yX0_torn : MethodName := ⟨RX0, "torn", "()I"⟩
theorem dX0_torn_0 : decode cX0_torn 0 = .ok (.aload_n 0, 1) := by decide +kernel
theorem dX0_torn_1 : decode cX0_torn 1 = .ok (.getfield 311, 3) := by decide +kernel
theorem dX0_torn_4 : decode cX0_torn 4 = .ok (.ireturn, 1) := by decide +kernel
abbrev cX0_count : ByteArray := prog_1_method_56_code
def yX0_count : MethodName := ⟨RX0, "count", "(I)I"⟩
def dkwX0_count_4 : List UInt8 := [16, 252, 167, 0, 12, 42, 180, 1, 14, 3, 50, 180, 1, 43, 172, 2, 172]
abbrev dktX0_count_4 : List UInt8 := dkwX0_count_4 ++ []
def dkwX0_count_3 : List UInt8 := [167, 0, 4, 4, 96, 172, 42, 180, 0, 21, 172, 42, 180, 1, 14, 3, 50, 180, 1, 39, 199, 0, 8]
abbrev dktX0_count_3 : List UInt8 := dkwX0_count_3 ++ dktX0_count_4
def dkwX0_count_2 : List UInt8 := [42, 180, 0, 54, 3, 50, 199, 0, 7, 3, 167, 0, 4, 4, 42, 180, 0, 54, 4, 50, 199, 0, 7, 3]
abbrev dktX0_count_2 : List UInt8 := dkwX0_count_2 ++ dktX0_count_3
def dkwX0_count_1 : List UInt8 := [170, 0, 0, 0, 0, 0, 89, 0, 0, 0, 0, 0, 0, 0, 2, 0, 0, 0, 27, 0, 0, 0, 57, 0, 0, 0, 62]
abbrev dktX0_count_1 : List UInt8 := dkwX0_count_1 ++ dktX0_count_2
def dkwX0_count_0 : List UInt8 := [27]
abbrev dktX0_count_0 : List UInt8 := dkwX0_count_0 ++ dktX0_count_1
theorem dksX0_count_0 : cX0_count.data.toList.drop 0 = dktX0_count_0 := by decide +kernel
theorem dksX0_count_1 : cX0_count.data.toList.drop 1 = dktX0_count_1 := dk_seg dksX0_count_0 1 rfl rfl
theorem dksX0_count_2 : cX0_count.data.toList.drop 28 = dktX0_count_2 := dk_seg dksX0_count_1 27 rfl rfl
theorem dksX0_count_3 : cX0_count.data.toList.drop 52 = dktX0_count_3 := dk_seg dksX0_count_2 24 rfl rfl
theorem dksX0_count_4 : cX0_count.data.toList.drop 75 = dktX0_count_4 := dk_seg dksX0_count_3 23 rfl rfl
theorem dX0_count_0 : decode cX0_count 0 = .ok (.iload_n 1, 1) := dk_27 (dk_at dksX0_count_0 0 rfl rfl)
theorem dX0_count_1 : decode cX0_count 1 = .ok (.tableswitch 89 0 2 #[27, 57, 62], 27) := by decide +kernel
theorem dX0_count_28 : decode cX0_count 28 = .ok (.aload_n 0, 1) := dk_42 (dk_at dksX0_count_2 0 rfl rfl)
theorem dX0_count_29 : decode cX0_count 29 = .ok (.getfield 54, 3) := dk_180 0 54 (dk_at dksX0_count_2 1 rfl rfl)
theorem dX0_count_32 : decode cX0_count 32 = .ok (.iconst 0, 1) := dk_3 (dk_at dksX0_count_2 4 rfl rfl)
theorem dX0_count_33 : decode cX0_count 33 = .ok (.aaload, 1) := dk_50 (dk_at dksX0_count_2 5 rfl rfl)
theorem dX0_count_34 : decode cX0_count 34 = .ok (.ifnonnull 7, 3) := dk_199 0 7 (dk_at dksX0_count_2 6 rfl rfl)
theorem dX0_count_37 : decode cX0_count 37 = .ok (.iconst 0, 1) := dk_3 (dk_at dksX0_count_2 9 rfl rfl)
theorem dX0_count_38 : decode cX0_count 38 = .ok (.goto 4, 3) := dk_167 0 4 (dk_at dksX0_count_2 10 rfl rfl)
theorem dX0_count_41 : decode cX0_count 41 = .ok (.iconst 1, 1) := dk_4 (dk_at dksX0_count_2 13 rfl rfl)
theorem dX0_count_42 : decode cX0_count 42 = .ok (.aload_n 0, 1) := dk_42 (dk_at dksX0_count_2 14 rfl rfl)
theorem dX0_count_43 : decode cX0_count 43 = .ok (.getfield 54, 3) := dk_180 0 54 (dk_at dksX0_count_2 15 rfl rfl)
theorem dX0_count_46 : decode cX0_count 46 = .ok (.iconst 1, 1) := dk_4 (dk_at dksX0_count_2 18 rfl rfl)
theorem dX0_count_47 : decode cX0_count 47 = .ok (.aaload, 1) := dk_50 (dk_at dksX0_count_2 19 rfl rfl)
theorem dX0_count_48 : decode cX0_count 48 = .ok (.ifnonnull 7, 3) := dk_199 0 7 (dk_at dksX0_count_2 20 rfl rfl)
theorem dX0_count_51 : decode cX0_count 51 = .ok (.iconst 0, 1) := dk_3 (dk_at dksX0_count_2 23 rfl rfl)
theorem dX0_count_52 : decode cX0_count 52 = .ok (.goto 4, 3) := dk_167 0 4 (dk_at dksX0_count_3 0 rfl rfl)
theorem dX0_count_55 : decode cX0_count 55 = .ok (.iconst 1, 1) := dk_4 (dk_at dksX0_count_3 3 rfl rfl)
theorem dX0_count_56 : decode cX0_count 56 = .ok (.iadd, 1) := dk_96 (dk_at dksX0_count_3 4 rfl rfl)
theorem dX0_count_57 : decode cX0_count 57 = .ok (.ireturn, 1) := dk_172 (dk_at dksX0_count_3 5 rfl rfl)
theorem dX0_count_58 : decode cX0_count 58 = .ok (.aload_n 0, 1) := dk_42 (dk_at dksX0_count_3 6 rfl rfl)
theorem dX0_count_59 : decode cX0_count 59 = .ok (.getfield 21, 3) := dk_180 0 21 (dk_at dksX0_count_3 7 rfl rfl)
theorem dX0_count_62 : decode cX0_count 62 = .ok (.ireturn, 1) := dk_172 (dk_at dksX0_count_3 10 rfl rfl)
theorem dX0_count_63 : decode cX0_count 63 = .ok (.aload_n 0, 1) := dk_42 (dk_at dksX0_count_3 11 rfl rfl)
theorem dX0_count_64 : decode cX0_count 64 = .ok (.getfield 270, 3) := dk_180 1 14 (dk_at dksX0_count_3 12 rfl rfl)
theorem dX0_count_67 : decode cX0_count 67 = .ok (.iconst 0, 1) := dk_3 (dk_at dksX0_count_3 15 rfl rfl)
theorem dX0_count_68 : decode cX0_count 68 = .ok (.aaload, 1) := dk_50 (dk_at dksX0_count_3 16 rfl rfl)
theorem dX0_count_69 : decode cX0_count 69 = .ok (.getfield 295, 3) := dk_180 1 39 (dk_at dksX0_count_3 17 rfl rfl)
theorem dX0_count_72 : decode cX0_count 72 = .ok (.ifnonnull 8, 3) := dk_199 0 8 (dk_at dksX0_count_3 20 rfl rfl)
theorem dX0_count_75 : decode cX0_count 75 = .ok (.bipush (-4), 2) := dk_16 252 (dk_at dksX0_count_4 0 rfl rfl)
theorem dX0_count_77 : decode cX0_count 77 = .ok (.goto 12, 3) := dk_167 0 12 (dk_at dksX0_count_4 2 rfl rfl)
theorem dX0_count_80 : decode cX0_count 80 = .ok (.aload_n 0, 1) := dk_42 (dk_at dksX0_count_4 5 rfl rfl)
theorem dX0_count_81 : decode cX0_count 81 = .ok (.getfield 270, 3) := dk_180 1 14 (dk_at dksX0_count_4 6 rfl rfl)
theorem dX0_count_84 : decode cX0_count 84 = .ok (.iconst 0, 1) := dk_3 (dk_at dksX0_count_4 9 rfl rfl)
theorem dX0_count_85 : decode cX0_count 85 = .ok (.aaload, 1) := dk_50 (dk_at dksX0_count_4 10 rfl rfl)
theorem dX0_count_86 : decode cX0_count 86 = .ok (.getfield 299, 3) := dk_180 1 43 (dk_at dksX0_count_4 11 rfl rfl)
theorem dX0_count_89 : decode cX0_count 89 = .ok (.ireturn, 1) := dk_172 (dk_at dksX0_count_4 14 rfl rfl)
theorem dX0_count_90 : decode cX0_count 90 = .ok (.iconst (-1), 1) := dk_2 (dk_at dksX0_count_4 15 rfl rfl)
theorem dX0_count_91 : decode cX0_count 91 = .ok (.ireturn, 1) := dk_172 (dk_at dksX0_count_4 16 rfl rfl)
theorem q94 : (Jvm.Cond.initialized "PromiseTries") ∈ lw_all := lw_g (lw_at lw_m1 1 rfl) rfl
theorem q123 : (Jvm.Cond.instanceMethod ({ cls := "PromiseTries", name := "feed", desc := "(I)I" } : Jvm.MethodName)) ∈ lw_all := lw_g (lw_at lw_m1 30 rfl) rfl
theorem q124 : (Jvm.Cond.selects "PromiseTries" ({ cls := "PromiseTries", name := "feed", desc := "(I)I" } : Jvm.MethodName) ({ cls := "PromiseTries", name := "feed", desc := "(I)I" } : Jvm.MethodName)) ∈ lw_all := lw_g (lw_at lw_m1 31 rfl) rfl
theorem q125 : (Jvm.Cond.code ({ cls := "PromiseTries", name := "feed", desc := "(I)I" } : Jvm.MethodName) prog_1_method_4_code (2 : Nat) (Option.some Jvm.ClassFile.FieldType.int)) ∈ lw_all := lw_g (lw_at lw_m1 32 rfl) rfl
theorem q126 : (Jvm.Cond.constantLong "PromiseTries" (15 : Nat) (127 : Int64)) ∈ lw_all := lw_g (lw_at lw_m1 33 rfl) rfl
theorem q127 : (Jvm.Cond.methodLink "PromiseTries" (17 : Nat) ({ cls := "PromiseTries", name := "isIn", desc := "(JJJ)Z" } : Jvm.MethodName)) ∈ lw_all := lw_g (lw_at lw_m1 34 rfl) rfl
theorem q128 : (Jvm.Cond.static ({ cls := "PromiseTries", name := "isIn", desc := "(JJJ)Z" } : Jvm.MethodName)) ∈ lw_all := lw_g (lw_at lw_m1 35 rfl) rfl
theorem q129 : (Jvm.Cond.code ({ cls := "PromiseTries", name := "isIn", desc := "(JJJ)Z" } : Jvm.MethodName) prog_1_method_1_code (6 : Nat) (Option.some Jvm.ClassFile.FieldType.boolean)) ∈ lw_all := lw_g (lw_at lw_m1 36 rfl) rfl
theorem q131 : (Jvm.Cond.instanceMethod ({ cls := "PromiseTries", name := "end", desc := "(I)I" } : Jvm.MethodName)) ∈ lw_all := lw_g (lw_at lw_m1 38 rfl) rfl
theorem q132 : (Jvm.Cond.selects "PromiseTries" ({ cls := "PromiseTries", name := "end", desc := "(I)I" } : Jvm.MethodName) ({ cls := "PromiseTries", name := "end", desc := "(I)I" } : Jvm.MethodName)) ∈ lw_all := lw_g (lw_at lw_m1 39 rfl) rfl
theorem q133 : (Jvm.Cond.code ({ cls := "PromiseTries", name := "end", desc := "(I)I" } : Jvm.MethodName) prog_1_method_5_code (3 : Nat) (Option.some Jvm.ClassFile.FieldType.int)) ∈ lw_all := lw_g (lw_at lw_m1 40 rfl) rfl
theorem q135 : (Jvm.Cond.instanceMethod ({ cls := "PromiseTries", name := "text", desc := "()I" } : Jvm.MethodName)) ∈ lw_all := lw_g (lw_at lw_m1 42 rfl) rfl
theorem q136 : (Jvm.Cond.selects "PromiseTries" ({ cls := "PromiseTries", name := "text", desc := "()I" } : Jvm.MethodName) ({ cls := "PromiseTries", name := "text", desc := "()I" } : Jvm.MethodName)) ∈ lw_all := lw_g (lw_at lw_m1 43 rfl) rfl
theorem q137 : (Jvm.Cond.codeWith ({ cls := "PromiseTries", name := "text", desc := "()I" } : Jvm.MethodName) prog_1_method_6_code (3 : Nat) (Option.some Jvm.ClassFile.FieldType.int) [((26 : Nat), (82 : Nat), (83 : Nat), (65 : Nat))]) ∈ lw_all := lw_g (lw_at lw_m1 44 rfl) rfl
theorem q138 : (Jvm.Cond.classLink "PromiseTries" (65 : Nat) "PromiseTries$Fault") ∈ lw_all := lw_g (lw_at lw_m1 45 rfl) rfl
theorem q139 : (Jvm.Cond.methodLink "PromiseTries" (29 : Nat) ({ cls := "java/lang/System", name := "arraycopy", desc := "(Ljava/lang/Object;ILjava/lang/Object;II)V" } : Jvm.MethodName)) ∈ lw_all := lw_g (lw_at lw_m1 46 rfl) rfl
theorem q142 : (Jvm.Cond.classLink "PromiseTries" (35 : Nat) "PromiseTries$Reader") ∈ lw_all := lw_g (lw_at lw_m1 49 rfl) rfl
theorem q144 : (Jvm.Cond.methodLink "PromiseTries" (37 : Nat) ({ cls := "PromiseTries$Reader", name := "<init>", desc := "([B)V" } : Jvm.MethodName)) ∈ lw_all := lw_g (lw_at lw_m1 51 rfl) rfl
theorem q238 : (Jvm.Cond.fieldLinkNest "PromiseTries" (67 : Nat) "PromiseTries$Fault" "code" "I" "PromiseTries") ∈ lw_tbl := lw_at lw_m1 145 rfl
theorem q240 : (Jvm.Cond.fieldLinkNest "PromiseTries" (70 : Nat) "PromiseTries$Fault" "place" "I" "PromiseTries") ∈ lw_tbl := lw_at lw_m1 147 rfl
theorem q264 : (Jvm.Cond.fieldLinkNest "PromiseTries" (45 : Nat) "PromiseTries$Reader" "promises" "[LPromiseTries$Promise;" "PromiseTries") ∈ lw_tbl := lw_at lw_m1 171 rfl
theorem q265 : (Jvm.Cond.fieldLinkNest "PromiseTries" (50 : Nat) "PromiseTries$Reader" "many" "I" "PromiseTries") ∈ lw_tbl := lw_at lw_m1 172 rfl
theorem q292 : (Jvm.Cond.methodLink "PromiseTries" (41 : Nat) ({ cls := "PromiseTries$Reader", name := "all", desc := "()LPromiseTries$Reader;" } : Jvm.MethodName)) ∈ lw_all := lw_g (lw_at lw_m1 199 rfl) rfl
theorem q322 : (Jvm.Cond.fieldLinkNest "PromiseTries" (213 : Nat) "PromiseTries$Side" "conditions" "[LPromiseTries$Holds;" "PromiseTries") ∈ lw_tbl := lw_at lw_m1 229 rfl
theorem q324 : (Jvm.Cond.fieldLinkNest "PromiseTries" (194 : Nat) "PromiseTries$Side" "many" "I" "PromiseTries") ∈ lw_tbl := lw_at lw_m1 231 rfl
theorem q326 : (Jvm.Cond.fieldLinkNest "PromiseTries" (195 : Nat) "PromiseTries$Side" "node" "LPromiseTries$Node;" "PromiseTries") ∈ lw_tbl := lw_at lw_m1 233 rfl
theorem q327 : (Jvm.Cond.fieldLinkNest "PromiseTries" (76 : Nat) "PromiseTries$Side" "machine" "LPromiseTries$Machine;" "PromiseTries") ∈ lw_tbl := lw_at lw_m1 234 rfl
theorem q330 : (Jvm.Cond.fieldLinkNest "PromiseTries" (96 : Nat) "PromiseTries$Side" "runs" "[[J" "PromiseTries") ∈ lw_tbl := lw_at lw_m1 237 rfl
theorem q344 : (Jvm.Cond.fieldLinkNest "PromiseTries" (127 : Nat) "PromiseTries$Promise" "sides" "[LPromiseTries$Side;" "PromiseTries") ∈ lw_tbl := lw_at lw_m2 11 rfl
theorem q348 : (Jvm.Cond.fieldLinkNest "PromiseTries" (192 : Nat) "PromiseTries$Promise" "kind" "I" "PromiseTries") ∈ lw_tbl := lw_at lw_m2 15 rfl
theorem q349 : (Jvm.Cond.fieldLinkNest "PromiseTries" (139 : Nat) "PromiseTries$Promise" "off" "LPromiseTries$Holds;" "PromiseTries") ∈ lw_tbl := lw_at lw_m2 16 rfl
theorem q507 : (Jvm.Cond.static ({ cls := "PromiseTries", name := "capped", desc := "(I)I" } : Jvm.MethodName)) ∈ lw_all := lw_g (lw_at lw_m2 174 rfl) rfl
theorem q508 : (Jvm.Cond.code ({ cls := "PromiseTries", name := "capped", desc := "(I)I" } : Jvm.MethodName) prog_1_method_2_code (1 : Nat) (Option.some Jvm.ClassFile.FieldType.int)) ∈ lw_all := lw_g (lw_at lw_m2 175 rfl) rfl
theorem q509 : (Jvm.Cond.methodLink "PromiseTries" (1 : Nat) ({ cls := "java/lang/Math", name := "min", desc := "(II)I" } : Jvm.MethodName)) ∈ lw_all := lw_g (lw_at lw_m2 176 rfl) rfl
theorem q552 : (Jvm.Cond.fieldLinkNest "PromiseTries" (82 : Nat) "PromiseTries$Machine" "first" "J" "PromiseTries") ∈ lw_tbl := lw_at lw_m2 219 rfl
theorem q630 : (Jvm.Cond.static ({ cls := "PromiseTries", name := "fulfilling", desc := "(LPromiseTries$Holds;)I" } : Jvm.MethodName)) ∈ lw_all := lw_g (lw_at lw_m3 57 rfl) rfl
theorem q631 : (Jvm.Cond.code ({ cls := "PromiseTries", name := "fulfilling", desc := "(LPromiseTries$Holds;)I" } : Jvm.MethodName) prog_1_method_3_code (3 : Nat) (Option.some Jvm.ClassFile.FieldType.int)) ∈ lw_all := lw_g (lw_at lw_m3 58 rfl) rfl
theorem q632 : (Jvm.Cond.interfaceEntry "PromiseTries" (9 : Nat)) ∈ lw_tbl := lw_at lw_m3 59 rfl
theorem q633 : (Jvm.Cond.methodLink "PromiseTries" (9 : Nat) ({ cls := "PromiseTries$Holds", name := "at", desc := "(I)Z" } : Jvm.MethodName)) ∈ lw_all := lw_g (lw_at lw_m3 60 rfl) rfl
theorem q644 : (Jvm.Cond.instanceMethod ({ cls := "PromiseTries", name := "fault", desc := "()I" } : Jvm.MethodName)) ∈ lw_all := lw_g (lw_at lw_m3 71 rfl) rfl
theorem q645 : (Jvm.Cond.selects "PromiseTries" ({ cls := "PromiseTries", name := "fault", desc := "()I" } : Jvm.MethodName) ({ cls := "PromiseTries", name := "fault", desc := "()I" } : Jvm.MethodName)) ∈ lw_all := lw_g (lw_at lw_m3 72 rfl) rfl
theorem q646 : (Jvm.Cond.code ({ cls := "PromiseTries", name := "fault", desc := "()I" } : Jvm.MethodName) prog_1_method_7_code (1 : Nat) (Option.some Jvm.ClassFile.FieldType.int)) ∈ lw_all := lw_g (lw_at lw_m3 73 rfl) rfl
theorem q648 : (Jvm.Cond.instanceMethod ({ cls := "PromiseTries", name := "rule", desc := "(I)I" } : Jvm.MethodName)) ∈ lw_all := lw_g (lw_at lw_m3 75 rfl) rfl
theorem q649 : (Jvm.Cond.selects "PromiseTries" ({ cls := "PromiseTries", name := "rule", desc := "(I)I" } : Jvm.MethodName) ({ cls := "PromiseTries", name := "rule", desc := "(I)I" } : Jvm.MethodName)) ∈ lw_all := lw_g (lw_at lw_m3 76 rfl) rfl
theorem q650 : (Jvm.Cond.code ({ cls := "PromiseTries", name := "rule", desc := "(I)I" } : Jvm.MethodName) prog_1_method_22_code (2 : Nat) (Option.some Jvm.ClassFile.FieldType.int)) ∈ lw_all := lw_g (lw_at lw_m3 77 rfl) rfl
theorem q651 : (Jvm.Cond.methodLink "PromiseTries" (184 : Nat) ({ cls := "PromiseTries", name := "countedAll", desc := "(I)I" } : Jvm.MethodName)) ∈ lw_all := lw_g (lw_at lw_m3 78 rfl) rfl
theorem q652 : (Jvm.Cond.privateMethod ({ cls := "PromiseTries", name := "countedAll", desc := "(I)I" } : Jvm.MethodName)) ∈ lw_tbl := lw_at lw_m3 79 rfl
theorem q653 : (Jvm.Cond.instanceMethod ({ cls := "PromiseTries", name := "countedAll", desc := "(I)I" } : Jvm.MethodName)) ∈ lw_all := lw_g (lw_at lw_m3 80 rfl) rfl
theorem q654 : (Jvm.Cond.instantiable "PromiseTries" (16 : Nat)) ∈ lw_all := lw_g (lw_at lw_m3 81 rfl) rfl
theorem q655 : (Jvm.Cond.code ({ cls := "PromiseTries", name := "countedAll", desc := "(I)I" } : Jvm.MethodName) prog_1_method_21_code (4 : Nat) (Option.some Jvm.ClassFile.FieldType.int)) ∈ lw_all := lw_g (lw_at lw_m3 82 rfl) rfl
theorem q656 : (Jvm.Cond.methodLink "PromiseTries" (177 : Nat) ({ cls := "PromiseTries", name := "runsAll", desc := "()V" } : Jvm.MethodName)) ∈ lw_all := lw_g (lw_at lw_m3 83 rfl) rfl
theorem q657 : (Jvm.Cond.privateMethod ({ cls := "PromiseTries", name := "runsAll", desc := "()V" } : Jvm.MethodName)) ∈ lw_tbl := lw_at lw_m3 84 rfl
theorem q658 : (Jvm.Cond.instanceMethod ({ cls := "PromiseTries", name := "runsAll", desc := "()V" } : Jvm.MethodName)) ∈ lw_all := lw_g (lw_at lw_m3 85 rfl) rfl
theorem q659 : (Jvm.Cond.code ({ cls := "PromiseTries", name := "runsAll", desc := "()V" } : Jvm.MethodName) prog_1_method_16_code (2 : Nat) (Option.none : Option Jvm.ClassFile.FieldType)) ∈ lw_all := lw_g (lw_at lw_m3 86 rfl) rfl
theorem q660 : (Jvm.Cond.methodLink "PromiseTries" (167 : Nat) ({ cls := "PromiseTries", name := "runs", desc := "(LPromiseTries$Side;)V" } : Jvm.MethodName)) ∈ lw_all := lw_g (lw_at lw_m3 87 rfl) rfl
theorem q661 : (Jvm.Cond.privateMethod ({ cls := "PromiseTries", name := "runs", desc := "(LPromiseTries$Side;)V" } : Jvm.MethodName)) ∈ lw_tbl := lw_at lw_m3 88 rfl
theorem q662 : (Jvm.Cond.instanceMethod ({ cls := "PromiseTries", name := "runs", desc := "(LPromiseTries$Side;)V" } : Jvm.MethodName)) ∈ lw_all := lw_g (lw_at lw_m3 89 rfl) rfl
theorem q663 : (Jvm.Cond.code ({ cls := "PromiseTries", name := "runs", desc := "(LPromiseTries$Side;)V" } : Jvm.MethodName) prog_1_method_8_code (6 : Nat) (Option.none : Option Jvm.ClassFile.FieldType)) ∈ lw_all := lw_g (lw_at lw_m3 90 rfl) rfl
theorem q664 : (Jvm.Cond.methodLink "PromiseTries" (92 : Nat) ({ cls := "PromiseTries$Machine", name := "taking", desc := "(JI)J" } : Jvm.MethodName)) ∈ lw_all := lw_g (lw_at lw_m3 91 rfl) rfl
theorem q670 : (Jvm.Cond.methodLink "PromiseTries" (100 : Nat) ({ cls := "PromiseTries$Machine", name := "behindAll", desc := "(J)J" } : Jvm.MethodName)) ∈ lw_all := lw_g (lw_at lw_m3 97 rfl) rfl
theorem q674 : (Jvm.Cond.methodLink "PromiseTries" (170 : Nat) ({ cls := "PromiseTries", name := "judges", desc := "(I)V" } : Jvm.MethodName)) ∈ lw_all := lw_g (lw_at lw_m3 101 rfl) rfl
theorem q675 : (Jvm.Cond.privateMethod ({ cls := "PromiseTries", name := "judges", desc := "(I)V" } : Jvm.MethodName)) ∈ lw_tbl := lw_at lw_m3 102 rfl
theorem q676 : (Jvm.Cond.instanceMethod ({ cls := "PromiseTries", name := "judges", desc := "(I)V" } : Jvm.MethodName)) ∈ lw_all := lw_g (lw_at lw_m3 103 rfl) rfl
theorem q677 : (Jvm.Cond.code ({ cls := "PromiseTries", name := "judges", desc := "(I)V" } : Jvm.MethodName) prog_1_method_15_code (5 : Nat) (Option.none : Option Jvm.ClassFile.FieldType)) ∈ lw_all := lw_g (lw_at lw_m3 104 rfl) rfl
theorem q678 : (Jvm.Cond.methodLink "PromiseTries" (153 : Nat) ({ cls := "PromiseTries", name := "dutyOf", desc := "(LPromiseTries$Promise;I)I" } : Jvm.MethodName)) ∈ lw_all := lw_g (lw_at lw_m3 105 rfl) rfl
theorem q679 : (Jvm.Cond.privateMethod ({ cls := "PromiseTries", name := "dutyOf", desc := "(LPromiseTries$Promise;I)I" } : Jvm.MethodName)) ∈ lw_tbl := lw_at lw_m3 106 rfl
theorem q680 : (Jvm.Cond.instanceMethod ({ cls := "PromiseTries", name := "dutyOf", desc := "(LPromiseTries$Promise;I)I" } : Jvm.MethodName)) ∈ lw_all := lw_g (lw_at lw_m3 107 rfl) rfl
theorem q681 : (Jvm.Cond.code ({ cls := "PromiseTries", name := "dutyOf", desc := "(LPromiseTries$Promise;I)I" } : Jvm.MethodName) prog_1_method_11_code (6 : Nat) (Option.some Jvm.ClassFile.FieldType.int)) ∈ lw_all := lw_g (lw_at lw_m3 108 rfl) rfl
theorem q682 : (Jvm.Cond.methodLink "PromiseTries" (115 : Nat) ({ cls := "PromiseTries$Promise", name := "kind", desc := "()LPromiseTries$Kind;" } : Jvm.MethodName)) ∈ lw_all := lw_g (lw_at lw_m3 109 rfl) rfl
theorem q690 : (Jvm.Cond.methodLink "PromiseTries" (121 : Nat) ({ cls := "PromiseTries$Kind", name := "begin", desc := "(I)I" } : Jvm.MethodName)) ∈ lw_all := lw_g (lw_at lw_m3 117 rfl) rfl
theorem q699 : (Jvm.Cond.methodLink "PromiseTries" (131 : Nat) ({ cls := "PromiseTries", name := "firstEnd", desc := "(LPromiseTries$Side;I)I" } : Jvm.MethodName)) ∈ lw_all := lw_g (lw_at lw_m3 126 rfl) rfl
theorem q700 : (Jvm.Cond.privateMethod ({ cls := "PromiseTries", name := "firstEnd", desc := "(LPromiseTries$Side;I)I" } : Jvm.MethodName)) ∈ lw_tbl := lw_at lw_m3 127 rfl
theorem q701 : (Jvm.Cond.instanceMethod ({ cls := "PromiseTries", name := "firstEnd", desc := "(LPromiseTries$Side;I)I" } : Jvm.MethodName)) ∈ lw_all := lw_g (lw_at lw_m3 128 rfl) rfl
theorem q702 : (Jvm.Cond.code ({ cls := "PromiseTries", name := "firstEnd", desc := "(LPromiseTries$Side;I)I" } : Jvm.MethodName) prog_1_method_9_code (4 : Nat) (Option.some Jvm.ClassFile.FieldType.int)) ∈ lw_all := lw_g (lw_at lw_m3 129 rfl) rfl
theorem q703 : (Jvm.Cond.methodLink "PromiseTries" (104 : Nat) ({ cls := "PromiseTries$Machine", name := "ends", desc := "(J)Z" } : Jvm.MethodName)) ∈ lw_all := lw_g (lw_at lw_m3 130 rfl) rfl
theorem q707 : (Jvm.Cond.methodLink "PromiseTries" (135 : Nat) ({ cls := "PromiseTries", name := "firstLost", desc := "(LPromiseTries$Side;II)I" } : Jvm.MethodName)) ∈ lw_all := lw_g (lw_at lw_m3 134 rfl) rfl
theorem q708 : (Jvm.Cond.privateMethod ({ cls := "PromiseTries", name := "firstLost", desc := "(LPromiseTries$Side;II)I" } : Jvm.MethodName)) ∈ lw_tbl := lw_at lw_m3 135 rfl
theorem q709 : (Jvm.Cond.instanceMethod ({ cls := "PromiseTries", name := "firstLost", desc := "(LPromiseTries$Side;II)I" } : Jvm.MethodName)) ∈ lw_all := lw_g (lw_at lw_m3 136 rfl) rfl
theorem q710 : (Jvm.Cond.code ({ cls := "PromiseTries", name := "firstLost", desc := "(LPromiseTries$Side;II)I" } : Jvm.MethodName) prog_1_method_10_code (6 : Nat) (Option.some Jvm.ClassFile.FieldType.int)) ∈ lw_all := lw_g (lw_at lw_m3 137 rfl) rfl
theorem q711 : (Jvm.Cond.methodLink "PromiseTries" (108 : Nat) ({ cls := "PromiseTries$Machine", name := "mightBegin", desc := "()Z" } : Jvm.MethodName)) ∈ lw_all := lw_g (lw_at lw_m3 138 rfl) rfl
theorem q715 : (Jvm.Cond.methodLink "PromiseTries" (112 : Nat) ({ cls := "PromiseTries$Machine", name := "mightGoOn", desc := "(J)Z" } : Jvm.MethodName)) ∈ lw_all := lw_g (lw_at lw_m3 142 rfl) rfl
theorem q719 : (Jvm.Cond.methodLink "PromiseTries" (160 : Nat) ({ cls := "PromiseTries", name := "judged", desc := "(LPromiseTries$Promise;II[I)I" } : Jvm.MethodName)) ∈ lw_all := lw_g (lw_at lw_m3 146 rfl) rfl
theorem q720 : (Jvm.Cond.privateMethod ({ cls := "PromiseTries", name := "judged", desc := "(LPromiseTries$Promise;II[I)I" } : Jvm.MethodName)) ∈ lw_tbl := lw_at lw_m3 147 rfl
theorem q721 : (Jvm.Cond.instanceMethod ({ cls := "PromiseTries", name := "judged", desc := "(LPromiseTries$Promise;II[I)I" } : Jvm.MethodName)) ∈ lw_all := lw_g (lw_at lw_m3 148 rfl) rfl
theorem q722 : (Jvm.Cond.code ({ cls := "PromiseTries", name := "judged", desc := "(LPromiseTries$Promise;II[I)I" } : Jvm.MethodName) prog_1_method_14_code (10 : Nat) (Option.some Jvm.ClassFile.FieldType.int)) ∈ lw_all := lw_g (lw_at lw_m3 149 rfl) rfl
theorem q723 : (Jvm.Cond.methodLink "PromiseTries" (143 : Nat) ({ cls := "PromiseTries", name := "isDuty", desc := "(LPromiseTries$Promise;II)Z" } : Jvm.MethodName)) ∈ lw_all := lw_g (lw_at lw_m3 150 rfl) rfl
theorem q724 : (Jvm.Cond.privateMethod ({ cls := "PromiseTries", name := "isDuty", desc := "(LPromiseTries$Promise;II)Z" } : Jvm.MethodName)) ∈ lw_tbl := lw_at lw_m3 151 rfl
theorem q725 : (Jvm.Cond.instanceMethod ({ cls := "PromiseTries", name := "isDuty", desc := "(LPromiseTries$Promise;II)Z" } : Jvm.MethodName)) ∈ lw_all := lw_g (lw_at lw_m3 152 rfl) rfl
theorem q726 : (Jvm.Cond.code ({ cls := "PromiseTries", name := "isDuty", desc := "(LPromiseTries$Promise;II)Z" } : Jvm.MethodName) prog_1_method_13_code (5 : Nat) (Option.some Jvm.ClassFile.FieldType.boolean)) ∈ lw_all := lw_g (lw_at lw_m3 153 rfl) rfl
theorem q727 : (Jvm.Cond.methodLink "PromiseTries" (147 : Nat) ({ cls := "PromiseTries", name := "dutyBy", desc := "(II)I" } : Jvm.MethodName)) ∈ lw_all := lw_g (lw_at lw_m3 154 rfl) rfl
theorem q728 : (Jvm.Cond.static ({ cls := "PromiseTries", name := "dutyBy", desc := "(II)I" } : Jvm.MethodName)) ∈ lw_all := lw_g (lw_at lw_m3 155 rfl) rfl
theorem q729 : (Jvm.Cond.code ({ cls := "PromiseTries", name := "dutyBy", desc := "(II)I" } : Jvm.MethodName) prog_1_method_12_code (2 : Nat) (Option.some Jvm.ClassFile.FieldType.int)) ∈ lw_all := lw_g (lw_at lw_m3 156 rfl) rfl
theorem q730 : (Jvm.Cond.methodLink "PromiseTries" (181 : Nat) ({ cls := "PromiseTries", name := "counted", desc := "(II)I" } : Jvm.MethodName)) ∈ lw_all := lw_g (lw_at lw_m3 157 rfl) rfl
theorem q731 : (Jvm.Cond.privateMethod ({ cls := "PromiseTries", name := "counted", desc := "(II)I" } : Jvm.MethodName)) ∈ lw_tbl := lw_at lw_m3 158 rfl
theorem q732 : (Jvm.Cond.instanceMethod ({ cls := "PromiseTries", name := "counted", desc := "(II)I" } : Jvm.MethodName)) ∈ lw_all := lw_g (lw_at lw_m3 159 rfl) rfl
theorem q733 : (Jvm.Cond.code ({ cls := "PromiseTries", name := "counted", desc := "(II)I" } : Jvm.MethodName) prog_1_method_20_code (5 : Nat) (Option.some Jvm.ClassFile.FieldType.int)) ∈ lw_all := lw_g (lw_at lw_m3 160 rfl) rfl
theorem q734 : (Jvm.Cond.methodLink "PromiseTries" (174 : Nat) ({ cls := "PromiseTries", name := "dutiesOf", desc := "(II)I" } : Jvm.MethodName)) ∈ lw_all := lw_g (lw_at lw_m3 161 rfl) rfl
theorem q735 : (Jvm.Cond.privateMethod ({ cls := "PromiseTries", name := "dutiesOf", desc := "(II)I" } : Jvm.MethodName)) ∈ lw_tbl := lw_at lw_m3 162 rfl
theorem q736 : (Jvm.Cond.instanceMethod ({ cls := "PromiseTries", name := "dutiesOf", desc := "(II)I" } : Jvm.MethodName)) ∈ lw_all := lw_g (lw_at lw_m3 163 rfl) rfl
theorem q737 : (Jvm.Cond.code ({ cls := "PromiseTries", name := "dutiesOf", desc := "(II)I" } : Jvm.MethodName) prog_1_method_19_code (5 : Nat) (Option.some Jvm.ClassFile.FieldType.int)) ∈ lw_all := lw_g (lw_at lw_m3 164 rfl) rfl
theorem q739 : (Jvm.Cond.instanceMethod ({ cls := "PromiseTries", name := "promise", desc := "(II)I" } : Jvm.MethodName)) ∈ lw_all := lw_g (lw_at lw_m3 166 rfl) rfl
theorem q740 : (Jvm.Cond.selects "PromiseTries" ({ cls := "PromiseTries", name := "promise", desc := "(II)I" } : Jvm.MethodName) ({ cls := "PromiseTries", name := "promise", desc := "(II)I" } : Jvm.MethodName)) ∈ lw_all := lw_g (lw_at lw_m3 167 rfl) rfl
theorem q741 : (Jvm.Cond.code ({ cls := "PromiseTries", name := "promise", desc := "(II)I" } : Jvm.MethodName) prog_1_method_23_code (5 : Nat) (Option.some Jvm.ClassFile.FieldType.int)) ∈ lw_all := lw_g (lw_at lw_m3 168 rfl) rfl
theorem q742 : (Jvm.Cond.methodLink "PromiseTries" (187 : Nat) ({ cls := "PromiseTries", name := "isPromise", desc := "(I)Z" } : Jvm.MethodName)) ∈ lw_all := lw_g (lw_at lw_m3 169 rfl) rfl
theorem q743 : (Jvm.Cond.privateMethod ({ cls := "PromiseTries", name := "isPromise", desc := "(I)Z" } : Jvm.MethodName)) ∈ lw_tbl := lw_at lw_m3 170 rfl
theorem q744 : (Jvm.Cond.instanceMethod ({ cls := "PromiseTries", name := "isPromise", desc := "(I)Z" } : Jvm.MethodName)) ∈ lw_all := lw_g (lw_at lw_m3 171 rfl) rfl
theorem q745 : (Jvm.Cond.code ({ cls := "PromiseTries", name := "isPromise", desc := "(I)Z" } : Jvm.MethodName) prog_1_method_17_code (2 : Nat) (Option.some Jvm.ClassFile.FieldType.boolean)) ∈ lw_all := lw_g (lw_at lw_m3 172 rfl) rfl
theorem q746 : (Jvm.Cond.constantLong "PromiseTries" (190 : Nat) (9 : Int64)) ∈ lw_all := lw_g (lw_at lw_m3 173 rfl) rfl
theorem q747 : (Jvm.Cond.methodLink "PromiseTries" (199 : Nat) ({ cls := "PromiseTries$Node", name := "weight", desc := "()I" } : Jvm.MethodName)) ∈ lw_all := lw_g (lw_at lw_m3 174 rfl) rfl
theorem q748 : (Jvm.Cond.methodLink "PromiseTries" (205 : Nat) ({ cls := "PromiseTries$Node", name := "least", desc := "()I" } : Jvm.MethodName)) ∈ lw_all := lw_g (lw_at lw_m3 175 rfl) rfl
theorem q749 : (Jvm.Cond.methodLink "PromiseTries" (208 : Nat) ({ cls := "PromiseTries$Node", name := "most", desc := "()I" } : Jvm.MethodName)) ∈ lw_all := lw_g (lw_at lw_m3 176 rfl) rfl
theorem q769 : (Jvm.Cond.instanceMethod ({ cls := "PromiseTries", name := "fulfils", desc := "(IIII)I" } : Jvm.MethodName)) ∈ lw_all := lw_g (lw_at lw_m3 196 rfl) rfl
theorem q770 : (Jvm.Cond.selects "PromiseTries" ({ cls := "PromiseTries", name := "fulfils", desc := "(IIII)I" } : Jvm.MethodName) ({ cls := "PromiseTries", name := "fulfils", desc := "(IIII)I" } : Jvm.MethodName)) ∈ lw_all := lw_g (lw_at lw_m3 197 rfl) rfl
theorem q771 : (Jvm.Cond.code ({ cls := "PromiseTries", name := "fulfils", desc := "(IIII)I" } : Jvm.MethodName) prog_1_method_25_code (6 : Nat) (Option.some Jvm.ClassFile.FieldType.int)) ∈ lw_all := lw_g (lw_at lw_m3 198 rfl) rfl
theorem q772 : (Jvm.Cond.methodLink "PromiseTries" (217 : Nat) ({ cls := "PromiseTries", name := "conditionOf", desc := "(III)LPromiseTries$Holds;" } : Jvm.MethodName)) ∈ lw_all := lw_g (lw_at lw_m3 199 rfl) rfl
theorem q773 : (Jvm.Cond.privateMethod ({ cls := "PromiseTries", name := "conditionOf", desc := "(III)LPromiseTries$Holds;" } : Jvm.MethodName)) ∈ lw_tbl := lw_at lw_m3 200 rfl
theorem q774 : (Jvm.Cond.instanceMethod ({ cls := "PromiseTries", name := "conditionOf", desc := "(III)LPromiseTries$Holds;" } : Jvm.MethodName)) ∈ lw_all := lw_g (lw_at lw_m3 201 rfl) rfl
theorem q775 : (Jvm.Cond.code ({ cls := "PromiseTries", name := "conditionOf", desc := "(III)LPromiseTries$Holds;" } : Jvm.MethodName) prog_1_method_24_code (5 : Nat) (Option.some (Jvm.ClassFile.FieldType.object "PromiseTries$Holds"))) ∈ lw_all := lw_g (lw_at lw_m3 202 rfl) rfl
theorem q776 : (Jvm.Cond.constantLong "PromiseTries" (211 : Nat) (2 : Int64)) ∈ lw_all := lw_g (lw_at lw_m3 203 rfl) rfl
theorem q777 : (Jvm.Cond.constantLong "PromiseTries" (221 : Nat) (255 : Int64)) ∈ lw_all := lw_g (lw_at lw_m3 204 rfl) rfl
theorem q779 : (Jvm.Cond.instanceMethod ({ cls := "PromiseTries", name := "fulfilled", desc := "(III)I" } : Jvm.MethodName)) ∈ lw_all := lw_g (lw_at lw_m3 206 rfl) rfl
theorem q780 : (Jvm.Cond.selects "PromiseTries" ({ cls := "PromiseTries", name := "fulfilled", desc := "(III)I" } : Jvm.MethodName) ({ cls := "PromiseTries", name := "fulfilled", desc := "(III)I" } : Jvm.MethodName)) ∈ lw_all := lw_g (lw_at lw_m3 207 rfl) rfl
theorem q781 : (Jvm.Cond.code ({ cls := "PromiseTries", name := "fulfilled", desc := "(III)I" } : Jvm.MethodName) prog_1_method_26_code (5 : Nat) (Option.some Jvm.ClassFile.FieldType.int)) ∈ lw_all := lw_g (lw_at lw_m3 208 rfl) rfl
theorem q782 : (Jvm.Cond.methodLink "PromiseTries" (223 : Nat) ({ cls := "PromiseTries", name := "fulfilling", desc := "(LPromiseTries$Holds;)I" } : Jvm.MethodName)) ∈ lw_all := lw_g (lw_at lw_m3 209 rfl) rfl
theorem q784 : (Jvm.Cond.instanceMethod ({ cls := "PromiseTries", name := "matches", desc := "(IIII)I" } : Jvm.MethodName)) ∈ lw_all := lw_g (lw_at lw_m3 211 rfl) rfl
theorem q785 : (Jvm.Cond.selects "PromiseTries" ({ cls := "PromiseTries", name := "matches", desc := "(IIII)I" } : Jvm.MethodName) ({ cls := "PromiseTries", name := "matches", desc := "(IIII)I" } : Jvm.MethodName)) ∈ lw_all := lw_g (lw_at lw_m3 212 rfl) rfl
theorem q786 : (Jvm.Cond.code ({ cls := "PromiseTries", name := "matches", desc := "(IIII)I" } : Jvm.MethodName) prog_1_method_28_code (6 : Nat) (Option.some Jvm.ClassFile.FieldType.int)) ∈ lw_all := lw_g (lw_at lw_m3 213 rfl) rfl
theorem q787 : (Jvm.Cond.methodLink "PromiseTries" (227 : Nat) ({ cls := "PromiseTries", name := "isSide", desc := "(III)Z" } : Jvm.MethodName)) ∈ lw_all := lw_g (lw_at lw_m3 214 rfl) rfl
theorem q788 : (Jvm.Cond.privateMethod ({ cls := "PromiseTries", name := "isSide", desc := "(III)Z" } : Jvm.MethodName)) ∈ lw_tbl := lw_at lw_m3 215 rfl
theorem q789 : (Jvm.Cond.instanceMethod ({ cls := "PromiseTries", name := "isSide", desc := "(III)Z" } : Jvm.MethodName)) ∈ lw_all := lw_g (lw_at lw_m3 216 rfl) rfl
theorem q790 : (Jvm.Cond.code ({ cls := "PromiseTries", name := "isSide", desc := "(III)Z" } : Jvm.MethodName) prog_1_method_27_code (4 : Nat) (Option.some Jvm.ClassFile.FieldType.boolean)) ∈ lw_all := lw_g (lw_at lw_m3 217 rfl) rfl
theorem q791 : (Jvm.Cond.methodLink "PromiseTries" (231 : Nat) ({ cls := "java/lang/Math", name := "max", desc := "(II)I" } : Jvm.MethodName)) ∈ lw_all := lw_g (lw_at lw_m3 218 rfl) rfl
theorem q793 : (Jvm.Cond.instanceMethod ({ cls := "PromiseTries", name := "might", desc := "(III)I" } : Jvm.MethodName)) ∈ lw_all := lw_g (lw_at lw_m3 220 rfl) rfl
theorem q794 : (Jvm.Cond.selects "PromiseTries" ({ cls := "PromiseTries", name := "might", desc := "(III)I" } : Jvm.MethodName) ({ cls := "PromiseTries", name := "might", desc := "(III)I" } : Jvm.MethodName)) ∈ lw_all := lw_g (lw_at lw_m3 221 rfl) rfl
theorem q795 : (Jvm.Cond.code ({ cls := "PromiseTries", name := "might", desc := "(III)I" } : Jvm.MethodName) prog_1_method_29_code (5 : Nat) (Option.some Jvm.ClassFile.FieldType.int)) ∈ lw_all := lw_g (lw_at lw_m3 222 rfl) rfl
theorem q797 : (Jvm.Cond.instanceMethod ({ cls := "PromiseTries", name := "tick", desc := "(I)I" } : Jvm.MethodName)) ∈ lw_all := lw_g (lw_at lw_m3 224 rfl) rfl
theorem q798 : (Jvm.Cond.selects "PromiseTries" ({ cls := "PromiseTries", name := "tick", desc := "(I)I" } : Jvm.MethodName) ({ cls := "PromiseTries", name := "tick", desc := "(I)I" } : Jvm.MethodName)) ∈ lw_all := lw_g (lw_at lw_m3 225 rfl) rfl
theorem q799 : (Jvm.Cond.code ({ cls := "PromiseTries", name := "tick", desc := "(I)I" } : Jvm.MethodName) prog_1_method_32_code (2 : Nat) (Option.some Jvm.ClassFile.FieldType.int)) ∈ lw_all := lw_g (lw_at lw_m3 226 rfl) rfl
theorem q800 : (Jvm.Cond.methodLink "PromiseTries" (234 : Nat) ({ cls := "PromiseTries", name := "comes", desc := "(I)V" } : Jvm.MethodName)) ∈ lw_all := lw_g (lw_at lw_m3 227 rfl) rfl
theorem q801 : (Jvm.Cond.privateMethod ({ cls := "PromiseTries", name := "comes", desc := "(I)V" } : Jvm.MethodName)) ∈ lw_tbl := lw_at lw_m3 228 rfl
theorem q802 : (Jvm.Cond.instanceMethod ({ cls := "PromiseTries", name := "comes", desc := "(I)V" } : Jvm.MethodName)) ∈ lw_all := lw_g (lw_at lw_m3 229 rfl) rfl
theorem q803 : (Jvm.Cond.code ({ cls := "PromiseTries", name := "comes", desc := "(I)V" } : Jvm.MethodName) prog_1_method_31_code (2 : Nat) (Option.none : Option Jvm.ClassFile.FieldType)) ∈ lw_all := lw_g (lw_at lw_m3 230 rfl) rfl
theorem q804 : (Jvm.Cond.methodLink "PromiseTries" (237 : Nat) ({ cls := "PromiseTries", name := "failedBy", desc := "(I)I" } : Jvm.MethodName)) ∈ lw_all := lw_g (lw_at lw_m3 231 rfl) rfl
theorem q805 : (Jvm.Cond.privateMethod ({ cls := "PromiseTries", name := "failedBy", desc := "(I)I" } : Jvm.MethodName)) ∈ lw_tbl := lw_at lw_m3 232 rfl
theorem q806 : (Jvm.Cond.instanceMethod ({ cls := "PromiseTries", name := "failedBy", desc := "(I)I" } : Jvm.MethodName)) ∈ lw_all := lw_g (lw_at lw_m3 233 rfl) rfl
theorem q807 : (Jvm.Cond.code ({ cls := "PromiseTries", name := "failedBy", desc := "(I)I" } : Jvm.MethodName) prog_1_method_30_code (5 : Nat) (Option.some Jvm.ClassFile.FieldType.int)) ∈ lw_all := lw_g (lw_at lw_m3 234 rfl) rfl
theorem q809 : (Jvm.Cond.instanceMethod ({ cls := "PromiseTries", name := "bits", desc := "(I)I" } : Jvm.MethodName)) ∈ lw_all := lw_g (lw_at lw_m3 236 rfl) rfl
theorem q810 : (Jvm.Cond.selects "PromiseTries" ({ cls := "PromiseTries", name := "bits", desc := "(I)I" } : Jvm.MethodName) ({ cls := "PromiseTries", name := "bits", desc := "(I)I" } : Jvm.MethodName)) ∈ lw_all := lw_g (lw_at lw_m3 237 rfl) rfl
theorem q811 : (Jvm.Cond.code ({ cls := "PromiseTries", name := "bits", desc := "(I)I" } : Jvm.MethodName) prog_1_method_33_code (2 : Nat) (Option.some Jvm.ClassFile.FieldType.int)) ∈ lw_all := lw_g (lw_at lw_m3 238 rfl) rfl
theorem q812 : (Jvm.Cond.methodLink "PromiseTries" (240 : Nat) ({ cls := "PromiseTries", name := "isTick", desc := "(I)Z" } : Jvm.MethodName)) ∈ lw_all := lw_g (lw_at lw_m3 239 rfl) rfl
theorem q813 : (Jvm.Cond.privateMethod ({ cls := "PromiseTries", name := "isTick", desc := "(I)Z" } : Jvm.MethodName)) ∈ lw_tbl := lw_at lw_m4 0 rfl
theorem q814 : (Jvm.Cond.instanceMethod ({ cls := "PromiseTries", name := "isTick", desc := "(I)Z" } : Jvm.MethodName)) ∈ lw_all := lw_g (lw_at lw_m4 1 rfl) rfl
theorem q815 : (Jvm.Cond.code ({ cls := "PromiseTries", name := "isTick", desc := "(I)Z" } : Jvm.MethodName) prog_1_method_18_code (2 : Nat) (Option.some Jvm.ClassFile.FieldType.boolean)) ∈ lw_all := lw_g (lw_at lw_m4 2 rfl) rfl
theorem q817 : (Jvm.Cond.instanceMethod ({ cls := "PromiseTries", name := "put", desc := "(II)I" } : Jvm.MethodName)) ∈ lw_all := lw_g (lw_at lw_m4 4 rfl) rfl
theorem q818 : (Jvm.Cond.selects "PromiseTries" ({ cls := "PromiseTries", name := "put", desc := "(II)I" } : Jvm.MethodName) ({ cls := "PromiseTries", name := "put", desc := "(II)I" } : Jvm.MethodName)) ∈ lw_all := lw_g (lw_at lw_m4 5 rfl) rfl
theorem q819 : (Jvm.Cond.code ({ cls := "PromiseTries", name := "put", desc := "(II)I" } : Jvm.MethodName) prog_1_method_34_code (4 : Nat) (Option.some Jvm.ClassFile.FieldType.int)) ∈ lw_all := lw_g (lw_at lw_m4 6 rfl) rfl
theorem q821 : (Jvm.Cond.instanceMethod ({ cls := "PromiseTries", name := "keeps", desc := "(I)I" } : Jvm.MethodName)) ∈ lw_all := lw_g (lw_at lw_m4 8 rfl) rfl
theorem q822 : (Jvm.Cond.selects "PromiseTries" ({ cls := "PromiseTries", name := "keeps", desc := "(I)I" } : Jvm.MethodName) ({ cls := "PromiseTries", name := "keeps", desc := "(I)I" } : Jvm.MethodName)) ∈ lw_all := lw_g (lw_at lw_m4 9 rfl) rfl
theorem q823 : (Jvm.Cond.code ({ cls := "PromiseTries", name := "keeps", desc := "(I)I" } : Jvm.MethodName) prog_1_method_35_code (3 : Nat) (Option.some Jvm.ClassFile.FieldType.int)) ∈ lw_all := lw_g (lw_at lw_m4 10 rfl) rfl
theorem q825 : (Jvm.Cond.instanceMethod ({ cls := "PromiseTries", name := "draw", desc := "(II)I" } : Jvm.MethodName)) ∈ lw_all := lw_g (lw_at lw_m4 12 rfl) rfl
theorem q826 : (Jvm.Cond.selects "PromiseTries" ({ cls := "PromiseTries", name := "draw", desc := "(II)I" } : Jvm.MethodName) ({ cls := "PromiseTries", name := "draw", desc := "(II)I" } : Jvm.MethodName)) ∈ lw_all := lw_g (lw_at lw_m4 13 rfl) rfl
theorem q827 : (Jvm.Cond.code ({ cls := "PromiseTries", name := "draw", desc := "(II)I" } : Jvm.MethodName) prog_1_method_37_code (5 : Nat) (Option.some Jvm.ClassFile.FieldType.int)) ∈ lw_all := lw_g (lw_at lw_m4 14 rfl) rfl
theorem q828 : (Jvm.Cond.constantLong "PromiseTries" (247 : Nat) (20 : Int64)) ∈ lw_all := lw_g (lw_at lw_m4 15 rfl) rfl
theorem q829 : (Jvm.Cond.methodLink "PromiseTries" (249 : Nat) ({ cls := "PromiseTries", name := "got", desc := "()I" } : Jvm.MethodName)) ∈ lw_all := lw_g (lw_at lw_m4 16 rfl) rfl
theorem q830 : (Jvm.Cond.privateMethod ({ cls := "PromiseTries", name := "got", desc := "()I" } : Jvm.MethodName)) ∈ lw_tbl := lw_at lw_m4 17 rfl
theorem q831 : (Jvm.Cond.instanceMethod ({ cls := "PromiseTries", name := "got", desc := "()I" } : Jvm.MethodName)) ∈ lw_all := lw_g (lw_at lw_m4 18 rfl) rfl
theorem q832 : (Jvm.Cond.code ({ cls := "PromiseTries", name := "got", desc := "()I" } : Jvm.MethodName) prog_1_method_36_code (1 : Nat) (Option.some Jvm.ClassFile.FieldType.int)) ∈ lw_all := lw_g (lw_at lw_m4 19 rfl) rfl
theorem q833 : (Jvm.Cond.constant "PromiseTries" (246 : Nat) (1103515245 : Int32)) ∈ lw_all := lw_g (lw_at lw_m4 20 rfl) rfl
theorem q835 : (Jvm.Cond.instanceMethod ({ cls := "PromiseTries", name := "verdict", desc := "(II)I" } : Jvm.MethodName)) ∈ lw_all := lw_g (lw_at lw_m4 22 rfl) rfl
theorem q836 : (Jvm.Cond.selects "PromiseTries" ({ cls := "PromiseTries", name := "verdict", desc := "(II)I" } : Jvm.MethodName) ({ cls := "PromiseTries", name := "verdict", desc := "(II)I" } : Jvm.MethodName)) ∈ lw_all := lw_g (lw_at lw_m4 23 rfl) rfl
theorem q837 : (Jvm.Cond.code ({ cls := "PromiseTries", name := "verdict", desc := "(II)I" } : Jvm.MethodName) prog_1_method_38_code (3 : Nat) (Option.some Jvm.ClassFile.FieldType.int)) ∈ lw_all := lw_g (lw_at lw_m4 24 rfl) rfl
theorem q839 : (Jvm.Cond.instanceMethod ({ cls := "PromiseTries", name := "decided", desc := "(II)I" } : Jvm.MethodName)) ∈ lw_all := lw_g (lw_at lw_m4 26 rfl) rfl
theorem q840 : (Jvm.Cond.selects "PromiseTries" ({ cls := "PromiseTries", name := "decided", desc := "(II)I" } : Jvm.MethodName) ({ cls := "PromiseTries", name := "decided", desc := "(II)I" } : Jvm.MethodName)) ∈ lw_all := lw_g (lw_at lw_m4 27 rfl) rfl
theorem q841 : (Jvm.Cond.code ({ cls := "PromiseTries", name := "decided", desc := "(II)I" } : Jvm.MethodName) prog_1_method_39_code (3 : Nat) (Option.some Jvm.ClassFile.FieldType.int)) ∈ lw_all := lw_g (lw_at lw_m4 28 rfl) rfl
theorem q843 : (Jvm.Cond.instanceMethod ({ cls := "PromiseTries", name := "duties", desc := "(II)I" } : Jvm.MethodName)) ∈ lw_all := lw_g (lw_at lw_m4 30 rfl) rfl
theorem q844 : (Jvm.Cond.selects "PromiseTries" ({ cls := "PromiseTries", name := "duties", desc := "(II)I" } : Jvm.MethodName) ({ cls := "PromiseTries", name := "duties", desc := "(II)I" } : Jvm.MethodName)) ∈ lw_all := lw_g (lw_at lw_m4 31 rfl) rfl
theorem q845 : (Jvm.Cond.code ({ cls := "PromiseTries", name := "duties", desc := "(II)I" } : Jvm.MethodName) prog_1_method_40_code (3 : Nat) (Option.some Jvm.ClassFile.FieldType.int)) ∈ lw_all := lw_g (lw_at lw_m4 32 rfl) rfl
theorem q847 : (Jvm.Cond.instanceMethod ({ cls := "PromiseTries", name := "duty", desc := "(IIII)I" } : Jvm.MethodName)) ∈ lw_all := lw_g (lw_at lw_m4 34 rfl) rfl
theorem q848 : (Jvm.Cond.selects "PromiseTries" ({ cls := "PromiseTries", name := "duty", desc := "(IIII)I" } : Jvm.MethodName) ({ cls := "PromiseTries", name := "duty", desc := "(IIII)I" } : Jvm.MethodName)) ∈ lw_all := lw_g (lw_at lw_m4 35 rfl) rfl
theorem q849 : (Jvm.Cond.code ({ cls := "PromiseTries", name := "duty", desc := "(IIII)I" } : Jvm.MethodName) prog_1_method_42_code (7 : Nat) (Option.some Jvm.ClassFile.FieldType.int)) ∈ lw_all := lw_g (lw_at lw_m4 36 rfl) rfl
theorem q850 : (Jvm.Cond.methodLink "PromiseTries" (252 : Nat) ({ cls := "PromiseTries", name := "dutyAt", desc := "(III)I" } : Jvm.MethodName)) ∈ lw_all := lw_g (lw_at lw_m4 37 rfl) rfl
theorem q851 : (Jvm.Cond.privateMethod ({ cls := "PromiseTries", name := "dutyAt", desc := "(III)I" } : Jvm.MethodName)) ∈ lw_tbl := lw_at lw_m4 38 rfl
theorem q852 : (Jvm.Cond.instanceMethod ({ cls := "PromiseTries", name := "dutyAt", desc := "(III)I" } : Jvm.MethodName)) ∈ lw_all := lw_g (lw_at lw_m4 39 rfl) rfl
theorem q853 : (Jvm.Cond.code ({ cls := "PromiseTries", name := "dutyAt", desc := "(III)I" } : Jvm.MethodName) prog_1_method_41_code (6 : Nat) (Option.some Jvm.ClassFile.FieldType.int)) ∈ lw_all := lw_g (lw_at lw_m4 40 rfl) rfl
theorem q855 : (Jvm.Cond.instanceMethod ({ cls := "PromiseTries", name := "tries", desc := "(II)I" } : Jvm.MethodName)) ∈ lw_all := lw_g (lw_at lw_m4 42 rfl) rfl
theorem q856 : (Jvm.Cond.selects "PromiseTries" ({ cls := "PromiseTries", name := "tries", desc := "(II)I" } : Jvm.MethodName) ({ cls := "PromiseTries", name := "tries", desc := "(II)I" } : Jvm.MethodName)) ∈ lw_all := lw_g (lw_at lw_m4 43 rfl) rfl
theorem q857 : (Jvm.Cond.code ({ cls := "PromiseTries", name := "tries", desc := "(II)I" } : Jvm.MethodName) prog_1_method_43_code (3 : Nat) (Option.some Jvm.ClassFile.FieldType.int)) ∈ lw_all := lw_g (lw_at lw_m4 44 rfl) rfl
theorem q858 : (Jvm.Cond.constantLong "PromiseTries" (256 : Nat) (4 : Int64)) ∈ lw_all := lw_g (lw_at lw_m4 45 rfl) rfl
theorem q860 : (Jvm.Cond.instanceMethod ({ cls := "PromiseTries", name := "first", desc := "(II)I" } : Jvm.MethodName)) ∈ lw_all := lw_g (lw_at lw_m4 47 rfl) rfl
theorem q861 : (Jvm.Cond.selects "PromiseTries" ({ cls := "PromiseTries", name := "first", desc := "(II)I" } : Jvm.MethodName) ({ cls := "PromiseTries", name := "first", desc := "(II)I" } : Jvm.MethodName)) ∈ lw_all := lw_g (lw_at lw_m4 48 rfl) rfl
theorem q862 : (Jvm.Cond.code ({ cls := "PromiseTries", name := "first", desc := "(II)I" } : Jvm.MethodName) prog_1_method_44_code (4 : Nat) (Option.some Jvm.ClassFile.FieldType.int)) ∈ lw_all := lw_g (lw_at lw_m4 49 rfl) rfl
theorem q864 : (Jvm.Cond.instanceMethod ({ cls := "PromiseTries", name := "keep", desc := "(I)I" } : Jvm.MethodName)) ∈ lw_all := lw_g (lw_at lw_m4 51 rfl) rfl
theorem q865 : (Jvm.Cond.selects "PromiseTries" ({ cls := "PromiseTries", name := "keep", desc := "(I)I" } : Jvm.MethodName) ({ cls := "PromiseTries", name := "keep", desc := "(I)I" } : Jvm.MethodName)) ∈ lw_all := lw_g (lw_at lw_m4 52 rfl) rfl
theorem q866 : (Jvm.Cond.code ({ cls := "PromiseTries", name := "keep", desc := "(I)I" } : Jvm.MethodName) prog_1_method_46_code (3 : Nat) (Option.some Jvm.ClassFile.FieldType.int)) ∈ lw_all := lw_g (lw_at lw_m4 53 rfl) rfl
theorem q867 : (Jvm.Cond.methodLink "PromiseTries" (258 : Nat) ({ cls := "PromiseTries", name := "isImage", desc := "(I)Z" } : Jvm.MethodName)) ∈ lw_all := lw_g (lw_at lw_m4 54 rfl) rfl
theorem q868 : (Jvm.Cond.static ({ cls := "PromiseTries", name := "isImage", desc := "(I)Z" } : Jvm.MethodName)) ∈ lw_all := lw_g (lw_at lw_m4 55 rfl) rfl
theorem q869 : (Jvm.Cond.code ({ cls := "PromiseTries", name := "isImage", desc := "(I)Z" } : Jvm.MethodName) prog_1_method_45_code (1 : Nat) (Option.some Jvm.ClassFile.FieldType.boolean)) ∈ lw_all := lw_g (lw_at lw_m4 56 rfl) rfl
theorem q872 : (Jvm.Cond.instanceMethod ({ cls := "PromiseTries", name := "back", desc := "(I)I" } : Jvm.MethodName)) ∈ lw_all := lw_g (lw_at lw_m4 59 rfl) rfl
theorem q873 : (Jvm.Cond.selects "PromiseTries" ({ cls := "PromiseTries", name := "back", desc := "(I)I" } : Jvm.MethodName) ({ cls := "PromiseTries", name := "back", desc := "(I)I" } : Jvm.MethodName)) ∈ lw_all := lw_g (lw_at lw_m4 60 rfl) rfl
theorem q874 : (Jvm.Cond.code ({ cls := "PromiseTries", name := "back", desc := "(I)I" } : Jvm.MethodName) prog_1_method_47_code (2 : Nat) (Option.some Jvm.ClassFile.FieldType.int)) ∈ lw_all := lw_g (lw_at lw_m4 61 rfl) rfl
theorem q877 : (Jvm.Cond.instanceMethod ({ cls := "PromiseTries", name := "<init>", desc := "()V" } : Jvm.MethodName)) ∈ lw_all := lw_g (lw_at lw_m4 64 rfl) rfl
theorem q878 : (Jvm.Cond.code ({ cls := "PromiseTries", name := "<init>", desc := "()V" } : Jvm.MethodName) prog_1_method_48_code (1 : Nat) (Option.none : Option Jvm.ClassFile.FieldType)) ∈ lw_all := lw_g (lw_at lw_m4 65 rfl) rfl
theorem q879 : (Jvm.Cond.methodLink "PromiseTries" (261 : Nat) ({ cls := "java/lang/Object", name := "<init>", desc := "()V" } : Jvm.MethodName)) ∈ lw_all := lw_g (lw_at lw_m4 66 rfl) rfl
theorem q880 : (Jvm.Cond.classLink "PromiseTries" (116 : Nat) "PromiseTries$Promise") ∈ lw_all := lw_g (lw_at lw_m4 67 rfl) rfl
theorem q881 : (Jvm.Cond.classLink "PromiseTries" (265 : Nat) "[[I") ∈ lw_all := lw_g (lw_at lw_m4 68 rfl) rfl
theorem q883 : (Jvm.Cond.classLink "PromiseTries" (266 : Nat) "[I") ∈ lw_all := lw_g (lw_at lw_m4 70 rfl) rfl
theorem q884 : (Jvm.Cond.classLink "PromiseTries" (267 : Nat) "PromiseTries$Sheet") ∈ lw_all := lw_g (lw_at lw_m4 71 rfl) rfl
theorem q887 : (Jvm.Cond.methodLinkNest "PromiseTries" (269 : Nat) ({ cls := "PromiseTries$Sheet", name := "<init>", desc := "()V" } : Jvm.MethodName) "PromiseTries") ∈ lw_tbl := lw_at lw_m4 74 rfl
theorem q891 : (Jvm.Cond.fieldLinkNest "PromiseTries" (295 : Nat) "PromiseTries$Sheet" "row" "Ljava/lang/Object;" "PromiseTries") ∈ lw_tbl := lw_at lw_m4 78 rfl
theorem q892 : (Jvm.Cond.fieldLinkNest "PromiseTries" (299 : Nat) "PromiseTries$Sheet" "size" "I" "PromiseTries") ∈ lw_tbl := lw_at lw_m4 79 rfl
theorem q898 : (Jvm.Cond.classLink "PromiseTries" (274 : Nat) "PromiseTries$Cells") ∈ lw_all := lw_g (lw_at lw_m4 85 rfl) rfl
theorem q900 : (Jvm.Cond.static ({ cls := "PromiseTries", name := "lambda$new$0", desc := "(Ljava/lang/Object;I)I" } : Jvm.MethodName)) ∈ lw_all := lw_g (lw_at lw_m4 87 rfl) rfl
theorem q901 : (Jvm.Cond.code ({ cls := "PromiseTries", name := "lambda$new$0", desc := "(Ljava/lang/Object;I)I" } : Jvm.MethodName) prog_1_method_59_code (2 : Nat) (Option.some Jvm.ClassFile.FieldType.int)) ∈ lw_all := lw_g (lw_at lw_m4 88 rfl) rfl
theorem q902 : (Jvm.Cond.classLink "PromiseTries" (304 : Nat) "[B") ∈ lw_all := lw_g (lw_at lw_m4 89 rfl) rfl
theorem q903 : (Jvm.Cond.static ({ cls := "PromiseTries", name := "lambda$new$1", desc := "(Ljava/lang/Object;I)I" } : Jvm.MethodName)) ∈ lw_all := lw_g (lw_at lw_m4 90 rfl) rfl
theorem q904 : (Jvm.Cond.code ({ cls := "PromiseTries", name := "lambda$new$1", desc := "(Ljava/lang/Object;I)I" } : Jvm.MethodName) prog_1_method_58_code (2 : Nat) (Option.some Jvm.ClassFile.FieldType.int)) ∈ lw_all := lw_g (lw_at lw_m4 91 rfl) rfl
theorem q905 : (Jvm.Cond.classLink "PromiseTries" (305 : Nat) "[C") ∈ lw_all := lw_g (lw_at lw_m4 92 rfl) rfl
theorem q906 : (Jvm.Cond.static ({ cls := "PromiseTries", name := "lambda$new$2", desc := "(Ljava/lang/Object;I)I" } : Jvm.MethodName)) ∈ lw_all := lw_g (lw_at lw_m4 93 rfl) rfl
theorem q907 : (Jvm.Cond.code ({ cls := "PromiseTries", name := "lambda$new$2", desc := "(Ljava/lang/Object;I)I" } : Jvm.MethodName) prog_1_method_57_code (2 : Nat) (Option.some Jvm.ClassFile.FieldType.int)) ∈ lw_all := lw_g (lw_at lw_m4 94 rfl) rfl
theorem q908 : (Jvm.Cond.fieldLink "PromiseTries" (25 : Nat) "PromiseTries" "tape" "[B") ∈ lw_all := lw_g (lw_at lw_m4 95 rfl) rfl
theorem q909 : (Jvm.Cond.fieldLink "PromiseTries" (21 : Nat) "PromiseTries" "taped" "I") ∈ lw_all := lw_g (lw_at lw_m4 96 rfl) rfl
theorem q910 : (Jvm.Cond.fieldLink "PromiseTries" (62 : Nat) "PromiseTries" "fault" "I") ∈ lw_all := lw_g (lw_at lw_m4 97 rfl) rfl
theorem q911 : (Jvm.Cond.fieldLink "PromiseTries" (49 : Nat) "PromiseTries" "promises" "[LPromiseTries$Promise;") ∈ lw_all := lw_g (lw_at lw_m4 98 rfl) rfl
theorem q912 : (Jvm.Cond.fieldLink "PromiseTries" (53 : Nat) "PromiseTries" "many" "I") ∈ lw_all := lw_g (lw_at lw_m4 99 rfl) rfl
theorem q913 : (Jvm.Cond.fieldLink "PromiseTries" (88 : Nat) "PromiseTries" "trace" "[I") ∈ lw_all := lw_g (lw_at lw_m4 100 rfl) rfl
theorem q914 : (Jvm.Cond.fieldLink "PromiseTries" (73 : Nat) "PromiseTries" "ticks" "I") ∈ lw_all := lw_g (lw_at lw_m4 101 rfl) rfl
theorem q915 : (Jvm.Cond.fieldLink "PromiseTries" (58 : Nat) "PromiseTries" "isRun" "Z") ∈ lw_all := lw_g (lw_at lw_m4 102 rfl) rfl
theorem q916 : (Jvm.Cond.fieldLink "PromiseTries" (157 : Nat) "PromiseTries" "verdicts" "[[I") ∈ lw_all := lw_g (lw_at lw_m4 103 rfl) rfl
theorem q917 : (Jvm.Cond.fieldLink "PromiseTries" (164 : Nat) "PromiseTries" "decisions" "[[I") ∈ lw_all := lw_g (lw_at lw_m4 104 rfl) rfl
theorem q918 : (Jvm.Cond.fieldLink "PromiseTries" (150 : Nat) "PromiseTries" "duties" "[I") ∈ lw_all := lw_g (lw_at lw_m4 105 rfl) rfl
theorem q919 : (Jvm.Cond.fieldLink "PromiseTries" (243 : Nat) "PromiseTries" "drawn" "I") ∈ lw_all := lw_g (lw_at lw_m4 106 rfl) rfl
theorem q920 : (Jvm.Cond.fieldLink "PromiseTries" (54 : Nat) "PromiseTries" "images" "[[I") ∈ lw_all := lw_g (lw_at lw_m4 107 rfl) rfl
theorem q921 : (Jvm.Cond.fieldLink "PromiseTries" (270 : Nat) "PromiseTries" "sheets" "[LPromiseTries$Sheet;") ∈ lw_all := lw_g (lw_at lw_m4 108 rfl) rfl
theorem q922 : (Jvm.Cond.fieldLink "PromiseTries" (281 : Nat) "PromiseTries" "lanes" "[LPromiseTries$Cells;") ∈ lw_all := lw_g (lw_at lw_m4 109 rfl) rfl
theorem q923 : (Jvm.Cond.fieldLink "PromiseTries" (311 : Nat) "PromiseTries" "torn" "I") ∈ lw_all := lw_g (lw_at lw_m4 110 rfl) rfl
theorem q924 : (Jvm.Cond.laysFinal "PromiseTries" "PromiseTries" "tape" "[B") ∈ lw_all := lw_g (lw_at lw_m4 111 rfl) rfl
theorem q925 : (Jvm.Cond.soleField "PromiseTries" "tape") ∈ lw_all := lw_g (lw_at lw_m4 112 rfl) rfl
theorem q926 : (Jvm.Cond.lays "PromiseTries" "PromiseTries" "taped" "I") ∈ lw_all := lw_g (lw_at lw_m4 113 rfl) rfl
theorem q927 : (Jvm.Cond.soleField "PromiseTries" "taped") ∈ lw_all := lw_g (lw_at lw_m4 114 rfl) rfl
theorem q928 : (Jvm.Cond.lays "PromiseTries" "PromiseTries" "fault" "I") ∈ lw_all := lw_g (lw_at lw_m4 115 rfl) rfl
theorem q929 : (Jvm.Cond.soleField "PromiseTries" "fault") ∈ lw_all := lw_g (lw_at lw_m4 116 rfl) rfl
theorem q930 : (Jvm.Cond.lays "PromiseTries" "PromiseTries" "promises" "[LPromiseTries$Promise;") ∈ lw_all := lw_g (lw_at lw_m4 117 rfl) rfl
theorem q931 : (Jvm.Cond.soleField "PromiseTries" "promises") ∈ lw_all := lw_g (lw_at lw_m4 118 rfl) rfl
theorem q932 : (Jvm.Cond.lays "PromiseTries" "PromiseTries" "many" "I") ∈ lw_all := lw_g (lw_at lw_m4 119 rfl) rfl
theorem q933 : (Jvm.Cond.soleField "PromiseTries" "many") ∈ lw_all := lw_g (lw_at lw_m4 120 rfl) rfl
theorem q934 : (Jvm.Cond.laysFinal "PromiseTries" "PromiseTries" "trace" "[I") ∈ lw_all := lw_g (lw_at lw_m4 121 rfl) rfl
theorem q935 : (Jvm.Cond.soleField "PromiseTries" "trace") ∈ lw_all := lw_g (lw_at lw_m4 122 rfl) rfl
theorem q936 : (Jvm.Cond.lays "PromiseTries" "PromiseTries" "ticks" "I") ∈ lw_all := lw_g (lw_at lw_m4 123 rfl) rfl
theorem q937 : (Jvm.Cond.soleField "PromiseTries" "ticks") ∈ lw_all := lw_g (lw_at lw_m4 124 rfl) rfl
theorem q938 : (Jvm.Cond.lays "PromiseTries" "PromiseTries" "isRun" "Z") ∈ lw_all := lw_g (lw_at lw_m4 125 rfl) rfl
theorem q939 : (Jvm.Cond.soleField "PromiseTries" "isRun") ∈ lw_all := lw_g (lw_at lw_m4 126 rfl) rfl
theorem q940 : (Jvm.Cond.laysFinal "PromiseTries" "PromiseTries" "verdicts" "[[I") ∈ lw_all := lw_g (lw_at lw_m4 127 rfl) rfl
theorem q941 : (Jvm.Cond.soleField "PromiseTries" "verdicts") ∈ lw_all := lw_g (lw_at lw_m4 128 rfl) rfl
theorem q942 : (Jvm.Cond.laysFinal "PromiseTries" "PromiseTries" "decisions" "[[I") ∈ lw_all := lw_g (lw_at lw_m4 129 rfl) rfl
theorem q943 : (Jvm.Cond.soleField "PromiseTries" "decisions") ∈ lw_all := lw_g (lw_at lw_m4 130 rfl) rfl
theorem q944 : (Jvm.Cond.laysFinal "PromiseTries" "PromiseTries" "duties" "[I") ∈ lw_all := lw_g (lw_at lw_m4 131 rfl) rfl
theorem q945 : (Jvm.Cond.soleField "PromiseTries" "duties") ∈ lw_all := lw_g (lw_at lw_m4 132 rfl) rfl
theorem q946 : (Jvm.Cond.lays "PromiseTries" "PromiseTries" "drawn" "I") ∈ lw_all := lw_g (lw_at lw_m4 133 rfl) rfl
theorem q947 : (Jvm.Cond.soleField "PromiseTries" "drawn") ∈ lw_all := lw_g (lw_at lw_m4 134 rfl) rfl
theorem q948 : (Jvm.Cond.laysFinal "PromiseTries" "PromiseTries" "images" "[[I") ∈ lw_all := lw_g (lw_at lw_m4 135 rfl) rfl
theorem q949 : (Jvm.Cond.soleField "PromiseTries" "images") ∈ lw_all := lw_g (lw_at lw_m4 136 rfl) rfl
theorem q950 : (Jvm.Cond.laysFinal "PromiseTries" "PromiseTries" "sheets" "[LPromiseTries$Sheet;") ∈ lw_all := lw_g (lw_at lw_m4 137 rfl) rfl
theorem q951 : (Jvm.Cond.soleField "PromiseTries" "sheets") ∈ lw_all := lw_g (lw_at lw_m4 138 rfl) rfl
theorem q952 : (Jvm.Cond.laysFinal "PromiseTries" "PromiseTries" "lanes" "[LPromiseTries$Cells;") ∈ lw_all := lw_g (lw_at lw_m4 139 rfl) rfl
theorem q953 : (Jvm.Cond.soleField "PromiseTries" "lanes") ∈ lw_all := lw_g (lw_at lw_m4 140 rfl) rfl
theorem q954 : (Jvm.Cond.lays "PromiseTries" "PromiseTries" "torn" "I") ∈ lw_all := lw_g (lw_at lw_m4 141 rfl) rfl
theorem q955 : (Jvm.Cond.soleField "PromiseTries" "torn") ∈ lw_all := lw_g (lw_at lw_m4 142 rfl) rfl
theorem q956 : (Jvm.Cond.superclass "PromiseTries" "java/lang/Object") ∈ lw_all := lw_g (lw_at lw_m4 143 rfl) rfl
theorem q958 : (Jvm.Cond.instanceMethod ({ cls := "PromiseTries", name := "sheet", desc := "(III)I" } : Jvm.MethodName)) ∈ lw_all := lw_g (lw_at lw_m4 145 rfl) rfl
theorem q959 : (Jvm.Cond.selects "PromiseTries" ({ cls := "PromiseTries", name := "sheet", desc := "(III)I" } : Jvm.MethodName) ({ cls := "PromiseTries", name := "sheet", desc := "(III)I" } : Jvm.MethodName)) ∈ lw_all := lw_g (lw_at lw_m4 146 rfl) rfl
theorem q960 : (Jvm.Cond.codeWith ({ cls := "PromiseTries", name := "sheet", desc := "(III)I" } : Jvm.MethodName) prog_1_method_51_code (5 : Nat) (Option.some Jvm.ClassFile.FieldType.int) [((16 : Nat), (41 : Nat), (42 : Nat), (302 : Nat))]) ∈ lw_all := lw_g (lw_at lw_m4 147 rfl) rfl
theorem q961 : (Jvm.Cond.classLink "PromiseTries" (302 : Nat) "java/lang/NegativeArraySizeException") ∈ lw_all := lw_g (lw_at lw_m4 148 rfl) rfl
theorem q988 : (Jvm.Cond.methodLink "PromiseTries" (287 : Nat) ({ cls := "PromiseTries", name := "isSheet", desc := "(II)Z" } : Jvm.MethodName)) ∈ lw_all := lw_g (lw_at lw_m4 175 rfl) rfl
theorem q989 : (Jvm.Cond.static ({ cls := "PromiseTries", name := "isSheet", desc := "(II)Z" } : Jvm.MethodName)) ∈ lw_all := lw_g (lw_at lw_m4 176 rfl) rfl
theorem q990 : (Jvm.Cond.code ({ cls := "PromiseTries", name := "isSheet", desc := "(II)Z" } : Jvm.MethodName) prog_1_method_50_code (2 : Nat) (Option.some Jvm.ClassFile.FieldType.boolean)) ∈ lw_all := lw_g (lw_at lw_m4 177 rfl) rfl
theorem q991 : (Jvm.Cond.constantLong "PromiseTries" (285 : Nat) (3 : Int64)) ∈ lw_all := lw_g (lw_at lw_m4 178 rfl) rfl
theorem q992 : (Jvm.Cond.methodLink "PromiseTries" (291 : Nat) ({ cls := "PromiseTries", name := "newRow", desc := "(II)Ljava/lang/Object;" } : Jvm.MethodName)) ∈ lw_all := lw_g (lw_at lw_m4 179 rfl) rfl
theorem q993 : (Jvm.Cond.static ({ cls := "PromiseTries", name := "newRow", desc := "(II)Ljava/lang/Object;" } : Jvm.MethodName)) ∈ lw_all := lw_g (lw_at lw_m4 180 rfl) rfl
theorem q994 : (Jvm.Cond.code ({ cls := "PromiseTries", name := "newRow", desc := "(II)Ljava/lang/Object;" } : Jvm.MethodName) prog_1_method_49_code (2 : Nat) (Option.some (Jvm.ClassFile.FieldType.object "java/lang/Object"))) ∈ lw_all := lw_g (lw_at lw_m4 181 rfl) rfl
theorem q997 : (Jvm.Cond.instanceMethod ({ cls := "PromiseTries", name := "lay", desc := "(III)I" } : Jvm.MethodName)) ∈ lw_all := lw_g (lw_at lw_m4 184 rfl) rfl
theorem q998 : (Jvm.Cond.selects "PromiseTries" ({ cls := "PromiseTries", name := "lay", desc := "(III)I" } : Jvm.MethodName) ({ cls := "PromiseTries", name := "lay", desc := "(III)I" } : Jvm.MethodName)) ∈ lw_all := lw_g (lw_at lw_m4 185 rfl) rfl
theorem q999 : (Jvm.Cond.codeWith ({ cls := "PromiseTries", name := "lay", desc := "(III)I" } : Jvm.MethodName) prog_1_method_52_code (6 : Nat) (Option.some Jvm.ClassFile.FieldType.int) [((21 : Nat), (70 : Nat), (71 : Nat), (307 : Nat)), ((21 : Nat), (70 : Nat), (76 : Nat), (309 : Nat))]) ∈ lw_all := lw_g (lw_at lw_m4 186 rfl) rfl
theorem q1000 : (Jvm.Cond.classLink "PromiseTries" (307 : Nat) "java/lang/NullPointerException") ∈ lw_all := lw_g (lw_at lw_m4 187 rfl) rfl
theorem q1025 : (Jvm.Cond.classLink "PromiseTries" (309 : Nat) "java/lang/ArrayIndexOutOfBoundsException") ∈ lw_all := lw_g (lw_at lw_m4 212 rfl) rfl
theorem q1045 : (Jvm.Cond.instanceMethod ({ cls := "PromiseTries", name := "run", desc := "(IIII)I" } : Jvm.MethodName)) ∈ lw_all := lw_g (lw_at lw_m4 232 rfl) rfl
theorem q1046 : (Jvm.Cond.selects "PromiseTries" ({ cls := "PromiseTries", name := "run", desc := "(IIII)I" } : Jvm.MethodName) ({ cls := "PromiseTries", name := "run", desc := "(IIII)I" } : Jvm.MethodName)) ∈ lw_all := lw_g (lw_at lw_m4 233 rfl) rfl
theorem q1047 : (Jvm.Cond.code ({ cls := "PromiseTries", name := "run", desc := "(IIII)I" } : Jvm.MethodName) prog_1_method_54_code (5 : Nat) (Option.some Jvm.ClassFile.FieldType.int)) ∈ lw_all := lw_g (lw_at lw_m4 234 rfl) rfl
theorem q1048 : (Jvm.Cond.methodLink "PromiseTries" (319 : Nat) ({ cls := "PromiseTries", name := "comesBy", desc := "(Ljava/lang/Object;LPromiseTries$Cells;II)I" } : Jvm.MethodName)) ∈ lw_all := lw_g (lw_at lw_m4 235 rfl) rfl
theorem q1049 : (Jvm.Cond.privateMethod ({ cls := "PromiseTries", name := "comesBy", desc := "(Ljava/lang/Object;LPromiseTries$Cells;II)I" } : Jvm.MethodName)) ∈ lw_tbl := lw_at lw_m4 236 rfl
theorem q1050 : (Jvm.Cond.instanceMethod ({ cls := "PromiseTries", name := "comesBy", desc := "(Ljava/lang/Object;LPromiseTries$Cells;II)I" } : Jvm.MethodName)) ∈ lw_all := lw_g (lw_at lw_m4 237 rfl) rfl
theorem q1051 : (Jvm.Cond.codeWith ({ cls := "PromiseTries", name := "comesBy", desc := "(Ljava/lang/Object;LPromiseTries$Cells;II)I" } : Jvm.MethodName) prog_1_method_53_code (7 : Nat) (Option.some Jvm.ClassFile.FieldType.int) [((8 : Nat), (49 : Nat), (52 : Nat), (307 : Nat)), ((8 : Nat), (49 : Nat), (62 : Nat), (317 : Nat)), ((8 : Nat), (49 : Nat), (72 : Nat), (309 : Nat))]) ∈ lw_all := lw_g (lw_at lw_m4 238 rfl) rfl
theorem q1052 : (Jvm.Cond.classLink "PromiseTries" (317 : Nat) "java/lang/ClassCastException") ∈ lw_all := lw_g (lw_at lw_m4 239 rfl) rfl
theorem q1066 : (Jvm.Cond.interfaceEntry "PromiseTries" (314 : Nat)) ∈ lw_tbl := lw_at lw_m5 13 rfl
theorem q1067 : (Jvm.Cond.methodLink "PromiseTries" (314 : Nat) ({ cls := "PromiseTries$Cells", name := "at", desc := "(Ljava/lang/Object;I)I" } : Jvm.MethodName)) ∈ lw_all := lw_g (lw_at lw_m5 14 rfl) rfl
theorem q1071 : (Jvm.Cond.instanceMethod ({ cls := "PromiseTries", name := "torn", desc := "()I" } : Jvm.MethodName)) ∈ lw_all := lw_g (lw_at lw_m5 18 rfl) rfl
theorem q1072 : (Jvm.Cond.selects "PromiseTries" ({ cls := "PromiseTries", name := "torn", desc := "()I" } : Jvm.MethodName) ({ cls := "PromiseTries", name := "torn", desc := "()I" } : Jvm.MethodName)) ∈ lw_all := lw_g (lw_at lw_m5 19 rfl) rfl
theorem q1073 : (Jvm.Cond.code ({ cls := "PromiseTries", name := "torn", desc := "()I" } : Jvm.MethodName) prog_1_method_55_code (1 : Nat) (Option.some Jvm.ClassFile.FieldType.int)) ∈ lw_all := lw_g (lw_at lw_m5 20 rfl) rfl
theorem q1075 : (Jvm.Cond.instanceMethod ({ cls := "PromiseTries", name := "count", desc := "(I)I" } : Jvm.MethodName)) ∈ lw_all := lw_g (lw_at lw_m5 22 rfl) rfl
theorem q1076 : (Jvm.Cond.selects "PromiseTries" ({ cls := "PromiseTries", name := "count", desc := "(I)I" } : Jvm.MethodName) ({ cls := "PromiseTries", name := "count", desc := "(I)I" } : Jvm.MethodName)) ∈ lw_all := lw_g (lw_at lw_m5 23 rfl) rfl
theorem q1077 : (Jvm.Cond.code ({ cls := "PromiseTries", name := "count", desc := "(I)I" } : Jvm.MethodName) prog_1_method_56_code (2 : Nat) (Option.some Jvm.ClassFile.FieldType.int)) ∈ lw_all := lw_g (lw_at lw_m5 24 rfl) rfl
theorem in_X0 : ∀ w ∈ wsX00, w ∈ lw_all := lw_in wsX00 [924, 926, 928, 930, 932, 934, 936, 938, 940, 942, 944, 946, 948, 950, 952, 954] (by decide +kernel) (by decide +kernel)
/-! PromiseTries$Sheet -/
set_option maxRecDepth 100000
def RX1 : String := "PromiseTries$Sheet"
def TX1 : u_T := fun k => match k with
  | 0 => ("PromiseTries$Sheet", "row", "Ljava/lang/Object;", false)
  | _ => ("PromiseTries$Sheet", "size", "I", false)
def tyX1 : Nat → FieldType := fun k => match k with
  | 0 => .object "java/lang/Object"
  | _ => .int
abbrev wsX10 : List Cond := u_ws RX1 TX1 2
theorem nmX1 : ∀ a, a < 2 → ∀ b, b < 2 → a ≠ b → (TX1 a).2.1 ≠ (TX1 b).2.1 := by decide +kernel
theorem tyX1_ok : ∀ k, k < 2 → parseFieldDescriptor (TX1 k).2.2.1 = some (tyX1 k) := by decide +kernel
abbrev cX1_init : ByteArray := prog_15_method_1_code
def yX1_init : MethodName := ⟨RX1, "<init>", "()V"⟩
theorem dX1_init_0 : decode cX1_init 0 = .ok (.aload_n 0, 1) := by decide +kernel
theorem dX1_init_1 : decode cX1_init 1 = .ok (.invokespecial 1, 3) := by decide +kernel
theorem dX1_init_4 : decode cX1_init 4 = .ok (.return_, 1) := by decide +kernel
theorem q95 : (Jvm.Cond.initialized "PromiseTries$Sheet") ∈ lw_all := lw_g (lw_at lw_m1 2 rfl) rfl
theorem q886 : (Jvm.Cond.instantiable "PromiseTries$Sheet" (2 : Nat)) ∈ lw_all := lw_g (lw_at lw_m4 73 rfl) rfl
theorem q888 : (Jvm.Cond.instanceMethod ({ cls := "PromiseTries$Sheet", name := "<init>", desc := "()V" } : Jvm.MethodName)) ∈ lw_all := lw_g (lw_at lw_m4 75 rfl) rfl
theorem q889 : (Jvm.Cond.code ({ cls := "PromiseTries$Sheet", name := "<init>", desc := "()V" } : Jvm.MethodName) prog_15_method_1_code (1 : Nat) (Option.none : Option Jvm.ClassFile.FieldType)) ∈ lw_all := lw_g (lw_at lw_m4 76 rfl) rfl
theorem q890 : (Jvm.Cond.methodLink "PromiseTries$Sheet" (1 : Nat) ({ cls := "java/lang/Object", name := "<init>", desc := "()V" } : Jvm.MethodName)) ∈ lw_all := lw_g (lw_at lw_m4 77 rfl) rfl
theorem q893 : (Jvm.Cond.lays "PromiseTries$Sheet" "PromiseTries$Sheet" "row" "Ljava/lang/Object;") ∈ lw_all := lw_g (lw_at lw_m4 80 rfl) rfl
theorem q894 : (Jvm.Cond.soleField "PromiseTries$Sheet" "row") ∈ lw_all := lw_g (lw_at lw_m4 81 rfl) rfl
theorem q895 : (Jvm.Cond.lays "PromiseTries$Sheet" "PromiseTries$Sheet" "size" "I") ∈ lw_all := lw_g (lw_at lw_m4 82 rfl) rfl
theorem q896 : (Jvm.Cond.soleField "PromiseTries$Sheet" "size") ∈ lw_all := lw_g (lw_at lw_m4 83 rfl) rfl
theorem q897 : (Jvm.Cond.superclass "PromiseTries$Sheet" "java/lang/Object") ∈ lw_all := lw_g (lw_at lw_m4 84 rfl) rfl
theorem in_X1 : ∀ w ∈ wsX10, w ∈ lw_all := lw_in wsX10 [893, 895] (by decide +kernel) (by decide +kernel)
/-! PromiseTries$Two -/
set_option maxRecDepth 100000
def RX10 : String := "PromiseTries$Two"
abbrev cX10_init : ByteArray := prog_19_method_1_code
def yX10_init : MethodName := ⟨RX10, "<init>", "(LPromiseTries$Node;LPromiseTries$Node;)V"⟩
def dkwX10_init_0 : List UInt8 := [42, 183, 0, 1, 42, 43, 181, 0, 7, 42, 44, 181, 0, 13, 177]
abbrev dktX10_init_0 : List UInt8 := dkwX10_init_0 ++ []
theorem dksX10_init_0 : cX10_init.data.toList.drop 0 = dktX10_init_0 := by decide +kernel
theorem dX10_init_0 : decode cX10_init 0 = .ok (.aload_n 0, 1) := dk_42 (dk_at dksX10_init_0 0 rfl rfl)
theorem dX10_init_1 : decode cX10_init 1 = .ok (.invokespecial 1, 3) := dk_183 0 1 (dk_at dksX10_init_0 1 rfl rfl)
theorem dX10_init_4 : decode cX10_init 4 = .ok (.aload_n 0, 1) := dk_42 (dk_at dksX10_init_0 4 rfl rfl)
theorem dX10_init_5 : decode cX10_init 5 = .ok (.aload_n 1, 1) := dk_43 (dk_at dksX10_init_0 5 rfl rfl)
theorem dX10_init_6 : decode cX10_init 6 = .ok (.putfield 7, 3) := dk_181 0 7 (dk_at dksX10_init_0 6 rfl rfl)
theorem dX10_init_9 : decode cX10_init 9 = .ok (.aload_n 0, 1) := dk_42 (dk_at dksX10_init_0 9 rfl rfl)
theorem dX10_init_10 : decode cX10_init 10 = .ok (.aload_n 2, 1) := dk_44 (dk_at dksX10_init_0 10 rfl rfl)
theorem dX10_init_11 : decode cX10_init 11 = .ok (.putfield 13, 3) := dk_181 0 13 (dk_at dksX10_init_0 11 rfl rfl)
theorem dX10_init_14 : decode cX10_init 14 = .ok (.return_, 1) := dk_177 (dk_at dksX10_init_0 14 rfl rfl)
theorem q109 : (Jvm.Cond.initialized "PromiseTries$Two") ∈ lw_all := lw_g (lw_at lw_m1 16 rfl) rfl
theorem q463 : (Jvm.Cond.instanceMethod ({ cls := "PromiseTries$Two", name := "<init>", desc := "(LPromiseTries$Node;LPromiseTries$Node;)V" } : Jvm.MethodName)) ∈ lw_all := lw_g (lw_at lw_m2 130 rfl) rfl
theorem q464 : (Jvm.Cond.code ({ cls := "PromiseTries$Two", name := "<init>", desc := "(LPromiseTries$Node;LPromiseTries$Node;)V" } : Jvm.MethodName) prog_19_method_1_code (3 : Nat) (Option.none : Option Jvm.ClassFile.FieldType)) ∈ lw_all := lw_g (lw_at lw_m2 131 rfl) rfl
theorem q465 : (Jvm.Cond.methodLinkNest "PromiseTries$Two" (1 : Nat) ({ cls := "PromiseTries$Node", name := "<init>", desc := "()V" } : Jvm.MethodName) "PromiseTries") ∈ lw_tbl := lw_at lw_m2 132 rfl
theorem q466 : (Jvm.Cond.fieldLink "PromiseTries$Two" (7 : Nat) "PromiseTries$Two" "one" "LPromiseTries$Node;") ∈ lw_all := lw_g (lw_at lw_m2 133 rfl) rfl
theorem q471 : (Jvm.Cond.fieldLink "PromiseTries$Two" (13 : Nat) "PromiseTries$Two" "other" "LPromiseTries$Node;") ∈ lw_all := lw_g (lw_at lw_m2 138 rfl) rfl
theorem q477 : (Jvm.Cond.soleField "PromiseTries$Two" "one") ∈ lw_all := lw_g (lw_at lw_m2 144 rfl) rfl
theorem q479 : (Jvm.Cond.soleField "PromiseTries$Two" "other") ∈ lw_all := lw_g (lw_at lw_m2 146 rfl) rfl
theorem q526 : (Jvm.Cond.sameMethod "PromiseTries$Two" "PromiseTries$Node" "weight" "()I") ∈ lw_all := lw_g (lw_at lw_m2 193 rfl) rfl
theorem q528 : (Jvm.Cond.superclass "PromiseTries$Two" "PromiseTries$Node") ∈ lw_all := lw_g (lw_at lw_m2 195 rfl) rfl
/-! PromiseTries$Then -/
set_option maxRecDepth 100000
def RX11 : String := "PromiseTries$Then"
def TX11 : u_T := fun k => match k with
  | 0 => ("PromiseTries$Two", "one", "LPromiseTries$Node;", true)
  | _ => ("PromiseTries$Two", "other", "LPromiseTries$Node;", true)
def tyX11 : Nat → FieldType := fun k => match k with
  | 0 => .object "PromiseTries$Node"
  | _ => .object "PromiseTries$Node"
abbrev wsX110 : List Cond := u_ws RX11 TX11 2
theorem nmX11 : ∀ a, a < 2 → ∀ b, b < 2 → a ≠ b → (TX11 a).2.1 ≠ (TX11 b).2.1 := by decide +kernel
theorem tyX11_ok : ∀ k, k < 2 → parseFieldDescriptor (TX11 k).2.2.1 = some (tyX11 k) := by decide +kernel
abbrev cX11_init : ByteArray := prog_17_method_1_code
def yX11_init : MethodName := ⟨RX11, "<init>", "(LPromiseTries$Node;LPromiseTries$Node;)V"⟩
def dkwX11_init_0 : List UInt8 := [42, 43, 44, 183, 0, 1, 177]
abbrev dktX11_init_0 : List UInt8 := dkwX11_init_0 ++ []
theorem dksX11_init_0 : cX11_init.data.toList.drop 0 = dktX11_init_0 := by decide +kernel
theorem dX11_init_0 : decode cX11_init 0 = .ok (.aload_n 0, 1) := dk_42 (dk_at dksX11_init_0 0 rfl rfl)
theorem dX11_init_1 : decode cX11_init 1 = .ok (.aload_n 1, 1) := dk_43 (dk_at dksX11_init_0 1 rfl rfl)
theorem dX11_init_2 : decode cX11_init 2 = .ok (.aload_n 2, 1) := dk_44 (dk_at dksX11_init_0 2 rfl rfl)
theorem dX11_init_3 : decode cX11_init 3 = .ok (.invokespecial 1, 3) := dk_183 0 1 (dk_at dksX11_init_0 3 rfl rfl)
theorem dX11_init_6 : decode cX11_init 6 = .ok (.return_, 1) := dk_177 (dk_at dksX11_init_0 6 rfl rfl)
abbrev cX11_least : ByteArray := prog_17_method_3_code
def yX11_least : MethodName := ⟨RX11, "least", "()I"⟩
def dkwX11_least_0 : List UInt8 := [42, 180, 0, 11, 182, 0, 29, 42, 180, 0, 20, 182, 0, 29, 96, 184, 0, 23, 172]
abbrev dktX11_least_0 : List UInt8 := dkwX11_least_0 ++ []
theorem dksX11_least_0 : cX11_least.data.toList.drop 0 = dktX11_least_0 := by decide +kernel
theorem dX11_least_0 : decode cX11_least 0 = .ok (.aload_n 0, 1) := dk_42 (dk_at dksX11_least_0 0 rfl rfl)
theorem dX11_least_1 : decode cX11_least 1 = .ok (.getfield 11, 3) := dk_180 0 11 (dk_at dksX11_least_0 1 rfl rfl)
theorem dX11_least_4 : decode cX11_least 4 = .ok (.invokevirtual 29, 3) := dk_182 0 29 (dk_at dksX11_least_0 4 rfl rfl)
theorem dX11_least_7 : decode cX11_least 7 = .ok (.aload_n 0, 1) := dk_42 (dk_at dksX11_least_0 7 rfl rfl)
theorem dX11_least_8 : decode cX11_least 8 = .ok (.getfield 20, 3) := dk_180 0 20 (dk_at dksX11_least_0 8 rfl rfl)
theorem dX11_least_11 : decode cX11_least 11 = .ok (.invokevirtual 29, 3) := dk_182 0 29 (dk_at dksX11_least_0 11 rfl rfl)
theorem dX11_least_14 : decode cX11_least 14 = .ok (.iadd, 1) := dk_96 (dk_at dksX11_least_0 14 rfl rfl)
theorem dX11_least_15 : decode cX11_least 15 = .ok (.invokestatic 23, 3) := dk_184 0 23 (dk_at dksX11_least_0 15 rfl rfl)
theorem dX11_least_18 : decode cX11_least 18 = .ok (.ireturn, 1) := dk_172 (dk_at dksX11_least_0 18 rfl rfl)
abbrev cX11_weight : ByteArray := prog_17_method_2_code
def yX11_weight : MethodName := ⟨RX11, "weight", "()I"⟩
def dkwX11_weight_0 : List UInt8 := [42, 183, 0, 7, 42, 180, 0, 11, 182, 0, 17, 96, 42, 180, 0, 20, 182, 0, 17, 96, 184, 0, 23, 172]
abbrev dktX11_weight_0 : List UInt8 := dkwX11_weight_0 ++ []
theorem dksX11_weight_0 : cX11_weight.data.toList.drop 0 = dktX11_weight_0 := by decide +kernel
theorem dX11_weight_0 : decode cX11_weight 0 = .ok (.aload_n 0, 1) := dk_42 (dk_at dksX11_weight_0 0 rfl rfl)
theorem dX11_weight_1 : decode cX11_weight 1 = .ok (.invokespecial 7, 3) := dk_183 0 7 (dk_at dksX11_weight_0 1 rfl rfl)
theorem dX11_weight_4 : decode cX11_weight 4 = .ok (.aload_n 0, 1) := dk_42 (dk_at dksX11_weight_0 4 rfl rfl)
theorem dX11_weight_5 : decode cX11_weight 5 = .ok (.getfield 11, 3) := dk_180 0 11 (dk_at dksX11_weight_0 5 rfl rfl)
theorem dX11_weight_8 : decode cX11_weight 8 = .ok (.invokevirtual 17, 3) := dk_182 0 17 (dk_at dksX11_weight_0 8 rfl rfl)
theorem dX11_weight_11 : decode cX11_weight 11 = .ok (.iadd, 1) := dk_96 (dk_at dksX11_weight_0 11 rfl rfl)
theorem dX11_weight_12 : decode cX11_weight 12 = .ok (.aload_n 0, 1) := dk_42 (dk_at dksX11_weight_0 12 rfl rfl)
theorem dX11_weight_13 : decode cX11_weight 13 = .ok (.getfield 20, 3) := dk_180 0 20 (dk_at dksX11_weight_0 13 rfl rfl)
theorem dX11_weight_16 : decode cX11_weight 16 = .ok (.invokevirtual 17, 3) := dk_182 0 17 (dk_at dksX11_weight_0 16 rfl rfl)
theorem dX11_weight_19 : decode cX11_weight 19 = .ok (.iadd, 1) := dk_96 (dk_at dksX11_weight_0 19 rfl rfl)
theorem dX11_weight_20 : decode cX11_weight 20 = .ok (.invokestatic 23, 3) := dk_184 0 23 (dk_at dksX11_weight_0 20 rfl rfl)
theorem dX11_weight_23 : decode cX11_weight 23 = .ok (.ireturn, 1) := dk_172 (dk_at dksX11_weight_0 23 rfl rfl)
abbrev cX11_built : ByteArray := prog_17_method_5_code
def yX11_built : MethodName := ⟨RX11, "built", "(LPromiseTries$Machine;)LPromiseTries$Part;"⟩
def dkwX11_built_0 : List UInt8 := [42, 180, 0, 11, 43, 182, 0, 35, 77, 43, 44, 42, 180, 0, 20, 43, 182, 0, 35, 182, 0, 39, 176]
abbrev dktX11_built_0 : List UInt8 := dkwX11_built_0 ++ []
theorem dksX11_built_0 : cX11_built.data.toList.drop 0 = dktX11_built_0 := by decide +kernel
theorem dX11_built_0 : decode cX11_built 0 = .ok (.aload_n 0, 1) := dk_42 (dk_at dksX11_built_0 0 rfl rfl)
theorem dX11_built_1 : decode cX11_built 1 = .ok (.getfield 11, 3) := dk_180 0 11 (dk_at dksX11_built_0 1 rfl rfl)
theorem dX11_built_4 : decode cX11_built 4 = .ok (.aload_n 1, 1) := dk_43 (dk_at dksX11_built_0 4 rfl rfl)
theorem dX11_built_5 : decode cX11_built 5 = .ok (.invokevirtual 35, 3) := dk_182 0 35 (dk_at dksX11_built_0 5 rfl rfl)
theorem dX11_built_8 : decode cX11_built 8 = .ok (.astore_n 2, 1) := dk_77 (dk_at dksX11_built_0 8 rfl rfl)
theorem dX11_built_9 : decode cX11_built 9 = .ok (.aload_n 1, 1) := dk_43 (dk_at dksX11_built_0 9 rfl rfl)
theorem dX11_built_10 : decode cX11_built 10 = .ok (.aload_n 2, 1) := dk_44 (dk_at dksX11_built_0 10 rfl rfl)
theorem dX11_built_11 : decode cX11_built 11 = .ok (.aload_n 0, 1) := dk_42 (dk_at dksX11_built_0 11 rfl rfl)
theorem dX11_built_12 : decode cX11_built 12 = .ok (.getfield 20, 3) := dk_180 0 20 (dk_at dksX11_built_0 12 rfl rfl)
theorem dX11_built_15 : decode cX11_built 15 = .ok (.aload_n 1, 1) := dk_43 (dk_at dksX11_built_0 15 rfl rfl)
theorem dX11_built_16 : decode cX11_built 16 = .ok (.invokevirtual 35, 3) := dk_182 0 35 (dk_at dksX11_built_0 16 rfl rfl)
theorem dX11_built_19 : decode cX11_built 19 = .ok (.invokevirtual 39, 3) := dk_182 0 39 (dk_at dksX11_built_0 19 rfl rfl)
theorem dX11_built_22 : decode cX11_built 22 = .ok (.areturn, 1) := dk_176 (dk_at dksX11_built_0 22 rfl rfl)
abbrev cX11_most : ByteArray := prog_17_method_4_code
def yX11_most : MethodName := ⟨RX11, "most", "()I"⟩
def dkwX11_most_0 : List UInt8 := [42, 180, 0, 11, 182, 0, 32, 42, 180, 0, 20, 182, 0, 32, 96, 184, 0, 23, 172]
abbrev dktX11_most_0 : List UInt8 := dkwX11_most_0 ++ []
theorem dksX11_most_0 : cX11_most.data.toList.drop 0 = dktX11_most_0 := by decide +kernel
theorem dX11_most_0 : decode cX11_most 0 = .ok (.aload_n 0, 1) := dk_42 (dk_at dksX11_most_0 0 rfl rfl)
theorem dX11_most_1 : decode cX11_most 1 = .ok (.getfield 11, 3) := dk_180 0 11 (dk_at dksX11_most_0 1 rfl rfl)
theorem dX11_most_4 : decode cX11_most 4 = .ok (.invokevirtual 32, 3) := dk_182 0 32 (dk_at dksX11_most_0 4 rfl rfl)
theorem dX11_most_7 : decode cX11_most 7 = .ok (.aload_n 0, 1) := dk_42 (dk_at dksX11_most_0 7 rfl rfl)
theorem dX11_most_8 : decode cX11_most 8 = .ok (.getfield 20, 3) := dk_180 0 20 (dk_at dksX11_most_0 8 rfl rfl)
theorem dX11_most_11 : decode cX11_most 11 = .ok (.invokevirtual 32, 3) := dk_182 0 32 (dk_at dksX11_most_0 11 rfl rfl)
theorem dX11_most_14 : decode cX11_most 14 = .ok (.iadd, 1) := dk_96 (dk_at dksX11_most_0 14 rfl rfl)
theorem dX11_most_15 : decode cX11_most 15 = .ok (.invokestatic 23, 3) := dk_184 0 23 (dk_at dksX11_most_0 15 rfl rfl)
theorem dX11_most_18 : decode cX11_most 18 = .ok (.ireturn, 1) := dk_172 (dk_at dksX11_most_0 18 rfl rfl)
theorem q110 : (Jvm.Cond.initialized "PromiseTries$Then") ∈ lw_all := lw_g (lw_at lw_m1 17 rfl) rfl
theorem q458 : (Jvm.Cond.instantiable "PromiseTries$Then" (2 : Nat)) ∈ lw_all := lw_g (lw_at lw_m2 125 rfl) rfl
theorem q460 : (Jvm.Cond.instanceMethod ({ cls := "PromiseTries$Then", name := "<init>", desc := "(LPromiseTries$Node;LPromiseTries$Node;)V" } : Jvm.MethodName)) ∈ lw_all := lw_g (lw_at lw_m2 127 rfl) rfl
theorem q461 : (Jvm.Cond.code ({ cls := "PromiseTries$Then", name := "<init>", desc := "(LPromiseTries$Node;LPromiseTries$Node;)V" } : Jvm.MethodName) prog_17_method_1_code (3 : Nat) (Option.none : Option Jvm.ClassFile.FieldType)) ∈ lw_all := lw_g (lw_at lw_m2 128 rfl) rfl
theorem q462 : (Jvm.Cond.methodLink "PromiseTries$Then" (1 : Nat) ({ cls := "PromiseTries$Two", name := "<init>", desc := "(LPromiseTries$Node;LPromiseTries$Node;)V" } : Jvm.MethodName)) ∈ lw_all := lw_g (lw_at lw_m2 129 rfl) rfl
theorem q469 : (Jvm.Cond.fieldLink "PromiseTries$Then" (11 : Nat) "PromiseTries$Then" "one" "LPromiseTries$Node;") ∈ lw_all := lw_g (lw_at lw_m2 136 rfl) rfl
theorem q470 : (Jvm.Cond.sameField "PromiseTries$Then" "PromiseTries$Two" "one" "LPromiseTries$Node;") ∈ lw_all := lw_g (lw_at lw_m2 137 rfl) rfl
theorem q472 : (Jvm.Cond.fieldLink "PromiseTries$Then" (20 : Nat) "PromiseTries$Then" "other" "LPromiseTries$Node;") ∈ lw_all := lw_g (lw_at lw_m2 139 rfl) rfl
theorem q473 : (Jvm.Cond.sameField "PromiseTries$Then" "PromiseTries$Two" "other" "LPromiseTries$Node;") ∈ lw_all := lw_g (lw_at lw_m2 140 rfl) rfl
theorem q476 : (Jvm.Cond.laysFinal "PromiseTries$Then" "PromiseTries$Two" "one" "LPromiseTries$Node;") ∈ lw_all := lw_g (lw_at lw_m2 143 rfl) rfl
theorem q478 : (Jvm.Cond.laysFinal "PromiseTries$Then" "PromiseTries$Two" "other" "LPromiseTries$Node;") ∈ lw_all := lw_g (lw_at lw_m2 145 rfl) rfl
theorem q480 : (Jvm.Cond.superclass "PromiseTries$Then" "PromiseTries$Two") ∈ lw_all := lw_g (lw_at lw_m2 147 rfl) rfl
theorem q500 : (Jvm.Cond.instanceMethod ({ cls := "PromiseTries$Then", name := "least", desc := "()I" } : Jvm.MethodName)) ∈ lw_all := lw_g (lw_at lw_m2 167 rfl) rfl
theorem q501 : (Jvm.Cond.code ({ cls := "PromiseTries$Then", name := "least", desc := "()I" } : Jvm.MethodName) prog_17_method_3_code (1 : Nat) (Option.some Jvm.ClassFile.FieldType.int)) ∈ lw_all := lw_g (lw_at lw_m2 168 rfl) rfl
theorem q502 : (Jvm.Cond.methodLink "PromiseTries$Then" (29 : Nat) ({ cls := "PromiseTries$Node", name := "least", desc := "()I" } : Jvm.MethodName)) ∈ lw_all := lw_g (lw_at lw_m2 169 rfl) rfl
theorem q512 : (Jvm.Cond.methodLinkNest "PromiseTries$Then" (23 : Nat) ({ cls := "PromiseTries", name := "capped", desc := "(I)I" } : Jvm.MethodName) "PromiseTries") ∈ lw_tbl := lw_at lw_m2 179 rfl
theorem q514 : (Jvm.Cond.selects "PromiseTries$Then" ({ cls := "PromiseTries$Node", name := "least", desc := "()I" } : Jvm.MethodName) ({ cls := "PromiseTries$Then", name := "least", desc := "()I" } : Jvm.MethodName)) ∈ lw_all := lw_g (lw_at lw_m2 181 rfl) rfl
theorem q531 : (Jvm.Cond.instanceMethod ({ cls := "PromiseTries$Then", name := "weight", desc := "()I" } : Jvm.MethodName)) ∈ lw_all := lw_g (lw_at lw_m2 198 rfl) rfl
theorem q532 : (Jvm.Cond.code ({ cls := "PromiseTries$Then", name := "weight", desc := "()I" } : Jvm.MethodName) prog_17_method_2_code (1 : Nat) (Option.some Jvm.ClassFile.FieldType.int)) ∈ lw_all := lw_g (lw_at lw_m2 199 rfl) rfl
theorem q533 : (Jvm.Cond.methodLink "PromiseTries$Then" (7 : Nat) ({ cls := "PromiseTries$Two", name := "weight", desc := "()I" } : Jvm.MethodName)) ∈ lw_all := lw_g (lw_at lw_m2 200 rfl) rfl
theorem q534 : (Jvm.Cond.methodLink "PromiseTries$Then" (17 : Nat) ({ cls := "PromiseTries$Node", name := "weight", desc := "()I" } : Jvm.MethodName)) ∈ lw_all := lw_g (lw_at lw_m2 201 rfl) rfl
theorem q539 : (Jvm.Cond.selects "PromiseTries$Then" ({ cls := "PromiseTries$Node", name := "weight", desc := "()I" } : Jvm.MethodName) ({ cls := "PromiseTries$Then", name := "weight", desc := "()I" } : Jvm.MethodName)) ∈ lw_all := lw_g (lw_at lw_m2 206 rfl) rfl
theorem q608 : (Jvm.Cond.instanceMethod ({ cls := "PromiseTries$Then", name := "built", desc := "(LPromiseTries$Machine;)LPromiseTries$Part;" } : Jvm.MethodName)) ∈ lw_all := lw_g (lw_at lw_m3 35 rfl) rfl
theorem q609 : (Jvm.Cond.code ({ cls := "PromiseTries$Then", name := "built", desc := "(LPromiseTries$Machine;)LPromiseTries$Part;" } : Jvm.MethodName) prog_17_method_5_code (3 : Nat) (Option.some (Jvm.ClassFile.FieldType.object "PromiseTries$Part"))) ∈ lw_all := lw_g (lw_at lw_m3 36 rfl) rfl
theorem q610 : (Jvm.Cond.methodLink "PromiseTries$Then" (35 : Nat) ({ cls := "PromiseTries$Node", name := "built", desc := "(LPromiseTries$Machine;)LPromiseTries$Part;" } : Jvm.MethodName)) ∈ lw_all := lw_g (lw_at lw_m3 37 rfl) rfl
theorem q624 : (Jvm.Cond.methodLink "PromiseTries$Then" (39 : Nat) ({ cls := "PromiseTries$Machine", name := "joined", desc := "(LPromiseTries$Part;LPromiseTries$Part;)LPromiseTries$Part;" } : Jvm.MethodName)) ∈ lw_all := lw_g (lw_at lw_m3 51 rfl) rfl
theorem q627 : (Jvm.Cond.selects "PromiseTries$Then" ({ cls := "PromiseTries$Node", name := "built", desc := "(LPromiseTries$Machine;)LPromiseTries$Part;" } : Jvm.MethodName) ({ cls := "PromiseTries$Then", name := "built", desc := "(LPromiseTries$Machine;)LPromiseTries$Part;" } : Jvm.MethodName)) ∈ lw_all := lw_g (lw_at lw_m3 54 rfl) rfl
theorem q759 : (Jvm.Cond.instanceMethod ({ cls := "PromiseTries$Then", name := "most", desc := "()I" } : Jvm.MethodName)) ∈ lw_all := lw_g (lw_at lw_m3 186 rfl) rfl
theorem q760 : (Jvm.Cond.code ({ cls := "PromiseTries$Then", name := "most", desc := "()I" } : Jvm.MethodName) prog_17_method_4_code (1 : Nat) (Option.some Jvm.ClassFile.FieldType.int)) ∈ lw_all := lw_g (lw_at lw_m3 187 rfl) rfl
theorem q761 : (Jvm.Cond.methodLink "PromiseTries$Then" (32 : Nat) ({ cls := "PromiseTries$Node", name := "most", desc := "()I" } : Jvm.MethodName)) ∈ lw_all := lw_g (lw_at lw_m3 188 rfl) rfl
theorem q766 : (Jvm.Cond.selects "PromiseTries$Then" ({ cls := "PromiseTries$Node", name := "most", desc := "()I" } : Jvm.MethodName) ({ cls := "PromiseTries$Then", name := "most", desc := "()I" } : Jvm.MethodName)) ∈ lw_all := lw_g (lw_at lw_m3 193 rfl) rfl
theorem in_X11 : ∀ w ∈ wsX110, w ∈ lw_all := lw_in wsX110 [476, 478] (by decide +kernel) (by decide +kernel)
/-! PromiseTries$Either -/
set_option maxRecDepth 100000
def RX12 : String := "PromiseTries$Either"
def TX12 : u_T := fun k => match k with
  | 0 => ("PromiseTries$Two", "one", "LPromiseTries$Node;", true)
  | _ => ("PromiseTries$Two", "other", "LPromiseTries$Node;", true)
def tyX12 : Nat → FieldType := fun k => match k with
  | 0 => .object "PromiseTries$Node"
  | _ => .object "PromiseTries$Node"
abbrev wsX120 : List Cond := u_ws RX12 TX12 2
theorem nmX12 : ∀ a, a < 2 → ∀ b, b < 2 → a ≠ b → (TX12 a).2.1 ≠ (TX12 b).2.1 := by decide +kernel
theorem tyX12_ok : ∀ k, k < 2 → parseFieldDescriptor (TX12 k).2.2.1 = some (tyX12 k) := by decide +kernel
abbrev cX12_init : ByteArray := prog_4_method_1_code
def yX12_init : MethodName := ⟨RX12, "<init>", "(LPromiseTries$Node;LPromiseTries$Node;)V"⟩
def dkwX12_init_0 : List UInt8 := [42, 43, 44, 183, 0, 1, 177]
abbrev dktX12_init_0 : List UInt8 := dkwX12_init_0 ++ []
theorem dksX12_init_0 : cX12_init.data.toList.drop 0 = dktX12_init_0 := by decide +kernel
theorem dX12_init_0 : decode cX12_init 0 = .ok (.aload_n 0, 1) := dk_42 (dk_at dksX12_init_0 0 rfl rfl)
theorem dX12_init_1 : decode cX12_init 1 = .ok (.aload_n 1, 1) := dk_43 (dk_at dksX12_init_0 1 rfl rfl)
theorem dX12_init_2 : decode cX12_init 2 = .ok (.aload_n 2, 1) := dk_44 (dk_at dksX12_init_0 2 rfl rfl)
theorem dX12_init_3 : decode cX12_init 3 = .ok (.invokespecial 1, 3) := dk_183 0 1 (dk_at dksX12_init_0 3 rfl rfl)
theorem dX12_init_6 : decode cX12_init 6 = .ok (.return_, 1) := dk_177 (dk_at dksX12_init_0 6 rfl rfl)
abbrev cX12_least : ByteArray := prog_4_method_3_code
def yX12_least : MethodName := ⟨RX12, "least", "()I"⟩
def dkwX12_least_0 : List UInt8 := [42, 180, 0, 11, 182, 0, 29, 42, 180, 0, 20, 182, 0, 29, 184, 0, 32, 172]
abbrev dktX12_least_0 : List UInt8 := dkwX12_least_0 ++ []
theorem dksX12_least_0 : cX12_least.data.toList.drop 0 = dktX12_least_0 := by decide +kernel
theorem dX12_least_0 : decode cX12_least 0 = .ok (.aload_n 0, 1) := dk_42 (dk_at dksX12_least_0 0 rfl rfl)
theorem dX12_least_1 : decode cX12_least 1 = .ok (.getfield 11, 3) := dk_180 0 11 (dk_at dksX12_least_0 1 rfl rfl)
theorem dX12_least_4 : decode cX12_least 4 = .ok (.invokevirtual 29, 3) := dk_182 0 29 (dk_at dksX12_least_0 4 rfl rfl)
theorem dX12_least_7 : decode cX12_least 7 = .ok (.aload_n 0, 1) := dk_42 (dk_at dksX12_least_0 7 rfl rfl)
theorem dX12_least_8 : decode cX12_least 8 = .ok (.getfield 20, 3) := dk_180 0 20 (dk_at dksX12_least_0 8 rfl rfl)
theorem dX12_least_11 : decode cX12_least 11 = .ok (.invokevirtual 29, 3) := dk_182 0 29 (dk_at dksX12_least_0 11 rfl rfl)
theorem dX12_least_14 : decode cX12_least 14 = .ok (.invokestatic 32, 3) := dk_184 0 32 (dk_at dksX12_least_0 14 rfl rfl)
theorem dX12_least_17 : decode cX12_least 17 = .ok (.ireturn, 1) := dk_172 (dk_at dksX12_least_0 17 rfl rfl)
abbrev cX12_weight : ByteArray := prog_4_method_2_code
def yX12_weight : MethodName := ⟨RX12, "weight", "()I"⟩
def dkwX12_weight_0 : List UInt8 := [42, 183, 0, 7, 42, 180, 0, 11, 182, 0, 17, 96, 42, 180, 0, 20, 182, 0, 17, 96, 184, 0, 23, 172]
abbrev dktX12_weight_0 : List UInt8 := dkwX12_weight_0 ++ []
theorem dksX12_weight_0 : cX12_weight.data.toList.drop 0 = dktX12_weight_0 := by decide +kernel
theorem dX12_weight_0 : decode cX12_weight 0 = .ok (.aload_n 0, 1) := dk_42 (dk_at dksX12_weight_0 0 rfl rfl)
theorem dX12_weight_1 : decode cX12_weight 1 = .ok (.invokespecial 7, 3) := dk_183 0 7 (dk_at dksX12_weight_0 1 rfl rfl)
theorem dX12_weight_4 : decode cX12_weight 4 = .ok (.aload_n 0, 1) := dk_42 (dk_at dksX12_weight_0 4 rfl rfl)
theorem dX12_weight_5 : decode cX12_weight 5 = .ok (.getfield 11, 3) := dk_180 0 11 (dk_at dksX12_weight_0 5 rfl rfl)
theorem dX12_weight_8 : decode cX12_weight 8 = .ok (.invokevirtual 17, 3) := dk_182 0 17 (dk_at dksX12_weight_0 8 rfl rfl)
theorem dX12_weight_11 : decode cX12_weight 11 = .ok (.iadd, 1) := dk_96 (dk_at dksX12_weight_0 11 rfl rfl)
theorem dX12_weight_12 : decode cX12_weight 12 = .ok (.aload_n 0, 1) := dk_42 (dk_at dksX12_weight_0 12 rfl rfl)
theorem dX12_weight_13 : decode cX12_weight 13 = .ok (.getfield 20, 3) := dk_180 0 20 (dk_at dksX12_weight_0 13 rfl rfl)
theorem dX12_weight_16 : decode cX12_weight 16 = .ok (.invokevirtual 17, 3) := dk_182 0 17 (dk_at dksX12_weight_0 16 rfl rfl)
theorem dX12_weight_19 : decode cX12_weight 19 = .ok (.iadd, 1) := dk_96 (dk_at dksX12_weight_0 19 rfl rfl)
theorem dX12_weight_20 : decode cX12_weight 20 = .ok (.invokestatic 23, 3) := dk_184 0 23 (dk_at dksX12_weight_0 20 rfl rfl)
theorem dX12_weight_23 : decode cX12_weight 23 = .ok (.ireturn, 1) := dk_172 (dk_at dksX12_weight_0 23 rfl rfl)
abbrev cX12_built : ByteArray := prog_4_method_5_code
def yX12_built : MethodName := ⟨RX12, "built", "(LPromiseTries$Machine;)LPromiseTries$Part;"⟩
def dkwX12_built_2 : List UInt8 := [180, 0, 54, 129, 44, 180, 0, 58, 45, 180, 0, 58, 129, 183, 0, 61, 176]
abbrev dktX12_built_2 : List UInt8 := dkwX12_built_2 ++ []
def dkwX12_built_1 : List UInt8 := [180, 0, 50, 154, 0, 10, 45, 180, 0, 50, 153, 0, 7, 4, 167, 0, 4, 3, 44, 180, 0, 54, 45]
abbrev dktX12_built_1 : List UInt8 := dkwX12_built_1 ++ dktX12_built_2
def dkwX12_built_0 : List UInt8 := [42, 180, 0, 11, 43, 182, 0, 44, 77, 42, 180, 0, 20, 43, 182, 0, 44, 78, 187, 0, 48, 89, 44]
abbrev dktX12_built_0 : List UInt8 := dkwX12_built_0 ++ dktX12_built_1
theorem dksX12_built_0 : cX12_built.data.toList.drop 0 = dktX12_built_0 := by decide +kernel
theorem dksX12_built_1 : cX12_built.data.toList.drop 23 = dktX12_built_1 := dk_seg dksX12_built_0 23 rfl rfl
theorem dksX12_built_2 : cX12_built.data.toList.drop 46 = dktX12_built_2 := dk_seg dksX12_built_1 23 rfl rfl
theorem dX12_built_0 : decode cX12_built 0 = .ok (.aload_n 0, 1) := dk_42 (dk_at dksX12_built_0 0 rfl rfl)
theorem dX12_built_1 : decode cX12_built 1 = .ok (.getfield 11, 3) := dk_180 0 11 (dk_at dksX12_built_0 1 rfl rfl)
theorem dX12_built_4 : decode cX12_built 4 = .ok (.aload_n 1, 1) := dk_43 (dk_at dksX12_built_0 4 rfl rfl)
theorem dX12_built_5 : decode cX12_built 5 = .ok (.invokevirtual 44, 3) := dk_182 0 44 (dk_at dksX12_built_0 5 rfl rfl)
theorem dX12_built_8 : decode cX12_built 8 = .ok (.astore_n 2, 1) := dk_77 (dk_at dksX12_built_0 8 rfl rfl)
theorem dX12_built_9 : decode cX12_built 9 = .ok (.aload_n 0, 1) := dk_42 (dk_at dksX12_built_0 9 rfl rfl)
theorem dX12_built_10 : decode cX12_built 10 = .ok (.getfield 20, 3) := dk_180 0 20 (dk_at dksX12_built_0 10 rfl rfl)
theorem dX12_built_13 : decode cX12_built 13 = .ok (.aload_n 1, 1) := dk_43 (dk_at dksX12_built_0 13 rfl rfl)
theorem dX12_built_14 : decode cX12_built 14 = .ok (.invokevirtual 44, 3) := dk_182 0 44 (dk_at dksX12_built_0 14 rfl rfl)
theorem dX12_built_17 : decode cX12_built 17 = .ok (.astore_n 3, 1) := dk_78 (dk_at dksX12_built_0 17 rfl rfl)
theorem dX12_built_18 : decode cX12_built 18 = .ok (.new 48, 3) := dk_187 0 48 (dk_at dksX12_built_0 18 rfl rfl)
theorem dX12_built_21 : decode cX12_built 21 = .ok (.dup, 1) := dk_89 (dk_at dksX12_built_0 21 rfl rfl)
theorem dX12_built_22 : decode cX12_built 22 = .ok (.aload_n 2, 1) := dk_44 (dk_at dksX12_built_0 22 rfl rfl)
theorem dX12_built_23 : decode cX12_built 23 = .ok (.getfield 50, 3) := dk_180 0 50 (dk_at dksX12_built_1 0 rfl rfl)
theorem dX12_built_26 : decode cX12_built 26 = .ok (.ifCond .ne 10, 3) := dk_154 0 10 (dk_at dksX12_built_1 3 rfl rfl)
theorem dX12_built_29 : decode cX12_built 29 = .ok (.aload_n 3, 1) := dk_45 (dk_at dksX12_built_1 6 rfl rfl)
theorem dX12_built_30 : decode cX12_built 30 = .ok (.getfield 50, 3) := dk_180 0 50 (dk_at dksX12_built_1 7 rfl rfl)
theorem dX12_built_33 : decode cX12_built 33 = .ok (.ifCond .eq 7, 3) := dk_153 0 7 (dk_at dksX12_built_1 10 rfl rfl)
theorem dX12_built_36 : decode cX12_built 36 = .ok (.iconst 1, 1) := dk_4 (dk_at dksX12_built_1 13 rfl rfl)
theorem dX12_built_37 : decode cX12_built 37 = .ok (.goto 4, 3) := dk_167 0 4 (dk_at dksX12_built_1 14 rfl rfl)
theorem dX12_built_40 : decode cX12_built 40 = .ok (.iconst 0, 1) := dk_3 (dk_at dksX12_built_1 17 rfl rfl)
theorem dX12_built_41 : decode cX12_built 41 = .ok (.aload_n 2, 1) := dk_44 (dk_at dksX12_built_1 18 rfl rfl)
theorem dX12_built_42 : decode cX12_built 42 = .ok (.getfield 54, 3) := dk_180 0 54 (dk_at dksX12_built_1 19 rfl rfl)
theorem dX12_built_45 : decode cX12_built 45 = .ok (.aload_n 3, 1) := dk_45 (dk_at dksX12_built_1 22 rfl rfl)
theorem dX12_built_46 : decode cX12_built 46 = .ok (.getfield 54, 3) := dk_180 0 54 (dk_at dksX12_built_2 0 rfl rfl)
theorem dX12_built_49 : decode cX12_built 49 = .ok (.lor, 1) := dk_129 (dk_at dksX12_built_2 3 rfl rfl)
theorem dX12_built_50 : decode cX12_built 50 = .ok (.aload_n 2, 1) := dk_44 (dk_at dksX12_built_2 4 rfl rfl)
theorem dX12_built_51 : decode cX12_built 51 = .ok (.getfield 58, 3) := dk_180 0 58 (dk_at dksX12_built_2 5 rfl rfl)
theorem dX12_built_54 : decode cX12_built 54 = .ok (.aload_n 3, 1) := dk_45 (dk_at dksX12_built_2 8 rfl rfl)
theorem dX12_built_55 : decode cX12_built 55 = .ok (.getfield 58, 3) := dk_180 0 58 (dk_at dksX12_built_2 9 rfl rfl)
theorem dX12_built_58 : decode cX12_built 58 = .ok (.lor, 1) := dk_129 (dk_at dksX12_built_2 12 rfl rfl)
theorem dX12_built_59 : decode cX12_built 59 = .ok (.invokespecial 61, 3) := dk_183 0 61 (dk_at dksX12_built_2 13 rfl rfl)
theorem dX12_built_62 : decode cX12_built 62 = .ok (.areturn, 1) := dk_176 (dk_at dksX12_built_2 16 rfl rfl)
abbrev cX12_most : ByteArray := prog_4_method_4_code
def yX12_most : MethodName := ⟨RX12, "most", "()I"⟩
def dkwX12_most_0 : List UInt8 := [42, 180, 0, 11, 182, 0, 38, 42, 180, 0, 20, 182, 0, 38, 184, 0, 41, 172]
abbrev dktX12_most_0 : List UInt8 := dkwX12_most_0 ++ []
theorem dksX12_most_0 : cX12_most.data.toList.drop 0 = dktX12_most_0 := by decide +kernel
theorem dX12_most_0 : decode cX12_most 0 = .ok (.aload_n 0, 1) := dk_42 (dk_at dksX12_most_0 0 rfl rfl)
theorem dX12_most_1 : decode cX12_most 1 = .ok (.getfield 11, 3) := dk_180 0 11 (dk_at dksX12_most_0 1 rfl rfl)
theorem dX12_most_4 : decode cX12_most 4 = .ok (.invokevirtual 38, 3) := dk_182 0 38 (dk_at dksX12_most_0 4 rfl rfl)
theorem dX12_most_7 : decode cX12_most 7 = .ok (.aload_n 0, 1) := dk_42 (dk_at dksX12_most_0 7 rfl rfl)
theorem dX12_most_8 : decode cX12_most 8 = .ok (.getfield 20, 3) := dk_180 0 20 (dk_at dksX12_most_0 8 rfl rfl)
theorem dX12_most_11 : decode cX12_most 11 = .ok (.invokevirtual 38, 3) := dk_182 0 38 (dk_at dksX12_most_0 11 rfl rfl)
theorem dX12_most_14 : decode cX12_most 14 = .ok (.invokestatic 41, 3) := dk_184 0 41 (dk_at dksX12_most_0 14 rfl rfl)
theorem dX12_most_17 : decode cX12_most 17 = .ok (.ireturn, 1) := dk_172 (dk_at dksX12_most_0 17 rfl rfl)
theorem q111 : (Jvm.Cond.initialized "PromiseTries$Either") ∈ lw_all := lw_g (lw_at lw_m1 18 rfl) rfl
theorem q467 : (Jvm.Cond.fieldLink "PromiseTries$Either" (11 : Nat) "PromiseTries$Either" "one" "LPromiseTries$Node;") ∈ lw_all := lw_g (lw_at lw_m2 134 rfl) rfl
theorem q468 : (Jvm.Cond.sameField "PromiseTries$Either" "PromiseTries$Two" "one" "LPromiseTries$Node;") ∈ lw_all := lw_g (lw_at lw_m2 135 rfl) rfl
theorem q474 : (Jvm.Cond.fieldLink "PromiseTries$Either" (20 : Nat) "PromiseTries$Either" "other" "LPromiseTries$Node;") ∈ lw_all := lw_g (lw_at lw_m2 141 rfl) rfl
theorem q475 : (Jvm.Cond.sameField "PromiseTries$Either" "PromiseTries$Two" "other" "LPromiseTries$Node;") ∈ lw_all := lw_g (lw_at lw_m2 142 rfl) rfl
theorem q482 : (Jvm.Cond.instantiable "PromiseTries$Either" (2 : Nat)) ∈ lw_all := lw_g (lw_at lw_m2 149 rfl) rfl
theorem q484 : (Jvm.Cond.instanceMethod ({ cls := "PromiseTries$Either", name := "<init>", desc := "(LPromiseTries$Node;LPromiseTries$Node;)V" } : Jvm.MethodName)) ∈ lw_all := lw_g (lw_at lw_m2 151 rfl) rfl
theorem q485 : (Jvm.Cond.code ({ cls := "PromiseTries$Either", name := "<init>", desc := "(LPromiseTries$Node;LPromiseTries$Node;)V" } : Jvm.MethodName) prog_4_method_1_code (3 : Nat) (Option.none : Option Jvm.ClassFile.FieldType)) ∈ lw_all := lw_g (lw_at lw_m2 152 rfl) rfl
theorem q486 : (Jvm.Cond.methodLink "PromiseTries$Either" (1 : Nat) ({ cls := "PromiseTries$Two", name := "<init>", desc := "(LPromiseTries$Node;LPromiseTries$Node;)V" } : Jvm.MethodName)) ∈ lw_all := lw_g (lw_at lw_m2 153 rfl) rfl
theorem q487 : (Jvm.Cond.laysFinal "PromiseTries$Either" "PromiseTries$Two" "one" "LPromiseTries$Node;") ∈ lw_all := lw_g (lw_at lw_m2 154 rfl) rfl
theorem q488 : (Jvm.Cond.laysFinal "PromiseTries$Either" "PromiseTries$Two" "other" "LPromiseTries$Node;") ∈ lw_all := lw_g (lw_at lw_m2 155 rfl) rfl
theorem q489 : (Jvm.Cond.superclass "PromiseTries$Either" "PromiseTries$Two") ∈ lw_all := lw_g (lw_at lw_m2 156 rfl) rfl
theorem q496 : (Jvm.Cond.selects "PromiseTries$Either" ({ cls := "PromiseTries$Node", name := "least", desc := "()I" } : Jvm.MethodName) ({ cls := "PromiseTries$Either", name := "least", desc := "()I" } : Jvm.MethodName)) ∈ lw_all := lw_g (lw_at lw_m2 163 rfl) rfl
theorem q497 : (Jvm.Cond.instanceMethod ({ cls := "PromiseTries$Either", name := "least", desc := "()I" } : Jvm.MethodName)) ∈ lw_all := lw_g (lw_at lw_m2 164 rfl) rfl
theorem q498 : (Jvm.Cond.code ({ cls := "PromiseTries$Either", name := "least", desc := "()I" } : Jvm.MethodName) prog_4_method_3_code (1 : Nat) (Option.some Jvm.ClassFile.FieldType.int)) ∈ lw_all := lw_g (lw_at lw_m2 165 rfl) rfl
theorem q499 : (Jvm.Cond.methodLink "PromiseTries$Either" (29 : Nat) ({ cls := "PromiseTries$Node", name := "least", desc := "()I" } : Jvm.MethodName)) ∈ lw_all := lw_g (lw_at lw_m2 166 rfl) rfl
theorem q513 : (Jvm.Cond.methodLink "PromiseTries$Either" (32 : Nat) ({ cls := "java/lang/Math", name := "min", desc := "(II)I" } : Jvm.MethodName)) ∈ lw_all := lw_g (lw_at lw_m2 180 rfl) rfl
theorem q522 : (Jvm.Cond.selects "PromiseTries$Either" ({ cls := "PromiseTries$Node", name := "weight", desc := "()I" } : Jvm.MethodName) ({ cls := "PromiseTries$Either", name := "weight", desc := "()I" } : Jvm.MethodName)) ∈ lw_all := lw_g (lw_at lw_m2 189 rfl) rfl
theorem q523 : (Jvm.Cond.instanceMethod ({ cls := "PromiseTries$Either", name := "weight", desc := "()I" } : Jvm.MethodName)) ∈ lw_all := lw_g (lw_at lw_m2 190 rfl) rfl
theorem q524 : (Jvm.Cond.code ({ cls := "PromiseTries$Either", name := "weight", desc := "()I" } : Jvm.MethodName) prog_4_method_2_code (1 : Nat) (Option.some Jvm.ClassFile.FieldType.int)) ∈ lw_all := lw_g (lw_at lw_m2 191 rfl) rfl
theorem q525 : (Jvm.Cond.methodLink "PromiseTries$Either" (7 : Nat) ({ cls := "PromiseTries$Two", name := "weight", desc := "()I" } : Jvm.MethodName)) ∈ lw_all := lw_g (lw_at lw_m2 192 rfl) rfl
theorem q530 : (Jvm.Cond.methodLink "PromiseTries$Either" (17 : Nat) ({ cls := "PromiseTries$Node", name := "weight", desc := "()I" } : Jvm.MethodName)) ∈ lw_all := lw_g (lw_at lw_m2 197 rfl) rfl
theorem q538 : (Jvm.Cond.methodLinkNest "PromiseTries$Either" (23 : Nat) ({ cls := "PromiseTries", name := "capped", desc := "(I)I" } : Jvm.MethodName) "PromiseTries") ∈ lw_tbl := lw_at lw_m2 205 rfl
theorem q590 : (Jvm.Cond.fieldLinkNest "PromiseTries$Either" (50 : Nat) "PromiseTries$Part" "isNone" "Z" "PromiseTries") ∈ lw_tbl := lw_at lw_m3 17 rfl
theorem q593 : (Jvm.Cond.fieldLinkNest "PromiseTries$Either" (54 : Nat) "PromiseTries$Part" "first" "J" "PromiseTries") ∈ lw_tbl := lw_at lw_m3 20 rfl
theorem q596 : (Jvm.Cond.fieldLinkNest "PromiseTries$Either" (58 : Nat) "PromiseTries$Part" "last" "J" "PromiseTries") ∈ lw_tbl := lw_at lw_m3 23 rfl
theorem q604 : (Jvm.Cond.selects "PromiseTries$Either" ({ cls := "PromiseTries$Node", name := "built", desc := "(LPromiseTries$Machine;)LPromiseTries$Part;" } : Jvm.MethodName) ({ cls := "PromiseTries$Either", name := "built", desc := "(LPromiseTries$Machine;)LPromiseTries$Part;" } : Jvm.MethodName)) ∈ lw_all := lw_g (lw_at lw_m3 31 rfl) rfl
theorem q605 : (Jvm.Cond.instanceMethod ({ cls := "PromiseTries$Either", name := "built", desc := "(LPromiseTries$Machine;)LPromiseTries$Part;" } : Jvm.MethodName)) ∈ lw_all := lw_g (lw_at lw_m3 32 rfl) rfl
theorem q606 : (Jvm.Cond.code ({ cls := "PromiseTries$Either", name := "built", desc := "(LPromiseTries$Machine;)LPromiseTries$Part;" } : Jvm.MethodName) prog_4_method_5_code (4 : Nat) (Option.some (Jvm.ClassFile.FieldType.object "PromiseTries$Part"))) ∈ lw_all := lw_g (lw_at lw_m3 33 rfl) rfl
theorem q607 : (Jvm.Cond.methodLink "PromiseTries$Either" (44 : Nat) ({ cls := "PromiseTries$Node", name := "built", desc := "(LPromiseTries$Machine;)LPromiseTries$Part;" } : Jvm.MethodName)) ∈ lw_all := lw_g (lw_at lw_m3 34 rfl) rfl
theorem q625 : (Jvm.Cond.classLink "PromiseTries$Either" (48 : Nat) "PromiseTries$Part") ∈ lw_all := lw_g (lw_at lw_m3 52 rfl) rfl
theorem q626 : (Jvm.Cond.methodLink "PromiseTries$Either" (61 : Nat) ({ cls := "PromiseTries$Part", name := "<init>", desc := "(ZJJ)V" } : Jvm.MethodName)) ∈ lw_all := lw_g (lw_at lw_m3 53 rfl) rfl
theorem q755 : (Jvm.Cond.selects "PromiseTries$Either" ({ cls := "PromiseTries$Node", name := "most", desc := "()I" } : Jvm.MethodName) ({ cls := "PromiseTries$Either", name := "most", desc := "()I" } : Jvm.MethodName)) ∈ lw_all := lw_g (lw_at lw_m3 182 rfl) rfl
theorem q756 : (Jvm.Cond.instanceMethod ({ cls := "PromiseTries$Either", name := "most", desc := "()I" } : Jvm.MethodName)) ∈ lw_all := lw_g (lw_at lw_m3 183 rfl) rfl
theorem q757 : (Jvm.Cond.code ({ cls := "PromiseTries$Either", name := "most", desc := "()I" } : Jvm.MethodName) prog_4_method_4_code (1 : Nat) (Option.some Jvm.ClassFile.FieldType.int)) ∈ lw_all := lw_g (lw_at lw_m3 184 rfl) rfl
theorem q758 : (Jvm.Cond.methodLink "PromiseTries$Either" (38 : Nat) ({ cls := "PromiseTries$Node", name := "most", desc := "()I" } : Jvm.MethodName)) ∈ lw_all := lw_g (lw_at lw_m3 185 rfl) rfl
theorem q765 : (Jvm.Cond.methodLink "PromiseTries$Either" (41 : Nat) ({ cls := "java/lang/Math", name := "max", desc := "(II)I" } : Jvm.MethodName)) ∈ lw_all := lw_g (lw_at lw_m3 192 rfl) rfl
theorem in_X12 : ∀ w ∈ wsX120, w ∈ lw_all := lw_in wsX120 [487, 488] (by decide +kernel) (by decide +kernel)
/-! PromiseTries$Machine -/
set_option maxRecDepth 100000
def RX13 : String := "PromiseTries$Machine"
def TX13 : u_T := fun k => match k with
  | 0 => ("PromiseTries$Machine", "holds", "[LPromiseTries$Holds;", true)
  | 1 => ("PromiseTries$Machine", "behind", "[J", true)
  | 2 => ("PromiseTries$Machine", "many", "I", false)
  | 3 => ("PromiseTries$Machine", "first", "J", false)
  | 4 => ("PromiseTries$Machine", "last", "J", false)
  | _ => ("PromiseTries$Machine", "more", "J", false)
def tyX13 : Nat → FieldType := fun k => match k with
  | 0 => .array (.object "PromiseTries$Holds")
  | 1 => .array .long
  | 2 => .int
  | 3 => .long
  | 4 => .long
  | _ => .long
abbrev wsX130 : List Cond := u_ws RX13 TX13 6
theorem nmX13 : ∀ a, a < 6 → ∀ b, b < 6 → a ≠ b → (TX13 a).2.1 ≠ (TX13 b).2.1 := by decide +kernel
theorem tyX13_ok : ∀ k, k < 6 → parseFieldDescriptor (TX13 k).2.2.1 = some (tyX13 k) := by decide +kernel
abbrev cX13_init : ByteArray := prog_10_method_1_code
def yX13_init : MethodName := ⟨RX13, "<init>", "()V"⟩
def dkwX13_init_0 : List UInt8 := [42, 183, 0, 3, 42, 16, 40, 189, 0, 9, 181, 0, 11, 42, 16, 40, 188, 11, 181, 0, 17, 177]
abbrev dktX13_init_0 : List UInt8 := dkwX13_init_0 ++ []
theorem dksX13_init_0 : cX13_init.data.toList.drop 0 = dktX13_init_0 := by decide +kernel
theorem dX13_init_0 : decode cX13_init 0 = .ok (.aload_n 0, 1) := dk_42 (dk_at dksX13_init_0 0 rfl rfl)
theorem dX13_init_1 : decode cX13_init 1 = .ok (.invokespecial 3, 3) := dk_183 0 3 (dk_at dksX13_init_0 1 rfl rfl)
theorem dX13_init_4 : decode cX13_init 4 = .ok (.aload_n 0, 1) := dk_42 (dk_at dksX13_init_0 4 rfl rfl)
theorem dX13_init_5 : decode cX13_init 5 = .ok (.bipush 40, 2) := dk_16 40 (dk_at dksX13_init_0 5 rfl rfl)
theorem dX13_init_7 : decode cX13_init 7 = .ok (.anewarray 9, 3) := dk_189 0 9 (dk_at dksX13_init_0 7 rfl rfl)
theorem dX13_init_10 : decode cX13_init 10 = .ok (.putfield 11, 3) := dk_181 0 11 (dk_at dksX13_init_0 10 rfl rfl)
theorem dX13_init_13 : decode cX13_init 13 = .ok (.aload_n 0, 1) := dk_42 (dk_at dksX13_init_0 13 rfl rfl)
theorem dX13_init_14 : decode cX13_init 14 = .ok (.bipush 40, 2) := dk_16 40 (dk_at dksX13_init_0 14 rfl rfl)
theorem dX13_init_16 : decode cX13_init 16 = .ok (.newarray .long, 2) := dk_188_11 (dk_at dksX13_init_0 16 rfl rfl)
theorem dX13_init_18 : decode cX13_init 18 = .ok (.putfield 17, 3) := dk_181 0 17 (dk_at dksX13_init_0 18 rfl rfl)
theorem dX13_init_21 : decode cX13_init 21 = .ok (.return_, 1) := dk_177 (dk_at dksX13_init_0 21 rfl rfl)
abbrev cX13_built : ByteArray := prog_10_method_4_code
def yX13_built : MethodName := ⟨RX13, "built", "(LPromiseTries$Node;)V"⟩
def dkwX13_built_4 : List UInt8 := [132, 5, 1, 167, 255, 233, 42, 182, 0, 53, 177]
abbrev dktX13_built_4 : List UInt8 := dkwX13_built_4 ++ []
def dkwX13_built_3 : List UInt8 := [3, 54, 5, 21, 5, 42, 180, 0, 21, 162, 0, 20, 42, 180, 0, 17, 21, 5, 92, 47, 33, 127, 80]
abbrev dktX13_built_3 : List UInt8 := dkwX13_built_3 ++ dktX13_built_4
def dkwX13_built_2 : List UInt8 := [132, 5, 1, 167, 255, 220, 42, 44, 180, 0, 34, 33, 127, 181, 0, 51, 42, 44, 180, 0, 30, 181, 0, 52]
abbrev dktX13_built_2 : List UInt8 := dkwX13_built_2 ++ dktX13_built_3
def dkwX13_built_1 : List UInt8 := [180, 0, 11, 21, 5, 50, 184, 0, 47, 158, 0, 10, 10, 21, 5, 121, 167, 0, 4, 9, 129, 66]
abbrev dktX13_built_1 : List UInt8 := dkwX13_built_1 ++ dktX13_built_2
def dkwX13_built_0 : List UInt8 := [43, 42, 182, 0, 41, 77, 9, 66, 3, 54, 5, 21, 5, 42, 180, 0, 21, 162, 0, 33, 33, 42]
abbrev dktX13_built_0 : List UInt8 := dkwX13_built_0 ++ dktX13_built_1
theorem dksX13_built_0 : cX13_built.data.toList.drop 0 = dktX13_built_0 := by decide +kernel
theorem dksX13_built_1 : cX13_built.data.toList.drop 22 = dktX13_built_1 := dk_seg dksX13_built_0 22 rfl rfl
theorem dksX13_built_2 : cX13_built.data.toList.drop 44 = dktX13_built_2 := dk_seg dksX13_built_1 22 rfl rfl
theorem dksX13_built_3 : cX13_built.data.toList.drop 68 = dktX13_built_3 := dk_seg dksX13_built_2 24 rfl rfl
theorem dksX13_built_4 : cX13_built.data.toList.drop 91 = dktX13_built_4 := dk_seg dksX13_built_3 23 rfl rfl
theorem dX13_built_0 : decode cX13_built 0 = .ok (.aload_n 1, 1) := dk_43 (dk_at dksX13_built_0 0 rfl rfl)
theorem dX13_built_1 : decode cX13_built 1 = .ok (.aload_n 0, 1) := dk_42 (dk_at dksX13_built_0 1 rfl rfl)
theorem dX13_built_2 : decode cX13_built 2 = .ok (.invokevirtual 41, 3) := dk_182 0 41 (dk_at dksX13_built_0 2 rfl rfl)
theorem dX13_built_5 : decode cX13_built 5 = .ok (.astore_n 2, 1) := dk_77 (dk_at dksX13_built_0 5 rfl rfl)
theorem dX13_built_6 : decode cX13_built 6 = .ok (.lconst 0, 1) := dk_9 (dk_at dksX13_built_0 6 rfl rfl)
theorem dX13_built_7 : decode cX13_built 7 = .ok (.lstore_n 3, 1) := dk_66 (dk_at dksX13_built_0 7 rfl rfl)
theorem dX13_built_8 : decode cX13_built 8 = .ok (.iconst 0, 1) := dk_3 (dk_at dksX13_built_0 8 rfl rfl)
theorem dX13_built_9 : decode cX13_built 9 = .ok (.istore 5, 2) := dk_54 5 (dk_at dksX13_built_0 9 rfl rfl)
theorem dX13_built_11 : decode cX13_built 11 = .ok (.iload 5, 2) := dk_21 5 (dk_at dksX13_built_0 11 rfl rfl)
theorem dX13_built_13 : decode cX13_built 13 = .ok (.aload_n 0, 1) := dk_42 (dk_at dksX13_built_0 13 rfl rfl)
theorem dX13_built_14 : decode cX13_built 14 = .ok (.getfield 21, 3) := dk_180 0 21 (dk_at dksX13_built_0 14 rfl rfl)
theorem dX13_built_17 : decode cX13_built 17 = .ok (.if_icmp .ge 33, 3) := dk_162 0 33 (dk_at dksX13_built_0 17 rfl rfl)
theorem dX13_built_20 : decode cX13_built 20 = .ok (.lload_n 3, 1) := dk_33 (dk_at dksX13_built_0 20 rfl rfl)
theorem dX13_built_21 : decode cX13_built 21 = .ok (.aload_n 0, 1) := dk_42 (dk_at dksX13_built_0 21 rfl rfl)
theorem dX13_built_22 : decode cX13_built 22 = .ok (.getfield 11, 3) := dk_180 0 11 (dk_at dksX13_built_1 0 rfl rfl)
theorem dX13_built_25 : decode cX13_built 25 = .ok (.iload 5, 2) := dk_21 5 (dk_at dksX13_built_1 3 rfl rfl)
theorem dX13_built_27 : decode cX13_built 27 = .ok (.aaload, 1) := dk_50 (dk_at dksX13_built_1 5 rfl rfl)
theorem dX13_built_28 : decode cX13_built 28 = .ok (.invokestatic 47, 3) := dk_184 0 47 (dk_at dksX13_built_1 6 rfl rfl)
theorem dX13_built_31 : decode cX13_built 31 = .ok (.ifCond .le 10, 3) := dk_158 0 10 (dk_at dksX13_built_1 9 rfl rfl)
theorem dX13_built_34 : decode cX13_built 34 = .ok (.lconst 1, 1) := dk_10 (dk_at dksX13_built_1 12 rfl rfl)
theorem dX13_built_35 : decode cX13_built 35 = .ok (.iload 5, 2) := dk_21 5 (dk_at dksX13_built_1 13 rfl rfl)
theorem dX13_built_37 : decode cX13_built 37 = .ok (.lshl, 1) := dk_121 (dk_at dksX13_built_1 15 rfl rfl)
theorem dX13_built_38 : decode cX13_built 38 = .ok (.goto 4, 3) := dk_167 0 4 (dk_at dksX13_built_1 16 rfl rfl)
theorem dX13_built_41 : decode cX13_built 41 = .ok (.lconst 0, 1) := dk_9 (dk_at dksX13_built_1 19 rfl rfl)
theorem dX13_built_42 : decode cX13_built 42 = .ok (.lor, 1) := dk_129 (dk_at dksX13_built_1 20 rfl rfl)
theorem dX13_built_43 : decode cX13_built 43 = .ok (.lstore_n 3, 1) := dk_66 (dk_at dksX13_built_1 21 rfl rfl)
theorem dX13_built_44 : decode cX13_built 44 = .ok (.iinc 5 1, 3) := dk_132 5 1 (dk_at dksX13_built_2 0 rfl rfl)
theorem dX13_built_47 : decode cX13_built 47 = .ok (.goto (-36), 3) := dk_167 255 220 (dk_at dksX13_built_2 3 rfl rfl)
theorem dX13_built_50 : decode cX13_built 50 = .ok (.aload_n 0, 1) := dk_42 (dk_at dksX13_built_2 6 rfl rfl)
theorem dX13_built_51 : decode cX13_built 51 = .ok (.aload_n 2, 1) := dk_44 (dk_at dksX13_built_2 7 rfl rfl)
theorem dX13_built_52 : decode cX13_built 52 = .ok (.getfield 34, 3) := dk_180 0 34 (dk_at dksX13_built_2 8 rfl rfl)
theorem dX13_built_55 : decode cX13_built 55 = .ok (.lload_n 3, 1) := dk_33 (dk_at dksX13_built_2 11 rfl rfl)
theorem dX13_built_56 : decode cX13_built 56 = .ok (.land, 1) := dk_127 (dk_at dksX13_built_2 12 rfl rfl)
theorem dX13_built_57 : decode cX13_built 57 = .ok (.putfield 51, 3) := dk_181 0 51 (dk_at dksX13_built_2 13 rfl rfl)
theorem dX13_built_60 : decode cX13_built 60 = .ok (.aload_n 0, 1) := dk_42 (dk_at dksX13_built_2 16 rfl rfl)
theorem dX13_built_61 : decode cX13_built 61 = .ok (.aload_n 2, 1) := dk_44 (dk_at dksX13_built_2 17 rfl rfl)
theorem dX13_built_62 : decode cX13_built 62 = .ok (.getfield 30, 3) := dk_180 0 30 (dk_at dksX13_built_2 18 rfl rfl)
theorem dX13_built_65 : decode cX13_built 65 = .ok (.putfield 52, 3) := dk_181 0 52 (dk_at dksX13_built_2 21 rfl rfl)
theorem dX13_built_68 : decode cX13_built 68 = .ok (.iconst 0, 1) := dk_3 (dk_at dksX13_built_3 0 rfl rfl)
theorem dX13_built_69 : decode cX13_built 69 = .ok (.istore 5, 2) := dk_54 5 (dk_at dksX13_built_3 1 rfl rfl)
theorem dX13_built_71 : decode cX13_built 71 = .ok (.iload 5, 2) := dk_21 5 (dk_at dksX13_built_3 3 rfl rfl)
theorem dX13_built_73 : decode cX13_built 73 = .ok (.aload_n 0, 1) := dk_42 (dk_at dksX13_built_3 5 rfl rfl)
theorem dX13_built_74 : decode cX13_built 74 = .ok (.getfield 21, 3) := dk_180 0 21 (dk_at dksX13_built_3 6 rfl rfl)
theorem dX13_built_77 : decode cX13_built 77 = .ok (.if_icmp .ge 20, 3) := dk_162 0 20 (dk_at dksX13_built_3 9 rfl rfl)
theorem dX13_built_80 : decode cX13_built 80 = .ok (.aload_n 0, 1) := dk_42 (dk_at dksX13_built_3 12 rfl rfl)
theorem dX13_built_81 : decode cX13_built 81 = .ok (.getfield 17, 3) := dk_180 0 17 (dk_at dksX13_built_3 13 rfl rfl)
theorem dX13_built_84 : decode cX13_built 84 = .ok (.iload 5, 2) := dk_21 5 (dk_at dksX13_built_3 16 rfl rfl)
theorem dX13_built_86 : decode cX13_built 86 = .ok (.dup2, 1) := dk_92 (dk_at dksX13_built_3 18 rfl rfl)
theorem dX13_built_87 : decode cX13_built 87 = .ok (.laload, 1) := dk_47 (dk_at dksX13_built_3 19 rfl rfl)
theorem dX13_built_88 : decode cX13_built 88 = .ok (.lload_n 3, 1) := dk_33 (dk_at dksX13_built_3 20 rfl rfl)
theorem dX13_built_89 : decode cX13_built 89 = .ok (.land, 1) := dk_127 (dk_at dksX13_built_3 21 rfl rfl)
theorem dX13_built_90 : decode cX13_built 90 = .ok (.lastore, 1) := dk_80 (dk_at dksX13_built_3 22 rfl rfl)
theorem dX13_built_91 : decode cX13_built 91 = .ok (.iinc 5 1, 3) := dk_132 5 1 (dk_at dksX13_built_4 0 rfl rfl)
theorem dX13_built_94 : decode cX13_built 94 = .ok (.goto (-23), 3) := dk_167 255 233 (dk_at dksX13_built_4 3 rfl rfl)
theorem dX13_built_97 : decode cX13_built 97 = .ok (.aload_n 0, 1) := dk_42 (dk_at dksX13_built_4 6 rfl rfl)
theorem dX13_built_98 : decode cX13_built 98 = .ok (.invokevirtual 53, 3) := dk_182 0 53 (dk_at dksX13_built_4 7 rfl rfl)
theorem dX13_built_101 : decode cX13_built 101 = .ok (.return_, 1) := dk_177 (dk_at dksX13_built_4 10 rfl rfl)
abbrev cX13_place : ByteArray := prog_10_method_2_code
def yX13_place : MethodName := ⟨RX13, "place", "(LPromiseTries$Holds;)LPromiseTries$Part;"⟩
def dkwX13_place_1 : List UInt8 := [3, 10, 42, 180, 0, 21, 4, 100, 121, 10, 42, 180, 0, 21, 4, 100, 121, 183, 0, 27, 176]
abbrev dktX13_place_1 : List UInt8 := dkwX13_place_1 ++ []
def dkwX13_place_0 : List UInt8 := [42, 180, 0, 11, 42, 180, 0, 21, 43, 83, 42, 89, 180, 0, 21, 4, 96, 181, 0, 21, 187, 0, 25, 89]
abbrev dktX13_place_0 : List UInt8 := dkwX13_place_0 ++ dktX13_place_1
theorem dksX13_place_0 : cX13_place.data.toList.drop 0 = dktX13_place_0 := by decide +kernel
theorem dksX13_place_1 : cX13_place.data.toList.drop 24 = dktX13_place_1 := dk_seg dksX13_place_0 24 rfl rfl
theorem dX13_place_0 : decode cX13_place 0 = .ok (.aload_n 0, 1) := dk_42 (dk_at dksX13_place_0 0 rfl rfl)
theorem dX13_place_1 : decode cX13_place 1 = .ok (.getfield 11, 3) := dk_180 0 11 (dk_at dksX13_place_0 1 rfl rfl)
theorem dX13_place_4 : decode cX13_place 4 = .ok (.aload_n 0, 1) := dk_42 (dk_at dksX13_place_0 4 rfl rfl)
theorem dX13_place_5 : decode cX13_place 5 = .ok (.getfield 21, 3) := dk_180 0 21 (dk_at dksX13_place_0 5 rfl rfl)
theorem dX13_place_8 : decode cX13_place 8 = .ok (.aload_n 1, 1) := dk_43 (dk_at dksX13_place_0 8 rfl rfl)
theorem dX13_place_9 : decode cX13_place 9 = .ok (.aastore, 1) := dk_83 (dk_at dksX13_place_0 9 rfl rfl)
theorem dX13_place_10 : decode cX13_place 10 = .ok (.aload_n 0, 1) := dk_42 (dk_at dksX13_place_0 10 rfl rfl)
theorem dX13_place_11 : decode cX13_place 11 = .ok (.dup, 1) := dk_89 (dk_at dksX13_place_0 11 rfl rfl)
theorem dX13_place_12 : decode cX13_place 12 = .ok (.getfield 21, 3) := dk_180 0 21 (dk_at dksX13_place_0 12 rfl rfl)
theorem dX13_place_15 : decode cX13_place 15 = .ok (.iconst 1, 1) := dk_4 (dk_at dksX13_place_0 15 rfl rfl)
theorem dX13_place_16 : decode cX13_place 16 = .ok (.iadd, 1) := dk_96 (dk_at dksX13_place_0 16 rfl rfl)
theorem dX13_place_17 : decode cX13_place 17 = .ok (.putfield 21, 3) := dk_181 0 21 (dk_at dksX13_place_0 17 rfl rfl)
theorem dX13_place_20 : decode cX13_place 20 = .ok (.new 25, 3) := dk_187 0 25 (dk_at dksX13_place_0 20 rfl rfl)
theorem dX13_place_23 : decode cX13_place 23 = .ok (.dup, 1) := dk_89 (dk_at dksX13_place_0 23 rfl rfl)
theorem dX13_place_24 : decode cX13_place 24 = .ok (.iconst 0, 1) := dk_3 (dk_at dksX13_place_1 0 rfl rfl)
theorem dX13_place_25 : decode cX13_place 25 = .ok (.lconst 1, 1) := dk_10 (dk_at dksX13_place_1 1 rfl rfl)
theorem dX13_place_26 : decode cX13_place 26 = .ok (.aload_n 0, 1) := dk_42 (dk_at dksX13_place_1 2 rfl rfl)
theorem dX13_place_27 : decode cX13_place 27 = .ok (.getfield 21, 3) := dk_180 0 21 (dk_at dksX13_place_1 3 rfl rfl)
theorem dX13_place_30 : decode cX13_place 30 = .ok (.iconst 1, 1) := dk_4 (dk_at dksX13_place_1 6 rfl rfl)
theorem dX13_place_31 : decode cX13_place 31 = .ok (.isub, 1) := dk_100 (dk_at dksX13_place_1 7 rfl rfl)
theorem dX13_place_32 : decode cX13_place 32 = .ok (.lshl, 1) := dk_121 (dk_at dksX13_place_1 8 rfl rfl)
theorem dX13_place_33 : decode cX13_place 33 = .ok (.lconst 1, 1) := dk_10 (dk_at dksX13_place_1 9 rfl rfl)
theorem dX13_place_34 : decode cX13_place 34 = .ok (.aload_n 0, 1) := dk_42 (dk_at dksX13_place_1 10 rfl rfl)
theorem dX13_place_35 : decode cX13_place 35 = .ok (.getfield 21, 3) := dk_180 0 21 (dk_at dksX13_place_1 11 rfl rfl)
theorem dX13_place_38 : decode cX13_place 38 = .ok (.iconst 1, 1) := dk_4 (dk_at dksX13_place_1 14 rfl rfl)
theorem dX13_place_39 : decode cX13_place 39 = .ok (.isub, 1) := dk_100 (dk_at dksX13_place_1 15 rfl rfl)
theorem dX13_place_40 : decode cX13_place 40 = .ok (.lshl, 1) := dk_121 (dk_at dksX13_place_1 16 rfl rfl)
theorem dX13_place_41 : decode cX13_place 41 = .ok (.invokespecial 27, 3) := dk_183 0 27 (dk_at dksX13_place_1 17 rfl rfl)
theorem dX13_place_44 : decode cX13_place 44 = .ok (.areturn, 1) := dk_176 (dk_at dksX13_place_1 20 rfl rfl)
abbrev cX13_joined : ByteArray := prog_10_method_3_code
def yX13_joined : MethodName := ⟨RX13, "joined", "(LPromiseTries$Part;LPromiseTries$Part;)LPromiseTries$Part;"⟩
def dkwX13_joined_5 : List UInt8 := [183, 0, 27, 176]
abbrev dktX13_joined_5 : List UInt8 := dkwX13_joined_5 ++ []
def dkwX13_joined_4 : List UInt8 := [180, 0, 37, 153, 0, 15, 43, 180, 0, 30, 44, 180, 0, 30, 129, 167, 0, 7, 44, 180, 0, 30]
abbrev dktX13_joined_4 : List UInt8 := dkwX13_joined_4 ++ dktX13_joined_5
def dkwX13_joined_3 : List UInt8 := [180, 0, 37, 153, 0, 15, 43, 180, 0, 34, 44, 180, 0, 34, 129, 167, 0, 7, 43, 180, 0, 34, 44]
abbrev dktX13_joined_3 : List UInt8 := dkwX13_joined_3 ++ dktX13_joined_4
def dkwX13_joined_2 : List UInt8 := [187, 0, 25, 89, 43, 180, 0, 37, 153, 0, 14, 44, 180, 0, 37, 153, 0, 7, 4, 167, 0, 4, 3, 43]
abbrev dktX13_joined_2 : List UInt8 := dkwX13_joined_2 ++ dktX13_joined_3
def dkwX13_joined_1 : List UInt8 := [127, 10, 148, 154, 0, 10, 44, 180, 0, 34, 167, 0, 4, 9, 129, 80, 132, 3, 1, 167, 255, 215]
abbrev dktX13_joined_1 : List UInt8 := dkwX13_joined_1 ++ dktX13_joined_2
def dkwX13_joined_0 : List UInt8 := [3, 62, 29, 42, 180, 0, 21, 162, 0, 39, 42, 180, 0, 17, 29, 92, 47, 43, 180, 0, 30, 29, 123, 10]
abbrev dktX13_joined_0 : List UInt8 := dkwX13_joined_0 ++ dktX13_joined_1
theorem dksX13_joined_0 : cX13_joined.data.toList.drop 0 = dktX13_joined_0 := by decide +kernel
theorem dksX13_joined_1 : cX13_joined.data.toList.drop 24 = dktX13_joined_1 := dk_seg dksX13_joined_0 24 rfl rfl
theorem dksX13_joined_2 : cX13_joined.data.toList.drop 46 = dktX13_joined_2 := dk_seg dksX13_joined_1 22 rfl rfl
theorem dksX13_joined_3 : cX13_joined.data.toList.drop 70 = dktX13_joined_3 := dk_seg dksX13_joined_2 24 rfl rfl
theorem dksX13_joined_4 : cX13_joined.data.toList.drop 93 = dktX13_joined_4 := dk_seg dksX13_joined_3 23 rfl rfl
theorem dksX13_joined_5 : cX13_joined.data.toList.drop 115 = dktX13_joined_5 := dk_seg dksX13_joined_4 22 rfl rfl
theorem dX13_joined_0 : decode cX13_joined 0 = .ok (.iconst 0, 1) := dk_3 (dk_at dksX13_joined_0 0 rfl rfl)
theorem dX13_joined_1 : decode cX13_joined 1 = .ok (.istore_n 3, 1) := dk_62 (dk_at dksX13_joined_0 1 rfl rfl)
theorem dX13_joined_2 : decode cX13_joined 2 = .ok (.iload_n 3, 1) := dk_29 (dk_at dksX13_joined_0 2 rfl rfl)
theorem dX13_joined_3 : decode cX13_joined 3 = .ok (.aload_n 0, 1) := dk_42 (dk_at dksX13_joined_0 3 rfl rfl)
theorem dX13_joined_4 : decode cX13_joined 4 = .ok (.getfield 21, 3) := dk_180 0 21 (dk_at dksX13_joined_0 4 rfl rfl)
theorem dX13_joined_7 : decode cX13_joined 7 = .ok (.if_icmp .ge 39, 3) := dk_162 0 39 (dk_at dksX13_joined_0 7 rfl rfl)
theorem dX13_joined_10 : decode cX13_joined 10 = .ok (.aload_n 0, 1) := dk_42 (dk_at dksX13_joined_0 10 rfl rfl)
theorem dX13_joined_11 : decode cX13_joined 11 = .ok (.getfield 17, 3) := dk_180 0 17 (dk_at dksX13_joined_0 11 rfl rfl)
theorem dX13_joined_14 : decode cX13_joined 14 = .ok (.iload_n 3, 1) := dk_29 (dk_at dksX13_joined_0 14 rfl rfl)
theorem dX13_joined_15 : decode cX13_joined 15 = .ok (.dup2, 1) := dk_92 (dk_at dksX13_joined_0 15 rfl rfl)
theorem dX13_joined_16 : decode cX13_joined 16 = .ok (.laload, 1) := dk_47 (dk_at dksX13_joined_0 16 rfl rfl)
theorem dX13_joined_17 : decode cX13_joined 17 = .ok (.aload_n 1, 1) := dk_43 (dk_at dksX13_joined_0 17 rfl rfl)
theorem dX13_joined_18 : decode cX13_joined 18 = .ok (.getfield 30, 3) := dk_180 0 30 (dk_at dksX13_joined_0 18 rfl rfl)
theorem dX13_joined_21 : decode cX13_joined 21 = .ok (.iload_n 3, 1) := dk_29 (dk_at dksX13_joined_0 21 rfl rfl)
theorem dX13_joined_22 : decode cX13_joined 22 = .ok (.lshr, 1) := dk_123 (dk_at dksX13_joined_0 22 rfl rfl)
theorem dX13_joined_23 : decode cX13_joined 23 = .ok (.lconst 1, 1) := dk_10 (dk_at dksX13_joined_0 23 rfl rfl)
theorem dX13_joined_24 : decode cX13_joined 24 = .ok (.land, 1) := dk_127 (dk_at dksX13_joined_1 0 rfl rfl)
theorem dX13_joined_25 : decode cX13_joined 25 = .ok (.lconst 1, 1) := dk_10 (dk_at dksX13_joined_1 1 rfl rfl)
theorem dX13_joined_26 : decode cX13_joined 26 = .ok (.lcmp, 1) := dk_148 (dk_at dksX13_joined_1 2 rfl rfl)
theorem dX13_joined_27 : decode cX13_joined 27 = .ok (.ifCond .ne 10, 3) := dk_154 0 10 (dk_at dksX13_joined_1 3 rfl rfl)
theorem dX13_joined_30 : decode cX13_joined 30 = .ok (.aload_n 2, 1) := dk_44 (dk_at dksX13_joined_1 6 rfl rfl)
theorem dX13_joined_31 : decode cX13_joined 31 = .ok (.getfield 34, 3) := dk_180 0 34 (dk_at dksX13_joined_1 7 rfl rfl)
theorem dX13_joined_34 : decode cX13_joined 34 = .ok (.goto 4, 3) := dk_167 0 4 (dk_at dksX13_joined_1 10 rfl rfl)
theorem dX13_joined_37 : decode cX13_joined 37 = .ok (.lconst 0, 1) := dk_9 (dk_at dksX13_joined_1 13 rfl rfl)
theorem dX13_joined_38 : decode cX13_joined 38 = .ok (.lor, 1) := dk_129 (dk_at dksX13_joined_1 14 rfl rfl)
theorem dX13_joined_39 : decode cX13_joined 39 = .ok (.lastore, 1) := dk_80 (dk_at dksX13_joined_1 15 rfl rfl)
theorem dX13_joined_40 : decode cX13_joined 40 = .ok (.iinc 3 1, 3) := dk_132 3 1 (dk_at dksX13_joined_1 16 rfl rfl)
theorem dX13_joined_43 : decode cX13_joined 43 = .ok (.goto (-41), 3) := dk_167 255 215 (dk_at dksX13_joined_1 19 rfl rfl)
theorem dX13_joined_46 : decode cX13_joined 46 = .ok (.new 25, 3) := dk_187 0 25 (dk_at dksX13_joined_2 0 rfl rfl)
theorem dX13_joined_49 : decode cX13_joined 49 = .ok (.dup, 1) := dk_89 (dk_at dksX13_joined_2 3 rfl rfl)
theorem dX13_joined_50 : decode cX13_joined 50 = .ok (.aload_n 1, 1) := dk_43 (dk_at dksX13_joined_2 4 rfl rfl)
theorem dX13_joined_51 : decode cX13_joined 51 = .ok (.getfield 37, 3) := dk_180 0 37 (dk_at dksX13_joined_2 5 rfl rfl)
theorem dX13_joined_54 : decode cX13_joined 54 = .ok (.ifCond .eq 14, 3) := dk_153 0 14 (dk_at dksX13_joined_2 8 rfl rfl)
theorem dX13_joined_57 : decode cX13_joined 57 = .ok (.aload_n 2, 1) := dk_44 (dk_at dksX13_joined_2 11 rfl rfl)
theorem dX13_joined_58 : decode cX13_joined 58 = .ok (.getfield 37, 3) := dk_180 0 37 (dk_at dksX13_joined_2 12 rfl rfl)
theorem dX13_joined_61 : decode cX13_joined 61 = .ok (.ifCond .eq 7, 3) := dk_153 0 7 (dk_at dksX13_joined_2 15 rfl rfl)
theorem dX13_joined_64 : decode cX13_joined 64 = .ok (.iconst 1, 1) := dk_4 (dk_at dksX13_joined_2 18 rfl rfl)
theorem dX13_joined_65 : decode cX13_joined 65 = .ok (.goto 4, 3) := dk_167 0 4 (dk_at dksX13_joined_2 19 rfl rfl)
theorem dX13_joined_68 : decode cX13_joined 68 = .ok (.iconst 0, 1) := dk_3 (dk_at dksX13_joined_2 22 rfl rfl)
theorem dX13_joined_69 : decode cX13_joined 69 = .ok (.aload_n 1, 1) := dk_43 (dk_at dksX13_joined_2 23 rfl rfl)
theorem dX13_joined_70 : decode cX13_joined 70 = .ok (.getfield 37, 3) := dk_180 0 37 (dk_at dksX13_joined_3 0 rfl rfl)
theorem dX13_joined_73 : decode cX13_joined 73 = .ok (.ifCond .eq 15, 3) := dk_153 0 15 (dk_at dksX13_joined_3 3 rfl rfl)
theorem dX13_joined_76 : decode cX13_joined 76 = .ok (.aload_n 1, 1) := dk_43 (dk_at dksX13_joined_3 6 rfl rfl)
theorem dX13_joined_77 : decode cX13_joined 77 = .ok (.getfield 34, 3) := dk_180 0 34 (dk_at dksX13_joined_3 7 rfl rfl)
theorem dX13_joined_80 : decode cX13_joined 80 = .ok (.aload_n 2, 1) := dk_44 (dk_at dksX13_joined_3 10 rfl rfl)
theorem dX13_joined_81 : decode cX13_joined 81 = .ok (.getfield 34, 3) := dk_180 0 34 (dk_at dksX13_joined_3 11 rfl rfl)
theorem dX13_joined_84 : decode cX13_joined 84 = .ok (.lor, 1) := dk_129 (dk_at dksX13_joined_3 14 rfl rfl)
theorem dX13_joined_85 : decode cX13_joined 85 = .ok (.goto 7, 3) := dk_167 0 7 (dk_at dksX13_joined_3 15 rfl rfl)
theorem dX13_joined_88 : decode cX13_joined 88 = .ok (.aload_n 1, 1) := dk_43 (dk_at dksX13_joined_3 18 rfl rfl)
theorem dX13_joined_89 : decode cX13_joined 89 = .ok (.getfield 34, 3) := dk_180 0 34 (dk_at dksX13_joined_3 19 rfl rfl)
theorem dX13_joined_92 : decode cX13_joined 92 = .ok (.aload_n 2, 1) := dk_44 (dk_at dksX13_joined_3 22 rfl rfl)
theorem dX13_joined_93 : decode cX13_joined 93 = .ok (.getfield 37, 3) := dk_180 0 37 (dk_at dksX13_joined_4 0 rfl rfl)
theorem dX13_joined_96 : decode cX13_joined 96 = .ok (.ifCond .eq 15, 3) := dk_153 0 15 (dk_at dksX13_joined_4 3 rfl rfl)
theorem dX13_joined_99 : decode cX13_joined 99 = .ok (.aload_n 1, 1) := dk_43 (dk_at dksX13_joined_4 6 rfl rfl)
theorem dX13_joined_100 : decode cX13_joined 100 = .ok (.getfield 30, 3) := dk_180 0 30 (dk_at dksX13_joined_4 7 rfl rfl)
theorem dX13_joined_103 : decode cX13_joined 103 = .ok (.aload_n 2, 1) := dk_44 (dk_at dksX13_joined_4 10 rfl rfl)
theorem dX13_joined_104 : decode cX13_joined 104 = .ok (.getfield 30, 3) := dk_180 0 30 (dk_at dksX13_joined_4 11 rfl rfl)
theorem dX13_joined_107 : decode cX13_joined 107 = .ok (.lor, 1) := dk_129 (dk_at dksX13_joined_4 14 rfl rfl)
theorem dX13_joined_108 : decode cX13_joined 108 = .ok (.goto 7, 3) := dk_167 0 7 (dk_at dksX13_joined_4 15 rfl rfl)
theorem dX13_joined_111 : decode cX13_joined 111 = .ok (.aload_n 2, 1) := dk_44 (dk_at dksX13_joined_4 18 rfl rfl)
theorem dX13_joined_112 : decode cX13_joined 112 = .ok (.getfield 30, 3) := dk_180 0 30 (dk_at dksX13_joined_4 19 rfl rfl)
theorem dX13_joined_115 : decode cX13_joined 115 = .ok (.invokespecial 27, 3) := dk_183 0 27 (dk_at dksX13_joined_5 0 rfl rfl)
theorem dX13_joined_118 : decode cX13_joined 118 = .ok (.areturn, 1) := dk_176 (dk_at dksX13_joined_5 3 rfl rfl)
abbrev cX13_findsMore : ByteArray := prog_10_method_6_code
def yX13_findsMore : MethodName := ⟨RX13, "findsMore", "()V"⟩
def dkwX13_findsMore_2 : List UInt8 := [10, 29, 121, 167, 0, 4, 9, 129, 181, 0, 56, 132, 3, 1, 167, 255, 216, 167, 255, 197, 177]
abbrev dktX13_findsMore_2 : List UInt8 := dkwX13_findsMore_2 ++ []
def dkwX13_findsMore_1 : List UInt8 := [180, 0, 21, 162, 0, 38, 42, 89, 180, 0, 56, 42, 42, 180, 0, 17, 29, 47, 182, 0, 61, 153, 0, 9]
abbrev dktX13_findsMore_1 : List UInt8 := dkwX13_findsMore_1 ++ dktX13_findsMore_2
def dkwX13_findsMore_0 : List UInt8 := [20, 0, 59, 64, 31, 42, 180, 0, 56, 148, 153, 0, 56, 42, 180, 0, 56, 64, 3, 62, 29, 42]
abbrev dktX13_findsMore_0 : List UInt8 := dkwX13_findsMore_0 ++ dktX13_findsMore_1
theorem dksX13_findsMore_0 : cX13_findsMore.data.toList.drop 0 = dktX13_findsMore_0 := by decide +kernel
theorem dksX13_findsMore_1 : cX13_findsMore.data.toList.drop 22 = dktX13_findsMore_1 := dk_seg dksX13_findsMore_0 22 rfl rfl
theorem dksX13_findsMore_2 : cX13_findsMore.data.toList.drop 46 = dktX13_findsMore_2 := dk_seg dksX13_findsMore_1 24 rfl rfl
theorem dX13_findsMore_0 : decode cX13_findsMore 0 = .ok (.ldc2_w 59, 3) := dk_20 0 59 (dk_at dksX13_findsMore_0 0 rfl rfl)
theorem dX13_findsMore_3 : decode cX13_findsMore 3 = .ok (.lstore_n 1, 1) := dk_64 (dk_at dksX13_findsMore_0 3 rfl rfl)
theorem dX13_findsMore_4 : decode cX13_findsMore 4 = .ok (.lload_n 1, 1) := dk_31 (dk_at dksX13_findsMore_0 4 rfl rfl)
theorem dX13_findsMore_5 : decode cX13_findsMore 5 = .ok (.aload_n 0, 1) := dk_42 (dk_at dksX13_findsMore_0 5 rfl rfl)
theorem dX13_findsMore_6 : decode cX13_findsMore 6 = .ok (.getfield 56, 3) := dk_180 0 56 (dk_at dksX13_findsMore_0 6 rfl rfl)
theorem dX13_findsMore_9 : decode cX13_findsMore 9 = .ok (.lcmp, 1) := dk_148 (dk_at dksX13_findsMore_0 9 rfl rfl)
theorem dX13_findsMore_10 : decode cX13_findsMore 10 = .ok (.ifCond .eq 56, 3) := dk_153 0 56 (dk_at dksX13_findsMore_0 10 rfl rfl)
theorem dX13_findsMore_13 : decode cX13_findsMore 13 = .ok (.aload_n 0, 1) := dk_42 (dk_at dksX13_findsMore_0 13 rfl rfl)
theorem dX13_findsMore_14 : decode cX13_findsMore 14 = .ok (.getfield 56, 3) := dk_180 0 56 (dk_at dksX13_findsMore_0 14 rfl rfl)
theorem dX13_findsMore_17 : decode cX13_findsMore 17 = .ok (.lstore_n 1, 1) := dk_64 (dk_at dksX13_findsMore_0 17 rfl rfl)
theorem dX13_findsMore_18 : decode cX13_findsMore 18 = .ok (.iconst 0, 1) := dk_3 (dk_at dksX13_findsMore_0 18 rfl rfl)
theorem dX13_findsMore_19 : decode cX13_findsMore 19 = .ok (.istore_n 3, 1) := dk_62 (dk_at dksX13_findsMore_0 19 rfl rfl)
theorem dX13_findsMore_20 : decode cX13_findsMore 20 = .ok (.iload_n 3, 1) := dk_29 (dk_at dksX13_findsMore_0 20 rfl rfl)
theorem dX13_findsMore_21 : decode cX13_findsMore 21 = .ok (.aload_n 0, 1) := dk_42 (dk_at dksX13_findsMore_0 21 rfl rfl)
theorem dX13_findsMore_22 : decode cX13_findsMore 22 = .ok (.getfield 21, 3) := dk_180 0 21 (dk_at dksX13_findsMore_1 0 rfl rfl)
theorem dX13_findsMore_25 : decode cX13_findsMore 25 = .ok (.if_icmp .ge 38, 3) := dk_162 0 38 (dk_at dksX13_findsMore_1 3 rfl rfl)
theorem dX13_findsMore_28 : decode cX13_findsMore 28 = .ok (.aload_n 0, 1) := dk_42 (dk_at dksX13_findsMore_1 6 rfl rfl)
theorem dX13_findsMore_29 : decode cX13_findsMore 29 = .ok (.dup, 1) := dk_89 (dk_at dksX13_findsMore_1 7 rfl rfl)
theorem dX13_findsMore_30 : decode cX13_findsMore 30 = .ok (.getfield 56, 3) := dk_180 0 56 (dk_at dksX13_findsMore_1 8 rfl rfl)
theorem dX13_findsMore_33 : decode cX13_findsMore 33 = .ok (.aload_n 0, 1) := dk_42 (dk_at dksX13_findsMore_1 11 rfl rfl)
theorem dX13_findsMore_34 : decode cX13_findsMore 34 = .ok (.aload_n 0, 1) := dk_42 (dk_at dksX13_findsMore_1 12 rfl rfl)
theorem dX13_findsMore_35 : decode cX13_findsMore 35 = .ok (.getfield 17, 3) := dk_180 0 17 (dk_at dksX13_findsMore_1 13 rfl rfl)
theorem dX13_findsMore_38 : decode cX13_findsMore 38 = .ok (.iload_n 3, 1) := dk_29 (dk_at dksX13_findsMore_1 16 rfl rfl)
theorem dX13_findsMore_39 : decode cX13_findsMore 39 = .ok (.laload, 1) := dk_47 (dk_at dksX13_findsMore_1 17 rfl rfl)
theorem dX13_findsMore_40 : decode cX13_findsMore 40 = .ok (.invokevirtual 61, 3) := dk_182 0 61 (dk_at dksX13_findsMore_1 18 rfl rfl)
theorem dX13_findsMore_43 : decode cX13_findsMore 43 = .ok (.ifCond .eq 9, 3) := dk_153 0 9 (dk_at dksX13_findsMore_1 21 rfl rfl)
theorem dX13_findsMore_46 : decode cX13_findsMore 46 = .ok (.lconst 1, 1) := dk_10 (dk_at dksX13_findsMore_2 0 rfl rfl)
theorem dX13_findsMore_47 : decode cX13_findsMore 47 = .ok (.iload_n 3, 1) := dk_29 (dk_at dksX13_findsMore_2 1 rfl rfl)
theorem dX13_findsMore_48 : decode cX13_findsMore 48 = .ok (.lshl, 1) := dk_121 (dk_at dksX13_findsMore_2 2 rfl rfl)
theorem dX13_findsMore_49 : decode cX13_findsMore 49 = .ok (.goto 4, 3) := dk_167 0 4 (dk_at dksX13_findsMore_2 3 rfl rfl)
theorem dX13_findsMore_52 : decode cX13_findsMore 52 = .ok (.lconst 0, 1) := dk_9 (dk_at dksX13_findsMore_2 6 rfl rfl)
theorem dX13_findsMore_53 : decode cX13_findsMore 53 = .ok (.lor, 1) := dk_129 (dk_at dksX13_findsMore_2 7 rfl rfl)
theorem dX13_findsMore_54 : decode cX13_findsMore 54 = .ok (.putfield 56, 3) := dk_181 0 56 (dk_at dksX13_findsMore_2 8 rfl rfl)
theorem dX13_findsMore_57 : decode cX13_findsMore 57 = .ok (.iinc 3 1, 3) := dk_132 3 1 (dk_at dksX13_findsMore_2 11 rfl rfl)
theorem dX13_findsMore_60 : decode cX13_findsMore 60 = .ok (.goto (-40), 3) := dk_167 255 216 (dk_at dksX13_findsMore_2 14 rfl rfl)
theorem dX13_findsMore_63 : decode cX13_findsMore 63 = .ok (.goto (-59), 3) := dk_167 255 197 (dk_at dksX13_findsMore_2 17 rfl rfl)
theorem dX13_findsMore_66 : decode cX13_findsMore 66 = .ok (.return_, 1) := dk_177 (dk_at dksX13_findsMore_2 20 rfl rfl)
abbrev cX13_isLeading : ByteArray := prog_10_method_5_code
def yX13_isLeading : MethodName := ⟨RX13, "isLeading", "(J)Z"⟩
def dkwX13_isLeading_0 : List UInt8 := [31, 42, 180, 0, 52, 42, 180, 0, 56, 129, 127, 9, 148, 153, 0, 7, 4, 167, 0, 4, 3, 172]
abbrev dktX13_isLeading_0 : List UInt8 := dkwX13_isLeading_0 ++ []
theorem dksX13_isLeading_0 : cX13_isLeading.data.toList.drop 0 = dktX13_isLeading_0 := by decide +kernel
theorem dX13_isLeading_0 : decode cX13_isLeading 0 = .ok (.lload_n 1, 1) := dk_31 (dk_at dksX13_isLeading_0 0 rfl rfl)
theorem dX13_isLeading_1 : decode cX13_isLeading 1 = .ok (.aload_n 0, 1) := dk_42 (dk_at dksX13_isLeading_0 1 rfl rfl)
theorem dX13_isLeading_2 : decode cX13_isLeading 2 = .ok (.getfield 52, 3) := dk_180 0 52 (dk_at dksX13_isLeading_0 2 rfl rfl)
theorem dX13_isLeading_5 : decode cX13_isLeading 5 = .ok (.aload_n 0, 1) := dk_42 (dk_at dksX13_isLeading_0 5 rfl rfl)
theorem dX13_isLeading_6 : decode cX13_isLeading 6 = .ok (.getfield 56, 3) := dk_180 0 56 (dk_at dksX13_isLeading_0 6 rfl rfl)
theorem dX13_isLeading_9 : decode cX13_isLeading 9 = .ok (.lor, 1) := dk_129 (dk_at dksX13_isLeading_0 9 rfl rfl)
theorem dX13_isLeading_10 : decode cX13_isLeading 10 = .ok (.land, 1) := dk_127 (dk_at dksX13_isLeading_0 10 rfl rfl)
theorem dX13_isLeading_11 : decode cX13_isLeading 11 = .ok (.lconst 0, 1) := dk_9 (dk_at dksX13_isLeading_0 11 rfl rfl)
theorem dX13_isLeading_12 : decode cX13_isLeading 12 = .ok (.lcmp, 1) := dk_148 (dk_at dksX13_isLeading_0 12 rfl rfl)
theorem dX13_isLeading_13 : decode cX13_isLeading 13 = .ok (.ifCond .eq 7, 3) := dk_153 0 7 (dk_at dksX13_isLeading_0 13 rfl rfl)
theorem dX13_isLeading_16 : decode cX13_isLeading 16 = .ok (.iconst 1, 1) := dk_4 (dk_at dksX13_isLeading_0 16 rfl rfl)
theorem dX13_isLeading_17 : decode cX13_isLeading 17 = .ok (.goto 4, 3) := dk_167 0 4 (dk_at dksX13_isLeading_0 17 rfl rfl)
theorem dX13_isLeading_20 : decode cX13_isLeading 20 = .ok (.iconst 0, 1) := dk_3 (dk_at dksX13_isLeading_0 20 rfl rfl)
theorem dX13_isLeading_21 : decode cX13_isLeading 21 = .ok (.ireturn, 1) := dk_172 (dk_at dksX13_isLeading_0 21 rfl rfl)
abbrev cX13_taking : ByteArray := prog_10_method_7_code
def yX13_taking : MethodName := ⟨RX13, "taking", "(JI)J"⟩
def dkwX13_taking_2 : List UInt8 := [167, 0, 4, 9, 129, 55, 4, 132, 6, 1, 167, 255, 204, 22, 4, 173]
abbrev dktX13_taking_2 : List UInt8 := dkwX13_taking_2 ++ []
def dkwX13_taking_1 : List UInt8 := [148, 154, 0, 26, 42, 180, 0, 11, 21, 6, 50, 29, 185, 0, 65, 2, 0, 153, 0, 10, 10, 21, 6, 121]
abbrev dktX13_taking_1 : List UInt8 := dkwX13_taking_1 ++ dktX13_taking_2
def dkwX13_taking_0 : List UInt8 := [9, 55, 4, 3, 54, 6, 21, 6, 42, 180, 0, 21, 162, 0, 49, 22, 4, 31, 21, 6, 123, 10, 127, 10]
abbrev dktX13_taking_0 : List UInt8 := dkwX13_taking_0 ++ dktX13_taking_1
theorem dksX13_taking_0 : cX13_taking.data.toList.drop 0 = dktX13_taking_0 := by decide +kernel
theorem dksX13_taking_1 : cX13_taking.data.toList.drop 24 = dktX13_taking_1 := dk_seg dksX13_taking_0 24 rfl rfl
theorem dksX13_taking_2 : cX13_taking.data.toList.drop 48 = dktX13_taking_2 := dk_seg dksX13_taking_1 24 rfl rfl
theorem dX13_taking_0 : decode cX13_taking 0 = .ok (.lconst 0, 1) := dk_9 (dk_at dksX13_taking_0 0 rfl rfl)
theorem dX13_taking_1 : decode cX13_taking 1 = .ok (.lstore 4, 2) := dk_55 4 (dk_at dksX13_taking_0 1 rfl rfl)
theorem dX13_taking_3 : decode cX13_taking 3 = .ok (.iconst 0, 1) := dk_3 (dk_at dksX13_taking_0 3 rfl rfl)
theorem dX13_taking_4 : decode cX13_taking 4 = .ok (.istore 6, 2) := dk_54 6 (dk_at dksX13_taking_0 4 rfl rfl)
theorem dX13_taking_6 : decode cX13_taking 6 = .ok (.iload 6, 2) := dk_21 6 (dk_at dksX13_taking_0 6 rfl rfl)
theorem dX13_taking_8 : decode cX13_taking 8 = .ok (.aload_n 0, 1) := dk_42 (dk_at dksX13_taking_0 8 rfl rfl)
theorem dX13_taking_9 : decode cX13_taking 9 = .ok (.getfield 21, 3) := dk_180 0 21 (dk_at dksX13_taking_0 9 rfl rfl)
theorem dX13_taking_12 : decode cX13_taking 12 = .ok (.if_icmp .ge 49, 3) := dk_162 0 49 (dk_at dksX13_taking_0 12 rfl rfl)
theorem dX13_taking_15 : decode cX13_taking 15 = .ok (.lload 4, 2) := dk_22 4 (dk_at dksX13_taking_0 15 rfl rfl)
theorem dX13_taking_17 : decode cX13_taking 17 = .ok (.lload_n 1, 1) := dk_31 (dk_at dksX13_taking_0 17 rfl rfl)
theorem dX13_taking_18 : decode cX13_taking 18 = .ok (.iload 6, 2) := dk_21 6 (dk_at dksX13_taking_0 18 rfl rfl)
theorem dX13_taking_20 : decode cX13_taking 20 = .ok (.lshr, 1) := dk_123 (dk_at dksX13_taking_0 20 rfl rfl)
theorem dX13_taking_21 : decode cX13_taking 21 = .ok (.lconst 1, 1) := dk_10 (dk_at dksX13_taking_0 21 rfl rfl)
theorem dX13_taking_22 : decode cX13_taking 22 = .ok (.land, 1) := dk_127 (dk_at dksX13_taking_0 22 rfl rfl)
theorem dX13_taking_23 : decode cX13_taking 23 = .ok (.lconst 1, 1) := dk_10 (dk_at dksX13_taking_0 23 rfl rfl)
theorem dX13_taking_24 : decode cX13_taking 24 = .ok (.lcmp, 1) := dk_148 (dk_at dksX13_taking_1 0 rfl rfl)
theorem dX13_taking_25 : decode cX13_taking 25 = .ok (.ifCond .ne 26, 3) := dk_154 0 26 (dk_at dksX13_taking_1 1 rfl rfl)
theorem dX13_taking_28 : decode cX13_taking 28 = .ok (.aload_n 0, 1) := dk_42 (dk_at dksX13_taking_1 4 rfl rfl)
theorem dX13_taking_29 : decode cX13_taking 29 = .ok (.getfield 11, 3) := dk_180 0 11 (dk_at dksX13_taking_1 5 rfl rfl)
theorem dX13_taking_32 : decode cX13_taking 32 = .ok (.iload 6, 2) := dk_21 6 (dk_at dksX13_taking_1 8 rfl rfl)
theorem dX13_taking_34 : decode cX13_taking 34 = .ok (.aaload, 1) := dk_50 (dk_at dksX13_taking_1 10 rfl rfl)
theorem dX13_taking_35 : decode cX13_taking 35 = .ok (.iload_n 3, 1) := dk_29 (dk_at dksX13_taking_1 11 rfl rfl)
theorem dX13_taking_36 : decode cX13_taking 36 = .ok (.invokeinterface 65 2, 5) := by decide +kernel
theorem dX13_taking_41 : decode cX13_taking 41 = .ok (.ifCond .eq 10, 3) := dk_153 0 10 (dk_at dksX13_taking_1 17 rfl rfl)
theorem dX13_taking_44 : decode cX13_taking 44 = .ok (.lconst 1, 1) := dk_10 (dk_at dksX13_taking_1 20 rfl rfl)
theorem dX13_taking_45 : decode cX13_taking 45 = .ok (.iload 6, 2) := dk_21 6 (dk_at dksX13_taking_1 21 rfl rfl)
theorem dX13_taking_47 : decode cX13_taking 47 = .ok (.lshl, 1) := dk_121 (dk_at dksX13_taking_1 23 rfl rfl)
theorem dX13_taking_48 : decode cX13_taking 48 = .ok (.goto 4, 3) := dk_167 0 4 (dk_at dksX13_taking_2 0 rfl rfl)
theorem dX13_taking_51 : decode cX13_taking 51 = .ok (.lconst 0, 1) := dk_9 (dk_at dksX13_taking_2 3 rfl rfl)
theorem dX13_taking_52 : decode cX13_taking 52 = .ok (.lor, 1) := dk_129 (dk_at dksX13_taking_2 4 rfl rfl)
theorem dX13_taking_53 : decode cX13_taking 53 = .ok (.lstore 4, 2) := dk_55 4 (dk_at dksX13_taking_2 5 rfl rfl)
theorem dX13_taking_55 : decode cX13_taking 55 = .ok (.iinc 6 1, 3) := dk_132 6 1 (dk_at dksX13_taking_2 7 rfl rfl)
theorem dX13_taking_58 : decode cX13_taking 58 = .ok (.goto (-52), 3) := dk_167 255 204 (dk_at dksX13_taking_2 10 rfl rfl)
theorem dX13_taking_61 : decode cX13_taking 61 = .ok (.lload 4, 2) := dk_22 4 (dk_at dksX13_taking_2 13 rfl rfl)
theorem dX13_taking_63 : decode cX13_taking 63 = .ok (.lreturn, 1) := dk_173 (dk_at dksX13_taking_2 15 rfl rfl)
abbrev cX13_behindAll : ByteArray := prog_10_method_8_code
def yX13_behindAll : MethodName := ⟨RX13, "behindAll", "(J)J"⟩
def dkwX13_behindAll_1 : List UInt8 := [154, 0, 13, 42, 180, 0, 17, 21, 5, 47, 167, 0, 4, 9, 129, 66, 132, 5, 1, 167, 255, 219, 33, 173]
abbrev dktX13_behindAll_1 : List UInt8 := dkwX13_behindAll_1 ++ []
def dkwX13_behindAll_0 : List UInt8 := [9, 66, 3, 54, 5, 21, 5, 42, 180, 0, 21, 162, 0, 34, 33, 31, 21, 5, 123, 10, 127, 10, 148]
abbrev dktX13_behindAll_0 : List UInt8 := dkwX13_behindAll_0 ++ dktX13_behindAll_1
theorem dksX13_behindAll_0 : cX13_behindAll.data.toList.drop 0 = dktX13_behindAll_0 := by decide +kernel
theorem dksX13_behindAll_1 : cX13_behindAll.data.toList.drop 23 = dktX13_behindAll_1 := dk_seg dksX13_behindAll_0 23 rfl rfl
theorem dX13_behindAll_0 : decode cX13_behindAll 0 = .ok (.lconst 0, 1) := dk_9 (dk_at dksX13_behindAll_0 0 rfl rfl)
theorem dX13_behindAll_1 : decode cX13_behindAll 1 = .ok (.lstore_n 3, 1) := dk_66 (dk_at dksX13_behindAll_0 1 rfl rfl)
theorem dX13_behindAll_2 : decode cX13_behindAll 2 = .ok (.iconst 0, 1) := dk_3 (dk_at dksX13_behindAll_0 2 rfl rfl)
theorem dX13_behindAll_3 : decode cX13_behindAll 3 = .ok (.istore 5, 2) := dk_54 5 (dk_at dksX13_behindAll_0 3 rfl rfl)
theorem dX13_behindAll_5 : decode cX13_behindAll 5 = .ok (.iload 5, 2) := dk_21 5 (dk_at dksX13_behindAll_0 5 rfl rfl)
theorem dX13_behindAll_7 : decode cX13_behindAll 7 = .ok (.aload_n 0, 1) := dk_42 (dk_at dksX13_behindAll_0 7 rfl rfl)
theorem dX13_behindAll_8 : decode cX13_behindAll 8 = .ok (.getfield 21, 3) := dk_180 0 21 (dk_at dksX13_behindAll_0 8 rfl rfl)
theorem dX13_behindAll_11 : decode cX13_behindAll 11 = .ok (.if_icmp .ge 34, 3) := dk_162 0 34 (dk_at dksX13_behindAll_0 11 rfl rfl)
theorem dX13_behindAll_14 : decode cX13_behindAll 14 = .ok (.lload_n 3, 1) := dk_33 (dk_at dksX13_behindAll_0 14 rfl rfl)
theorem dX13_behindAll_15 : decode cX13_behindAll 15 = .ok (.lload_n 1, 1) := dk_31 (dk_at dksX13_behindAll_0 15 rfl rfl)
theorem dX13_behindAll_16 : decode cX13_behindAll 16 = .ok (.iload 5, 2) := dk_21 5 (dk_at dksX13_behindAll_0 16 rfl rfl)
theorem dX13_behindAll_18 : decode cX13_behindAll 18 = .ok (.lshr, 1) := dk_123 (dk_at dksX13_behindAll_0 18 rfl rfl)
theorem dX13_behindAll_19 : decode cX13_behindAll 19 = .ok (.lconst 1, 1) := dk_10 (dk_at dksX13_behindAll_0 19 rfl rfl)
theorem dX13_behindAll_20 : decode cX13_behindAll 20 = .ok (.land, 1) := dk_127 (dk_at dksX13_behindAll_0 20 rfl rfl)
theorem dX13_behindAll_21 : decode cX13_behindAll 21 = .ok (.lconst 1, 1) := dk_10 (dk_at dksX13_behindAll_0 21 rfl rfl)
theorem dX13_behindAll_22 : decode cX13_behindAll 22 = .ok (.lcmp, 1) := dk_148 (dk_at dksX13_behindAll_0 22 rfl rfl)
theorem dX13_behindAll_23 : decode cX13_behindAll 23 = .ok (.ifCond .ne 13, 3) := dk_154 0 13 (dk_at dksX13_behindAll_1 0 rfl rfl)
theorem dX13_behindAll_26 : decode cX13_behindAll 26 = .ok (.aload_n 0, 1) := dk_42 (dk_at dksX13_behindAll_1 3 rfl rfl)
theorem dX13_behindAll_27 : decode cX13_behindAll 27 = .ok (.getfield 17, 3) := dk_180 0 17 (dk_at dksX13_behindAll_1 4 rfl rfl)
theorem dX13_behindAll_30 : decode cX13_behindAll 30 = .ok (.iload 5, 2) := dk_21 5 (dk_at dksX13_behindAll_1 7 rfl rfl)
theorem dX13_behindAll_32 : decode cX13_behindAll 32 = .ok (.laload, 1) := dk_47 (dk_at dksX13_behindAll_1 9 rfl rfl)
theorem dX13_behindAll_33 : decode cX13_behindAll 33 = .ok (.goto 4, 3) := dk_167 0 4 (dk_at dksX13_behindAll_1 10 rfl rfl)
theorem dX13_behindAll_36 : decode cX13_behindAll 36 = .ok (.lconst 0, 1) := dk_9 (dk_at dksX13_behindAll_1 13 rfl rfl)
theorem dX13_behindAll_37 : decode cX13_behindAll 37 = .ok (.lor, 1) := dk_129 (dk_at dksX13_behindAll_1 14 rfl rfl)
theorem dX13_behindAll_38 : decode cX13_behindAll 38 = .ok (.lstore_n 3, 1) := dk_66 (dk_at dksX13_behindAll_1 15 rfl rfl)
theorem dX13_behindAll_39 : decode cX13_behindAll 39 = .ok (.iinc 5 1, 3) := dk_132 5 1 (dk_at dksX13_behindAll_1 16 rfl rfl)
theorem dX13_behindAll_42 : decode cX13_behindAll 42 = .ok (.goto (-37), 3) := dk_167 255 219 (dk_at dksX13_behindAll_1 19 rfl rfl)
theorem dX13_behindAll_45 : decode cX13_behindAll 45 = .ok (.lload_n 3, 1) := dk_33 (dk_at dksX13_behindAll_1 22 rfl rfl)
theorem dX13_behindAll_46 : decode cX13_behindAll 46 = .ok (.lreturn, 1) := dk_173 (dk_at dksX13_behindAll_1 23 rfl rfl)
abbrev cX13_ends : ByteArray := prog_10_method_9_code
def yX13_ends : MethodName := ⟨RX13, "ends", "(J)Z"⟩
def dkwX13_ends_0 : List UInt8 := [31, 42, 180, 0, 52, 127, 9, 148, 153, 0, 7, 4, 167, 0, 4, 3, 172]
abbrev dktX13_ends_0 : List UInt8 := dkwX13_ends_0 ++ []
theorem dksX13_ends_0 : cX13_ends.data.toList.drop 0 = dktX13_ends_0 := by decide +kernel
theorem dX13_ends_0 : decode cX13_ends 0 = .ok (.lload_n 1, 1) := dk_31 (dk_at dksX13_ends_0 0 rfl rfl)
theorem dX13_ends_1 : decode cX13_ends 1 = .ok (.aload_n 0, 1) := dk_42 (dk_at dksX13_ends_0 1 rfl rfl)
theorem dX13_ends_2 : decode cX13_ends 2 = .ok (.getfield 52, 3) := dk_180 0 52 (dk_at dksX13_ends_0 2 rfl rfl)
theorem dX13_ends_5 : decode cX13_ends 5 = .ok (.land, 1) := dk_127 (dk_at dksX13_ends_0 5 rfl rfl)
theorem dX13_ends_6 : decode cX13_ends 6 = .ok (.lconst 0, 1) := dk_9 (dk_at dksX13_ends_0 6 rfl rfl)
theorem dX13_ends_7 : decode cX13_ends 7 = .ok (.lcmp, 1) := dk_148 (dk_at dksX13_ends_0 7 rfl rfl)
theorem dX13_ends_8 : decode cX13_ends 8 = .ok (.ifCond .eq 7, 3) := dk_153 0 7 (dk_at dksX13_ends_0 8 rfl rfl)
theorem dX13_ends_11 : decode cX13_ends 11 = .ok (.iconst 1, 1) := dk_4 (dk_at dksX13_ends_0 11 rfl rfl)
theorem dX13_ends_12 : decode cX13_ends 12 = .ok (.goto 4, 3) := dk_167 0 4 (dk_at dksX13_ends_0 12 rfl rfl)
theorem dX13_ends_15 : decode cX13_ends 15 = .ok (.iconst 0, 1) := dk_3 (dk_at dksX13_ends_0 15 rfl rfl)
theorem dX13_ends_16 : decode cX13_ends 16 = .ok (.ireturn, 1) := dk_172 (dk_at dksX13_ends_0 16 rfl rfl)
abbrev cX13_mightBegin : ByteArray := prog_10_method_11_code
def yX13_mightBegin : MethodName := ⟨RX13, "mightBegin", "()Z"⟩
def dkwX13_mightBegin_0 : List UInt8 := [42, 42, 180, 0, 51, 182, 0, 61, 172]
abbrev dktX13_mightBegin_0 : List UInt8 := dkwX13_mightBegin_0 ++ []
theorem dksX13_mightBegin_0 : cX13_mightBegin.data.toList.drop 0 = dktX13_mightBegin_0 := by decide +kernel
theorem dX13_mightBegin_0 : decode cX13_mightBegin 0 = .ok (.aload_n 0, 1) := dk_42 (dk_at dksX13_mightBegin_0 0 rfl rfl)
theorem dX13_mightBegin_1 : decode cX13_mightBegin 1 = .ok (.aload_n 0, 1) := dk_42 (dk_at dksX13_mightBegin_0 1 rfl rfl)
theorem dX13_mightBegin_2 : decode cX13_mightBegin 2 = .ok (.getfield 51, 3) := dk_180 0 51 (dk_at dksX13_mightBegin_0 2 rfl rfl)
theorem dX13_mightBegin_5 : decode cX13_mightBegin 5 = .ok (.invokevirtual 61, 3) := dk_182 0 61 (dk_at dksX13_mightBegin_0 5 rfl rfl)
theorem dX13_mightBegin_8 : decode cX13_mightBegin 8 = .ok (.ireturn, 1) := dk_172 (dk_at dksX13_mightBegin_0 8 rfl rfl)
abbrev cX13_mightGoOn : ByteArray := prog_10_method_10_code
def yX13_mightGoOn : MethodName := ⟨RX13, "mightGoOn", "(J)Z"⟩
def dkwX13_mightGoOn_0 : List UInt8 := [31, 42, 180, 0, 56, 127, 9, 148, 153, 0, 7, 4, 167, 0, 4, 3, 172]
abbrev dktX13_mightGoOn_0 : List UInt8 := dkwX13_mightGoOn_0 ++ []
theorem dksX13_mightGoOn_0 : cX13_mightGoOn.data.toList.drop 0 = dktX13_mightGoOn_0 := by decide +kernel
theorem dX13_mightGoOn_0 : decode cX13_mightGoOn 0 = .ok (.lload_n 1, 1) := dk_31 (dk_at dksX13_mightGoOn_0 0 rfl rfl)
theorem dX13_mightGoOn_1 : decode cX13_mightGoOn 1 = .ok (.aload_n 0, 1) := dk_42 (dk_at dksX13_mightGoOn_0 1 rfl rfl)
theorem dX13_mightGoOn_2 : decode cX13_mightGoOn 2 = .ok (.getfield 56, 3) := dk_180 0 56 (dk_at dksX13_mightGoOn_0 2 rfl rfl)
theorem dX13_mightGoOn_5 : decode cX13_mightGoOn 5 = .ok (.land, 1) := dk_127 (dk_at dksX13_mightGoOn_0 5 rfl rfl)
theorem dX13_mightGoOn_6 : decode cX13_mightGoOn 6 = .ok (.lconst 0, 1) := dk_9 (dk_at dksX13_mightGoOn_0 6 rfl rfl)
theorem dX13_mightGoOn_7 : decode cX13_mightGoOn 7 = .ok (.lcmp, 1) := dk_148 (dk_at dksX13_mightGoOn_0 7 rfl rfl)
theorem dX13_mightGoOn_8 : decode cX13_mightGoOn 8 = .ok (.ifCond .eq 7, 3) := dk_153 0 7 (dk_at dksX13_mightGoOn_0 8 rfl rfl)
theorem dX13_mightGoOn_11 : decode cX13_mightGoOn 11 = .ok (.iconst 1, 1) := dk_4 (dk_at dksX13_mightGoOn_0 11 rfl rfl)
theorem dX13_mightGoOn_12 : decode cX13_mightGoOn 12 = .ok (.goto 4, 3) := dk_167 0 4 (dk_at dksX13_mightGoOn_0 12 rfl rfl)
theorem dX13_mightGoOn_15 : decode cX13_mightGoOn 15 = .ok (.iconst 0, 1) := dk_3 (dk_at dksX13_mightGoOn_0 15 rfl rfl)
theorem dX13_mightGoOn_16 : decode cX13_mightGoOn 16 = .ok (.ireturn, 1) := dk_172 (dk_at dksX13_mightGoOn_0 16 rfl rfl)
theorem q112 : (Jvm.Cond.initialized "PromiseTries$Machine") ∈ lw_all := lw_g (lw_at lw_m1 19 rfl) rfl
theorem q542 : (Jvm.Cond.instantiable "PromiseTries$Machine" (6 : Nat)) ∈ lw_all := lw_g (lw_at lw_m2 209 rfl) rfl
theorem q544 : (Jvm.Cond.instanceMethod ({ cls := "PromiseTries$Machine", name := "<init>", desc := "()V" } : Jvm.MethodName)) ∈ lw_all := lw_g (lw_at lw_m2 211 rfl) rfl
theorem q545 : (Jvm.Cond.code ({ cls := "PromiseTries$Machine", name := "<init>", desc := "()V" } : Jvm.MethodName) prog_10_method_1_code (1 : Nat) (Option.none : Option Jvm.ClassFile.FieldType)) ∈ lw_all := lw_g (lw_at lw_m2 212 rfl) rfl
theorem q546 : (Jvm.Cond.methodLink "PromiseTries$Machine" (3 : Nat) ({ cls := "java/lang/Object", name := "<init>", desc := "()V" } : Jvm.MethodName)) ∈ lw_all := lw_g (lw_at lw_m2 213 rfl) rfl
theorem q547 : (Jvm.Cond.classLink "PromiseTries$Machine" (9 : Nat) "PromiseTries$Holds") ∈ lw_all := lw_g (lw_at lw_m2 214 rfl) rfl
theorem q548 : (Jvm.Cond.fieldLink "PromiseTries$Machine" (11 : Nat) "PromiseTries$Machine" "holds" "[LPromiseTries$Holds;") ∈ lw_all := lw_g (lw_at lw_m2 215 rfl) rfl
theorem q549 : (Jvm.Cond.fieldLink "PromiseTries$Machine" (17 : Nat) "PromiseTries$Machine" "behind" "[J") ∈ lw_all := lw_g (lw_at lw_m2 216 rfl) rfl
theorem q550 : (Jvm.Cond.fieldLink "PromiseTries$Machine" (21 : Nat) "PromiseTries$Machine" "many" "I") ∈ lw_all := lw_g (lw_at lw_m2 217 rfl) rfl
theorem q551 : (Jvm.Cond.fieldLink "PromiseTries$Machine" (51 : Nat) "PromiseTries$Machine" "first" "J") ∈ lw_all := lw_g (lw_at lw_m2 218 rfl) rfl
theorem q553 : (Jvm.Cond.fieldLink "PromiseTries$Machine" (52 : Nat) "PromiseTries$Machine" "last" "J") ∈ lw_all := lw_g (lw_at lw_m2 220 rfl) rfl
theorem q554 : (Jvm.Cond.fieldLink "PromiseTries$Machine" (56 : Nat) "PromiseTries$Machine" "more" "J") ∈ lw_all := lw_g (lw_at lw_m2 221 rfl) rfl
theorem q555 : (Jvm.Cond.laysFinal "PromiseTries$Machine" "PromiseTries$Machine" "holds" "[LPromiseTries$Holds;") ∈ lw_all := lw_g (lw_at lw_m2 222 rfl) rfl
theorem q556 : (Jvm.Cond.soleField "PromiseTries$Machine" "holds") ∈ lw_all := lw_g (lw_at lw_m2 223 rfl) rfl
theorem q557 : (Jvm.Cond.laysFinal "PromiseTries$Machine" "PromiseTries$Machine" "behind" "[J") ∈ lw_all := lw_g (lw_at lw_m2 224 rfl) rfl
theorem q558 : (Jvm.Cond.soleField "PromiseTries$Machine" "behind") ∈ lw_all := lw_g (lw_at lw_m2 225 rfl) rfl
theorem q559 : (Jvm.Cond.lays "PromiseTries$Machine" "PromiseTries$Machine" "many" "I") ∈ lw_all := lw_g (lw_at lw_m2 226 rfl) rfl
theorem q560 : (Jvm.Cond.soleField "PromiseTries$Machine" "many") ∈ lw_all := lw_g (lw_at lw_m2 227 rfl) rfl
theorem q561 : (Jvm.Cond.lays "PromiseTries$Machine" "PromiseTries$Machine" "first" "J") ∈ lw_all := lw_g (lw_at lw_m2 228 rfl) rfl
theorem q562 : (Jvm.Cond.soleField "PromiseTries$Machine" "first") ∈ lw_all := lw_g (lw_at lw_m2 229 rfl) rfl
theorem q563 : (Jvm.Cond.lays "PromiseTries$Machine" "PromiseTries$Machine" "last" "J") ∈ lw_all := lw_g (lw_at lw_m2 230 rfl) rfl
theorem q564 : (Jvm.Cond.soleField "PromiseTries$Machine" "last") ∈ lw_all := lw_g (lw_at lw_m2 231 rfl) rfl
theorem q565 : (Jvm.Cond.lays "PromiseTries$Machine" "PromiseTries$Machine" "more" "J") ∈ lw_all := lw_g (lw_at lw_m2 232 rfl) rfl
theorem q566 : (Jvm.Cond.soleField "PromiseTries$Machine" "more") ∈ lw_all := lw_g (lw_at lw_m2 233 rfl) rfl
theorem q567 : (Jvm.Cond.superclass "PromiseTries$Machine" "java/lang/Object") ∈ lw_all := lw_g (lw_at lw_m2 234 rfl) rfl
theorem q569 : (Jvm.Cond.instanceMethod ({ cls := "PromiseTries$Machine", name := "built", desc := "(LPromiseTries$Node;)V" } : Jvm.MethodName)) ∈ lw_all := lw_g (lw_at lw_m2 236 rfl) rfl
theorem q570 : (Jvm.Cond.selects "PromiseTries$Machine" ({ cls := "PromiseTries$Machine", name := "built", desc := "(LPromiseTries$Node;)V" } : Jvm.MethodName) ({ cls := "PromiseTries$Machine", name := "built", desc := "(LPromiseTries$Node;)V" } : Jvm.MethodName)) ∈ lw_all := lw_g (lw_at lw_m2 237 rfl) rfl
theorem q571 : (Jvm.Cond.code ({ cls := "PromiseTries$Machine", name := "built", desc := "(LPromiseTries$Node;)V" } : Jvm.MethodName) prog_10_method_4_code (6 : Nat) (Option.none : Option Jvm.ClassFile.FieldType)) ∈ lw_all := lw_g (lw_at lw_m2 238 rfl) rfl
theorem q572 : (Jvm.Cond.methodLink "PromiseTries$Machine" (41 : Nat) ({ cls := "PromiseTries$Node", name := "built", desc := "(LPromiseTries$Machine;)LPromiseTries$Part;" } : Jvm.MethodName)) ∈ lw_all := lw_g (lw_at lw_m2 239 rfl) rfl
theorem q579 : (Jvm.Cond.instanceMethod ({ cls := "PromiseTries$Machine", name := "place", desc := "(LPromiseTries$Holds;)LPromiseTries$Part;" } : Jvm.MethodName)) ∈ lw_all := lw_g (lw_at lw_m3 6 rfl) rfl
theorem q580 : (Jvm.Cond.selects "PromiseTries$Machine" ({ cls := "PromiseTries$Machine", name := "place", desc := "(LPromiseTries$Holds;)LPromiseTries$Part;" } : Jvm.MethodName) ({ cls := "PromiseTries$Machine", name := "place", desc := "(LPromiseTries$Holds;)LPromiseTries$Part;" } : Jvm.MethodName)) ∈ lw_all := lw_g (lw_at lw_m3 7 rfl) rfl
theorem q581 : (Jvm.Cond.code ({ cls := "PromiseTries$Machine", name := "place", desc := "(LPromiseTries$Holds;)LPromiseTries$Part;" } : Jvm.MethodName) prog_10_method_2_code (2 : Nat) (Option.some (Jvm.ClassFile.FieldType.object "PromiseTries$Part"))) ∈ lw_all := lw_g (lw_at lw_m3 8 rfl) rfl
theorem q582 : (Jvm.Cond.classLink "PromiseTries$Machine" (25 : Nat) "PromiseTries$Part") ∈ lw_all := lw_g (lw_at lw_m3 9 rfl) rfl
theorem q584 : (Jvm.Cond.methodLink "PromiseTries$Machine" (27 : Nat) ({ cls := "PromiseTries$Part", name := "<init>", desc := "(ZJJ)V" } : Jvm.MethodName)) ∈ lw_all := lw_g (lw_at lw_m3 11 rfl) rfl
theorem q589 : (Jvm.Cond.fieldLinkNest "PromiseTries$Machine" (37 : Nat) "PromiseTries$Part" "isNone" "Z" "PromiseTries") ∈ lw_tbl := lw_at lw_m3 16 rfl
theorem q592 : (Jvm.Cond.fieldLinkNest "PromiseTries$Machine" (34 : Nat) "PromiseTries$Part" "first" "J" "PromiseTries") ∈ lw_tbl := lw_at lw_m3 19 rfl
theorem q595 : (Jvm.Cond.fieldLinkNest "PromiseTries$Machine" (30 : Nat) "PromiseTries$Part" "last" "J" "PromiseTries") ∈ lw_tbl := lw_at lw_m3 22 rfl
theorem q621 : (Jvm.Cond.instanceMethod ({ cls := "PromiseTries$Machine", name := "joined", desc := "(LPromiseTries$Part;LPromiseTries$Part;)LPromiseTries$Part;" } : Jvm.MethodName)) ∈ lw_all := lw_g (lw_at lw_m3 48 rfl) rfl
theorem q622 : (Jvm.Cond.selects "PromiseTries$Machine" ({ cls := "PromiseTries$Machine", name := "joined", desc := "(LPromiseTries$Part;LPromiseTries$Part;)LPromiseTries$Part;" } : Jvm.MethodName) ({ cls := "PromiseTries$Machine", name := "joined", desc := "(LPromiseTries$Part;LPromiseTries$Part;)LPromiseTries$Part;" } : Jvm.MethodName)) ∈ lw_all := lw_g (lw_at lw_m3 49 rfl) rfl
theorem q623 : (Jvm.Cond.code ({ cls := "PromiseTries$Machine", name := "joined", desc := "(LPromiseTries$Part;LPromiseTries$Part;)LPromiseTries$Part;" } : Jvm.MethodName) prog_10_method_3_code (4 : Nat) (Option.some (Jvm.ClassFile.FieldType.object "PromiseTries$Part"))) ∈ lw_all := lw_g (lw_at lw_m3 50 rfl) rfl
theorem q629 : (Jvm.Cond.methodLinkNest "PromiseTries$Machine" (47 : Nat) ({ cls := "PromiseTries", name := "fulfilling", desc := "(LPromiseTries$Holds;)I" } : Jvm.MethodName) "PromiseTries") ∈ lw_tbl := lw_at lw_m3 56 rfl
theorem q634 : (Jvm.Cond.methodLink "PromiseTries$Machine" (53 : Nat) ({ cls := "PromiseTries$Machine", name := "findsMore", desc := "()V" } : Jvm.MethodName)) ∈ lw_all := lw_g (lw_at lw_m3 61 rfl) rfl
theorem q635 : (Jvm.Cond.privateMethod ({ cls := "PromiseTries$Machine", name := "findsMore", desc := "()V" } : Jvm.MethodName)) ∈ lw_tbl := lw_at lw_m3 62 rfl
theorem q636 : (Jvm.Cond.instanceMethod ({ cls := "PromiseTries$Machine", name := "findsMore", desc := "()V" } : Jvm.MethodName)) ∈ lw_all := lw_g (lw_at lw_m3 63 rfl) rfl
theorem q637 : (Jvm.Cond.code ({ cls := "PromiseTries$Machine", name := "findsMore", desc := "()V" } : Jvm.MethodName) prog_10_method_6_code (4 : Nat) (Option.none : Option Jvm.ClassFile.FieldType)) ∈ lw_all := lw_g (lw_at lw_m3 64 rfl) rfl
theorem q638 : (Jvm.Cond.constantLong "PromiseTries$Machine" (59 : Nat) (-1 : Int64)) ∈ lw_all := lw_g (lw_at lw_m3 65 rfl) rfl
theorem q639 : (Jvm.Cond.methodLink "PromiseTries$Machine" (61 : Nat) ({ cls := "PromiseTries$Machine", name := "isLeading", desc := "(J)Z" } : Jvm.MethodName)) ∈ lw_all := lw_g (lw_at lw_m3 66 rfl) rfl
theorem q640 : (Jvm.Cond.privateMethod ({ cls := "PromiseTries$Machine", name := "isLeading", desc := "(J)Z" } : Jvm.MethodName)) ∈ lw_tbl := lw_at lw_m3 67 rfl
theorem q641 : (Jvm.Cond.instanceMethod ({ cls := "PromiseTries$Machine", name := "isLeading", desc := "(J)Z" } : Jvm.MethodName)) ∈ lw_all := lw_g (lw_at lw_m3 68 rfl) rfl
theorem q642 : (Jvm.Cond.code ({ cls := "PromiseTries$Machine", name := "isLeading", desc := "(J)Z" } : Jvm.MethodName) prog_10_method_5_code (3 : Nat) (Option.some Jvm.ClassFile.FieldType.boolean)) ∈ lw_all := lw_g (lw_at lw_m3 69 rfl) rfl
theorem q665 : (Jvm.Cond.instanceMethod ({ cls := "PromiseTries$Machine", name := "taking", desc := "(JI)J" } : Jvm.MethodName)) ∈ lw_all := lw_g (lw_at lw_m3 92 rfl) rfl
theorem q666 : (Jvm.Cond.selects "PromiseTries$Machine" ({ cls := "PromiseTries$Machine", name := "taking", desc := "(JI)J" } : Jvm.MethodName) ({ cls := "PromiseTries$Machine", name := "taking", desc := "(JI)J" } : Jvm.MethodName)) ∈ lw_all := lw_g (lw_at lw_m3 93 rfl) rfl
theorem q667 : (Jvm.Cond.code ({ cls := "PromiseTries$Machine", name := "taking", desc := "(JI)J" } : Jvm.MethodName) prog_10_method_7_code (7 : Nat) (Option.some Jvm.ClassFile.FieldType.long)) ∈ lw_all := lw_g (lw_at lw_m3 94 rfl) rfl
theorem q668 : (Jvm.Cond.interfaceEntry "PromiseTries$Machine" (65 : Nat)) ∈ lw_tbl := lw_at lw_m3 95 rfl
theorem q669 : (Jvm.Cond.methodLink "PromiseTries$Machine" (65 : Nat) ({ cls := "PromiseTries$Holds", name := "at", desc := "(I)Z" } : Jvm.MethodName)) ∈ lw_all := lw_g (lw_at lw_m3 96 rfl) rfl
theorem q671 : (Jvm.Cond.instanceMethod ({ cls := "PromiseTries$Machine", name := "behindAll", desc := "(J)J" } : Jvm.MethodName)) ∈ lw_all := lw_g (lw_at lw_m3 98 rfl) rfl
theorem q672 : (Jvm.Cond.selects "PromiseTries$Machine" ({ cls := "PromiseTries$Machine", name := "behindAll", desc := "(J)J" } : Jvm.MethodName) ({ cls := "PromiseTries$Machine", name := "behindAll", desc := "(J)J" } : Jvm.MethodName)) ∈ lw_all := lw_g (lw_at lw_m3 99 rfl) rfl
theorem q673 : (Jvm.Cond.code ({ cls := "PromiseTries$Machine", name := "behindAll", desc := "(J)J" } : Jvm.MethodName) prog_10_method_8_code (6 : Nat) (Option.some Jvm.ClassFile.FieldType.long)) ∈ lw_all := lw_g (lw_at lw_m3 100 rfl) rfl
theorem q704 : (Jvm.Cond.instanceMethod ({ cls := "PromiseTries$Machine", name := "ends", desc := "(J)Z" } : Jvm.MethodName)) ∈ lw_all := lw_g (lw_at lw_m3 131 rfl) rfl
theorem q705 : (Jvm.Cond.selects "PromiseTries$Machine" ({ cls := "PromiseTries$Machine", name := "ends", desc := "(J)Z" } : Jvm.MethodName) ({ cls := "PromiseTries$Machine", name := "ends", desc := "(J)Z" } : Jvm.MethodName)) ∈ lw_all := lw_g (lw_at lw_m3 132 rfl) rfl
theorem q706 : (Jvm.Cond.code ({ cls := "PromiseTries$Machine", name := "ends", desc := "(J)Z" } : Jvm.MethodName) prog_10_method_9_code (3 : Nat) (Option.some Jvm.ClassFile.FieldType.boolean)) ∈ lw_all := lw_g (lw_at lw_m3 133 rfl) rfl
theorem q712 : (Jvm.Cond.instanceMethod ({ cls := "PromiseTries$Machine", name := "mightBegin", desc := "()Z" } : Jvm.MethodName)) ∈ lw_all := lw_g (lw_at lw_m3 139 rfl) rfl
theorem q713 : (Jvm.Cond.selects "PromiseTries$Machine" ({ cls := "PromiseTries$Machine", name := "mightBegin", desc := "()Z" } : Jvm.MethodName) ({ cls := "PromiseTries$Machine", name := "mightBegin", desc := "()Z" } : Jvm.MethodName)) ∈ lw_all := lw_g (lw_at lw_m3 140 rfl) rfl
theorem q714 : (Jvm.Cond.code ({ cls := "PromiseTries$Machine", name := "mightBegin", desc := "()Z" } : Jvm.MethodName) prog_10_method_11_code (1 : Nat) (Option.some Jvm.ClassFile.FieldType.boolean)) ∈ lw_all := lw_g (lw_at lw_m3 141 rfl) rfl
theorem q716 : (Jvm.Cond.instanceMethod ({ cls := "PromiseTries$Machine", name := "mightGoOn", desc := "(J)Z" } : Jvm.MethodName)) ∈ lw_all := lw_g (lw_at lw_m3 143 rfl) rfl
theorem q717 : (Jvm.Cond.selects "PromiseTries$Machine" ({ cls := "PromiseTries$Machine", name := "mightGoOn", desc := "(J)Z" } : Jvm.MethodName) ({ cls := "PromiseTries$Machine", name := "mightGoOn", desc := "(J)Z" } : Jvm.MethodName)) ∈ lw_all := lw_g (lw_at lw_m3 144 rfl) rfl
theorem q718 : (Jvm.Cond.code ({ cls := "PromiseTries$Machine", name := "mightGoOn", desc := "(J)Z" } : Jvm.MethodName) prog_10_method_10_code (3 : Nat) (Option.some Jvm.ClassFile.FieldType.boolean)) ∈ lw_all := lw_g (lw_at lw_m3 145 rfl) rfl
theorem in_X13 : ∀ w ∈ wsX130, w ∈ lw_all := lw_in wsX130 [555, 557, 559, 561, 563, 565] (by decide +kernel) (by decide +kernel)
/-! PromiseTries$Part -/
set_option maxRecDepth 100000
def RX14 : String := "PromiseTries$Part"
def TX14 : u_T := fun k => match k with
  | 0 => ("PromiseTries$Part", "isNone", "Z", true)
  | 1 => ("PromiseTries$Part", "first", "J", true)
  | _ => ("PromiseTries$Part", "last", "J", true)
def tyX14 : Nat → FieldType := fun k => match k with
  | 0 => .boolean
  | 1 => .long
  | _ => .long
abbrev wsX140 : List Cond := u_ws RX14 TX14 3
theorem nmX14 : ∀ a, a < 3 → ∀ b, b < 3 → a ≠ b → (TX14 a).2.1 ≠ (TX14 b).2.1 := by decide +kernel
theorem tyX14_ok : ∀ k, k < 3 → parseFieldDescriptor (TX14 k).2.2.1 = some (tyX14 k) := by decide +kernel
abbrev cX14_init : ByteArray := prog_12_method_1_code
def yX14_init : MethodName := ⟨RX14, "<init>", "(ZJJ)V"⟩
def dkwX14_init_0 : List UInt8 := [42, 183, 0, 1, 42, 27, 181, 0, 7, 42, 32, 181, 0, 13, 42, 22, 4, 181, 0, 17, 177]
abbrev dktX14_init_0 : List UInt8 := dkwX14_init_0 ++ []
theorem dksX14_init_0 : cX14_init.data.toList.drop 0 = dktX14_init_0 := by decide +kernel
theorem dX14_init_0 : decode cX14_init 0 = .ok (.aload_n 0, 1) := dk_42 (dk_at dksX14_init_0 0 rfl rfl)
theorem dX14_init_1 : decode cX14_init 1 = .ok (.invokespecial 1, 3) := dk_183 0 1 (dk_at dksX14_init_0 1 rfl rfl)
theorem dX14_init_4 : decode cX14_init 4 = .ok (.aload_n 0, 1) := dk_42 (dk_at dksX14_init_0 4 rfl rfl)
theorem dX14_init_5 : decode cX14_init 5 = .ok (.iload_n 1, 1) := dk_27 (dk_at dksX14_init_0 5 rfl rfl)
theorem dX14_init_6 : decode cX14_init 6 = .ok (.putfield 7, 3) := dk_181 0 7 (dk_at dksX14_init_0 6 rfl rfl)
theorem dX14_init_9 : decode cX14_init 9 = .ok (.aload_n 0, 1) := dk_42 (dk_at dksX14_init_0 9 rfl rfl)
theorem dX14_init_10 : decode cX14_init 10 = .ok (.lload_n 2, 1) := dk_32 (dk_at dksX14_init_0 10 rfl rfl)
theorem dX14_init_11 : decode cX14_init 11 = .ok (.putfield 13, 3) := dk_181 0 13 (dk_at dksX14_init_0 11 rfl rfl)
theorem dX14_init_14 : decode cX14_init 14 = .ok (.aload_n 0, 1) := dk_42 (dk_at dksX14_init_0 14 rfl rfl)
theorem dX14_init_15 : decode cX14_init 15 = .ok (.lload 4, 2) := dk_22 4 (dk_at dksX14_init_0 15 rfl rfl)
theorem dX14_init_17 : decode cX14_init 17 = .ok (.putfield 17, 3) := dk_181 0 17 (dk_at dksX14_init_0 17 rfl rfl)
theorem dX14_init_20 : decode cX14_init 20 = .ok (.return_, 1) := dk_177 (dk_at dksX14_init_0 20 rfl rfl)
abbrev cX14_orNone : ByteArray := prog_12_method_2_code
def yX14_orNone : MethodName := ⟨RX14, "orNone", "()LPromiseTries$Part;"⟩
def dkwX14_orNone_0 : List UInt8 := [187, 0, 8, 89, 4, 42, 180, 0, 13, 42, 180, 0, 17, 183, 0, 20, 176]
abbrev dktX14_orNone_0 : List UInt8 := dkwX14_orNone_0 ++ []
theorem dksX14_orNone_0 : cX14_orNone.data.toList.drop 0 = dktX14_orNone_0 := by decide +kernel
theorem dX14_orNone_0 : decode cX14_orNone 0 = .ok (.new 8, 3) := dk_187 0 8 (dk_at dksX14_orNone_0 0 rfl rfl)
theorem dX14_orNone_3 : decode cX14_orNone 3 = .ok (.dup, 1) := dk_89 (dk_at dksX14_orNone_0 3 rfl rfl)
theorem dX14_orNone_4 : decode cX14_orNone 4 = .ok (.iconst 1, 1) := dk_4 (dk_at dksX14_orNone_0 4 rfl rfl)
theorem dX14_orNone_5 : decode cX14_orNone 5 = .ok (.aload_n 0, 1) := dk_42 (dk_at dksX14_orNone_0 5 rfl rfl)
theorem dX14_orNone_6 : decode cX14_orNone 6 = .ok (.getfield 13, 3) := dk_180 0 13 (dk_at dksX14_orNone_0 6 rfl rfl)
theorem dX14_orNone_9 : decode cX14_orNone 9 = .ok (.aload_n 0, 1) := dk_42 (dk_at dksX14_orNone_0 9 rfl rfl)
theorem dX14_orNone_10 : decode cX14_orNone 10 = .ok (.getfield 17, 3) := dk_180 0 17 (dk_at dksX14_orNone_0 10 rfl rfl)
theorem dX14_orNone_13 : decode cX14_orNone 13 = .ok (.invokespecial 20, 3) := dk_183 0 20 (dk_at dksX14_orNone_0 13 rfl rfl)
theorem dX14_orNone_16 : decode cX14_orNone 16 = .ok (.areturn, 1) := dk_176 (dk_at dksX14_orNone_0 16 rfl rfl)
theorem q113 : (Jvm.Cond.initialized "PromiseTries$Part") ∈ lw_all := lw_g (lw_at lw_m1 20 rfl) rfl
theorem q583 : (Jvm.Cond.instantiable "PromiseTries$Part" (3 : Nat)) ∈ lw_all := lw_g (lw_at lw_m3 10 rfl) rfl
theorem q585 : (Jvm.Cond.instanceMethod ({ cls := "PromiseTries$Part", name := "<init>", desc := "(ZJJ)V" } : Jvm.MethodName)) ∈ lw_all := lw_g (lw_at lw_m3 12 rfl) rfl
theorem q586 : (Jvm.Cond.code ({ cls := "PromiseTries$Part", name := "<init>", desc := "(ZJJ)V" } : Jvm.MethodName) prog_12_method_1_code (6 : Nat) (Option.none : Option Jvm.ClassFile.FieldType)) ∈ lw_all := lw_g (lw_at lw_m3 13 rfl) rfl
theorem q587 : (Jvm.Cond.methodLink "PromiseTries$Part" (1 : Nat) ({ cls := "java/lang/Object", name := "<init>", desc := "()V" } : Jvm.MethodName)) ∈ lw_all := lw_g (lw_at lw_m3 14 rfl) rfl
theorem q588 : (Jvm.Cond.fieldLink "PromiseTries$Part" (7 : Nat) "PromiseTries$Part" "isNone" "Z") ∈ lw_all := lw_g (lw_at lw_m3 15 rfl) rfl
theorem q591 : (Jvm.Cond.fieldLink "PromiseTries$Part" (13 : Nat) "PromiseTries$Part" "first" "J") ∈ lw_all := lw_g (lw_at lw_m3 18 rfl) rfl
theorem q594 : (Jvm.Cond.fieldLink "PromiseTries$Part" (17 : Nat) "PromiseTries$Part" "last" "J") ∈ lw_all := lw_g (lw_at lw_m3 21 rfl) rfl
theorem q597 : (Jvm.Cond.laysFinal "PromiseTries$Part" "PromiseTries$Part" "isNone" "Z") ∈ lw_all := lw_g (lw_at lw_m3 24 rfl) rfl
theorem q598 : (Jvm.Cond.soleField "PromiseTries$Part" "isNone") ∈ lw_all := lw_g (lw_at lw_m3 25 rfl) rfl
theorem q599 : (Jvm.Cond.laysFinal "PromiseTries$Part" "PromiseTries$Part" "first" "J") ∈ lw_all := lw_g (lw_at lw_m3 26 rfl) rfl
theorem q600 : (Jvm.Cond.soleField "PromiseTries$Part" "first") ∈ lw_all := lw_g (lw_at lw_m3 27 rfl) rfl
theorem q601 : (Jvm.Cond.laysFinal "PromiseTries$Part" "PromiseTries$Part" "last" "J") ∈ lw_all := lw_g (lw_at lw_m3 28 rfl) rfl
theorem q602 : (Jvm.Cond.soleField "PromiseTries$Part" "last") ∈ lw_all := lw_g (lw_at lw_m3 29 rfl) rfl
theorem q603 : (Jvm.Cond.superclass "PromiseTries$Part" "java/lang/Object") ∈ lw_all := lw_g (lw_at lw_m3 30 rfl) rfl
theorem q615 : (Jvm.Cond.instanceMethod ({ cls := "PromiseTries$Part", name := "orNone", desc := "()LPromiseTries$Part;" } : Jvm.MethodName)) ∈ lw_all := lw_g (lw_at lw_m3 42 rfl) rfl
theorem q616 : (Jvm.Cond.selects "PromiseTries$Part" ({ cls := "PromiseTries$Part", name := "orNone", desc := "()LPromiseTries$Part;" } : Jvm.MethodName) ({ cls := "PromiseTries$Part", name := "orNone", desc := "()LPromiseTries$Part;" } : Jvm.MethodName)) ∈ lw_all := lw_g (lw_at lw_m3 43 rfl) rfl
theorem q617 : (Jvm.Cond.code ({ cls := "PromiseTries$Part", name := "orNone", desc := "()LPromiseTries$Part;" } : Jvm.MethodName) prog_12_method_2_code (1 : Nat) (Option.some (Jvm.ClassFile.FieldType.object "PromiseTries$Part"))) ∈ lw_all := lw_g (lw_at lw_m3 44 rfl) rfl
theorem q618 : (Jvm.Cond.classLink "PromiseTries$Part" (8 : Nat) "PromiseTries$Part") ∈ lw_all := lw_g (lw_at lw_m3 45 rfl) rfl
theorem q619 : (Jvm.Cond.methodLink "PromiseTries$Part" (20 : Nat) ({ cls := "PromiseTries$Part", name := "<init>", desc := "(ZJJ)V" } : Jvm.MethodName)) ∈ lw_all := lw_g (lw_at lw_m3 46 rfl) rfl
theorem in_X14 : ∀ w ∈ wsX140, w ∈ lw_all := lw_in wsX140 [597, 599, 601] (by decide +kernel) (by decide +kernel)
/-! PromiseTries$Kind$1 -/
set_option maxRecDepth 100000
def RX15 : String := "PromiseTries$Kind$1"
abbrev cX15_begin : ByteArray := prog_8_method_2_code
def yX15_begin : MethodName := ⟨RX15, "begin", "(I)I"⟩
theorem dX15_begin_0 : decode cX15_begin 0 = .ok (.iload_n 1, 1) := by decide +kernel
theorem dX15_begin_1 : decode cX15_begin 1 = .ok (.ireturn, 1) := by decide +kernel
theorem q693 : (Jvm.Cond.selects "PromiseTries$Kind$1" ({ cls := "PromiseTries$Kind", name := "begin", desc := "(I)I" } : Jvm.MethodName) ({ cls := "PromiseTries$Kind$1", name := "begin", desc := "(I)I" } : Jvm.MethodName)) ∈ lw_all := lw_g (lw_at lw_m3 120 rfl) rfl
theorem q694 : (Jvm.Cond.instanceMethod ({ cls := "PromiseTries$Kind$1", name := "begin", desc := "(I)I" } : Jvm.MethodName)) ∈ lw_all := lw_g (lw_at lw_m3 121 rfl) rfl
theorem q695 : (Jvm.Cond.code ({ cls := "PromiseTries$Kind$1", name := "begin", desc := "(I)I" } : Jvm.MethodName) prog_8_method_2_code (2 : Nat) (Option.some Jvm.ClassFile.FieldType.int)) ∈ lw_all := lw_g (lw_at lw_m3 122 rfl) rfl
/-! PromiseTries$Kind$2 -/
set_option maxRecDepth 100000
def RX16 : String := "PromiseTries$Kind$2"
abbrev cX16_begin : ByteArray := prog_9_method_2_code
def yX16_begin : MethodName := ⟨RX16, "begin", "(I)I"⟩
def dkwX16_begin_0 : List UInt8 := [27, 4, 96, 172]
abbrev dktX16_begin_0 : List UInt8 := dkwX16_begin_0 ++ []
theorem dksX16_begin_0 : cX16_begin.data.toList.drop 0 = dktX16_begin_0 := by decide +kernel
theorem dX16_begin_0 : decode cX16_begin 0 = .ok (.iload_n 1, 1) := dk_27 (dk_at dksX16_begin_0 0 rfl rfl)
theorem dX16_begin_1 : decode cX16_begin 1 = .ok (.iconst 1, 1) := dk_4 (dk_at dksX16_begin_0 1 rfl rfl)
theorem dX16_begin_2 : decode cX16_begin 2 = .ok (.iadd, 1) := dk_96 (dk_at dksX16_begin_0 2 rfl rfl)
theorem dX16_begin_3 : decode cX16_begin 3 = .ok (.ireturn, 1) := dk_172 (dk_at dksX16_begin_0 3 rfl rfl)
theorem q696 : (Jvm.Cond.selects "PromiseTries$Kind$2" ({ cls := "PromiseTries$Kind", name := "begin", desc := "(I)I" } : Jvm.MethodName) ({ cls := "PromiseTries$Kind$2", name := "begin", desc := "(I)I" } : Jvm.MethodName)) ∈ lw_all := lw_g (lw_at lw_m3 123 rfl) rfl
theorem q697 : (Jvm.Cond.instanceMethod ({ cls := "PromiseTries$Kind$2", name := "begin", desc := "(I)I" } : Jvm.MethodName)) ∈ lw_all := lw_g (lw_at lw_m3 124 rfl) rfl
theorem q698 : (Jvm.Cond.code ({ cls := "PromiseTries$Kind$2", name := "begin", desc := "(I)I" } : Jvm.MethodName) prog_9_method_2_code (2 : Nat) (Option.some Jvm.ClassFile.FieldType.int)) ∈ lw_all := lw_g (lw_at lw_m3 125 rfl) rfl
/-! PromiseTries$Reader -/
set_option maxRecDepth 100000
def RX3 : String := "PromiseTries$Reader"
def TX3 : u_T := fun k => match k with
  | 0 => ("PromiseTries$Reader", "t", "[B", true)
  | 1 => ("PromiseTries$Reader", "promises", "[LPromiseTries$Promise;", true)
  | 2 => ("PromiseTries$Reader", "many", "I", false)
  | 3 => ("PromiseTries$Reader", "side", "LPromiseTries$Side;", false)
  | 4 => ("PromiseTries$Reader", "depth", "I", false)
  | 5 => ("PromiseTries$Reader", "from", "I", false)
  | 6 => ("PromiseTries$Reader", "to", "I", false)
  | 7 => ("PromiseTries$Reader", "kind", "I", false)
  | _ => ("PromiseTries$Reader", "value", "I", false)
def tyX3 : Nat → FieldType := fun k => match k with
  | 0 => .array .byte
  | 1 => .array (.object "PromiseTries$Promise")
  | 2 => .int
  | 3 => .object "PromiseTries$Side"
  | 4 => .int
  | 5 => .int
  | 6 => .int
  | 7 => .int
  | _ => .int
abbrev wsX30 : List Cond := u_ws RX3 TX3 9
theorem nmX3 : ∀ a, a < 9 → ∀ b, b < 9 → a ≠ b → (TX3 a).2.1 ≠ (TX3 b).2.1 := by decide +kernel
theorem tyX3_ok : ∀ k, k < 9 → parseFieldDescriptor (TX3 k).2.2.1 = some (tyX3 k) := by decide +kernel
abbrev cX3_init : ByteArray := prog_14_method_1_code
def yX3_init : MethodName := ⟨RX3, "<init>", "([B)V"⟩
def dkwX3_init_0 : List UInt8 := [42, 183, 0, 3, 42, 7, 189, 0, 9, 181, 0, 11, 42, 43, 181, 0, 17, 42, 182, 0, 21, 177]
abbrev dktX3_init_0 : List UInt8 := dkwX3_init_0 ++ []
theorem dksX3_init_0 : cX3_init.data.toList.drop 0 = dktX3_init_0 := by decide +kernel
theorem dX3_init_0 : decode cX3_init 0 = .ok (.aload_n 0, 1) := dk_42 (dk_at dksX3_init_0 0 rfl rfl)
theorem dX3_init_1 : decode cX3_init 1 = .ok (.invokespecial 3, 3) := dk_183 0 3 (dk_at dksX3_init_0 1 rfl rfl)
theorem dX3_init_4 : decode cX3_init 4 = .ok (.aload_n 0, 1) := dk_42 (dk_at dksX3_init_0 4 rfl rfl)
theorem dX3_init_5 : decode cX3_init 5 = .ok (.iconst 4, 1) := dk_7 (dk_at dksX3_init_0 5 rfl rfl)
theorem dX3_init_6 : decode cX3_init 6 = .ok (.anewarray 9, 3) := dk_189 0 9 (dk_at dksX3_init_0 6 rfl rfl)
theorem dX3_init_9 : decode cX3_init 9 = .ok (.putfield 11, 3) := dk_181 0 11 (dk_at dksX3_init_0 9 rfl rfl)
theorem dX3_init_12 : decode cX3_init 12 = .ok (.aload_n 0, 1) := dk_42 (dk_at dksX3_init_0 12 rfl rfl)
theorem dX3_init_13 : decode cX3_init 13 = .ok (.aload_n 1, 1) := dk_43 (dk_at dksX3_init_0 13 rfl rfl)
theorem dX3_init_14 : decode cX3_init 14 = .ok (.putfield 17, 3) := dk_181 0 17 (dk_at dksX3_init_0 14 rfl rfl)
theorem dX3_init_17 : decode cX3_init 17 = .ok (.aload_n 0, 1) := dk_42 (dk_at dksX3_init_0 17 rfl rfl)
theorem dX3_init_18 : decode cX3_init 18 = .ok (.invokevirtual 21, 3) := dk_182 0 21 (dk_at dksX3_init_0 18 rfl rfl)
theorem dX3_init_21 : decode cX3_init 21 = .ok (.return_, 1) := dk_177 (dk_at dksX3_init_0 21 rfl rfl)
abbrev cX3_next : ByteArray := prog_14_method_6_code
def yX3_next : MethodName := ⟨RX3, "next", "()V"⟩
def dkwX3_next_10 : List UInt8 := [181, 0, 33, 167, 0, 17, 42, 27, 184, 0, 62, 4, 182, 0, 58, 42, 6, 181, 0, 33, 177]
abbrev dktX3_next_10 : List UInt8 := dkwX3_next_10 ++ []
def dkwX3_next_9 : List UInt8 := [42, 180, 0, 39, 42, 180, 0, 26, 100, 5, 163, 0, 7, 4, 167, 0, 4, 3, 4, 182, 0, 58, 42, 5]
abbrev dktX3_next_9 : List UInt8 := dkwX3_next_9 ++ dktX3_next_10
def dkwX3_next_8 : List UInt8 := [167, 0, 7, 42, 180, 0, 36, 181, 0, 36, 42, 89, 180, 0, 39, 4, 96, 181, 0, 39, 167, 255, 182, 42]
abbrev dktX3_next_8 : List UInt8 := dkwX3_next_8 ++ dktX3_next_9
def dkwX3_next_7 : List UInt8 := [162, 0, 25, 16, 10, 42, 180, 0, 36, 104, 42, 42, 180, 0, 39, 182, 0, 42, 96, 16, 48, 100]
abbrev dktX3_next_7 : List UInt8 := dkwX3_next_7 ++ dktX3_next_8
def dkwX3_next_6 : List UInt8 := [133, 20, 0, 54, 20, 0, 56, 184, 0, 50, 153, 0, 59, 42, 42, 180, 0, 39, 42, 180, 0, 26, 100, 5]
abbrev dktX3_next_6 : List UInt8 := dkwX3_next_6 ++ dktX3_next_7
def dkwX3_next_5 : List UInt8 := [153, 0, 124, 42, 42, 180, 0, 26, 181, 0, 39, 42, 3, 181, 0, 36, 42, 42, 180, 0, 39, 182, 0, 42]
abbrev dktX3_next_5 : List UInt8 := dkwX3_next_5 ++ dktX3_next_6
def dkwX3_next_4 : List UInt8 := [153, 0, 11, 42, 4, 181, 0, 33, 167, 0, 152, 27, 133, 20, 0, 54, 20, 0, 56, 184, 0, 50]
abbrev dktX3_next_4 : List UInt8 := dkwX3_next_4 ++ dktX3_next_5
def dkwX3_next_3 : List UInt8 := [181, 0, 39, 42, 3, 181, 0, 33, 167, 0, 174, 27, 133, 20, 0, 46, 20, 0, 48, 184, 0, 50]
abbrev dktX3_next_3 : List UInt8 := dkwX3_next_3 ++ dktX3_next_4
def dkwX3_next_2 : List UInt8 := [180, 0, 26, 4, 96, 181, 0, 39, 42, 27, 181, 0, 36, 27, 16, 252, 160, 0, 19, 42, 42, 180, 0, 26]
abbrev dktX3_next_2 : List UInt8 := dkwX3_next_2 ++ dktX3_next_3
def dkwX3_next_1 : List UInt8 := [180, 0, 26, 4, 96, 181, 0, 26, 167, 255, 233, 42, 42, 180, 0, 26, 182, 0, 42, 60, 42, 42]
abbrev dktX3_next_1 : List UInt8 := dkwX3_next_1 ++ dktX3_next_2
def dkwX3_next_0 : List UInt8 := [42, 42, 180, 0, 39, 181, 0, 26, 42, 42, 180, 0, 26, 182, 0, 42, 16, 32, 160, 0, 16, 42, 89]
abbrev dktX3_next_0 : List UInt8 := dkwX3_next_0 ++ dktX3_next_1
theorem dksX3_next_0 : cX3_next.data.toList.drop 0 = dktX3_next_0 := by decide +kernel
theorem dksX3_next_1 : cX3_next.data.toList.drop 23 = dktX3_next_1 := dk_seg dksX3_next_0 23 rfl rfl
theorem dksX3_next_2 : cX3_next.data.toList.drop 45 = dktX3_next_2 := dk_seg dksX3_next_1 22 rfl rfl
theorem dksX3_next_3 : cX3_next.data.toList.drop 69 = dktX3_next_3 := dk_seg dksX3_next_2 24 rfl rfl
theorem dksX3_next_4 : cX3_next.data.toList.drop 91 = dktX3_next_4 := dk_seg dksX3_next_3 22 rfl rfl
theorem dksX3_next_5 : cX3_next.data.toList.drop 113 = dktX3_next_5 := dk_seg dksX3_next_4 22 rfl rfl
theorem dksX3_next_6 : cX3_next.data.toList.drop 137 = dktX3_next_6 := dk_seg dksX3_next_5 24 rfl rfl
theorem dksX3_next_7 : cX3_next.data.toList.drop 161 = dktX3_next_7 := dk_seg dksX3_next_6 24 rfl rfl
theorem dksX3_next_8 : cX3_next.data.toList.drop 183 = dktX3_next_8 := dk_seg dksX3_next_7 22 rfl rfl
theorem dksX3_next_9 : cX3_next.data.toList.drop 207 = dktX3_next_9 := dk_seg dksX3_next_8 24 rfl rfl
theorem dksX3_next_10 : cX3_next.data.toList.drop 231 = dktX3_next_10 := dk_seg dksX3_next_9 24 rfl rfl
theorem dX3_next_0 : decode cX3_next 0 = .ok (.aload_n 0, 1) := dk_42 (dk_at dksX3_next_0 0 rfl rfl)
theorem dX3_next_1 : decode cX3_next 1 = .ok (.aload_n 0, 1) := dk_42 (dk_at dksX3_next_0 1 rfl rfl)
theorem dX3_next_2 : decode cX3_next 2 = .ok (.getfield 39, 3) := dk_180 0 39 (dk_at dksX3_next_0 2 rfl rfl)
theorem dX3_next_5 : decode cX3_next 5 = .ok (.putfield 26, 3) := dk_181 0 26 (dk_at dksX3_next_0 5 rfl rfl)
theorem dX3_next_8 : decode cX3_next 8 = .ok (.aload_n 0, 1) := dk_42 (dk_at dksX3_next_0 8 rfl rfl)
theorem dX3_next_9 : decode cX3_next 9 = .ok (.aload_n 0, 1) := dk_42 (dk_at dksX3_next_0 9 rfl rfl)
theorem dX3_next_10 : decode cX3_next 10 = .ok (.getfield 26, 3) := dk_180 0 26 (dk_at dksX3_next_0 10 rfl rfl)
theorem dX3_next_13 : decode cX3_next 13 = .ok (.invokevirtual 42, 3) := dk_182 0 42 (dk_at dksX3_next_0 13 rfl rfl)
theorem dX3_next_16 : decode cX3_next 16 = .ok (.bipush 32, 2) := dk_16 32 (dk_at dksX3_next_0 16 rfl rfl)
theorem dX3_next_18 : decode cX3_next 18 = .ok (.if_icmp .ne 16, 3) := dk_160 0 16 (dk_at dksX3_next_0 18 rfl rfl)
theorem dX3_next_21 : decode cX3_next 21 = .ok (.aload_n 0, 1) := dk_42 (dk_at dksX3_next_0 21 rfl rfl)
theorem dX3_next_22 : decode cX3_next 22 = .ok (.dup, 1) := dk_89 (dk_at dksX3_next_0 22 rfl rfl)
theorem dX3_next_23 : decode cX3_next 23 = .ok (.getfield 26, 3) := dk_180 0 26 (dk_at dksX3_next_1 0 rfl rfl)
theorem dX3_next_26 : decode cX3_next 26 = .ok (.iconst 1, 1) := dk_4 (dk_at dksX3_next_1 3 rfl rfl)
theorem dX3_next_27 : decode cX3_next 27 = .ok (.iadd, 1) := dk_96 (dk_at dksX3_next_1 4 rfl rfl)
theorem dX3_next_28 : decode cX3_next 28 = .ok (.putfield 26, 3) := dk_181 0 26 (dk_at dksX3_next_1 5 rfl rfl)
theorem dX3_next_31 : decode cX3_next 31 = .ok (.goto (-23), 3) := dk_167 255 233 (dk_at dksX3_next_1 8 rfl rfl)
theorem dX3_next_34 : decode cX3_next 34 = .ok (.aload_n 0, 1) := dk_42 (dk_at dksX3_next_1 11 rfl rfl)
theorem dX3_next_35 : decode cX3_next 35 = .ok (.aload_n 0, 1) := dk_42 (dk_at dksX3_next_1 12 rfl rfl)
theorem dX3_next_36 : decode cX3_next 36 = .ok (.getfield 26, 3) := dk_180 0 26 (dk_at dksX3_next_1 13 rfl rfl)
theorem dX3_next_39 : decode cX3_next 39 = .ok (.invokevirtual 42, 3) := dk_182 0 42 (dk_at dksX3_next_1 16 rfl rfl)
theorem dX3_next_42 : decode cX3_next 42 = .ok (.istore_n 1, 1) := dk_60 (dk_at dksX3_next_1 19 rfl rfl)
theorem dX3_next_43 : decode cX3_next 43 = .ok (.aload_n 0, 1) := dk_42 (dk_at dksX3_next_1 20 rfl rfl)
theorem dX3_next_44 : decode cX3_next 44 = .ok (.aload_n 0, 1) := dk_42 (dk_at dksX3_next_1 21 rfl rfl)
theorem dX3_next_45 : decode cX3_next 45 = .ok (.getfield 26, 3) := dk_180 0 26 (dk_at dksX3_next_2 0 rfl rfl)
theorem dX3_next_48 : decode cX3_next 48 = .ok (.iconst 1, 1) := dk_4 (dk_at dksX3_next_2 3 rfl rfl)
theorem dX3_next_49 : decode cX3_next 49 = .ok (.iadd, 1) := dk_96 (dk_at dksX3_next_2 4 rfl rfl)
theorem dX3_next_50 : decode cX3_next 50 = .ok (.putfield 39, 3) := dk_181 0 39 (dk_at dksX3_next_2 5 rfl rfl)
theorem dX3_next_53 : decode cX3_next 53 = .ok (.aload_n 0, 1) := dk_42 (dk_at dksX3_next_2 8 rfl rfl)
theorem dX3_next_54 : decode cX3_next 54 = .ok (.iload_n 1, 1) := dk_27 (dk_at dksX3_next_2 9 rfl rfl)
theorem dX3_next_55 : decode cX3_next 55 = .ok (.putfield 36, 3) := dk_181 0 36 (dk_at dksX3_next_2 10 rfl rfl)
theorem dX3_next_58 : decode cX3_next 58 = .ok (.iload_n 1, 1) := dk_27 (dk_at dksX3_next_2 13 rfl rfl)
theorem dX3_next_59 : decode cX3_next 59 = .ok (.bipush (-4), 2) := dk_16 252 (dk_at dksX3_next_2 14 rfl rfl)
theorem dX3_next_61 : decode cX3_next 61 = .ok (.if_icmp .ne 19, 3) := dk_160 0 19 (dk_at dksX3_next_2 16 rfl rfl)
theorem dX3_next_64 : decode cX3_next 64 = .ok (.aload_n 0, 1) := dk_42 (dk_at dksX3_next_2 19 rfl rfl)
theorem dX3_next_65 : decode cX3_next 65 = .ok (.aload_n 0, 1) := dk_42 (dk_at dksX3_next_2 20 rfl rfl)
theorem dX3_next_66 : decode cX3_next 66 = .ok (.getfield 26, 3) := dk_180 0 26 (dk_at dksX3_next_2 21 rfl rfl)
theorem dX3_next_69 : decode cX3_next 69 = .ok (.putfield 39, 3) := dk_181 0 39 (dk_at dksX3_next_3 0 rfl rfl)
theorem dX3_next_72 : decode cX3_next 72 = .ok (.aload_n 0, 1) := dk_42 (dk_at dksX3_next_3 3 rfl rfl)
theorem dX3_next_73 : decode cX3_next 73 = .ok (.iconst 0, 1) := dk_3 (dk_at dksX3_next_3 4 rfl rfl)
theorem dX3_next_74 : decode cX3_next 74 = .ok (.putfield 33, 3) := dk_181 0 33 (dk_at dksX3_next_3 5 rfl rfl)
theorem dX3_next_77 : decode cX3_next 77 = .ok (.goto 174, 3) := dk_167 0 174 (dk_at dksX3_next_3 8 rfl rfl)
theorem dX3_next_80 : decode cX3_next 80 = .ok (.iload_n 1, 1) := dk_27 (dk_at dksX3_next_3 11 rfl rfl)
theorem dX3_next_81 : decode cX3_next 81 = .ok (.i2l, 1) := dk_133 (dk_at dksX3_next_3 12 rfl rfl)
theorem dX3_next_82 : decode cX3_next 82 = .ok (.ldc2_w 46, 3) := dk_20 0 46 (dk_at dksX3_next_3 13 rfl rfl)
theorem dX3_next_85 : decode cX3_next 85 = .ok (.ldc2_w 48, 3) := dk_20 0 48 (dk_at dksX3_next_3 16 rfl rfl)
theorem dX3_next_88 : decode cX3_next 88 = .ok (.invokestatic 50, 3) := dk_184 0 50 (dk_at dksX3_next_3 19 rfl rfl)
theorem dX3_next_91 : decode cX3_next 91 = .ok (.ifCond .eq 11, 3) := dk_153 0 11 (dk_at dksX3_next_4 0 rfl rfl)
theorem dX3_next_94 : decode cX3_next 94 = .ok (.aload_n 0, 1) := dk_42 (dk_at dksX3_next_4 3 rfl rfl)
theorem dX3_next_95 : decode cX3_next 95 = .ok (.iconst 1, 1) := dk_4 (dk_at dksX3_next_4 4 rfl rfl)
theorem dX3_next_96 : decode cX3_next 96 = .ok (.putfield 33, 3) := dk_181 0 33 (dk_at dksX3_next_4 5 rfl rfl)
theorem dX3_next_99 : decode cX3_next 99 = .ok (.goto 152, 3) := dk_167 0 152 (dk_at dksX3_next_4 8 rfl rfl)
theorem dX3_next_102 : decode cX3_next 102 = .ok (.iload_n 1, 1) := dk_27 (dk_at dksX3_next_4 11 rfl rfl)
theorem dX3_next_103 : decode cX3_next 103 = .ok (.i2l, 1) := dk_133 (dk_at dksX3_next_4 12 rfl rfl)
theorem dX3_next_104 : decode cX3_next 104 = .ok (.ldc2_w 54, 3) := dk_20 0 54 (dk_at dksX3_next_4 13 rfl rfl)
theorem dX3_next_107 : decode cX3_next 107 = .ok (.ldc2_w 56, 3) := dk_20 0 56 (dk_at dksX3_next_4 16 rfl rfl)
theorem dX3_next_110 : decode cX3_next 110 = .ok (.invokestatic 50, 3) := dk_184 0 50 (dk_at dksX3_next_4 19 rfl rfl)
theorem dX3_next_113 : decode cX3_next 113 = .ok (.ifCond .eq 124, 3) := dk_153 0 124 (dk_at dksX3_next_5 0 rfl rfl)
theorem dX3_next_116 : decode cX3_next 116 = .ok (.aload_n 0, 1) := dk_42 (dk_at dksX3_next_5 3 rfl rfl)
theorem dX3_next_117 : decode cX3_next 117 = .ok (.aload_n 0, 1) := dk_42 (dk_at dksX3_next_5 4 rfl rfl)
theorem dX3_next_118 : decode cX3_next 118 = .ok (.getfield 26, 3) := dk_180 0 26 (dk_at dksX3_next_5 5 rfl rfl)
theorem dX3_next_121 : decode cX3_next 121 = .ok (.putfield 39, 3) := dk_181 0 39 (dk_at dksX3_next_5 8 rfl rfl)
theorem dX3_next_124 : decode cX3_next 124 = .ok (.aload_n 0, 1) := dk_42 (dk_at dksX3_next_5 11 rfl rfl)
theorem dX3_next_125 : decode cX3_next 125 = .ok (.iconst 0, 1) := dk_3 (dk_at dksX3_next_5 12 rfl rfl)
theorem dX3_next_126 : decode cX3_next 126 = .ok (.putfield 36, 3) := dk_181 0 36 (dk_at dksX3_next_5 13 rfl rfl)
theorem dX3_next_129 : decode cX3_next 129 = .ok (.aload_n 0, 1) := dk_42 (dk_at dksX3_next_5 16 rfl rfl)
theorem dX3_next_130 : decode cX3_next 130 = .ok (.aload_n 0, 1) := dk_42 (dk_at dksX3_next_5 17 rfl rfl)
theorem dX3_next_131 : decode cX3_next 131 = .ok (.getfield 39, 3) := dk_180 0 39 (dk_at dksX3_next_5 18 rfl rfl)
theorem dX3_next_134 : decode cX3_next 134 = .ok (.invokevirtual 42, 3) := dk_182 0 42 (dk_at dksX3_next_5 21 rfl rfl)
theorem dX3_next_137 : decode cX3_next 137 = .ok (.i2l, 1) := dk_133 (dk_at dksX3_next_6 0 rfl rfl)
theorem dX3_next_138 : decode cX3_next 138 = .ok (.ldc2_w 54, 3) := dk_20 0 54 (dk_at dksX3_next_6 1 rfl rfl)
theorem dX3_next_141 : decode cX3_next 141 = .ok (.ldc2_w 56, 3) := dk_20 0 56 (dk_at dksX3_next_6 4 rfl rfl)
theorem dX3_next_144 : decode cX3_next 144 = .ok (.invokestatic 50, 3) := dk_184 0 50 (dk_at dksX3_next_6 7 rfl rfl)
theorem dX3_next_147 : decode cX3_next 147 = .ok (.ifCond .eq 59, 3) := dk_153 0 59 (dk_at dksX3_next_6 10 rfl rfl)
theorem dX3_next_150 : decode cX3_next 150 = .ok (.aload_n 0, 1) := dk_42 (dk_at dksX3_next_6 13 rfl rfl)
theorem dX3_next_151 : decode cX3_next 151 = .ok (.aload_n 0, 1) := dk_42 (dk_at dksX3_next_6 14 rfl rfl)
theorem dX3_next_152 : decode cX3_next 152 = .ok (.getfield 39, 3) := dk_180 0 39 (dk_at dksX3_next_6 15 rfl rfl)
theorem dX3_next_155 : decode cX3_next 155 = .ok (.aload_n 0, 1) := dk_42 (dk_at dksX3_next_6 18 rfl rfl)
theorem dX3_next_156 : decode cX3_next 156 = .ok (.getfield 26, 3) := dk_180 0 26 (dk_at dksX3_next_6 19 rfl rfl)
theorem dX3_next_159 : decode cX3_next 159 = .ok (.isub, 1) := dk_100 (dk_at dksX3_next_6 22 rfl rfl)
theorem dX3_next_160 : decode cX3_next 160 = .ok (.iconst 2, 1) := dk_5 (dk_at dksX3_next_6 23 rfl rfl)
theorem dX3_next_161 : decode cX3_next 161 = .ok (.if_icmp .ge 25, 3) := dk_162 0 25 (dk_at dksX3_next_7 0 rfl rfl)
theorem dX3_next_164 : decode cX3_next 164 = .ok (.bipush 10, 2) := dk_16 10 (dk_at dksX3_next_7 3 rfl rfl)
theorem dX3_next_166 : decode cX3_next 166 = .ok (.aload_n 0, 1) := dk_42 (dk_at dksX3_next_7 5 rfl rfl)
theorem dX3_next_167 : decode cX3_next 167 = .ok (.getfield 36, 3) := dk_180 0 36 (dk_at dksX3_next_7 6 rfl rfl)
theorem dX3_next_170 : decode cX3_next 170 = .ok (.imul, 1) := dk_104 (dk_at dksX3_next_7 9 rfl rfl)
theorem dX3_next_171 : decode cX3_next 171 = .ok (.aload_n 0, 1) := dk_42 (dk_at dksX3_next_7 10 rfl rfl)
theorem dX3_next_172 : decode cX3_next 172 = .ok (.aload_n 0, 1) := dk_42 (dk_at dksX3_next_7 11 rfl rfl)
theorem dX3_next_173 : decode cX3_next 173 = .ok (.getfield 39, 3) := dk_180 0 39 (dk_at dksX3_next_7 12 rfl rfl)
theorem dX3_next_176 : decode cX3_next 176 = .ok (.invokevirtual 42, 3) := dk_182 0 42 (dk_at dksX3_next_7 15 rfl rfl)
theorem dX3_next_179 : decode cX3_next 179 = .ok (.iadd, 1) := dk_96 (dk_at dksX3_next_7 18 rfl rfl)
theorem dX3_next_180 : decode cX3_next 180 = .ok (.bipush 48, 2) := dk_16 48 (dk_at dksX3_next_7 19 rfl rfl)
theorem dX3_next_182 : decode cX3_next 182 = .ok (.isub, 1) := dk_100 (dk_at dksX3_next_7 21 rfl rfl)
theorem dX3_next_183 : decode cX3_next 183 = .ok (.goto 7, 3) := dk_167 0 7 (dk_at dksX3_next_8 0 rfl rfl)
theorem dX3_next_186 : decode cX3_next 186 = .ok (.aload_n 0, 1) := dk_42 (dk_at dksX3_next_8 3 rfl rfl)
theorem dX3_next_187 : decode cX3_next 187 = .ok (.getfield 36, 3) := dk_180 0 36 (dk_at dksX3_next_8 4 rfl rfl)
theorem dX3_next_190 : decode cX3_next 190 = .ok (.putfield 36, 3) := dk_181 0 36 (dk_at dksX3_next_8 7 rfl rfl)
theorem dX3_next_193 : decode cX3_next 193 = .ok (.aload_n 0, 1) := dk_42 (dk_at dksX3_next_8 10 rfl rfl)
theorem dX3_next_194 : decode cX3_next 194 = .ok (.dup, 1) := dk_89 (dk_at dksX3_next_8 11 rfl rfl)
theorem dX3_next_195 : decode cX3_next 195 = .ok (.getfield 39, 3) := dk_180 0 39 (dk_at dksX3_next_8 12 rfl rfl)
theorem dX3_next_198 : decode cX3_next 198 = .ok (.iconst 1, 1) := dk_4 (dk_at dksX3_next_8 15 rfl rfl)
theorem dX3_next_199 : decode cX3_next 199 = .ok (.iadd, 1) := dk_96 (dk_at dksX3_next_8 16 rfl rfl)
theorem dX3_next_200 : decode cX3_next 200 = .ok (.putfield 39, 3) := dk_181 0 39 (dk_at dksX3_next_8 17 rfl rfl)
theorem dX3_next_203 : decode cX3_next 203 = .ok (.goto (-74), 3) := dk_167 255 182 (dk_at dksX3_next_8 20 rfl rfl)
theorem dX3_next_206 : decode cX3_next 206 = .ok (.aload_n 0, 1) := dk_42 (dk_at dksX3_next_8 23 rfl rfl)
theorem dX3_next_207 : decode cX3_next 207 = .ok (.aload_n 0, 1) := dk_42 (dk_at dksX3_next_9 0 rfl rfl)
theorem dX3_next_208 : decode cX3_next 208 = .ok (.getfield 39, 3) := dk_180 0 39 (dk_at dksX3_next_9 1 rfl rfl)
theorem dX3_next_211 : decode cX3_next 211 = .ok (.aload_n 0, 1) := dk_42 (dk_at dksX3_next_9 4 rfl rfl)
theorem dX3_next_212 : decode cX3_next 212 = .ok (.getfield 26, 3) := dk_180 0 26 (dk_at dksX3_next_9 5 rfl rfl)
theorem dX3_next_215 : decode cX3_next 215 = .ok (.isub, 1) := dk_100 (dk_at dksX3_next_9 8 rfl rfl)
theorem dX3_next_216 : decode cX3_next 216 = .ok (.iconst 2, 1) := dk_5 (dk_at dksX3_next_9 9 rfl rfl)
theorem dX3_next_217 : decode cX3_next 217 = .ok (.if_icmp .gt 7, 3) := dk_163 0 7 (dk_at dksX3_next_9 10 rfl rfl)
theorem dX3_next_220 : decode cX3_next 220 = .ok (.iconst 1, 1) := dk_4 (dk_at dksX3_next_9 13 rfl rfl)
theorem dX3_next_221 : decode cX3_next 221 = .ok (.goto 4, 3) := dk_167 0 4 (dk_at dksX3_next_9 14 rfl rfl)
theorem dX3_next_224 : decode cX3_next 224 = .ok (.iconst 0, 1) := dk_3 (dk_at dksX3_next_9 17 rfl rfl)
theorem dX3_next_225 : decode cX3_next 225 = .ok (.iconst 1, 1) := dk_4 (dk_at dksX3_next_9 18 rfl rfl)
theorem dX3_next_226 : decode cX3_next 226 = .ok (.invokevirtual 58, 3) := dk_182 0 58 (dk_at dksX3_next_9 19 rfl rfl)
theorem dX3_next_229 : decode cX3_next 229 = .ok (.aload_n 0, 1) := dk_42 (dk_at dksX3_next_9 22 rfl rfl)
theorem dX3_next_230 : decode cX3_next 230 = .ok (.iconst 2, 1) := dk_5 (dk_at dksX3_next_9 23 rfl rfl)
theorem dX3_next_231 : decode cX3_next 231 = .ok (.putfield 33, 3) := dk_181 0 33 (dk_at dksX3_next_10 0 rfl rfl)
theorem dX3_next_234 : decode cX3_next 234 = .ok (.goto 17, 3) := dk_167 0 17 (dk_at dksX3_next_10 3 rfl rfl)
theorem dX3_next_237 : decode cX3_next 237 = .ok (.aload_n 0, 1) := dk_42 (dk_at dksX3_next_10 6 rfl rfl)
theorem dX3_next_238 : decode cX3_next 238 = .ok (.iload_n 1, 1) := dk_27 (dk_at dksX3_next_10 7 rfl rfl)
theorem dX3_next_239 : decode cX3_next 239 = .ok (.invokestatic 62, 3) := dk_184 0 62 (dk_at dksX3_next_10 8 rfl rfl)
theorem dX3_next_242 : decode cX3_next 242 = .ok (.iconst 1, 1) := dk_4 (dk_at dksX3_next_10 11 rfl rfl)
theorem dX3_next_243 : decode cX3_next 243 = .ok (.invokevirtual 58, 3) := dk_182 0 58 (dk_at dksX3_next_10 12 rfl rfl)
theorem dX3_next_246 : decode cX3_next 246 = .ok (.aload_n 0, 1) := dk_42 (dk_at dksX3_next_10 15 rfl rfl)
theorem dX3_next_247 : decode cX3_next 247 = .ok (.iconst 3, 1) := dk_6 (dk_at dksX3_next_10 16 rfl rfl)
theorem dX3_next_248 : decode cX3_next 248 = .ok (.putfield 33, 3) := dk_181 0 33 (dk_at dksX3_next_10 17 rfl rfl)
theorem dX3_next_251 : decode cX3_next 251 = .ok (.return_, 1) := dk_177 (dk_at dksX3_next_10 20 rfl rfl)
abbrev cX3_at : ByteArray := prog_14_method_2_code
def yX3_at : MethodName := ⟨RX3, "at", "(I)I"⟩
def dkwX3_at_0 : List UInt8 := [27, 42, 180, 0, 17, 190, 162, 0, 12, 42, 180, 0, 17, 27, 51, 167, 0, 5, 16, 252, 172]
abbrev dktX3_at_0 : List UInt8 := dkwX3_at_0 ++ []
theorem dksX3_at_0 : cX3_at.data.toList.drop 0 = dktX3_at_0 := by decide +kernel
theorem dX3_at_0 : decode cX3_at 0 = .ok (.iload_n 1, 1) := dk_27 (dk_at dksX3_at_0 0 rfl rfl)
theorem dX3_at_1 : decode cX3_at 1 = .ok (.aload_n 0, 1) := dk_42 (dk_at dksX3_at_0 1 rfl rfl)
theorem dX3_at_2 : decode cX3_at 2 = .ok (.getfield 17, 3) := dk_180 0 17 (dk_at dksX3_at_0 2 rfl rfl)
theorem dX3_at_5 : decode cX3_at 5 = .ok (.arraylength, 1) := dk_190 (dk_at dksX3_at_0 5 rfl rfl)
theorem dX3_at_6 : decode cX3_at 6 = .ok (.if_icmp .ge 12, 3) := dk_162 0 12 (dk_at dksX3_at_0 6 rfl rfl)
theorem dX3_at_9 : decode cX3_at 9 = .ok (.aload_n 0, 1) := dk_42 (dk_at dksX3_at_0 9 rfl rfl)
theorem dX3_at_10 : decode cX3_at 10 = .ok (.getfield 17, 3) := dk_180 0 17 (dk_at dksX3_at_0 10 rfl rfl)
theorem dX3_at_13 : decode cX3_at 13 = .ok (.iload_n 1, 1) := dk_27 (dk_at dksX3_at_0 13 rfl rfl)
theorem dX3_at_14 : decode cX3_at 14 = .ok (.baload, 1) := dk_51 (dk_at dksX3_at_0 14 rfl rfl)
theorem dX3_at_15 : decode cX3_at 15 = .ok (.goto 5, 3) := dk_167 0 5 (dk_at dksX3_at_0 15 rfl rfl)
theorem dX3_at_18 : decode cX3_at 18 = .ok (.bipush (-4), 2) := dk_16 252 (dk_at dksX3_at_0 18 rfl rfl)
theorem dX3_at_20 : decode cX3_at 20 = .ok (.ireturn, 1) := dk_172 (dk_at dksX3_at_0 20 rfl rfl)
abbrev cX3_must : ByteArray := prog_14_method_3_code
def yX3_must : MethodName := ⟨RX3, "must", "(ZI)V"⟩
def dkwX3_must_0 : List UInt8 := [27, 154, 0, 16, 187, 0, 24, 89, 28, 42, 180, 0, 26, 183, 0, 30, 191, 177]
abbrev dktX3_must_0 : List UInt8 := dkwX3_must_0 ++ []
theorem dksX3_must_0 : cX3_must.data.toList.drop 0 = dktX3_must_0 := by decide +kernel
theorem dX3_must_0 : decode cX3_must 0 = .ok (.iload_n 1, 1) := dk_27 (dk_at dksX3_must_0 0 rfl rfl)
theorem dX3_must_1 : decode cX3_must 1 = .ok (.ifCond .ne 16, 3) := dk_154 0 16 (dk_at dksX3_must_0 1 rfl rfl)
theorem dX3_must_4 : decode cX3_must 4 = .ok (.new 24, 3) := dk_187 0 24 (dk_at dksX3_must_0 4 rfl rfl)
theorem dX3_must_7 : decode cX3_must 7 = .ok (.dup, 1) := dk_89 (dk_at dksX3_must_0 7 rfl rfl)
theorem dX3_must_8 : decode cX3_must 8 = .ok (.iload_n 2, 1) := dk_28 (dk_at dksX3_must_0 8 rfl rfl)
theorem dX3_must_9 : decode cX3_must 9 = .ok (.aload_n 0, 1) := dk_42 (dk_at dksX3_must_0 9 rfl rfl)
theorem dX3_must_10 : decode cX3_must 10 = .ok (.getfield 26, 3) := dk_180 0 26 (dk_at dksX3_must_0 10 rfl rfl)
theorem dX3_must_13 : decode cX3_must 13 = .ok (.invokespecial 30, 3) := dk_183 0 30 (dk_at dksX3_must_0 13 rfl rfl)
theorem dX3_must_16 : decode cX3_must 16 = .ok (.athrow, 1) := dk_191 (dk_at dksX3_must_0 16 rfl rfl)
theorem dX3_must_17 : decode cX3_must 17 = .ok (.return_, 1) := dk_177 (dk_at dksX3_must_0 17 rfl rfl)
abbrev cX3_isMark : ByteArray := prog_14_method_5_code
def yX3_isMark : MethodName := ⟨RX3, "isMark", "(I)Z"⟩
def dkwX3_isMark_2 : List UInt8 := [4, 172, 3, 172]
abbrev dktX3_isMark_2 : List UInt8 := dkwX3_isMark_2 ++ []
def dkwX3_isMark_1 : List UInt8 := [171, 0, 0, 0, 0, 0, 125, 0, 0, 0, 14, 0, 0, 0, 33, 0, 0, 0, 123, 0, 0, 0, 38, 0, 0, 0, 123, 0, 0, 0, 40, 0, 0, 0, 123, 0, 0, 0, 41, 0, 0, 0, 123, 0, 0, 0, 42, 0, 0, 0, 123, 0, 0, 0, 44, 0, 0, 0, 123, 0, 0, 0, 47, 0, 0, 0, 123, 0, 0, 0, 59, 0, 0, 0, 123, 0, 0, 0, 61, 0, 0, 0, 123, 0, 0, 0, 62, 0, 0, 0, 123, 0, 0, 0, 123, 0, 0, 0, 123, 0, 0, 0, 124, 0, 0, 0, 123, 0, 0, 0, 125, 0, 0, 0, 123, 0, 0, 0, 126, 0, 0, 0, 123]
abbrev dktX3_isMark_1 : List UInt8 := dkwX3_isMark_1 ++ dktX3_isMark_2
def dkwX3_isMark_0 : List UInt8 := [26]
abbrev dktX3_isMark_0 : List UInt8 := dkwX3_isMark_0 ++ dktX3_isMark_1
theorem dksX3_isMark_0 : cX3_isMark.data.toList.drop 0 = dktX3_isMark_0 := by decide +kernel
theorem dksX3_isMark_1 : cX3_isMark.data.toList.drop 1 = dktX3_isMark_1 := dk_seg dksX3_isMark_0 1 rfl rfl
theorem dksX3_isMark_2 : cX3_isMark.data.toList.drop 124 = dktX3_isMark_2 := dk_seg dksX3_isMark_1 123 rfl rfl
theorem dX3_isMark_0 : decode cX3_isMark 0 = .ok (.iload_n 0, 1) := dk_26 (dk_at dksX3_isMark_0 0 rfl rfl)
theorem dX3_isMark_1 : decode cX3_isMark 1 = .ok (.lookupswitch 125 #[(33, 123), (38, 123), (40, 123), (41, 123), (42, 123), (44, 123), (47, 123), (59, 123), (61, 123), (62, 123), (123, 123), (124, 123), (125, 123), (126, 123)], 123) := by decide +kernel
theorem dX3_isMark_124 : decode cX3_isMark 124 = .ok (.iconst 1, 1) := dk_4 (dk_at dksX3_isMark_2 0 rfl rfl)
theorem dX3_isMark_125 : decode cX3_isMark 125 = .ok (.ireturn, 1) := dk_172 (dk_at dksX3_isMark_2 1 rfl rfl)
theorem dX3_isMark_126 : decode cX3_isMark 126 = .ok (.iconst 0, 1) := dk_3 (dk_at dksX3_isMark_2 2 rfl rfl)
theorem dX3_isMark_127 : decode cX3_isMark 127 = .ok (.ireturn, 1) := dk_172 (dk_at dksX3_isMark_2 3 rfl rfl)
abbrev cX3_all : ByteArray := prog_14_method_21_code
def yX3_all : MethodName := ⟨RX3, "all", "()LPromiseTries$Reader;"⟩
def dkwX3_all_0 : List UInt8 := [42, 180, 0, 33, 153, 0, 10, 42, 182, 0, 196, 167, 255, 245, 42, 176]
abbrev dktX3_all_0 : List UInt8 := dkwX3_all_0 ++ []
theorem dksX3_all_0 : cX3_all.data.toList.drop 0 = dktX3_all_0 := by decide +kernel
theorem dX3_all_0 : decode cX3_all 0 = .ok (.aload_n 0, 1) := dk_42 (dk_at dksX3_all_0 0 rfl rfl)
theorem dX3_all_1 : decode cX3_all 1 = .ok (.getfield 33, 3) := dk_180 0 33 (dk_at dksX3_all_0 1 rfl rfl)
theorem dX3_all_4 : decode cX3_all 4 = .ok (.ifCond .eq 10, 3) := dk_153 0 10 (dk_at dksX3_all_0 4 rfl rfl)
theorem dX3_all_7 : decode cX3_all 7 = .ok (.aload_n 0, 1) := dk_42 (dk_at dksX3_all_0 7 rfl rfl)
theorem dX3_all_8 : decode cX3_all 8 = .ok (.invokevirtual 196, 3) := dk_182 0 196 (dk_at dksX3_all_0 8 rfl rfl)
theorem dX3_all_11 : decode cX3_all 11 = .ok (.goto (-11), 3) := dk_167 255 245 (dk_at dksX3_all_0 11 rfl rfl)
theorem dX3_all_14 : decode cX3_all 14 = .ok (.aload_n 0, 1) := dk_42 (dk_at dksX3_all_0 14 rfl rfl)
theorem dX3_all_15 : decode cX3_all 15 = .ok (.areturn, 1) := dk_176 (dk_at dksX3_all_0 15 rfl rfl)
abbrev cX3_promiseComes : ByteArray := prog_14_method_20_code
def yX3_promiseComes : MethodName := ⟨RX3, "promiseComes", "()V"⟩
def dkwX3_promiseComes_14 : List UInt8 := [4, 96, 181, 0, 162, 42, 182, 0, 21, 177]
abbrev dktX3_promiseComes_14 : List UInt8 := dkwX3_promiseComes_14 ++ []
def dkwX3_promiseComes_13 : List UInt8 := [182, 0, 192, 132, 4, 1, 167, 255, 216, 42, 180, 0, 11, 42, 180, 0, 162, 43, 83, 42, 89, 180, 0, 162]
abbrev dktX3_promiseComes_13 : List UInt8 := dkwX3_promiseComes_13 ++ dktX3_promiseComes_14
def dkwX3_promiseComes_12 : List UInt8 := [58, 5, 25, 5, 187, 0, 185, 89, 183, 0, 187, 181, 0, 188, 25, 5, 180, 0, 188, 25, 5, 180, 0, 158]
abbrev dktX3_promiseComes_12 : List UInt8 := dkwX3_promiseComes_12 ++ dktX3_promiseComes_13
def dkwX3_promiseComes_11 : List UInt8 := [182, 0, 58, 43, 180, 0, 164, 77, 44, 190, 62, 3, 54, 4, 21, 4, 29, 162, 0, 40, 44, 21, 4, 50]
abbrev dktX3_promiseComes_11 : List UInt8 := dkwX3_promiseComes_11 ++ dktX3_promiseComes_12
def dkwX3_promiseComes_10 : List UInt8 := [180, 0, 164, 4, 50, 180, 0, 158, 182, 0, 182, 16, 40, 163, 0, 7, 4, 167, 0, 4, 3, 16, 6]
abbrev dktX3_promiseComes_10 : List UInt8 := dkwX3_promiseComes_10 ++ dktX3_promiseComes_11
def dkwX3_promiseComes_9 : List UInt8 := [182, 0, 58, 42, 43, 180, 0, 164, 3, 50, 180, 0, 158, 182, 0, 182, 16, 40, 163, 0, 24, 43]
abbrev dktX3_promiseComes_9 : List UInt8 := dkwX3_promiseComes_9 ++ dktX3_promiseComes_10
def dkwX3_promiseComes_8 : List UInt8 := [158, 0, 22, 43, 180, 0, 164, 4, 50, 180, 0, 158, 182, 0, 176, 158, 0, 7, 4, 167, 0, 4, 3, 8]
abbrev dktX3_promiseComes_8 : List UInt8 := dkwX3_promiseComes_8 ++ dktX3_promiseComes_9
def dkwX3_promiseComes_7 : List UInt8 := [42, 42, 16, 59, 182, 0, 69, 5, 182, 0, 58, 42, 43, 180, 0, 164, 3, 50, 180, 0, 158, 182, 0, 176]
abbrev dktX3_promiseComes_7 : List UInt8 := dkwX3_promiseComes_7 ++ dktX3_promiseComes_8
def dkwX3_promiseComes_6 : List UInt8 := [182, 0, 168, 42, 16, 126, 182, 0, 69, 153, 0, 15, 42, 182, 0, 21, 43, 42, 182, 0, 88, 181, 0, 172]
abbrev dktX3_promiseComes_6 : List UInt8 := dkwX3_promiseComes_6 ++ dktX3_promiseComes_7
def dkwX3_promiseComes_5 : List UInt8 := [153, 0, 7, 3, 167, 0, 4, 4, 181, 0, 171, 42, 182, 0, 21, 42, 43, 180, 0, 164, 4, 50]
abbrev dktX3_promiseComes_5 : List UInt8 := dkwX3_promiseComes_5 ++ dktX3_promiseComes_6
def dkwX3_promiseComes_4 : List UInt8 := [182, 0, 69, 153, 0, 7, 4, 167, 0, 4, 3, 5, 182, 0, 58, 43, 42, 16, 61, 182, 0, 69]
abbrev dktX3_promiseComes_4 : List UInt8 := dkwX3_promiseComes_4 ++ dktX3_promiseComes_5
def dkwX3_promiseComes_3 : List UInt8 := [42, 43, 180, 0, 164, 3, 50, 182, 0, 168, 42, 42, 16, 61, 182, 0, 69, 154, 0, 12, 42, 16, 62]
abbrev dktX3_promiseComes_3 : List UInt8 := dkwX3_promiseComes_3 ++ dktX3_promiseComes_4
def dkwX3_promiseComes_2 : List UInt8 := [180, 0, 162, 7, 162, 0, 7, 4, 167, 0, 4, 3, 7, 182, 0, 58, 187, 0, 9, 89, 183, 0, 163, 76]
abbrev dktX3_promiseComes_2 : List UInt8 := dkwX3_promiseComes_2 ++ dktX3_promiseComes_3
def dkwX3_promiseComes_1 : List UInt8 := [154, 0, 12, 42, 16, 123, 182, 0, 69, 153, 0, 7, 4, 167, 0, 4, 3, 5, 182, 0, 58, 42, 42]
abbrev dktX3_promiseComes_1 : List UInt8 := dkwX3_promiseComes_1 ++ dktX3_promiseComes_2
def dkwX3_promiseComes_0 : List UInt8 := [42, 42, 180, 0, 33, 4, 159, 0, 30, 42, 16, 33, 182, 0, 69, 154, 0, 21, 42, 16, 40, 182, 0, 69]
abbrev dktX3_promiseComes_0 : List UInt8 := dkwX3_promiseComes_0 ++ dktX3_promiseComes_1
theorem dksX3_promiseComes_0 : cX3_promiseComes.data.toList.drop 0 = dktX3_promiseComes_0 := by decide +kernel
theorem dksX3_promiseComes_1 : cX3_promiseComes.data.toList.drop 24 = dktX3_promiseComes_1 := dk_seg dksX3_promiseComes_0 24 rfl rfl
theorem dksX3_promiseComes_2 : cX3_promiseComes.data.toList.drop 47 = dktX3_promiseComes_2 := dk_seg dksX3_promiseComes_1 23 rfl rfl
theorem dksX3_promiseComes_3 : cX3_promiseComes.data.toList.drop 71 = dktX3_promiseComes_3 := dk_seg dksX3_promiseComes_2 24 rfl rfl
theorem dksX3_promiseComes_4 : cX3_promiseComes.data.toList.drop 94 = dktX3_promiseComes_4 := dk_seg dksX3_promiseComes_3 23 rfl rfl
theorem dksX3_promiseComes_5 : cX3_promiseComes.data.toList.drop 116 = dktX3_promiseComes_5 := dk_seg dksX3_promiseComes_4 22 rfl rfl
theorem dksX3_promiseComes_6 : cX3_promiseComes.data.toList.drop 138 = dktX3_promiseComes_6 := dk_seg dksX3_promiseComes_5 22 rfl rfl
theorem dksX3_promiseComes_7 : cX3_promiseComes.data.toList.drop 162 = dktX3_promiseComes_7 := dk_seg dksX3_promiseComes_6 24 rfl rfl
theorem dksX3_promiseComes_8 : cX3_promiseComes.data.toList.drop 186 = dktX3_promiseComes_8 := dk_seg dksX3_promiseComes_7 24 rfl rfl
theorem dksX3_promiseComes_9 : cX3_promiseComes.data.toList.drop 210 = dktX3_promiseComes_9 := dk_seg dksX3_promiseComes_8 24 rfl rfl
theorem dksX3_promiseComes_10 : cX3_promiseComes.data.toList.drop 232 = dktX3_promiseComes_10 := dk_seg dksX3_promiseComes_9 22 rfl rfl
theorem dksX3_promiseComes_11 : cX3_promiseComes.data.toList.drop 255 = dktX3_promiseComes_11 := dk_seg dksX3_promiseComes_10 23 rfl rfl
theorem dksX3_promiseComes_12 : cX3_promiseComes.data.toList.drop 279 = dktX3_promiseComes_12 := dk_seg dksX3_promiseComes_11 24 rfl rfl
theorem dksX3_promiseComes_13 : cX3_promiseComes.data.toList.drop 303 = dktX3_promiseComes_13 := dk_seg dksX3_promiseComes_12 24 rfl rfl
theorem dksX3_promiseComes_14 : cX3_promiseComes.data.toList.drop 327 = dktX3_promiseComes_14 := dk_seg dksX3_promiseComes_13 24 rfl rfl
theorem dX3_promiseComes_0 : decode cX3_promiseComes 0 = .ok (.aload_n 0, 1) := dk_42 (dk_at dksX3_promiseComes_0 0 rfl rfl)
theorem dX3_promiseComes_1 : decode cX3_promiseComes 1 = .ok (.aload_n 0, 1) := dk_42 (dk_at dksX3_promiseComes_0 1 rfl rfl)
theorem dX3_promiseComes_2 : decode cX3_promiseComes 2 = .ok (.getfield 33, 3) := dk_180 0 33 (dk_at dksX3_promiseComes_0 2 rfl rfl)
theorem dX3_promiseComes_5 : decode cX3_promiseComes 5 = .ok (.iconst 1, 1) := dk_4 (dk_at dksX3_promiseComes_0 5 rfl rfl)
theorem dX3_promiseComes_6 : decode cX3_promiseComes 6 = .ok (.if_icmp .eq 30, 3) := dk_159 0 30 (dk_at dksX3_promiseComes_0 6 rfl rfl)
theorem dX3_promiseComes_9 : decode cX3_promiseComes 9 = .ok (.aload_n 0, 1) := dk_42 (dk_at dksX3_promiseComes_0 9 rfl rfl)
theorem dX3_promiseComes_10 : decode cX3_promiseComes 10 = .ok (.bipush 33, 2) := dk_16 33 (dk_at dksX3_promiseComes_0 10 rfl rfl)
theorem dX3_promiseComes_12 : decode cX3_promiseComes 12 = .ok (.invokevirtual 69, 3) := dk_182 0 69 (dk_at dksX3_promiseComes_0 12 rfl rfl)
theorem dX3_promiseComes_15 : decode cX3_promiseComes 15 = .ok (.ifCond .ne 21, 3) := dk_154 0 21 (dk_at dksX3_promiseComes_0 15 rfl rfl)
theorem dX3_promiseComes_18 : decode cX3_promiseComes 18 = .ok (.aload_n 0, 1) := dk_42 (dk_at dksX3_promiseComes_0 18 rfl rfl)
theorem dX3_promiseComes_19 : decode cX3_promiseComes 19 = .ok (.bipush 40, 2) := dk_16 40 (dk_at dksX3_promiseComes_0 19 rfl rfl)
theorem dX3_promiseComes_21 : decode cX3_promiseComes 21 = .ok (.invokevirtual 69, 3) := dk_182 0 69 (dk_at dksX3_promiseComes_0 21 rfl rfl)
theorem dX3_promiseComes_24 : decode cX3_promiseComes 24 = .ok (.ifCond .ne 12, 3) := dk_154 0 12 (dk_at dksX3_promiseComes_1 0 rfl rfl)
theorem dX3_promiseComes_27 : decode cX3_promiseComes 27 = .ok (.aload_n 0, 1) := dk_42 (dk_at dksX3_promiseComes_1 3 rfl rfl)
theorem dX3_promiseComes_28 : decode cX3_promiseComes 28 = .ok (.bipush 123, 2) := dk_16 123 (dk_at dksX3_promiseComes_1 4 rfl rfl)
theorem dX3_promiseComes_30 : decode cX3_promiseComes 30 = .ok (.invokevirtual 69, 3) := dk_182 0 69 (dk_at dksX3_promiseComes_1 6 rfl rfl)
theorem dX3_promiseComes_33 : decode cX3_promiseComes 33 = .ok (.ifCond .eq 7, 3) := dk_153 0 7 (dk_at dksX3_promiseComes_1 9 rfl rfl)
theorem dX3_promiseComes_36 : decode cX3_promiseComes 36 = .ok (.iconst 1, 1) := dk_4 (dk_at dksX3_promiseComes_1 12 rfl rfl)
theorem dX3_promiseComes_37 : decode cX3_promiseComes 37 = .ok (.goto 4, 3) := dk_167 0 4 (dk_at dksX3_promiseComes_1 13 rfl rfl)
theorem dX3_promiseComes_40 : decode cX3_promiseComes 40 = .ok (.iconst 0, 1) := dk_3 (dk_at dksX3_promiseComes_1 16 rfl rfl)
theorem dX3_promiseComes_41 : decode cX3_promiseComes 41 = .ok (.iconst 2, 1) := dk_5 (dk_at dksX3_promiseComes_1 17 rfl rfl)
theorem dX3_promiseComes_42 : decode cX3_promiseComes 42 = .ok (.invokevirtual 58, 3) := dk_182 0 58 (dk_at dksX3_promiseComes_1 18 rfl rfl)
theorem dX3_promiseComes_45 : decode cX3_promiseComes 45 = .ok (.aload_n 0, 1) := dk_42 (dk_at dksX3_promiseComes_1 21 rfl rfl)
theorem dX3_promiseComes_46 : decode cX3_promiseComes 46 = .ok (.aload_n 0, 1) := dk_42 (dk_at dksX3_promiseComes_1 22 rfl rfl)
theorem dX3_promiseComes_47 : decode cX3_promiseComes 47 = .ok (.getfield 162, 3) := dk_180 0 162 (dk_at dksX3_promiseComes_2 0 rfl rfl)
theorem dX3_promiseComes_50 : decode cX3_promiseComes 50 = .ok (.iconst 4, 1) := dk_7 (dk_at dksX3_promiseComes_2 3 rfl rfl)
theorem dX3_promiseComes_51 : decode cX3_promiseComes 51 = .ok (.if_icmp .ge 7, 3) := dk_162 0 7 (dk_at dksX3_promiseComes_2 4 rfl rfl)
theorem dX3_promiseComes_54 : decode cX3_promiseComes 54 = .ok (.iconst 1, 1) := dk_4 (dk_at dksX3_promiseComes_2 7 rfl rfl)
theorem dX3_promiseComes_55 : decode cX3_promiseComes 55 = .ok (.goto 4, 3) := dk_167 0 4 (dk_at dksX3_promiseComes_2 8 rfl rfl)
theorem dX3_promiseComes_58 : decode cX3_promiseComes 58 = .ok (.iconst 0, 1) := dk_3 (dk_at dksX3_promiseComes_2 11 rfl rfl)
theorem dX3_promiseComes_59 : decode cX3_promiseComes 59 = .ok (.iconst 4, 1) := dk_7 (dk_at dksX3_promiseComes_2 12 rfl rfl)
theorem dX3_promiseComes_60 : decode cX3_promiseComes 60 = .ok (.invokevirtual 58, 3) := dk_182 0 58 (dk_at dksX3_promiseComes_2 13 rfl rfl)
theorem dX3_promiseComes_63 : decode cX3_promiseComes 63 = .ok (.new 9, 3) := dk_187 0 9 (dk_at dksX3_promiseComes_2 16 rfl rfl)
theorem dX3_promiseComes_66 : decode cX3_promiseComes 66 = .ok (.dup, 1) := dk_89 (dk_at dksX3_promiseComes_2 19 rfl rfl)
theorem dX3_promiseComes_67 : decode cX3_promiseComes 67 = .ok (.invokespecial 163, 3) := dk_183 0 163 (dk_at dksX3_promiseComes_2 20 rfl rfl)
theorem dX3_promiseComes_70 : decode cX3_promiseComes 70 = .ok (.astore_n 1, 1) := dk_76 (dk_at dksX3_promiseComes_2 23 rfl rfl)
theorem dX3_promiseComes_71 : decode cX3_promiseComes 71 = .ok (.aload_n 0, 1) := dk_42 (dk_at dksX3_promiseComes_3 0 rfl rfl)
theorem dX3_promiseComes_72 : decode cX3_promiseComes 72 = .ok (.aload_n 1, 1) := dk_43 (dk_at dksX3_promiseComes_3 1 rfl rfl)
theorem dX3_promiseComes_73 : decode cX3_promiseComes 73 = .ok (.getfield 164, 3) := dk_180 0 164 (dk_at dksX3_promiseComes_3 2 rfl rfl)
theorem dX3_promiseComes_76 : decode cX3_promiseComes 76 = .ok (.iconst 0, 1) := dk_3 (dk_at dksX3_promiseComes_3 5 rfl rfl)
theorem dX3_promiseComes_77 : decode cX3_promiseComes 77 = .ok (.aaload, 1) := dk_50 (dk_at dksX3_promiseComes_3 6 rfl rfl)
theorem dX3_promiseComes_78 : decode cX3_promiseComes 78 = .ok (.invokevirtual 168, 3) := dk_182 0 168 (dk_at dksX3_promiseComes_3 7 rfl rfl)
theorem dX3_promiseComes_81 : decode cX3_promiseComes 81 = .ok (.aload_n 0, 1) := dk_42 (dk_at dksX3_promiseComes_3 10 rfl rfl)
theorem dX3_promiseComes_82 : decode cX3_promiseComes 82 = .ok (.aload_n 0, 1) := dk_42 (dk_at dksX3_promiseComes_3 11 rfl rfl)
theorem dX3_promiseComes_83 : decode cX3_promiseComes 83 = .ok (.bipush 61, 2) := dk_16 61 (dk_at dksX3_promiseComes_3 12 rfl rfl)
theorem dX3_promiseComes_85 : decode cX3_promiseComes 85 = .ok (.invokevirtual 69, 3) := dk_182 0 69 (dk_at dksX3_promiseComes_3 14 rfl rfl)
theorem dX3_promiseComes_88 : decode cX3_promiseComes 88 = .ok (.ifCond .ne 12, 3) := dk_154 0 12 (dk_at dksX3_promiseComes_3 17 rfl rfl)
theorem dX3_promiseComes_91 : decode cX3_promiseComes 91 = .ok (.aload_n 0, 1) := dk_42 (dk_at dksX3_promiseComes_3 20 rfl rfl)
theorem dX3_promiseComes_92 : decode cX3_promiseComes 92 = .ok (.bipush 62, 2) := dk_16 62 (dk_at dksX3_promiseComes_3 21 rfl rfl)
theorem dX3_promiseComes_94 : decode cX3_promiseComes 94 = .ok (.invokevirtual 69, 3) := dk_182 0 69 (dk_at dksX3_promiseComes_4 0 rfl rfl)
theorem dX3_promiseComes_97 : decode cX3_promiseComes 97 = .ok (.ifCond .eq 7, 3) := dk_153 0 7 (dk_at dksX3_promiseComes_4 3 rfl rfl)
theorem dX3_promiseComes_100 : decode cX3_promiseComes 100 = .ok (.iconst 1, 1) := dk_4 (dk_at dksX3_promiseComes_4 6 rfl rfl)
theorem dX3_promiseComes_101 : decode cX3_promiseComes 101 = .ok (.goto 4, 3) := dk_167 0 4 (dk_at dksX3_promiseComes_4 7 rfl rfl)
theorem dX3_promiseComes_104 : decode cX3_promiseComes 104 = .ok (.iconst 0, 1) := dk_3 (dk_at dksX3_promiseComes_4 10 rfl rfl)
theorem dX3_promiseComes_105 : decode cX3_promiseComes 105 = .ok (.iconst 2, 1) := dk_5 (dk_at dksX3_promiseComes_4 11 rfl rfl)
theorem dX3_promiseComes_106 : decode cX3_promiseComes 106 = .ok (.invokevirtual 58, 3) := dk_182 0 58 (dk_at dksX3_promiseComes_4 12 rfl rfl)
theorem dX3_promiseComes_109 : decode cX3_promiseComes 109 = .ok (.aload_n 1, 1) := dk_43 (dk_at dksX3_promiseComes_4 15 rfl rfl)
theorem dX3_promiseComes_110 : decode cX3_promiseComes 110 = .ok (.aload_n 0, 1) := dk_42 (dk_at dksX3_promiseComes_4 16 rfl rfl)
theorem dX3_promiseComes_111 : decode cX3_promiseComes 111 = .ok (.bipush 61, 2) := dk_16 61 (dk_at dksX3_promiseComes_4 17 rfl rfl)
theorem dX3_promiseComes_113 : decode cX3_promiseComes 113 = .ok (.invokevirtual 69, 3) := dk_182 0 69 (dk_at dksX3_promiseComes_4 19 rfl rfl)
theorem dX3_promiseComes_116 : decode cX3_promiseComes 116 = .ok (.ifCond .eq 7, 3) := dk_153 0 7 (dk_at dksX3_promiseComes_5 0 rfl rfl)
theorem dX3_promiseComes_119 : decode cX3_promiseComes 119 = .ok (.iconst 0, 1) := dk_3 (dk_at dksX3_promiseComes_5 3 rfl rfl)
theorem dX3_promiseComes_120 : decode cX3_promiseComes 120 = .ok (.goto 4, 3) := dk_167 0 4 (dk_at dksX3_promiseComes_5 4 rfl rfl)
theorem dX3_promiseComes_123 : decode cX3_promiseComes 123 = .ok (.iconst 1, 1) := dk_4 (dk_at dksX3_promiseComes_5 7 rfl rfl)
theorem dX3_promiseComes_124 : decode cX3_promiseComes 124 = .ok (.putfield 171, 3) := dk_181 0 171 (dk_at dksX3_promiseComes_5 8 rfl rfl)
theorem dX3_promiseComes_127 : decode cX3_promiseComes 127 = .ok (.aload_n 0, 1) := dk_42 (dk_at dksX3_promiseComes_5 11 rfl rfl)
theorem dX3_promiseComes_128 : decode cX3_promiseComes 128 = .ok (.invokevirtual 21, 3) := dk_182 0 21 (dk_at dksX3_promiseComes_5 12 rfl rfl)
theorem dX3_promiseComes_131 : decode cX3_promiseComes 131 = .ok (.aload_n 0, 1) := dk_42 (dk_at dksX3_promiseComes_5 15 rfl rfl)
theorem dX3_promiseComes_132 : decode cX3_promiseComes 132 = .ok (.aload_n 1, 1) := dk_43 (dk_at dksX3_promiseComes_5 16 rfl rfl)
theorem dX3_promiseComes_133 : decode cX3_promiseComes 133 = .ok (.getfield 164, 3) := dk_180 0 164 (dk_at dksX3_promiseComes_5 17 rfl rfl)
theorem dX3_promiseComes_136 : decode cX3_promiseComes 136 = .ok (.iconst 1, 1) := dk_4 (dk_at dksX3_promiseComes_5 20 rfl rfl)
theorem dX3_promiseComes_137 : decode cX3_promiseComes 137 = .ok (.aaload, 1) := dk_50 (dk_at dksX3_promiseComes_5 21 rfl rfl)
theorem dX3_promiseComes_138 : decode cX3_promiseComes 138 = .ok (.invokevirtual 168, 3) := dk_182 0 168 (dk_at dksX3_promiseComes_6 0 rfl rfl)
theorem dX3_promiseComes_141 : decode cX3_promiseComes 141 = .ok (.aload_n 0, 1) := dk_42 (dk_at dksX3_promiseComes_6 3 rfl rfl)
theorem dX3_promiseComes_142 : decode cX3_promiseComes 142 = .ok (.bipush 126, 2) := dk_16 126 (dk_at dksX3_promiseComes_6 4 rfl rfl)
theorem dX3_promiseComes_144 : decode cX3_promiseComes 144 = .ok (.invokevirtual 69, 3) := dk_182 0 69 (dk_at dksX3_promiseComes_6 6 rfl rfl)
theorem dX3_promiseComes_147 : decode cX3_promiseComes 147 = .ok (.ifCond .eq 15, 3) := dk_153 0 15 (dk_at dksX3_promiseComes_6 9 rfl rfl)
theorem dX3_promiseComes_150 : decode cX3_promiseComes 150 = .ok (.aload_n 0, 1) := dk_42 (dk_at dksX3_promiseComes_6 12 rfl rfl)
theorem dX3_promiseComes_151 : decode cX3_promiseComes 151 = .ok (.invokevirtual 21, 3) := dk_182 0 21 (dk_at dksX3_promiseComes_6 13 rfl rfl)
theorem dX3_promiseComes_154 : decode cX3_promiseComes 154 = .ok (.aload_n 1, 1) := dk_43 (dk_at dksX3_promiseComes_6 16 rfl rfl)
theorem dX3_promiseComes_155 : decode cX3_promiseComes 155 = .ok (.aload_n 0, 1) := dk_42 (dk_at dksX3_promiseComes_6 17 rfl rfl)
theorem dX3_promiseComes_156 : decode cX3_promiseComes 156 = .ok (.invokevirtual 88, 3) := dk_182 0 88 (dk_at dksX3_promiseComes_6 18 rfl rfl)
theorem dX3_promiseComes_159 : decode cX3_promiseComes 159 = .ok (.putfield 172, 3) := dk_181 0 172 (dk_at dksX3_promiseComes_6 21 rfl rfl)
theorem dX3_promiseComes_162 : decode cX3_promiseComes 162 = .ok (.aload_n 0, 1) := dk_42 (dk_at dksX3_promiseComes_7 0 rfl rfl)
theorem dX3_promiseComes_163 : decode cX3_promiseComes 163 = .ok (.aload_n 0, 1) := dk_42 (dk_at dksX3_promiseComes_7 1 rfl rfl)
theorem dX3_promiseComes_164 : decode cX3_promiseComes 164 = .ok (.bipush 59, 2) := dk_16 59 (dk_at dksX3_promiseComes_7 2 rfl rfl)
theorem dX3_promiseComes_166 : decode cX3_promiseComes 166 = .ok (.invokevirtual 69, 3) := dk_182 0 69 (dk_at dksX3_promiseComes_7 4 rfl rfl)
theorem dX3_promiseComes_169 : decode cX3_promiseComes 169 = .ok (.iconst 2, 1) := dk_5 (dk_at dksX3_promiseComes_7 7 rfl rfl)
theorem dX3_promiseComes_170 : decode cX3_promiseComes 170 = .ok (.invokevirtual 58, 3) := dk_182 0 58 (dk_at dksX3_promiseComes_7 8 rfl rfl)
theorem dX3_promiseComes_173 : decode cX3_promiseComes 173 = .ok (.aload_n 0, 1) := dk_42 (dk_at dksX3_promiseComes_7 11 rfl rfl)
theorem dX3_promiseComes_174 : decode cX3_promiseComes 174 = .ok (.aload_n 1, 1) := dk_43 (dk_at dksX3_promiseComes_7 12 rfl rfl)
theorem dX3_promiseComes_175 : decode cX3_promiseComes 175 = .ok (.getfield 164, 3) := dk_180 0 164 (dk_at dksX3_promiseComes_7 13 rfl rfl)
theorem dX3_promiseComes_178 : decode cX3_promiseComes 178 = .ok (.iconst 0, 1) := dk_3 (dk_at dksX3_promiseComes_7 16 rfl rfl)
theorem dX3_promiseComes_179 : decode cX3_promiseComes 179 = .ok (.aaload, 1) := dk_50 (dk_at dksX3_promiseComes_7 17 rfl rfl)
theorem dX3_promiseComes_180 : decode cX3_promiseComes 180 = .ok (.getfield 158, 3) := dk_180 0 158 (dk_at dksX3_promiseComes_7 18 rfl rfl)
theorem dX3_promiseComes_183 : decode cX3_promiseComes 183 = .ok (.invokevirtual 176, 3) := dk_182 0 176 (dk_at dksX3_promiseComes_7 21 rfl rfl)
theorem dX3_promiseComes_186 : decode cX3_promiseComes 186 = .ok (.ifCond .le 22, 3) := dk_158 0 22 (dk_at dksX3_promiseComes_8 0 rfl rfl)
theorem dX3_promiseComes_189 : decode cX3_promiseComes 189 = .ok (.aload_n 1, 1) := dk_43 (dk_at dksX3_promiseComes_8 3 rfl rfl)
theorem dX3_promiseComes_190 : decode cX3_promiseComes 190 = .ok (.getfield 164, 3) := dk_180 0 164 (dk_at dksX3_promiseComes_8 4 rfl rfl)
theorem dX3_promiseComes_193 : decode cX3_promiseComes 193 = .ok (.iconst 1, 1) := dk_4 (dk_at dksX3_promiseComes_8 7 rfl rfl)
theorem dX3_promiseComes_194 : decode cX3_promiseComes 194 = .ok (.aaload, 1) := dk_50 (dk_at dksX3_promiseComes_8 8 rfl rfl)
theorem dX3_promiseComes_195 : decode cX3_promiseComes 195 = .ok (.getfield 158, 3) := dk_180 0 158 (dk_at dksX3_promiseComes_8 9 rfl rfl)
theorem dX3_promiseComes_198 : decode cX3_promiseComes 198 = .ok (.invokevirtual 176, 3) := dk_182 0 176 (dk_at dksX3_promiseComes_8 12 rfl rfl)
theorem dX3_promiseComes_201 : decode cX3_promiseComes 201 = .ok (.ifCond .le 7, 3) := dk_158 0 7 (dk_at dksX3_promiseComes_8 15 rfl rfl)
theorem dX3_promiseComes_204 : decode cX3_promiseComes 204 = .ok (.iconst 1, 1) := dk_4 (dk_at dksX3_promiseComes_8 18 rfl rfl)
theorem dX3_promiseComes_205 : decode cX3_promiseComes 205 = .ok (.goto 4, 3) := dk_167 0 4 (dk_at dksX3_promiseComes_8 19 rfl rfl)
theorem dX3_promiseComes_208 : decode cX3_promiseComes 208 = .ok (.iconst 0, 1) := dk_3 (dk_at dksX3_promiseComes_8 22 rfl rfl)
theorem dX3_promiseComes_209 : decode cX3_promiseComes 209 = .ok (.iconst 5, 1) := dk_8 (dk_at dksX3_promiseComes_8 23 rfl rfl)
theorem dX3_promiseComes_210 : decode cX3_promiseComes 210 = .ok (.invokevirtual 58, 3) := dk_182 0 58 (dk_at dksX3_promiseComes_9 0 rfl rfl)
theorem dX3_promiseComes_213 : decode cX3_promiseComes 213 = .ok (.aload_n 0, 1) := dk_42 (dk_at dksX3_promiseComes_9 3 rfl rfl)
theorem dX3_promiseComes_214 : decode cX3_promiseComes 214 = .ok (.aload_n 1, 1) := dk_43 (dk_at dksX3_promiseComes_9 4 rfl rfl)
theorem dX3_promiseComes_215 : decode cX3_promiseComes 215 = .ok (.getfield 164, 3) := dk_180 0 164 (dk_at dksX3_promiseComes_9 5 rfl rfl)
theorem dX3_promiseComes_218 : decode cX3_promiseComes 218 = .ok (.iconst 0, 1) := dk_3 (dk_at dksX3_promiseComes_9 8 rfl rfl)
theorem dX3_promiseComes_219 : decode cX3_promiseComes 219 = .ok (.aaload, 1) := dk_50 (dk_at dksX3_promiseComes_9 9 rfl rfl)
theorem dX3_promiseComes_220 : decode cX3_promiseComes 220 = .ok (.getfield 158, 3) := dk_180 0 158 (dk_at dksX3_promiseComes_9 10 rfl rfl)
theorem dX3_promiseComes_223 : decode cX3_promiseComes 223 = .ok (.invokevirtual 182, 3) := dk_182 0 182 (dk_at dksX3_promiseComes_9 13 rfl rfl)
theorem dX3_promiseComes_226 : decode cX3_promiseComes 226 = .ok (.bipush 40, 2) := dk_16 40 (dk_at dksX3_promiseComes_9 16 rfl rfl)
theorem dX3_promiseComes_228 : decode cX3_promiseComes 228 = .ok (.if_icmp .gt 24, 3) := dk_163 0 24 (dk_at dksX3_promiseComes_9 18 rfl rfl)
theorem dX3_promiseComes_231 : decode cX3_promiseComes 231 = .ok (.aload_n 1, 1) := dk_43 (dk_at dksX3_promiseComes_9 21 rfl rfl)
theorem dX3_promiseComes_232 : decode cX3_promiseComes 232 = .ok (.getfield 164, 3) := dk_180 0 164 (dk_at dksX3_promiseComes_10 0 rfl rfl)
theorem dX3_promiseComes_235 : decode cX3_promiseComes 235 = .ok (.iconst 1, 1) := dk_4 (dk_at dksX3_promiseComes_10 3 rfl rfl)
theorem dX3_promiseComes_236 : decode cX3_promiseComes 236 = .ok (.aaload, 1) := dk_50 (dk_at dksX3_promiseComes_10 4 rfl rfl)
theorem dX3_promiseComes_237 : decode cX3_promiseComes 237 = .ok (.getfield 158, 3) := dk_180 0 158 (dk_at dksX3_promiseComes_10 5 rfl rfl)
theorem dX3_promiseComes_240 : decode cX3_promiseComes 240 = .ok (.invokevirtual 182, 3) := dk_182 0 182 (dk_at dksX3_promiseComes_10 8 rfl rfl)
theorem dX3_promiseComes_243 : decode cX3_promiseComes 243 = .ok (.bipush 40, 2) := dk_16 40 (dk_at dksX3_promiseComes_10 11 rfl rfl)
theorem dX3_promiseComes_245 : decode cX3_promiseComes 245 = .ok (.if_icmp .gt 7, 3) := dk_163 0 7 (dk_at dksX3_promiseComes_10 13 rfl rfl)
theorem dX3_promiseComes_248 : decode cX3_promiseComes 248 = .ok (.iconst 1, 1) := dk_4 (dk_at dksX3_promiseComes_10 16 rfl rfl)
theorem dX3_promiseComes_249 : decode cX3_promiseComes 249 = .ok (.goto 4, 3) := dk_167 0 4 (dk_at dksX3_promiseComes_10 17 rfl rfl)
theorem dX3_promiseComes_252 : decode cX3_promiseComes 252 = .ok (.iconst 0, 1) := dk_3 (dk_at dksX3_promiseComes_10 20 rfl rfl)
theorem dX3_promiseComes_253 : decode cX3_promiseComes 253 = .ok (.bipush 6, 2) := dk_16 6 (dk_at dksX3_promiseComes_10 21 rfl rfl)
theorem dX3_promiseComes_255 : decode cX3_promiseComes 255 = .ok (.invokevirtual 58, 3) := dk_182 0 58 (dk_at dksX3_promiseComes_11 0 rfl rfl)
theorem dX3_promiseComes_258 : decode cX3_promiseComes 258 = .ok (.aload_n 1, 1) := dk_43 (dk_at dksX3_promiseComes_11 3 rfl rfl)
theorem dX3_promiseComes_259 : decode cX3_promiseComes 259 = .ok (.getfield 164, 3) := dk_180 0 164 (dk_at dksX3_promiseComes_11 4 rfl rfl)
theorem dX3_promiseComes_262 : decode cX3_promiseComes 262 = .ok (.astore_n 2, 1) := dk_77 (dk_at dksX3_promiseComes_11 7 rfl rfl)
theorem dX3_promiseComes_263 : decode cX3_promiseComes 263 = .ok (.aload_n 2, 1) := dk_44 (dk_at dksX3_promiseComes_11 8 rfl rfl)
theorem dX3_promiseComes_264 : decode cX3_promiseComes 264 = .ok (.arraylength, 1) := dk_190 (dk_at dksX3_promiseComes_11 9 rfl rfl)
theorem dX3_promiseComes_265 : decode cX3_promiseComes 265 = .ok (.istore_n 3, 1) := dk_62 (dk_at dksX3_promiseComes_11 10 rfl rfl)
theorem dX3_promiseComes_266 : decode cX3_promiseComes 266 = .ok (.iconst 0, 1) := dk_3 (dk_at dksX3_promiseComes_11 11 rfl rfl)
theorem dX3_promiseComes_267 : decode cX3_promiseComes 267 = .ok (.istore 4, 2) := dk_54 4 (dk_at dksX3_promiseComes_11 12 rfl rfl)
theorem dX3_promiseComes_269 : decode cX3_promiseComes 269 = .ok (.iload 4, 2) := dk_21 4 (dk_at dksX3_promiseComes_11 14 rfl rfl)
theorem dX3_promiseComes_271 : decode cX3_promiseComes 271 = .ok (.iload_n 3, 1) := dk_29 (dk_at dksX3_promiseComes_11 16 rfl rfl)
theorem dX3_promiseComes_272 : decode cX3_promiseComes 272 = .ok (.if_icmp .ge 40, 3) := dk_162 0 40 (dk_at dksX3_promiseComes_11 17 rfl rfl)
theorem dX3_promiseComes_275 : decode cX3_promiseComes 275 = .ok (.aload_n 2, 1) := dk_44 (dk_at dksX3_promiseComes_11 20 rfl rfl)
theorem dX3_promiseComes_276 : decode cX3_promiseComes 276 = .ok (.iload 4, 2) := dk_21 4 (dk_at dksX3_promiseComes_11 21 rfl rfl)
theorem dX3_promiseComes_278 : decode cX3_promiseComes 278 = .ok (.aaload, 1) := dk_50 (dk_at dksX3_promiseComes_11 23 rfl rfl)
theorem dX3_promiseComes_279 : decode cX3_promiseComes 279 = .ok (.astore 5, 2) := dk_58 5 (dk_at dksX3_promiseComes_12 0 rfl rfl)
theorem dX3_promiseComes_281 : decode cX3_promiseComes 281 = .ok (.aload 5, 2) := dk_25 5 (dk_at dksX3_promiseComes_12 2 rfl rfl)
theorem dX3_promiseComes_283 : decode cX3_promiseComes 283 = .ok (.new 185, 3) := dk_187 0 185 (dk_at dksX3_promiseComes_12 4 rfl rfl)
theorem dX3_promiseComes_286 : decode cX3_promiseComes 286 = .ok (.dup, 1) := dk_89 (dk_at dksX3_promiseComes_12 7 rfl rfl)
theorem dX3_promiseComes_287 : decode cX3_promiseComes 287 = .ok (.invokespecial 187, 3) := dk_183 0 187 (dk_at dksX3_promiseComes_12 8 rfl rfl)
theorem dX3_promiseComes_290 : decode cX3_promiseComes 290 = .ok (.putfield 188, 3) := dk_181 0 188 (dk_at dksX3_promiseComes_12 11 rfl rfl)
theorem dX3_promiseComes_293 : decode cX3_promiseComes 293 = .ok (.aload 5, 2) := dk_25 5 (dk_at dksX3_promiseComes_12 14 rfl rfl)
theorem dX3_promiseComes_295 : decode cX3_promiseComes 295 = .ok (.getfield 188, 3) := dk_180 0 188 (dk_at dksX3_promiseComes_12 16 rfl rfl)
theorem dX3_promiseComes_298 : decode cX3_promiseComes 298 = .ok (.aload 5, 2) := dk_25 5 (dk_at dksX3_promiseComes_12 19 rfl rfl)
theorem dX3_promiseComes_300 : decode cX3_promiseComes 300 = .ok (.getfield 158, 3) := dk_180 0 158 (dk_at dksX3_promiseComes_12 21 rfl rfl)
theorem dX3_promiseComes_303 : decode cX3_promiseComes 303 = .ok (.invokevirtual 192, 3) := dk_182 0 192 (dk_at dksX3_promiseComes_13 0 rfl rfl)
theorem dX3_promiseComes_306 : decode cX3_promiseComes 306 = .ok (.iinc 4 1, 3) := dk_132 4 1 (dk_at dksX3_promiseComes_13 3 rfl rfl)
theorem dX3_promiseComes_309 : decode cX3_promiseComes 309 = .ok (.goto (-40), 3) := dk_167 255 216 (dk_at dksX3_promiseComes_13 6 rfl rfl)
theorem dX3_promiseComes_312 : decode cX3_promiseComes 312 = .ok (.aload_n 0, 1) := dk_42 (dk_at dksX3_promiseComes_13 9 rfl rfl)
theorem dX3_promiseComes_313 : decode cX3_promiseComes 313 = .ok (.getfield 11, 3) := dk_180 0 11 (dk_at dksX3_promiseComes_13 10 rfl rfl)
theorem dX3_promiseComes_316 : decode cX3_promiseComes 316 = .ok (.aload_n 0, 1) := dk_42 (dk_at dksX3_promiseComes_13 13 rfl rfl)
theorem dX3_promiseComes_317 : decode cX3_promiseComes 317 = .ok (.getfield 162, 3) := dk_180 0 162 (dk_at dksX3_promiseComes_13 14 rfl rfl)
theorem dX3_promiseComes_320 : decode cX3_promiseComes 320 = .ok (.aload_n 1, 1) := dk_43 (dk_at dksX3_promiseComes_13 17 rfl rfl)
theorem dX3_promiseComes_321 : decode cX3_promiseComes 321 = .ok (.aastore, 1) := dk_83 (dk_at dksX3_promiseComes_13 18 rfl rfl)
theorem dX3_promiseComes_322 : decode cX3_promiseComes 322 = .ok (.aload_n 0, 1) := dk_42 (dk_at dksX3_promiseComes_13 19 rfl rfl)
theorem dX3_promiseComes_323 : decode cX3_promiseComes 323 = .ok (.dup, 1) := dk_89 (dk_at dksX3_promiseComes_13 20 rfl rfl)
theorem dX3_promiseComes_324 : decode cX3_promiseComes 324 = .ok (.getfield 162, 3) := dk_180 0 162 (dk_at dksX3_promiseComes_13 21 rfl rfl)
theorem dX3_promiseComes_327 : decode cX3_promiseComes 327 = .ok (.iconst 1, 1) := dk_4 (dk_at dksX3_promiseComes_14 0 rfl rfl)
theorem dX3_promiseComes_328 : decode cX3_promiseComes 328 = .ok (.iadd, 1) := dk_96 (dk_at dksX3_promiseComes_14 1 rfl rfl)
theorem dX3_promiseComes_329 : decode cX3_promiseComes 329 = .ok (.putfield 162, 3) := dk_181 0 162 (dk_at dksX3_promiseComes_14 2 rfl rfl)
theorem dX3_promiseComes_332 : decode cX3_promiseComes 332 = .ok (.aload_n 0, 1) := dk_42 (dk_at dksX3_promiseComes_14 5 rfl rfl)
theorem dX3_promiseComes_333 : decode cX3_promiseComes 333 = .ok (.invokevirtual 21, 3) := dk_182 0 21 (dk_at dksX3_promiseComes_14 6 rfl rfl)
theorem dX3_promiseComes_336 : decode cX3_promiseComes 336 = .ok (.return_, 1) := dk_177 (dk_at dksX3_promiseComes_14 9 rfl rfl)
abbrev cX3_isSign : ByteArray := prog_14_method_4_code
def yX3_isSign : MethodName := ⟨RX3, "isSign", "(I)Z"⟩
def dkwX3_isSign_0 : List UInt8 := [42, 180, 0, 33, 6, 160, 0, 15, 42, 180, 0, 36, 27, 160, 0, 7, 4, 167, 0, 4, 3, 172]
abbrev dktX3_isSign_0 : List UInt8 := dkwX3_isSign_0 ++ []
theorem dksX3_isSign_0 : cX3_isSign.data.toList.drop 0 = dktX3_isSign_0 := by decide +kernel
theorem dX3_isSign_0 : decode cX3_isSign 0 = .ok (.aload_n 0, 1) := dk_42 (dk_at dksX3_isSign_0 0 rfl rfl)
theorem dX3_isSign_1 : decode cX3_isSign 1 = .ok (.getfield 33, 3) := dk_180 0 33 (dk_at dksX3_isSign_0 1 rfl rfl)
theorem dX3_isSign_4 : decode cX3_isSign 4 = .ok (.iconst 3, 1) := dk_6 (dk_at dksX3_isSign_0 4 rfl rfl)
theorem dX3_isSign_5 : decode cX3_isSign 5 = .ok (.if_icmp .ne 15, 3) := dk_160 0 15 (dk_at dksX3_isSign_0 5 rfl rfl)
theorem dX3_isSign_8 : decode cX3_isSign 8 = .ok (.aload_n 0, 1) := dk_42 (dk_at dksX3_isSign_0 8 rfl rfl)
theorem dX3_isSign_9 : decode cX3_isSign 9 = .ok (.getfield 36, 3) := dk_180 0 36 (dk_at dksX3_isSign_0 9 rfl rfl)
theorem dX3_isSign_12 : decode cX3_isSign 12 = .ok (.iload_n 1, 1) := dk_27 (dk_at dksX3_isSign_0 12 rfl rfl)
theorem dX3_isSign_13 : decode cX3_isSign 13 = .ok (.if_icmp .ne 7, 3) := dk_160 0 7 (dk_at dksX3_isSign_0 13 rfl rfl)
theorem dX3_isSign_16 : decode cX3_isSign 16 = .ok (.iconst 1, 1) := dk_4 (dk_at dksX3_isSign_0 16 rfl rfl)
theorem dX3_isSign_17 : decode cX3_isSign 17 = .ok (.goto 4, 3) := dk_167 0 4 (dk_at dksX3_isSign_0 17 rfl rfl)
theorem dX3_isSign_20 : decode cX3_isSign 20 = .ok (.iconst 0, 1) := dk_3 (dk_at dksX3_isSign_0 20 rfl rfl)
theorem dX3_isSign_21 : decode cX3_isSign 21 = .ok (.ireturn, 1) := dk_172 (dk_at dksX3_isSign_0 21 rfl rfl)
abbrev cX3_side : ByteArray := prog_14_method_19_code
def yX3_side : MethodName := ⟨RX3, "side", "(LPromiseTries$Side;)V"⟩
def dkwX3_side_0 : List UInt8 := [42, 43, 181, 0, 109, 43, 42, 182, 0, 105, 181, 0, 158, 177]
abbrev dktX3_side_0 : List UInt8 := dkwX3_side_0 ++ []
theorem dksX3_side_0 : cX3_side.data.toList.drop 0 = dktX3_side_0 := by decide +kernel
theorem dX3_side_0 : decode cX3_side 0 = .ok (.aload_n 0, 1) := dk_42 (dk_at dksX3_side_0 0 rfl rfl)
theorem dX3_side_1 : decode cX3_side 1 = .ok (.aload_n 1, 1) := dk_43 (dk_at dksX3_side_0 1 rfl rfl)
theorem dX3_side_2 : decode cX3_side 2 = .ok (.putfield 109, 3) := dk_181 0 109 (dk_at dksX3_side_0 2 rfl rfl)
theorem dX3_side_5 : decode cX3_side 5 = .ok (.aload_n 1, 1) := dk_43 (dk_at dksX3_side_0 5 rfl rfl)
theorem dX3_side_6 : decode cX3_side 6 = .ok (.aload_n 0, 1) := dk_42 (dk_at dksX3_side_0 6 rfl rfl)
theorem dX3_side_7 : decode cX3_side 7 = .ok (.invokevirtual 105, 3) := dk_182 0 105 (dk_at dksX3_side_0 7 rfl rfl)
theorem dX3_side_10 : decode cX3_side 10 = .ok (.putfield 158, 3) := dk_181 0 158 (dk_at dksX3_side_0 10 rfl rfl)
theorem dX3_side_13 : decode cX3_side 13 = .ok (.return_, 1) := dk_177 (dk_at dksX3_side_0 13 rfl rfl)
abbrev cX3_sequence : ByteArray := prog_14_method_18_code
def yX3_sequence : MethodName := ⟨RX3, "sequence", "()LPromiseTries$Node;"⟩
def dkwX3_sequence_1 : List UInt8 := [182, 0, 152, 183, 0, 157, 76, 167, 255, 230, 43, 176]
abbrev dktX3_sequence_1 : List UInt8 := dkwX3_sequence_1 ++ []
def dkwX3_sequence_0 : List UInt8 := [42, 182, 0, 152, 76, 42, 16, 47, 182, 0, 69, 153, 0, 23, 42, 182, 0, 21, 187, 0, 155, 89, 43, 42]
abbrev dktX3_sequence_0 : List UInt8 := dkwX3_sequence_0 ++ dktX3_sequence_1
theorem dksX3_sequence_0 : cX3_sequence.data.toList.drop 0 = dktX3_sequence_0 := by decide +kernel
theorem dksX3_sequence_1 : cX3_sequence.data.toList.drop 24 = dktX3_sequence_1 := dk_seg dksX3_sequence_0 24 rfl rfl
theorem dX3_sequence_0 : decode cX3_sequence 0 = .ok (.aload_n 0, 1) := dk_42 (dk_at dksX3_sequence_0 0 rfl rfl)
theorem dX3_sequence_1 : decode cX3_sequence 1 = .ok (.invokevirtual 152, 3) := dk_182 0 152 (dk_at dksX3_sequence_0 1 rfl rfl)
theorem dX3_sequence_4 : decode cX3_sequence 4 = .ok (.astore_n 1, 1) := dk_76 (dk_at dksX3_sequence_0 4 rfl rfl)
theorem dX3_sequence_5 : decode cX3_sequence 5 = .ok (.aload_n 0, 1) := dk_42 (dk_at dksX3_sequence_0 5 rfl rfl)
theorem dX3_sequence_6 : decode cX3_sequence 6 = .ok (.bipush 47, 2) := dk_16 47 (dk_at dksX3_sequence_0 6 rfl rfl)
theorem dX3_sequence_8 : decode cX3_sequence 8 = .ok (.invokevirtual 69, 3) := dk_182 0 69 (dk_at dksX3_sequence_0 8 rfl rfl)
theorem dX3_sequence_11 : decode cX3_sequence 11 = .ok (.ifCond .eq 23, 3) := dk_153 0 23 (dk_at dksX3_sequence_0 11 rfl rfl)
theorem dX3_sequence_14 : decode cX3_sequence 14 = .ok (.aload_n 0, 1) := dk_42 (dk_at dksX3_sequence_0 14 rfl rfl)
theorem dX3_sequence_15 : decode cX3_sequence 15 = .ok (.invokevirtual 21, 3) := dk_182 0 21 (dk_at dksX3_sequence_0 15 rfl rfl)
theorem dX3_sequence_18 : decode cX3_sequence 18 = .ok (.new 155, 3) := dk_187 0 155 (dk_at dksX3_sequence_0 18 rfl rfl)
theorem dX3_sequence_21 : decode cX3_sequence 21 = .ok (.dup, 1) := dk_89 (dk_at dksX3_sequence_0 21 rfl rfl)
theorem dX3_sequence_22 : decode cX3_sequence 22 = .ok (.aload_n 1, 1) := dk_43 (dk_at dksX3_sequence_0 22 rfl rfl)
theorem dX3_sequence_23 : decode cX3_sequence 23 = .ok (.aload_n 0, 1) := dk_42 (dk_at dksX3_sequence_0 23 rfl rfl)
theorem dX3_sequence_24 : decode cX3_sequence 24 = .ok (.invokevirtual 152, 3) := dk_182 0 152 (dk_at dksX3_sequence_1 0 rfl rfl)
theorem dX3_sequence_27 : decode cX3_sequence 27 = .ok (.invokespecial 157, 3) := dk_183 0 157 (dk_at dksX3_sequence_1 3 rfl rfl)
theorem dX3_sequence_30 : decode cX3_sequence 30 = .ok (.astore_n 1, 1) := dk_76 (dk_at dksX3_sequence_1 6 rfl rfl)
theorem dX3_sequence_31 : decode cX3_sequence 31 = .ok (.goto (-26), 3) := dk_167 255 230 (dk_at dksX3_sequence_1 7 rfl rfl)
theorem dX3_sequence_34 : decode cX3_sequence 34 = .ok (.aload_n 1, 1) := dk_43 (dk_at dksX3_sequence_1 10 rfl rfl)
theorem dX3_sequence_35 : decode cX3_sequence 35 = .ok (.areturn, 1) := dk_176 (dk_at dksX3_sequence_1 11 rfl rfl)
abbrev cX3_thens : ByteArray := prog_14_method_17_code
def yX3_thens : MethodName := ⟨RX3, "thens", "()LPromiseTries$Node;"⟩
def dkwX3_thens_1 : List UInt8 := [182, 0, 144, 183, 0, 149, 76, 167, 255, 230, 43, 176]
abbrev dktX3_thens_1 : List UInt8 := dkwX3_thens_1 ++ []
def dkwX3_thens_0 : List UInt8 := [42, 182, 0, 144, 76, 42, 16, 44, 182, 0, 69, 153, 0, 23, 42, 182, 0, 21, 187, 0, 147, 89, 43, 42]
abbrev dktX3_thens_0 : List UInt8 := dkwX3_thens_0 ++ dktX3_thens_1
theorem dksX3_thens_0 : cX3_thens.data.toList.drop 0 = dktX3_thens_0 := by decide +kernel
theorem dksX3_thens_1 : cX3_thens.data.toList.drop 24 = dktX3_thens_1 := dk_seg dksX3_thens_0 24 rfl rfl
theorem dX3_thens_0 : decode cX3_thens 0 = .ok (.aload_n 0, 1) := dk_42 (dk_at dksX3_thens_0 0 rfl rfl)
theorem dX3_thens_1 : decode cX3_thens 1 = .ok (.invokevirtual 144, 3) := dk_182 0 144 (dk_at dksX3_thens_0 1 rfl rfl)
theorem dX3_thens_4 : decode cX3_thens 4 = .ok (.astore_n 1, 1) := dk_76 (dk_at dksX3_thens_0 4 rfl rfl)
theorem dX3_thens_5 : decode cX3_thens 5 = .ok (.aload_n 0, 1) := dk_42 (dk_at dksX3_thens_0 5 rfl rfl)
theorem dX3_thens_6 : decode cX3_thens 6 = .ok (.bipush 44, 2) := dk_16 44 (dk_at dksX3_thens_0 6 rfl rfl)
theorem dX3_thens_8 : decode cX3_thens 8 = .ok (.invokevirtual 69, 3) := dk_182 0 69 (dk_at dksX3_thens_0 8 rfl rfl)
theorem dX3_thens_11 : decode cX3_thens 11 = .ok (.ifCond .eq 23, 3) := dk_153 0 23 (dk_at dksX3_thens_0 11 rfl rfl)
theorem dX3_thens_14 : decode cX3_thens 14 = .ok (.aload_n 0, 1) := dk_42 (dk_at dksX3_thens_0 14 rfl rfl)
theorem dX3_thens_15 : decode cX3_thens 15 = .ok (.invokevirtual 21, 3) := dk_182 0 21 (dk_at dksX3_thens_0 15 rfl rfl)
theorem dX3_thens_18 : decode cX3_thens 18 = .ok (.new 147, 3) := dk_187 0 147 (dk_at dksX3_thens_0 18 rfl rfl)
theorem dX3_thens_21 : decode cX3_thens 21 = .ok (.dup, 1) := dk_89 (dk_at dksX3_thens_0 21 rfl rfl)
theorem dX3_thens_22 : decode cX3_thens 22 = .ok (.aload_n 1, 1) := dk_43 (dk_at dksX3_thens_0 22 rfl rfl)
theorem dX3_thens_23 : decode cX3_thens 23 = .ok (.aload_n 0, 1) := dk_42 (dk_at dksX3_thens_0 23 rfl rfl)
theorem dX3_thens_24 : decode cX3_thens 24 = .ok (.invokevirtual 144, 3) := dk_182 0 144 (dk_at dksX3_thens_1 0 rfl rfl)
theorem dX3_thens_27 : decode cX3_thens 27 = .ok (.invokespecial 149, 3) := dk_183 0 149 (dk_at dksX3_thens_1 3 rfl rfl)
theorem dX3_thens_30 : decode cX3_thens 30 = .ok (.astore_n 1, 1) := dk_76 (dk_at dksX3_thens_1 6 rfl rfl)
theorem dX3_thens_31 : decode cX3_thens 31 = .ok (.goto (-26), 3) := dk_167 255 230 (dk_at dksX3_thens_1 7 rfl rfl)
theorem dX3_thens_34 : decode cX3_thens 34 = .ok (.aload_n 1, 1) := dk_43 (dk_at dksX3_thens_1 10 rfl rfl)
theorem dX3_thens_35 : decode cX3_thens 35 = .ok (.areturn, 1) := dk_176 (dk_at dksX3_thens_1 11 rfl rfl)
abbrev cX3_repeated : ByteArray := prog_14_method_16_code
def yX3_repeated : MethodName := ⟨RX3, "repeated", "()LPromiseTries$Node;"⟩
def dkwX3_repeated_2 : List UInt8 := [176]
abbrev dktX3_repeated_2 : List UInt8 := dkwX3_repeated_2 ++ []
def dkwX3_repeated_1 : List UInt8 := [182, 0, 130, 61, 187, 0, 134, 89, 43, 28, 42, 4, 28, 184, 0, 136, 16, 9, 182, 0, 130, 183, 0, 141]
abbrev dktX3_repeated_1 : List UInt8 := dkwX3_repeated_1 ++ dktX3_repeated_2
def dkwX3_repeated_0 : List UInt8 := [42, 182, 0, 127, 76, 42, 16, 42, 182, 0, 69, 154, 0, 5, 43, 176, 42, 182, 0, 21, 42, 3, 16, 9]
abbrev dktX3_repeated_0 : List UInt8 := dkwX3_repeated_0 ++ dktX3_repeated_1
theorem dksX3_repeated_0 : cX3_repeated.data.toList.drop 0 = dktX3_repeated_0 := by decide +kernel
theorem dksX3_repeated_1 : cX3_repeated.data.toList.drop 24 = dktX3_repeated_1 := dk_seg dksX3_repeated_0 24 rfl rfl
theorem dksX3_repeated_2 : cX3_repeated.data.toList.drop 48 = dktX3_repeated_2 := dk_seg dksX3_repeated_1 24 rfl rfl
theorem dX3_repeated_0 : decode cX3_repeated 0 = .ok (.aload_n 0, 1) := dk_42 (dk_at dksX3_repeated_0 0 rfl rfl)
theorem dX3_repeated_1 : decode cX3_repeated 1 = .ok (.invokevirtual 127, 3) := dk_182 0 127 (dk_at dksX3_repeated_0 1 rfl rfl)
theorem dX3_repeated_4 : decode cX3_repeated 4 = .ok (.astore_n 1, 1) := dk_76 (dk_at dksX3_repeated_0 4 rfl rfl)
theorem dX3_repeated_5 : decode cX3_repeated 5 = .ok (.aload_n 0, 1) := dk_42 (dk_at dksX3_repeated_0 5 rfl rfl)
theorem dX3_repeated_6 : decode cX3_repeated 6 = .ok (.bipush 42, 2) := dk_16 42 (dk_at dksX3_repeated_0 6 rfl rfl)
theorem dX3_repeated_8 : decode cX3_repeated 8 = .ok (.invokevirtual 69, 3) := dk_182 0 69 (dk_at dksX3_repeated_0 8 rfl rfl)
theorem dX3_repeated_11 : decode cX3_repeated 11 = .ok (.ifCond .ne 5, 3) := dk_154 0 5 (dk_at dksX3_repeated_0 11 rfl rfl)
theorem dX3_repeated_14 : decode cX3_repeated 14 = .ok (.aload_n 1, 1) := dk_43 (dk_at dksX3_repeated_0 14 rfl rfl)
theorem dX3_repeated_15 : decode cX3_repeated 15 = .ok (.areturn, 1) := dk_176 (dk_at dksX3_repeated_0 15 rfl rfl)
theorem dX3_repeated_16 : decode cX3_repeated 16 = .ok (.aload_n 0, 1) := dk_42 (dk_at dksX3_repeated_0 16 rfl rfl)
theorem dX3_repeated_17 : decode cX3_repeated 17 = .ok (.invokevirtual 21, 3) := dk_182 0 21 (dk_at dksX3_repeated_0 17 rfl rfl)
theorem dX3_repeated_20 : decode cX3_repeated 20 = .ok (.aload_n 0, 1) := dk_42 (dk_at dksX3_repeated_0 20 rfl rfl)
theorem dX3_repeated_21 : decode cX3_repeated 21 = .ok (.iconst 0, 1) := dk_3 (dk_at dksX3_repeated_0 21 rfl rfl)
theorem dX3_repeated_22 : decode cX3_repeated 22 = .ok (.bipush 9, 2) := dk_16 9 (dk_at dksX3_repeated_0 22 rfl rfl)
theorem dX3_repeated_24 : decode cX3_repeated 24 = .ok (.invokevirtual 130, 3) := dk_182 0 130 (dk_at dksX3_repeated_1 0 rfl rfl)
theorem dX3_repeated_27 : decode cX3_repeated 27 = .ok (.istore_n 2, 1) := dk_61 (dk_at dksX3_repeated_1 3 rfl rfl)
theorem dX3_repeated_28 : decode cX3_repeated 28 = .ok (.new 134, 3) := dk_187 0 134 (dk_at dksX3_repeated_1 4 rfl rfl)
theorem dX3_repeated_31 : decode cX3_repeated 31 = .ok (.dup, 1) := dk_89 (dk_at dksX3_repeated_1 7 rfl rfl)
theorem dX3_repeated_32 : decode cX3_repeated 32 = .ok (.aload_n 1, 1) := dk_43 (dk_at dksX3_repeated_1 8 rfl rfl)
theorem dX3_repeated_33 : decode cX3_repeated 33 = .ok (.iload_n 2, 1) := dk_28 (dk_at dksX3_repeated_1 9 rfl rfl)
theorem dX3_repeated_34 : decode cX3_repeated 34 = .ok (.aload_n 0, 1) := dk_42 (dk_at dksX3_repeated_1 10 rfl rfl)
theorem dX3_repeated_35 : decode cX3_repeated 35 = .ok (.iconst 1, 1) := dk_4 (dk_at dksX3_repeated_1 11 rfl rfl)
theorem dX3_repeated_36 : decode cX3_repeated 36 = .ok (.iload_n 2, 1) := dk_28 (dk_at dksX3_repeated_1 12 rfl rfl)
theorem dX3_repeated_37 : decode cX3_repeated 37 = .ok (.invokestatic 136, 3) := dk_184 0 136 (dk_at dksX3_repeated_1 13 rfl rfl)
theorem dX3_repeated_40 : decode cX3_repeated 40 = .ok (.bipush 9, 2) := dk_16 9 (dk_at dksX3_repeated_1 16 rfl rfl)
theorem dX3_repeated_42 : decode cX3_repeated 42 = .ok (.invokevirtual 130, 3) := dk_182 0 130 (dk_at dksX3_repeated_1 18 rfl rfl)
theorem dX3_repeated_45 : decode cX3_repeated 45 = .ok (.invokespecial 141, 3) := dk_183 0 141 (dk_at dksX3_repeated_1 21 rfl rfl)
theorem dX3_repeated_48 : decode cX3_repeated 48 = .ok (.areturn, 1) := dk_176 (dk_at dksX3_repeated_2 0 rfl rfl)
abbrev cX3_atom : ByteArray := prog_14_method_15_code
def yX3_atom : MethodName := ⟨RX3, "atom", "()LPromiseTries$Node;"⟩
def dkwX3_atom_3 : List UInt8 := [187, 0, 122, 89, 27, 44, 183, 0, 124, 176]
abbrev dktX3_atom_3 : List UInt8 := dkwX3_atom_3 ++ []
def dkwX3_atom_2 : List UInt8 := [180, 0, 109, 180, 0, 118, 27, 44, 83, 42, 180, 0, 109, 89, 180, 0, 113, 4, 96, 181, 0, 113]
abbrev dktX3_atom_2 : List UInt8 := dkwX3_atom_2 ++ dktX3_atom_3
def dkwX3_atom_1 : List UInt8 := [43, 176, 42, 180, 0, 109, 180, 0, 113, 60, 42, 182, 0, 101, 77, 27, 16, 40, 163, 0, 13, 42]
abbrev dktX3_atom_1 : List UInt8 := dkwX3_atom_1 ++ dktX3_atom_2
def dkwX3_atom_0 : List UInt8 := [42, 16, 123, 182, 0, 69, 153, 0, 20, 42, 182, 0, 85, 42, 182, 0, 105, 76, 42, 16, 125, 182, 0, 91]
abbrev dktX3_atom_0 : List UInt8 := dkwX3_atom_0 ++ dktX3_atom_1
theorem dksX3_atom_0 : cX3_atom.data.toList.drop 0 = dktX3_atom_0 := by decide +kernel
theorem dksX3_atom_1 : cX3_atom.data.toList.drop 24 = dktX3_atom_1 := dk_seg dksX3_atom_0 24 rfl rfl
theorem dksX3_atom_2 : cX3_atom.data.toList.drop 46 = dktX3_atom_2 := dk_seg dksX3_atom_1 22 rfl rfl
theorem dksX3_atom_3 : cX3_atom.data.toList.drop 68 = dktX3_atom_3 := dk_seg dksX3_atom_2 22 rfl rfl
theorem dX3_atom_0 : decode cX3_atom 0 = .ok (.aload_n 0, 1) := dk_42 (dk_at dksX3_atom_0 0 rfl rfl)
theorem dX3_atom_1 : decode cX3_atom 1 = .ok (.bipush 123, 2) := dk_16 123 (dk_at dksX3_atom_0 1 rfl rfl)
theorem dX3_atom_3 : decode cX3_atom 3 = .ok (.invokevirtual 69, 3) := dk_182 0 69 (dk_at dksX3_atom_0 3 rfl rfl)
theorem dX3_atom_6 : decode cX3_atom 6 = .ok (.ifCond .eq 20, 3) := dk_153 0 20 (dk_at dksX3_atom_0 6 rfl rfl)
theorem dX3_atom_9 : decode cX3_atom 9 = .ok (.aload_n 0, 1) := dk_42 (dk_at dksX3_atom_0 9 rfl rfl)
theorem dX3_atom_10 : decode cX3_atom 10 = .ok (.invokevirtual 85, 3) := dk_182 0 85 (dk_at dksX3_atom_0 10 rfl rfl)
theorem dX3_atom_13 : decode cX3_atom 13 = .ok (.aload_n 0, 1) := dk_42 (dk_at dksX3_atom_0 13 rfl rfl)
theorem dX3_atom_14 : decode cX3_atom 14 = .ok (.invokevirtual 105, 3) := dk_182 0 105 (dk_at dksX3_atom_0 14 rfl rfl)
theorem dX3_atom_17 : decode cX3_atom 17 = .ok (.astore_n 1, 1) := dk_76 (dk_at dksX3_atom_0 17 rfl rfl)
theorem dX3_atom_18 : decode cX3_atom 18 = .ok (.aload_n 0, 1) := dk_42 (dk_at dksX3_atom_0 18 rfl rfl)
theorem dX3_atom_19 : decode cX3_atom 19 = .ok (.bipush 125, 2) := dk_16 125 (dk_at dksX3_atom_0 19 rfl rfl)
theorem dX3_atom_21 : decode cX3_atom 21 = .ok (.invokevirtual 91, 3) := dk_182 0 91 (dk_at dksX3_atom_0 21 rfl rfl)
theorem dX3_atom_24 : decode cX3_atom 24 = .ok (.aload_n 1, 1) := dk_43 (dk_at dksX3_atom_1 0 rfl rfl)
theorem dX3_atom_25 : decode cX3_atom 25 = .ok (.areturn, 1) := dk_176 (dk_at dksX3_atom_1 1 rfl rfl)
theorem dX3_atom_26 : decode cX3_atom 26 = .ok (.aload_n 0, 1) := dk_42 (dk_at dksX3_atom_1 2 rfl rfl)
theorem dX3_atom_27 : decode cX3_atom 27 = .ok (.getfield 109, 3) := dk_180 0 109 (dk_at dksX3_atom_1 3 rfl rfl)
theorem dX3_atom_30 : decode cX3_atom 30 = .ok (.getfield 113, 3) := dk_180 0 113 (dk_at dksX3_atom_1 6 rfl rfl)
theorem dX3_atom_33 : decode cX3_atom 33 = .ok (.istore_n 1, 1) := dk_60 (dk_at dksX3_atom_1 9 rfl rfl)
theorem dX3_atom_34 : decode cX3_atom 34 = .ok (.aload_n 0, 1) := dk_42 (dk_at dksX3_atom_1 10 rfl rfl)
theorem dX3_atom_35 : decode cX3_atom 35 = .ok (.invokevirtual 101, 3) := dk_182 0 101 (dk_at dksX3_atom_1 11 rfl rfl)
theorem dX3_atom_38 : decode cX3_atom 38 = .ok (.astore_n 2, 1) := dk_77 (dk_at dksX3_atom_1 14 rfl rfl)
theorem dX3_atom_39 : decode cX3_atom 39 = .ok (.iload_n 1, 1) := dk_27 (dk_at dksX3_atom_1 15 rfl rfl)
theorem dX3_atom_40 : decode cX3_atom 40 = .ok (.bipush 40, 2) := dk_16 40 (dk_at dksX3_atom_1 16 rfl rfl)
theorem dX3_atom_42 : decode cX3_atom 42 = .ok (.if_icmp .gt 13, 3) := dk_163 0 13 (dk_at dksX3_atom_1 18 rfl rfl)
theorem dX3_atom_45 : decode cX3_atom 45 = .ok (.aload_n 0, 1) := dk_42 (dk_at dksX3_atom_1 21 rfl rfl)
theorem dX3_atom_46 : decode cX3_atom 46 = .ok (.getfield 109, 3) := dk_180 0 109 (dk_at dksX3_atom_2 0 rfl rfl)
theorem dX3_atom_49 : decode cX3_atom 49 = .ok (.getfield 118, 3) := dk_180 0 118 (dk_at dksX3_atom_2 3 rfl rfl)
theorem dX3_atom_52 : decode cX3_atom 52 = .ok (.iload_n 1, 1) := dk_27 (dk_at dksX3_atom_2 6 rfl rfl)
theorem dX3_atom_53 : decode cX3_atom 53 = .ok (.aload_n 2, 1) := dk_44 (dk_at dksX3_atom_2 7 rfl rfl)
theorem dX3_atom_54 : decode cX3_atom 54 = .ok (.aastore, 1) := dk_83 (dk_at dksX3_atom_2 8 rfl rfl)
theorem dX3_atom_55 : decode cX3_atom 55 = .ok (.aload_n 0, 1) := dk_42 (dk_at dksX3_atom_2 9 rfl rfl)
theorem dX3_atom_56 : decode cX3_atom 56 = .ok (.getfield 109, 3) := dk_180 0 109 (dk_at dksX3_atom_2 10 rfl rfl)
theorem dX3_atom_59 : decode cX3_atom 59 = .ok (.dup, 1) := dk_89 (dk_at dksX3_atom_2 13 rfl rfl)
theorem dX3_atom_60 : decode cX3_atom 60 = .ok (.getfield 113, 3) := dk_180 0 113 (dk_at dksX3_atom_2 14 rfl rfl)
theorem dX3_atom_63 : decode cX3_atom 63 = .ok (.iconst 1, 1) := dk_4 (dk_at dksX3_atom_2 17 rfl rfl)
theorem dX3_atom_64 : decode cX3_atom 64 = .ok (.iadd, 1) := dk_96 (dk_at dksX3_atom_2 18 rfl rfl)
theorem dX3_atom_65 : decode cX3_atom 65 = .ok (.putfield 113, 3) := dk_181 0 113 (dk_at dksX3_atom_2 19 rfl rfl)
theorem dX3_atom_68 : decode cX3_atom 68 = .ok (.new 122, 3) := dk_187 0 122 (dk_at dksX3_atom_3 0 rfl rfl)
theorem dX3_atom_71 : decode cX3_atom 71 = .ok (.dup, 1) := dk_89 (dk_at dksX3_atom_3 3 rfl rfl)
theorem dX3_atom_72 : decode cX3_atom 72 = .ok (.iload_n 1, 1) := dk_27 (dk_at dksX3_atom_3 4 rfl rfl)
theorem dX3_atom_73 : decode cX3_atom 73 = .ok (.aload_n 2, 1) := dk_44 (dk_at dksX3_atom_3 5 rfl rfl)
theorem dX3_atom_74 : decode cX3_atom 74 = .ok (.invokespecial 124, 3) := dk_183 0 124 (dk_at dksX3_atom_3 6 rfl rfl)
theorem dX3_atom_77 : decode cX3_atom 77 = .ok (.areturn, 1) := dk_176 (dk_at dksX3_atom_3 9 rfl rfl)
abbrev cX3_opens : ByteArray := prog_14_method_10_code
def yX3_opens : MethodName := ⟨RX3, "opens", "()V"⟩
def dkwX3_opens_1 : List UInt8 := [4, 96, 181, 0, 82, 42, 182, 0, 21, 177]
abbrev dktX3_opens_1 : List UInt8 := dkwX3_opens_1 ++ []
def dkwX3_opens_0 : List UInt8 := [42, 42, 180, 0, 82, 16, 8, 162, 0, 7, 4, 167, 0, 4, 3, 7, 182, 0, 58, 42, 89, 180, 0, 82]
abbrev dktX3_opens_0 : List UInt8 := dkwX3_opens_0 ++ dktX3_opens_1
theorem dksX3_opens_0 : cX3_opens.data.toList.drop 0 = dktX3_opens_0 := by decide +kernel
theorem dksX3_opens_1 : cX3_opens.data.toList.drop 24 = dktX3_opens_1 := dk_seg dksX3_opens_0 24 rfl rfl
theorem dX3_opens_0 : decode cX3_opens 0 = .ok (.aload_n 0, 1) := dk_42 (dk_at dksX3_opens_0 0 rfl rfl)
theorem dX3_opens_1 : decode cX3_opens 1 = .ok (.aload_n 0, 1) := dk_42 (dk_at dksX3_opens_0 1 rfl rfl)
theorem dX3_opens_2 : decode cX3_opens 2 = .ok (.getfield 82, 3) := dk_180 0 82 (dk_at dksX3_opens_0 2 rfl rfl)
theorem dX3_opens_5 : decode cX3_opens 5 = .ok (.bipush 8, 2) := dk_16 8 (dk_at dksX3_opens_0 5 rfl rfl)
theorem dX3_opens_7 : decode cX3_opens 7 = .ok (.if_icmp .ge 7, 3) := dk_162 0 7 (dk_at dksX3_opens_0 7 rfl rfl)
theorem dX3_opens_10 : decode cX3_opens 10 = .ok (.iconst 1, 1) := dk_4 (dk_at dksX3_opens_0 10 rfl rfl)
theorem dX3_opens_11 : decode cX3_opens 11 = .ok (.goto 4, 3) := dk_167 0 4 (dk_at dksX3_opens_0 11 rfl rfl)
theorem dX3_opens_14 : decode cX3_opens 14 = .ok (.iconst 0, 1) := dk_3 (dk_at dksX3_opens_0 14 rfl rfl)
theorem dX3_opens_15 : decode cX3_opens 15 = .ok (.iconst 4, 1) := dk_7 (dk_at dksX3_opens_0 15 rfl rfl)
theorem dX3_opens_16 : decode cX3_opens 16 = .ok (.invokevirtual 58, 3) := dk_182 0 58 (dk_at dksX3_opens_0 16 rfl rfl)
theorem dX3_opens_19 : decode cX3_opens 19 = .ok (.aload_n 0, 1) := dk_42 (dk_at dksX3_opens_0 19 rfl rfl)
theorem dX3_opens_20 : decode cX3_opens 20 = .ok (.dup, 1) := dk_89 (dk_at dksX3_opens_0 20 rfl rfl)
theorem dX3_opens_21 : decode cX3_opens 21 = .ok (.getfield 82, 3) := dk_180 0 82 (dk_at dksX3_opens_0 21 rfl rfl)
theorem dX3_opens_24 : decode cX3_opens 24 = .ok (.iconst 1, 1) := dk_4 (dk_at dksX3_opens_1 0 rfl rfl)
theorem dX3_opens_25 : decode cX3_opens 25 = .ok (.iadd, 1) := dk_96 (dk_at dksX3_opens_1 1 rfl rfl)
theorem dX3_opens_26 : decode cX3_opens 26 = .ok (.putfield 82, 3) := dk_181 0 82 (dk_at dksX3_opens_1 2 rfl rfl)
theorem dX3_opens_29 : decode cX3_opens 29 = .ok (.aload_n 0, 1) := dk_42 (dk_at dksX3_opens_1 5 rfl rfl)
theorem dX3_opens_30 : decode cX3_opens 30 = .ok (.invokevirtual 21, 3) := dk_182 0 21 (dk_at dksX3_opens_1 6 rfl rfl)
theorem dX3_opens_33 : decode cX3_opens 33 = .ok (.return_, 1) := dk_177 (dk_at dksX3_opens_1 9 rfl rfl)
abbrev cX3_closes : ByteArray := prog_14_method_11_code
def yX3_closes : MethodName := ⟨RX3, "closes", "(I)V"⟩
def dkwX3_closes_1 : List UInt8 := [177]
abbrev dktX3_closes_1 : List UInt8 := dkwX3_closes_1 ++ []
def dkwX3_closes_0 : List UInt8 := [42, 42, 27, 182, 0, 69, 5, 182, 0, 58, 42, 89, 180, 0, 82, 4, 100, 181, 0, 82, 42, 182, 0, 21]
abbrev dktX3_closes_0 : List UInt8 := dkwX3_closes_0 ++ dktX3_closes_1
theorem dksX3_closes_0 : cX3_closes.data.toList.drop 0 = dktX3_closes_0 := by decide +kernel
theorem dksX3_closes_1 : cX3_closes.data.toList.drop 24 = dktX3_closes_1 := dk_seg dksX3_closes_0 24 rfl rfl
theorem dX3_closes_0 : decode cX3_closes 0 = .ok (.aload_n 0, 1) := dk_42 (dk_at dksX3_closes_0 0 rfl rfl)
theorem dX3_closes_1 : decode cX3_closes 1 = .ok (.aload_n 0, 1) := dk_42 (dk_at dksX3_closes_0 1 rfl rfl)
theorem dX3_closes_2 : decode cX3_closes 2 = .ok (.iload_n 1, 1) := dk_27 (dk_at dksX3_closes_0 2 rfl rfl)
theorem dX3_closes_3 : decode cX3_closes 3 = .ok (.invokevirtual 69, 3) := dk_182 0 69 (dk_at dksX3_closes_0 3 rfl rfl)
theorem dX3_closes_6 : decode cX3_closes 6 = .ok (.iconst 2, 1) := dk_5 (dk_at dksX3_closes_0 6 rfl rfl)
theorem dX3_closes_7 : decode cX3_closes 7 = .ok (.invokevirtual 58, 3) := dk_182 0 58 (dk_at dksX3_closes_0 7 rfl rfl)
theorem dX3_closes_10 : decode cX3_closes 10 = .ok (.aload_n 0, 1) := dk_42 (dk_at dksX3_closes_0 10 rfl rfl)
theorem dX3_closes_11 : decode cX3_closes 11 = .ok (.dup, 1) := dk_89 (dk_at dksX3_closes_0 11 rfl rfl)
theorem dX3_closes_12 : decode cX3_closes 12 = .ok (.getfield 82, 3) := dk_180 0 82 (dk_at dksX3_closes_0 12 rfl rfl)
theorem dX3_closes_15 : decode cX3_closes 15 = .ok (.iconst 1, 1) := dk_4 (dk_at dksX3_closes_0 15 rfl rfl)
theorem dX3_closes_16 : decode cX3_closes 16 = .ok (.isub, 1) := dk_100 (dk_at dksX3_closes_0 16 rfl rfl)
theorem dX3_closes_17 : decode cX3_closes 17 = .ok (.putfield 82, 3) := dk_181 0 82 (dk_at dksX3_closes_0 17 rfl rfl)
theorem dX3_closes_20 : decode cX3_closes 20 = .ok (.aload_n 0, 1) := dk_42 (dk_at dksX3_closes_0 20 rfl rfl)
theorem dX3_closes_21 : decode cX3_closes 21 = .ok (.invokevirtual 21, 3) := dk_182 0 21 (dk_at dksX3_closes_0 21 rfl rfl)
theorem dX3_closes_24 : decode cX3_closes 24 = .ok (.return_, 1) := dk_177 (dk_at dksX3_closes_1 0 rfl rfl)
abbrev cX3_condition : ByteArray := prog_14_method_9_code
def yX3_condition : MethodName := ⟨RX3, "condition", "()LPromiseTries$Holds;"⟩
def dkwX3_condition_3 : List UInt8 := [42, 182, 0, 76, 77, 27, 153, 0, 12, 44, 186, 0, 79, 0, 0, 167, 0, 4, 44, 176]
abbrev dktX3_condition_3 : List UInt8 := dkwX3_condition_3 ++ []
def dkwX3_condition_2 : List UInt8 := [4, 167, 0, 4, 3, 5, 182, 0, 58, 42, 180, 0, 33, 4, 160, 0, 10, 42, 182, 0, 72, 167, 0, 7]
abbrev dktX3_condition_2 : List UInt8 := dkwX3_condition_2 ++ dktX3_condition_3
def dkwX3_condition_1 : List UInt8 := [182, 0, 21, 167, 255, 233, 42, 42, 180, 0, 33, 4, 159, 0, 12, 42, 16, 40, 182, 0, 69, 153, 0, 7]
abbrev dktX3_condition_1 : List UInt8 := dkwX3_condition_1 ++ dktX3_condition_2
def dkwX3_condition_0 : List UInt8 := [3, 60, 42, 16, 33, 182, 0, 69, 153, 0, 20, 27, 154, 0, 7, 4, 167, 0, 4, 3, 60, 42]
abbrev dktX3_condition_0 : List UInt8 := dkwX3_condition_0 ++ dktX3_condition_1
theorem dksX3_condition_0 : cX3_condition.data.toList.drop 0 = dktX3_condition_0 := by decide +kernel
theorem dksX3_condition_1 : cX3_condition.data.toList.drop 22 = dktX3_condition_1 := dk_seg dksX3_condition_0 22 rfl rfl
theorem dksX3_condition_2 : cX3_condition.data.toList.drop 46 = dktX3_condition_2 := dk_seg dksX3_condition_1 24 rfl rfl
theorem dksX3_condition_3 : cX3_condition.data.toList.drop 70 = dktX3_condition_3 := dk_seg dksX3_condition_2 24 rfl rfl
theorem dX3_condition_0 : decode cX3_condition 0 = .ok (.iconst 0, 1) := dk_3 (dk_at dksX3_condition_0 0 rfl rfl)
theorem dX3_condition_1 : decode cX3_condition 1 = .ok (.istore_n 1, 1) := dk_60 (dk_at dksX3_condition_0 1 rfl rfl)
theorem dX3_condition_2 : decode cX3_condition 2 = .ok (.aload_n 0, 1) := dk_42 (dk_at dksX3_condition_0 2 rfl rfl)
theorem dX3_condition_3 : decode cX3_condition 3 = .ok (.bipush 33, 2) := dk_16 33 (dk_at dksX3_condition_0 3 rfl rfl)
theorem dX3_condition_5 : decode cX3_condition 5 = .ok (.invokevirtual 69, 3) := dk_182 0 69 (dk_at dksX3_condition_0 5 rfl rfl)
theorem dX3_condition_8 : decode cX3_condition 8 = .ok (.ifCond .eq 20, 3) := dk_153 0 20 (dk_at dksX3_condition_0 8 rfl rfl)
theorem dX3_condition_11 : decode cX3_condition 11 = .ok (.iload_n 1, 1) := dk_27 (dk_at dksX3_condition_0 11 rfl rfl)
theorem dX3_condition_12 : decode cX3_condition 12 = .ok (.ifCond .ne 7, 3) := dk_154 0 7 (dk_at dksX3_condition_0 12 rfl rfl)
theorem dX3_condition_15 : decode cX3_condition 15 = .ok (.iconst 1, 1) := dk_4 (dk_at dksX3_condition_0 15 rfl rfl)
theorem dX3_condition_16 : decode cX3_condition 16 = .ok (.goto 4, 3) := dk_167 0 4 (dk_at dksX3_condition_0 16 rfl rfl)
theorem dX3_condition_19 : decode cX3_condition 19 = .ok (.iconst 0, 1) := dk_3 (dk_at dksX3_condition_0 19 rfl rfl)
theorem dX3_condition_20 : decode cX3_condition 20 = .ok (.istore_n 1, 1) := dk_60 (dk_at dksX3_condition_0 20 rfl rfl)
theorem dX3_condition_21 : decode cX3_condition 21 = .ok (.aload_n 0, 1) := dk_42 (dk_at dksX3_condition_0 21 rfl rfl)
theorem dX3_condition_22 : decode cX3_condition 22 = .ok (.invokevirtual 21, 3) := dk_182 0 21 (dk_at dksX3_condition_1 0 rfl rfl)
theorem dX3_condition_25 : decode cX3_condition 25 = .ok (.goto (-23), 3) := dk_167 255 233 (dk_at dksX3_condition_1 3 rfl rfl)
theorem dX3_condition_28 : decode cX3_condition 28 = .ok (.aload_n 0, 1) := dk_42 (dk_at dksX3_condition_1 6 rfl rfl)
theorem dX3_condition_29 : decode cX3_condition 29 = .ok (.aload_n 0, 1) := dk_42 (dk_at dksX3_condition_1 7 rfl rfl)
theorem dX3_condition_30 : decode cX3_condition 30 = .ok (.getfield 33, 3) := dk_180 0 33 (dk_at dksX3_condition_1 8 rfl rfl)
theorem dX3_condition_33 : decode cX3_condition 33 = .ok (.iconst 1, 1) := dk_4 (dk_at dksX3_condition_1 11 rfl rfl)
theorem dX3_condition_34 : decode cX3_condition 34 = .ok (.if_icmp .eq 12, 3) := dk_159 0 12 (dk_at dksX3_condition_1 12 rfl rfl)
theorem dX3_condition_37 : decode cX3_condition 37 = .ok (.aload_n 0, 1) := dk_42 (dk_at dksX3_condition_1 15 rfl rfl)
theorem dX3_condition_38 : decode cX3_condition 38 = .ok (.bipush 40, 2) := dk_16 40 (dk_at dksX3_condition_1 16 rfl rfl)
theorem dX3_condition_40 : decode cX3_condition 40 = .ok (.invokevirtual 69, 3) := dk_182 0 69 (dk_at dksX3_condition_1 18 rfl rfl)
theorem dX3_condition_43 : decode cX3_condition 43 = .ok (.ifCond .eq 7, 3) := dk_153 0 7 (dk_at dksX3_condition_1 21 rfl rfl)
theorem dX3_condition_46 : decode cX3_condition 46 = .ok (.iconst 1, 1) := dk_4 (dk_at dksX3_condition_2 0 rfl rfl)
theorem dX3_condition_47 : decode cX3_condition 47 = .ok (.goto 4, 3) := dk_167 0 4 (dk_at dksX3_condition_2 1 rfl rfl)
theorem dX3_condition_50 : decode cX3_condition 50 = .ok (.iconst 0, 1) := dk_3 (dk_at dksX3_condition_2 4 rfl rfl)
theorem dX3_condition_51 : decode cX3_condition 51 = .ok (.iconst 2, 1) := dk_5 (dk_at dksX3_condition_2 5 rfl rfl)
theorem dX3_condition_52 : decode cX3_condition 52 = .ok (.invokevirtual 58, 3) := dk_182 0 58 (dk_at dksX3_condition_2 6 rfl rfl)
theorem dX3_condition_55 : decode cX3_condition 55 = .ok (.aload_n 0, 1) := dk_42 (dk_at dksX3_condition_2 9 rfl rfl)
theorem dX3_condition_56 : decode cX3_condition 56 = .ok (.getfield 33, 3) := dk_180 0 33 (dk_at dksX3_condition_2 10 rfl rfl)
theorem dX3_condition_59 : decode cX3_condition 59 = .ok (.iconst 1, 1) := dk_4 (dk_at dksX3_condition_2 13 rfl rfl)
theorem dX3_condition_60 : decode cX3_condition 60 = .ok (.if_icmp .ne 10, 3) := dk_160 0 10 (dk_at dksX3_condition_2 14 rfl rfl)
theorem dX3_condition_63 : decode cX3_condition 63 = .ok (.aload_n 0, 1) := dk_42 (dk_at dksX3_condition_2 17 rfl rfl)
theorem dX3_condition_64 : decode cX3_condition 64 = .ok (.invokevirtual 72, 3) := dk_182 0 72 (dk_at dksX3_condition_2 18 rfl rfl)
theorem dX3_condition_67 : decode cX3_condition 67 = .ok (.goto 7, 3) := dk_167 0 7 (dk_at dksX3_condition_2 21 rfl rfl)
theorem dX3_condition_70 : decode cX3_condition 70 = .ok (.aload_n 0, 1) := dk_42 (dk_at dksX3_condition_3 0 rfl rfl)
theorem dX3_condition_71 : decode cX3_condition 71 = .ok (.invokevirtual 76, 3) := dk_182 0 76 (dk_at dksX3_condition_3 1 rfl rfl)
theorem dX3_condition_74 : decode cX3_condition 74 = .ok (.astore_n 2, 1) := dk_77 (dk_at dksX3_condition_3 4 rfl rfl)
theorem dX3_condition_75 : decode cX3_condition 75 = .ok (.iload_n 1, 1) := dk_27 (dk_at dksX3_condition_3 5 rfl rfl)
theorem dX3_condition_76 : decode cX3_condition 76 = .ok (.ifCond .eq 12, 3) := dk_153 0 12 (dk_at dksX3_condition_3 6 rfl rfl)
theorem dX3_condition_79 : decode cX3_condition 79 = .ok (.aload_n 2, 1) := dk_44 (dk_at dksX3_condition_3 9 rfl rfl)
theorem dX3_condition_80 : decode cX3_condition 80 = .ok (.invokedynamic 79, 5) := by decide +kernel
theorem dX3_condition_85 : decode cX3_condition 85 = .ok (.goto 4, 3) := dk_167 0 4 (dk_at dksX3_condition_3 15 rfl rfl)
theorem dX3_condition_88 : decode cX3_condition 88 = .ok (.aload_n 2, 1) := dk_44 (dk_at dksX3_condition_3 18 rfl rfl)
theorem dX3_condition_89 : decode cX3_condition 89 = .ok (.areturn, 1) := dk_176 (dk_at dksX3_condition_3 19 rfl rfl)
abbrev cX3_wire : ByteArray := prog_14_method_8_code
def yX3_wire : MethodName := ⟨RX3, "wire", "()LPromiseTries$Holds;"⟩
def dkwX3_wire_0 : List UInt8 := [42, 180, 0, 36, 16, 97, 100, 60, 42, 182, 0, 21, 27, 186, 0, 66, 0, 0, 176]
abbrev dktX3_wire_0 : List UInt8 := dkwX3_wire_0 ++ []
theorem dksX3_wire_0 : cX3_wire.data.toList.drop 0 = dktX3_wire_0 := by decide +kernel
theorem dX3_wire_0 : decode cX3_wire 0 = .ok (.aload_n 0, 1) := dk_42 (dk_at dksX3_wire_0 0 rfl rfl)
theorem dX3_wire_1 : decode cX3_wire 1 = .ok (.getfield 36, 3) := dk_180 0 36 (dk_at dksX3_wire_0 1 rfl rfl)
theorem dX3_wire_4 : decode cX3_wire 4 = .ok (.bipush 97, 2) := dk_16 97 (dk_at dksX3_wire_0 4 rfl rfl)
theorem dX3_wire_6 : decode cX3_wire 6 = .ok (.isub, 1) := dk_100 (dk_at dksX3_wire_0 6 rfl rfl)
theorem dX3_wire_7 : decode cX3_wire 7 = .ok (.istore_n 1, 1) := dk_60 (dk_at dksX3_wire_0 7 rfl rfl)
theorem dX3_wire_8 : decode cX3_wire 8 = .ok (.aload_n 0, 1) := dk_42 (dk_at dksX3_wire_0 8 rfl rfl)
theorem dX3_wire_9 : decode cX3_wire 9 = .ok (.invokevirtual 21, 3) := dk_182 0 21 (dk_at dksX3_wire_0 9 rfl rfl)
theorem dX3_wire_12 : decode cX3_wire 12 = .ok (.iload_n 1, 1) := dk_27 (dk_at dksX3_wire_0 12 rfl rfl)
theorem dX3_wire_13 : decode cX3_wire 13 = .ok (.invokedynamic 66, 5) := by decide +kernel
theorem dX3_wire_18 : decode cX3_wire 18 = .ok (.areturn, 1) := dk_176 (dk_at dksX3_wire_0 18 rfl rfl)
abbrev cX3_lambda_wire_0 : ByteArray := prog_14_method_25_code
def yX3_lambda_wire_0 : MethodName := ⟨RX3, "lambda$wire$0", "(II)Z"⟩
def dkwX3_lambda_wire_0_0 : List UInt8 := [27, 26, 122, 4, 126, 4, 160, 0, 7, 4, 167, 0, 4, 3, 172]
abbrev dktX3_lambda_wire_0_0 : List UInt8 := dkwX3_lambda_wire_0_0 ++ []
theorem dksX3_lambda_wire_0_0 : cX3_lambda_wire_0.data.toList.drop 0 = dktX3_lambda_wire_0_0 := by decide +kernel
theorem dX3_lambda_wire_0_0 : decode cX3_lambda_wire_0 0 = .ok (.iload_n 1, 1) := dk_27 (dk_at dksX3_lambda_wire_0_0 0 rfl rfl)
theorem dX3_lambda_wire_0_1 : decode cX3_lambda_wire_0 1 = .ok (.iload_n 0, 1) := dk_26 (dk_at dksX3_lambda_wire_0_0 1 rfl rfl)
theorem dX3_lambda_wire_0_2 : decode cX3_lambda_wire_0 2 = .ok (.ishr, 1) := dk_122 (dk_at dksX3_lambda_wire_0_0 2 rfl rfl)
theorem dX3_lambda_wire_0_3 : decode cX3_lambda_wire_0 3 = .ok (.iconst 1, 1) := dk_4 (dk_at dksX3_lambda_wire_0_0 3 rfl rfl)
theorem dX3_lambda_wire_0_4 : decode cX3_lambda_wire_0 4 = .ok (.iand, 1) := dk_126 (dk_at dksX3_lambda_wire_0_0 4 rfl rfl)
theorem dX3_lambda_wire_0_5 : decode cX3_lambda_wire_0 5 = .ok (.iconst 1, 1) := dk_4 (dk_at dksX3_lambda_wire_0_0 5 rfl rfl)
theorem dX3_lambda_wire_0_6 : decode cX3_lambda_wire_0 6 = .ok (.if_icmp .ne 7, 3) := dk_160 0 7 (dk_at dksX3_lambda_wire_0_0 6 rfl rfl)
theorem dX3_lambda_wire_0_9 : decode cX3_lambda_wire_0 9 = .ok (.iconst 1, 1) := dk_4 (dk_at dksX3_lambda_wire_0_0 9 rfl rfl)
theorem dX3_lambda_wire_0_10 : decode cX3_lambda_wire_0 10 = .ok (.goto 4, 3) := dk_167 0 4 (dk_at dksX3_lambda_wire_0_0 10 rfl rfl)
theorem dX3_lambda_wire_0_13 : decode cX3_lambda_wire_0 13 = .ok (.iconst 0, 1) := dk_3 (dk_at dksX3_lambda_wire_0_0 13 rfl rfl)
theorem dX3_lambda_wire_0_14 : decode cX3_lambda_wire_0 14 = .ok (.ireturn, 1) := dk_172 (dk_at dksX3_lambda_wire_0_0 14 rfl rfl)
abbrev cX3_bracket : ByteArray := prog_14_method_12_code
def yX3_bracket : MethodName := ⟨RX3, "bracket", "()LPromiseTries$Holds;"⟩
def dkwX3_bracket_0 : List UInt8 := [42, 182, 0, 85, 42, 182, 0, 88, 76, 42, 16, 41, 182, 0, 91, 43, 176]
abbrev dktX3_bracket_0 : List UInt8 := dkwX3_bracket_0 ++ []
theorem dksX3_bracket_0 : cX3_bracket.data.toList.drop 0 = dktX3_bracket_0 := by decide +kernel
theorem dX3_bracket_0 : decode cX3_bracket 0 = .ok (.aload_n 0, 1) := dk_42 (dk_at dksX3_bracket_0 0 rfl rfl)
theorem dX3_bracket_1 : decode cX3_bracket 1 = .ok (.invokevirtual 85, 3) := dk_182 0 85 (dk_at dksX3_bracket_0 1 rfl rfl)
theorem dX3_bracket_4 : decode cX3_bracket 4 = .ok (.aload_n 0, 1) := dk_42 (dk_at dksX3_bracket_0 4 rfl rfl)
theorem dX3_bracket_5 : decode cX3_bracket 5 = .ok (.invokevirtual 88, 3) := dk_182 0 88 (dk_at dksX3_bracket_0 5 rfl rfl)
theorem dX3_bracket_8 : decode cX3_bracket 8 = .ok (.astore_n 1, 1) := dk_76 (dk_at dksX3_bracket_0 8 rfl rfl)
theorem dX3_bracket_9 : decode cX3_bracket 9 = .ok (.aload_n 0, 1) := dk_42 (dk_at dksX3_bracket_0 9 rfl rfl)
theorem dX3_bracket_10 : decode cX3_bracket 10 = .ok (.bipush 41, 2) := dk_16 41 (dk_at dksX3_bracket_0 10 rfl rfl)
theorem dX3_bracket_12 : decode cX3_bracket 12 = .ok (.invokevirtual 91, 3) := dk_182 0 91 (dk_at dksX3_bracket_0 12 rfl rfl)
theorem dX3_bracket_15 : decode cX3_bracket 15 = .ok (.aload_n 1, 1) := dk_43 (dk_at dksX3_bracket_0 15 rfl rfl)
theorem dX3_bracket_16 : decode cX3_bracket 16 = .ok (.areturn, 1) := dk_176 (dk_at dksX3_bracket_0 16 rfl rfl)
abbrev cX3_ors : ByteArray := prog_14_method_13_code
def yX3_ors : MethodName := ⟨RX3, "ors", "()LPromiseTries$Holds;"⟩
def dkwX3_ors_1 : List UInt8 := [78, 44, 45, 186, 0, 98, 0, 0, 76, 167, 255, 228, 43, 176]
abbrev dktX3_ors_1 : List UInt8 := dkwX3_ors_1 ++ []
def dkwX3_ors_0 : List UInt8 := [42, 182, 0, 95, 76, 42, 16, 124, 182, 0, 69, 153, 0, 25, 42, 182, 0, 21, 43, 77, 42, 182, 0, 95]
abbrev dktX3_ors_0 : List UInt8 := dkwX3_ors_0 ++ dktX3_ors_1
theorem dksX3_ors_0 : cX3_ors.data.toList.drop 0 = dktX3_ors_0 := by decide +kernel
theorem dksX3_ors_1 : cX3_ors.data.toList.drop 24 = dktX3_ors_1 := dk_seg dksX3_ors_0 24 rfl rfl
theorem dX3_ors_0 : decode cX3_ors 0 = .ok (.aload_n 0, 1) := dk_42 (dk_at dksX3_ors_0 0 rfl rfl)
theorem dX3_ors_1 : decode cX3_ors 1 = .ok (.invokevirtual 95, 3) := dk_182 0 95 (dk_at dksX3_ors_0 1 rfl rfl)
theorem dX3_ors_4 : decode cX3_ors 4 = .ok (.astore_n 1, 1) := dk_76 (dk_at dksX3_ors_0 4 rfl rfl)
theorem dX3_ors_5 : decode cX3_ors 5 = .ok (.aload_n 0, 1) := dk_42 (dk_at dksX3_ors_0 5 rfl rfl)
theorem dX3_ors_6 : decode cX3_ors 6 = .ok (.bipush 124, 2) := dk_16 124 (dk_at dksX3_ors_0 6 rfl rfl)
theorem dX3_ors_8 : decode cX3_ors 8 = .ok (.invokevirtual 69, 3) := dk_182 0 69 (dk_at dksX3_ors_0 8 rfl rfl)
theorem dX3_ors_11 : decode cX3_ors 11 = .ok (.ifCond .eq 25, 3) := dk_153 0 25 (dk_at dksX3_ors_0 11 rfl rfl)
theorem dX3_ors_14 : decode cX3_ors 14 = .ok (.aload_n 0, 1) := dk_42 (dk_at dksX3_ors_0 14 rfl rfl)
theorem dX3_ors_15 : decode cX3_ors 15 = .ok (.invokevirtual 21, 3) := dk_182 0 21 (dk_at dksX3_ors_0 15 rfl rfl)
theorem dX3_ors_18 : decode cX3_ors 18 = .ok (.aload_n 1, 1) := dk_43 (dk_at dksX3_ors_0 18 rfl rfl)
theorem dX3_ors_19 : decode cX3_ors 19 = .ok (.astore_n 2, 1) := dk_77 (dk_at dksX3_ors_0 19 rfl rfl)
theorem dX3_ors_20 : decode cX3_ors 20 = .ok (.aload_n 0, 1) := dk_42 (dk_at dksX3_ors_0 20 rfl rfl)
theorem dX3_ors_21 : decode cX3_ors 21 = .ok (.invokevirtual 95, 3) := dk_182 0 95 (dk_at dksX3_ors_0 21 rfl rfl)
theorem dX3_ors_24 : decode cX3_ors 24 = .ok (.astore_n 3, 1) := dk_78 (dk_at dksX3_ors_1 0 rfl rfl)
theorem dX3_ors_25 : decode cX3_ors 25 = .ok (.aload_n 2, 1) := dk_44 (dk_at dksX3_ors_1 1 rfl rfl)
theorem dX3_ors_26 : decode cX3_ors 26 = .ok (.aload_n 3, 1) := dk_45 (dk_at dksX3_ors_1 2 rfl rfl)
theorem dX3_ors_27 : decode cX3_ors 27 = .ok (.invokedynamic 98, 5) := by decide +kernel
theorem dX3_ors_32 : decode cX3_ors 32 = .ok (.astore_n 1, 1) := dk_76 (dk_at dksX3_ors_1 8 rfl rfl)
theorem dX3_ors_33 : decode cX3_ors 33 = .ok (.goto (-28), 3) := dk_167 255 228 (dk_at dksX3_ors_1 9 rfl rfl)
theorem dX3_ors_36 : decode cX3_ors 36 = .ok (.aload_n 1, 1) := dk_43 (dk_at dksX3_ors_1 12 rfl rfl)
theorem dX3_ors_37 : decode cX3_ors 37 = .ok (.areturn, 1) := dk_176 (dk_at dksX3_ors_1 13 rfl rfl)
abbrev cX3_ands : ByteArray := prog_14_method_14_code
def yX3_ands : MethodName := ⟨RX3, "ands", "()LPromiseTries$Holds;"⟩
def dkwX3_ands_1 : List UInt8 := [78, 44, 45, 186, 0, 104, 0, 0, 76, 167, 255, 228, 43, 176]
abbrev dktX3_ands_1 : List UInt8 := dkwX3_ands_1 ++ []
def dkwX3_ands_0 : List UInt8 := [42, 182, 0, 101, 76, 42, 16, 38, 182, 0, 69, 153, 0, 25, 42, 182, 0, 21, 43, 77, 42, 182, 0, 101]
abbrev dktX3_ands_0 : List UInt8 := dkwX3_ands_0 ++ dktX3_ands_1
theorem dksX3_ands_0 : cX3_ands.data.toList.drop 0 = dktX3_ands_0 := by decide +kernel
theorem dksX3_ands_1 : cX3_ands.data.toList.drop 24 = dktX3_ands_1 := dk_seg dksX3_ands_0 24 rfl rfl
theorem dX3_ands_0 : decode cX3_ands 0 = .ok (.aload_n 0, 1) := dk_42 (dk_at dksX3_ands_0 0 rfl rfl)
theorem dX3_ands_1 : decode cX3_ands 1 = .ok (.invokevirtual 101, 3) := dk_182 0 101 (dk_at dksX3_ands_0 1 rfl rfl)
theorem dX3_ands_4 : decode cX3_ands 4 = .ok (.astore_n 1, 1) := dk_76 (dk_at dksX3_ands_0 4 rfl rfl)
theorem dX3_ands_5 : decode cX3_ands 5 = .ok (.aload_n 0, 1) := dk_42 (dk_at dksX3_ands_0 5 rfl rfl)
theorem dX3_ands_6 : decode cX3_ands 6 = .ok (.bipush 38, 2) := dk_16 38 (dk_at dksX3_ands_0 6 rfl rfl)
theorem dX3_ands_8 : decode cX3_ands 8 = .ok (.invokevirtual 69, 3) := dk_182 0 69 (dk_at dksX3_ands_0 8 rfl rfl)
theorem dX3_ands_11 : decode cX3_ands 11 = .ok (.ifCond .eq 25, 3) := dk_153 0 25 (dk_at dksX3_ands_0 11 rfl rfl)
theorem dX3_ands_14 : decode cX3_ands 14 = .ok (.aload_n 0, 1) := dk_42 (dk_at dksX3_ands_0 14 rfl rfl)
theorem dX3_ands_15 : decode cX3_ands 15 = .ok (.invokevirtual 21, 3) := dk_182 0 21 (dk_at dksX3_ands_0 15 rfl rfl)
theorem dX3_ands_18 : decode cX3_ands 18 = .ok (.aload_n 1, 1) := dk_43 (dk_at dksX3_ands_0 18 rfl rfl)
theorem dX3_ands_19 : decode cX3_ands 19 = .ok (.astore_n 2, 1) := dk_77 (dk_at dksX3_ands_0 19 rfl rfl)
theorem dX3_ands_20 : decode cX3_ands 20 = .ok (.aload_n 0, 1) := dk_42 (dk_at dksX3_ands_0 20 rfl rfl)
theorem dX3_ands_21 : decode cX3_ands 21 = .ok (.invokevirtual 101, 3) := dk_182 0 101 (dk_at dksX3_ands_0 21 rfl rfl)
theorem dX3_ands_24 : decode cX3_ands 24 = .ok (.astore_n 3, 1) := dk_78 (dk_at dksX3_ands_1 0 rfl rfl)
theorem dX3_ands_25 : decode cX3_ands 25 = .ok (.aload_n 2, 1) := dk_44 (dk_at dksX3_ands_1 1 rfl rfl)
theorem dX3_ands_26 : decode cX3_ands 26 = .ok (.aload_n 3, 1) := dk_45 (dk_at dksX3_ands_1 2 rfl rfl)
theorem dX3_ands_27 : decode cX3_ands 27 = .ok (.invokedynamic 104, 5) := by decide +kernel
theorem dX3_ands_32 : decode cX3_ands 32 = .ok (.astore_n 1, 1) := dk_76 (dk_at dksX3_ands_1 8 rfl rfl)
theorem dX3_ands_33 : decode cX3_ands 33 = .ok (.goto (-28), 3) := dk_167 255 228 (dk_at dksX3_ands_1 9 rfl rfl)
theorem dX3_ands_36 : decode cX3_ands 36 = .ok (.aload_n 1, 1) := dk_43 (dk_at dksX3_ands_1 12 rfl rfl)
theorem dX3_ands_37 : decode cX3_ands 37 = .ok (.areturn, 1) := dk_176 (dk_at dksX3_ands_1 13 rfl rfl)
abbrev cX3_lambda_ands_3 : ByteArray := prog_14_method_22_code
def yX3_lambda_ands_3 : MethodName := ⟨RX3, "lambda$ands$3", "(LPromiseTries$Holds;LPromiseTries$Holds;I)Z"⟩
def dkwX3_lambda_ands_3_1 : List UInt8 := [3, 172]
abbrev dktX3_lambda_ands_3_1 : List UInt8 := dkwX3_lambda_ands_3_1 ++ []
def dkwX3_lambda_ands_3_0 : List UInt8 := [42, 28, 185, 0, 199, 2, 0, 153, 0, 17, 43, 28, 185, 0, 199, 2, 0, 153, 0, 7, 4, 167, 0, 4]
abbrev dktX3_lambda_ands_3_0 : List UInt8 := dkwX3_lambda_ands_3_0 ++ dktX3_lambda_ands_3_1
theorem dksX3_lambda_ands_3_0 : cX3_lambda_ands_3.data.toList.drop 0 = dktX3_lambda_ands_3_0 := by decide +kernel
theorem dksX3_lambda_ands_3_1 : cX3_lambda_ands_3.data.toList.drop 24 = dktX3_lambda_ands_3_1 := dk_seg dksX3_lambda_ands_3_0 24 rfl rfl
theorem dX3_lambda_ands_3_0 : decode cX3_lambda_ands_3 0 = .ok (.aload_n 0, 1) := dk_42 (dk_at dksX3_lambda_ands_3_0 0 rfl rfl)
theorem dX3_lambda_ands_3_1 : decode cX3_lambda_ands_3 1 = .ok (.iload_n 2, 1) := dk_28 (dk_at dksX3_lambda_ands_3_0 1 rfl rfl)
theorem dX3_lambda_ands_3_2 : decode cX3_lambda_ands_3 2 = .ok (.invokeinterface 199 2, 5) := by decide +kernel
theorem dX3_lambda_ands_3_7 : decode cX3_lambda_ands_3 7 = .ok (.ifCond .eq 17, 3) := dk_153 0 17 (dk_at dksX3_lambda_ands_3_0 7 rfl rfl)
theorem dX3_lambda_ands_3_10 : decode cX3_lambda_ands_3 10 = .ok (.aload_n 1, 1) := dk_43 (dk_at dksX3_lambda_ands_3_0 10 rfl rfl)
theorem dX3_lambda_ands_3_11 : decode cX3_lambda_ands_3 11 = .ok (.iload_n 2, 1) := dk_28 (dk_at dksX3_lambda_ands_3_0 11 rfl rfl)
theorem dX3_lambda_ands_3_12 : decode cX3_lambda_ands_3 12 = .ok (.invokeinterface 199 2, 5) := by decide +kernel
theorem dX3_lambda_ands_3_17 : decode cX3_lambda_ands_3 17 = .ok (.ifCond .eq 7, 3) := dk_153 0 7 (dk_at dksX3_lambda_ands_3_0 17 rfl rfl)
theorem dX3_lambda_ands_3_20 : decode cX3_lambda_ands_3 20 = .ok (.iconst 1, 1) := dk_4 (dk_at dksX3_lambda_ands_3_0 20 rfl rfl)
theorem dX3_lambda_ands_3_21 : decode cX3_lambda_ands_3 21 = .ok (.goto 4, 3) := dk_167 0 4 (dk_at dksX3_lambda_ands_3_0 21 rfl rfl)
theorem dX3_lambda_ands_3_24 : decode cX3_lambda_ands_3 24 = .ok (.iconst 0, 1) := dk_3 (dk_at dksX3_lambda_ands_3_1 0 rfl rfl)
theorem dX3_lambda_ands_3_25 : decode cX3_lambda_ands_3 25 = .ok (.ireturn, 1) := dk_172 (dk_at dksX3_lambda_ands_3_1 1 rfl rfl)
abbrev cX3_lambda_ors_2 : ByteArray := prog_14_method_23_code
def yX3_lambda_ors_2 : MethodName := ⟨RX3, "lambda$ors$2", "(LPromiseTries$Holds;LPromiseTries$Holds;I)Z"⟩
def dkwX3_lambda_ors_2_1 : List UInt8 := [3, 172]
abbrev dktX3_lambda_ors_2_1 : List UInt8 := dkwX3_lambda_ors_2_1 ++ []
def dkwX3_lambda_ors_2_0 : List UInt8 := [42, 28, 185, 0, 199, 2, 0, 154, 0, 13, 43, 28, 185, 0, 199, 2, 0, 153, 0, 7, 4, 167, 0, 4]
abbrev dktX3_lambda_ors_2_0 : List UInt8 := dkwX3_lambda_ors_2_0 ++ dktX3_lambda_ors_2_1
theorem dksX3_lambda_ors_2_0 : cX3_lambda_ors_2.data.toList.drop 0 = dktX3_lambda_ors_2_0 := by decide +kernel
theorem dksX3_lambda_ors_2_1 : cX3_lambda_ors_2.data.toList.drop 24 = dktX3_lambda_ors_2_1 := dk_seg dksX3_lambda_ors_2_0 24 rfl rfl
theorem dX3_lambda_ors_2_0 : decode cX3_lambda_ors_2 0 = .ok (.aload_n 0, 1) := dk_42 (dk_at dksX3_lambda_ors_2_0 0 rfl rfl)
theorem dX3_lambda_ors_2_1 : decode cX3_lambda_ors_2 1 = .ok (.iload_n 2, 1) := dk_28 (dk_at dksX3_lambda_ors_2_0 1 rfl rfl)
theorem dX3_lambda_ors_2_2 : decode cX3_lambda_ors_2 2 = .ok (.invokeinterface 199 2, 5) := by decide +kernel
theorem dX3_lambda_ors_2_7 : decode cX3_lambda_ors_2 7 = .ok (.ifCond .ne 13, 3) := dk_154 0 13 (dk_at dksX3_lambda_ors_2_0 7 rfl rfl)
theorem dX3_lambda_ors_2_10 : decode cX3_lambda_ors_2 10 = .ok (.aload_n 1, 1) := dk_43 (dk_at dksX3_lambda_ors_2_0 10 rfl rfl)
theorem dX3_lambda_ors_2_11 : decode cX3_lambda_ors_2 11 = .ok (.iload_n 2, 1) := dk_28 (dk_at dksX3_lambda_ors_2_0 11 rfl rfl)
theorem dX3_lambda_ors_2_12 : decode cX3_lambda_ors_2 12 = .ok (.invokeinterface 199 2, 5) := by decide +kernel
theorem dX3_lambda_ors_2_17 : decode cX3_lambda_ors_2 17 = .ok (.ifCond .eq 7, 3) := dk_153 0 7 (dk_at dksX3_lambda_ors_2_0 17 rfl rfl)
theorem dX3_lambda_ors_2_20 : decode cX3_lambda_ors_2 20 = .ok (.iconst 1, 1) := dk_4 (dk_at dksX3_lambda_ors_2_0 20 rfl rfl)
theorem dX3_lambda_ors_2_21 : decode cX3_lambda_ors_2 21 = .ok (.goto 4, 3) := dk_167 0 4 (dk_at dksX3_lambda_ors_2_0 21 rfl rfl)
theorem dX3_lambda_ors_2_24 : decode cX3_lambda_ors_2 24 = .ok (.iconst 0, 1) := dk_3 (dk_at dksX3_lambda_ors_2_1 0 rfl rfl)
theorem dX3_lambda_ors_2_25 : decode cX3_lambda_ors_2 25 = .ok (.ireturn, 1) := dk_172 (dk_at dksX3_lambda_ors_2_1 1 rfl rfl)
abbrev cX3_lambda_condition_1 : ByteArray := prog_14_method_24_code
def yX3_lambda_condition_1 : MethodName := ⟨RX3, "lambda$condition$1", "(LPromiseTries$Holds;I)Z"⟩
def dkwX3_lambda_condition_1_0 : List UInt8 := [42, 27, 185, 0, 199, 2, 0, 154, 0, 7, 4, 167, 0, 4, 3, 172]
abbrev dktX3_lambda_condition_1_0 : List UInt8 := dkwX3_lambda_condition_1_0 ++ []
theorem dksX3_lambda_condition_1_0 : cX3_lambda_condition_1.data.toList.drop 0 = dktX3_lambda_condition_1_0 := by decide +kernel
theorem dX3_lambda_condition_1_0 : decode cX3_lambda_condition_1 0 = .ok (.aload_n 0, 1) := dk_42 (dk_at dksX3_lambda_condition_1_0 0 rfl rfl)
theorem dX3_lambda_condition_1_1 : decode cX3_lambda_condition_1 1 = .ok (.iload_n 1, 1) := dk_27 (dk_at dksX3_lambda_condition_1_0 1 rfl rfl)
theorem dX3_lambda_condition_1_2 : decode cX3_lambda_condition_1 2 = .ok (.invokeinterface 199 2, 5) := by decide +kernel
theorem dX3_lambda_condition_1_7 : decode cX3_lambda_condition_1 7 = .ok (.ifCond .ne 7, 3) := dk_154 0 7 (dk_at dksX3_lambda_condition_1_0 7 rfl rfl)
theorem dX3_lambda_condition_1_10 : decode cX3_lambda_condition_1 10 = .ok (.iconst 1, 1) := dk_4 (dk_at dksX3_lambda_condition_1_0 10 rfl rfl)
theorem dX3_lambda_condition_1_11 : decode cX3_lambda_condition_1 11 = .ok (.goto 4, 3) := dk_167 0 4 (dk_at dksX3_lambda_condition_1_0 11 rfl rfl)
theorem dX3_lambda_condition_1_14 : decode cX3_lambda_condition_1 14 = .ok (.iconst 0, 1) := dk_3 (dk_at dksX3_lambda_condition_1_0 14 rfl rfl)
theorem dX3_lambda_condition_1_15 : decode cX3_lambda_condition_1 15 = .ok (.ireturn, 1) := dk_172 (dk_at dksX3_lambda_condition_1_0 15 rfl rfl)
abbrev cX3_number : ByteArray := prog_14_method_7_code
def yX3_number : MethodName := ⟨RX3, "number", "(II)I"⟩
def dkwX3_number_1 : List UInt8 := [27, 133, 28, 133, 184, 0, 50, 6, 182, 0, 58, 42, 180, 0, 36, 62, 42, 182, 0, 21, 29, 172]
abbrev dktX3_number_1 : List UInt8 := dkwX3_number_1 ++ []
def dkwX3_number_0 : List UInt8 := [42, 42, 180, 0, 33, 5, 160, 0, 7, 4, 167, 0, 4, 3, 5, 182, 0, 58, 42, 42, 180, 0, 36, 133]
abbrev dktX3_number_0 : List UInt8 := dkwX3_number_0 ++ dktX3_number_1
theorem dksX3_number_0 : cX3_number.data.toList.drop 0 = dktX3_number_0 := by decide +kernel
theorem dksX3_number_1 : cX3_number.data.toList.drop 24 = dktX3_number_1 := dk_seg dksX3_number_0 24 rfl rfl
theorem dX3_number_0 : decode cX3_number 0 = .ok (.aload_n 0, 1) := dk_42 (dk_at dksX3_number_0 0 rfl rfl)
theorem dX3_number_1 : decode cX3_number 1 = .ok (.aload_n 0, 1) := dk_42 (dk_at dksX3_number_0 1 rfl rfl)
theorem dX3_number_2 : decode cX3_number 2 = .ok (.getfield 33, 3) := dk_180 0 33 (dk_at dksX3_number_0 2 rfl rfl)
theorem dX3_number_5 : decode cX3_number 5 = .ok (.iconst 2, 1) := dk_5 (dk_at dksX3_number_0 5 rfl rfl)
theorem dX3_number_6 : decode cX3_number 6 = .ok (.if_icmp .ne 7, 3) := dk_160 0 7 (dk_at dksX3_number_0 6 rfl rfl)
theorem dX3_number_9 : decode cX3_number 9 = .ok (.iconst 1, 1) := dk_4 (dk_at dksX3_number_0 9 rfl rfl)
theorem dX3_number_10 : decode cX3_number 10 = .ok (.goto 4, 3) := dk_167 0 4 (dk_at dksX3_number_0 10 rfl rfl)
theorem dX3_number_13 : decode cX3_number 13 = .ok (.iconst 0, 1) := dk_3 (dk_at dksX3_number_0 13 rfl rfl)
theorem dX3_number_14 : decode cX3_number 14 = .ok (.iconst 2, 1) := dk_5 (dk_at dksX3_number_0 14 rfl rfl)
theorem dX3_number_15 : decode cX3_number 15 = .ok (.invokevirtual 58, 3) := dk_182 0 58 (dk_at dksX3_number_0 15 rfl rfl)
theorem dX3_number_18 : decode cX3_number 18 = .ok (.aload_n 0, 1) := dk_42 (dk_at dksX3_number_0 18 rfl rfl)
theorem dX3_number_19 : decode cX3_number 19 = .ok (.aload_n 0, 1) := dk_42 (dk_at dksX3_number_0 19 rfl rfl)
theorem dX3_number_20 : decode cX3_number 20 = .ok (.getfield 36, 3) := dk_180 0 36 (dk_at dksX3_number_0 20 rfl rfl)
theorem dX3_number_23 : decode cX3_number 23 = .ok (.i2l, 1) := dk_133 (dk_at dksX3_number_0 23 rfl rfl)
theorem dX3_number_24 : decode cX3_number 24 = .ok (.iload_n 1, 1) := dk_27 (dk_at dksX3_number_1 0 rfl rfl)
theorem dX3_number_25 : decode cX3_number 25 = .ok (.i2l, 1) := dk_133 (dk_at dksX3_number_1 1 rfl rfl)
theorem dX3_number_26 : decode cX3_number 26 = .ok (.iload_n 2, 1) := dk_28 (dk_at dksX3_number_1 2 rfl rfl)
theorem dX3_number_27 : decode cX3_number 27 = .ok (.i2l, 1) := dk_133 (dk_at dksX3_number_1 3 rfl rfl)
theorem dX3_number_28 : decode cX3_number 28 = .ok (.invokestatic 50, 3) := dk_184 0 50 (dk_at dksX3_number_1 4 rfl rfl)
theorem dX3_number_31 : decode cX3_number 31 = .ok (.iconst 3, 1) := dk_6 (dk_at dksX3_number_1 7 rfl rfl)
theorem dX3_number_32 : decode cX3_number 32 = .ok (.invokevirtual 58, 3) := dk_182 0 58 (dk_at dksX3_number_1 8 rfl rfl)
theorem dX3_number_35 : decode cX3_number 35 = .ok (.aload_n 0, 1) := dk_42 (dk_at dksX3_number_1 11 rfl rfl)
theorem dX3_number_36 : decode cX3_number 36 = .ok (.getfield 36, 3) := dk_180 0 36 (dk_at dksX3_number_1 12 rfl rfl)
theorem dX3_number_39 : decode cX3_number 39 = .ok (.istore_n 3, 1) := dk_62 (dk_at dksX3_number_1 15 rfl rfl)
theorem dX3_number_40 : decode cX3_number 40 = .ok (.aload_n 0, 1) := dk_42 (dk_at dksX3_number_1 16 rfl rfl)
theorem dX3_number_41 : decode cX3_number 41 = .ok (.invokevirtual 21, 3) := dk_182 0 21 (dk_at dksX3_number_1 17 rfl rfl)
theorem dX3_number_44 : decode cX3_number 44 = .ok (.iload_n 3, 1) := dk_29 (dk_at dksX3_number_1 20 rfl rfl)
theorem dX3_number_45 : decode cX3_number 45 = .ok (.ireturn, 1) := dk_172 (dk_at dksX3_number_1 21 rfl rfl)
theorem q98 : (Jvm.Cond.initialized "PromiseTries$Reader") ∈ lw_all := lw_g (lw_at lw_m1 5 rfl) rfl
theorem q143 : (Jvm.Cond.instantiable "PromiseTries$Reader" (9 : Nat)) ∈ lw_all := lw_g (lw_at lw_m1 50 rfl) rfl
theorem q145 : (Jvm.Cond.instanceMethod ({ cls := "PromiseTries$Reader", name := "<init>", desc := "([B)V" } : Jvm.MethodName)) ∈ lw_all := lw_g (lw_at lw_m1 52 rfl) rfl
theorem q146 : (Jvm.Cond.code ({ cls := "PromiseTries$Reader", name := "<init>", desc := "([B)V" } : Jvm.MethodName) prog_14_method_1_code (2 : Nat) (Option.none : Option Jvm.ClassFile.FieldType)) ∈ lw_all := lw_g (lw_at lw_m1 53 rfl) rfl
theorem q147 : (Jvm.Cond.methodLink "PromiseTries$Reader" (3 : Nat) ({ cls := "java/lang/Object", name := "<init>", desc := "()V" } : Jvm.MethodName)) ∈ lw_all := lw_g (lw_at lw_m1 54 rfl) rfl
theorem q150 : (Jvm.Cond.classLink "PromiseTries$Reader" (9 : Nat) "PromiseTries$Promise") ∈ lw_all := lw_g (lw_at lw_m1 57 rfl) rfl
theorem q152 : (Jvm.Cond.methodLink "PromiseTries$Reader" (21 : Nat) ({ cls := "PromiseTries$Reader", name := "next", desc := "()V" } : Jvm.MethodName)) ∈ lw_all := lw_g (lw_at lw_m1 59 rfl) rfl
theorem q153 : (Jvm.Cond.privateMethod ({ cls := "PromiseTries$Reader", name := "next", desc := "()V" } : Jvm.MethodName)) ∈ lw_tbl := lw_at lw_m1 60 rfl
theorem q154 : (Jvm.Cond.instanceMethod ({ cls := "PromiseTries$Reader", name := "next", desc := "()V" } : Jvm.MethodName)) ∈ lw_all := lw_g (lw_at lw_m1 61 rfl) rfl
theorem q155 : (Jvm.Cond.code ({ cls := "PromiseTries$Reader", name := "next", desc := "()V" } : Jvm.MethodName) prog_14_method_6_code (2 : Nat) (Option.none : Option Jvm.ClassFile.FieldType)) ∈ lw_all := lw_g (lw_at lw_m1 62 rfl) rfl
theorem q156 : (Jvm.Cond.methodLink "PromiseTries$Reader" (42 : Nat) ({ cls := "PromiseTries$Reader", name := "at", desc := "(I)I" } : Jvm.MethodName)) ∈ lw_all := lw_g (lw_at lw_m1 63 rfl) rfl
theorem q157 : (Jvm.Cond.privateMethod ({ cls := "PromiseTries$Reader", name := "at", desc := "(I)I" } : Jvm.MethodName)) ∈ lw_tbl := lw_at lw_m1 64 rfl
theorem q158 : (Jvm.Cond.instanceMethod ({ cls := "PromiseTries$Reader", name := "at", desc := "(I)I" } : Jvm.MethodName)) ∈ lw_all := lw_g (lw_at lw_m1 65 rfl) rfl
theorem q159 : (Jvm.Cond.code ({ cls := "PromiseTries$Reader", name := "at", desc := "(I)I" } : Jvm.MethodName) prog_14_method_2_code (2 : Nat) (Option.some Jvm.ClassFile.FieldType.int)) ∈ lw_all := lw_g (lw_at lw_m1 66 rfl) rfl
theorem q160 : (Jvm.Cond.constantLong "PromiseTries$Reader" (46 : Nat) (97 : Int64)) ∈ lw_all := lw_g (lw_at lw_m1 67 rfl) rfl
theorem q161 : (Jvm.Cond.constantLong "PromiseTries$Reader" (48 : Nat) (104 : Int64)) ∈ lw_all := lw_g (lw_at lw_m1 68 rfl) rfl
theorem q162 : (Jvm.Cond.methodLinkNest "PromiseTries$Reader" (50 : Nat) ({ cls := "PromiseTries", name := "isIn", desc := "(JJJ)Z" } : Jvm.MethodName) "PromiseTries") ∈ lw_tbl := lw_at lw_m1 69 rfl
theorem q163 : (Jvm.Cond.constantLong "PromiseTries$Reader" (54 : Nat) (48 : Int64)) ∈ lw_all := lw_g (lw_at lw_m1 70 rfl) rfl
theorem q164 : (Jvm.Cond.constantLong "PromiseTries$Reader" (56 : Nat) (57 : Int64)) ∈ lw_all := lw_g (lw_at lw_m1 71 rfl) rfl
theorem q165 : (Jvm.Cond.methodLink "PromiseTries$Reader" (58 : Nat) ({ cls := "PromiseTries$Reader", name := "must", desc := "(ZI)V" } : Jvm.MethodName)) ∈ lw_all := lw_g (lw_at lw_m1 72 rfl) rfl
theorem q166 : (Jvm.Cond.privateMethod ({ cls := "PromiseTries$Reader", name := "must", desc := "(ZI)V" } : Jvm.MethodName)) ∈ lw_tbl := lw_at lw_m1 73 rfl
theorem q167 : (Jvm.Cond.instanceMethod ({ cls := "PromiseTries$Reader", name := "must", desc := "(ZI)V" } : Jvm.MethodName)) ∈ lw_all := lw_g (lw_at lw_m1 74 rfl) rfl
theorem q168 : (Jvm.Cond.code ({ cls := "PromiseTries$Reader", name := "must", desc := "(ZI)V" } : Jvm.MethodName) prog_14_method_3_code (3 : Nat) (Option.none : Option Jvm.ClassFile.FieldType)) ∈ lw_all := lw_g (lw_at lw_m1 75 rfl) rfl
theorem q169 : (Jvm.Cond.classLink "PromiseTries$Reader" (24 : Nat) "PromiseTries$Fault") ∈ lw_all := lw_g (lw_at lw_m1 76 rfl) rfl
theorem q225 : (Jvm.Cond.methodLink "PromiseTries$Reader" (30 : Nat) ({ cls := "PromiseTries$Fault", name := "<init>", desc := "(II)V" } : Jvm.MethodName)) ∈ lw_all := lw_g (lw_at lw_m1 132 rfl) rfl
theorem q259 : (Jvm.Cond.methodLink "PromiseTries$Reader" (62 : Nat) ({ cls := "PromiseTries$Reader", name := "isMark", desc := "(I)Z" } : Jvm.MethodName)) ∈ lw_all := lw_g (lw_at lw_m1 166 rfl) rfl
theorem q260 : (Jvm.Cond.static ({ cls := "PromiseTries$Reader", name := "isMark", desc := "(I)Z" } : Jvm.MethodName)) ∈ lw_all := lw_g (lw_at lw_m1 167 rfl) rfl
theorem q261 : (Jvm.Cond.code ({ cls := "PromiseTries$Reader", name := "isMark", desc := "(I)Z" } : Jvm.MethodName) prog_14_method_5_code (1 : Nat) (Option.some Jvm.ClassFile.FieldType.boolean)) ∈ lw_all := lw_g (lw_at lw_m1 168 rfl) rfl
theorem q262 : (Jvm.Cond.fieldLink "PromiseTries$Reader" (17 : Nat) "PromiseTries$Reader" "t" "[B") ∈ lw_all := lw_g (lw_at lw_m1 169 rfl) rfl
theorem q263 : (Jvm.Cond.fieldLink "PromiseTries$Reader" (11 : Nat) "PromiseTries$Reader" "promises" "[LPromiseTries$Promise;") ∈ lw_all := lw_g (lw_at lw_m1 170 rfl) rfl
theorem q266 : (Jvm.Cond.fieldLink "PromiseTries$Reader" (162 : Nat) "PromiseTries$Reader" "many" "I") ∈ lw_all := lw_g (lw_at lw_m1 173 rfl) rfl
theorem q267 : (Jvm.Cond.fieldLink "PromiseTries$Reader" (109 : Nat) "PromiseTries$Reader" "side" "LPromiseTries$Side;") ∈ lw_all := lw_g (lw_at lw_m1 174 rfl) rfl
theorem q268 : (Jvm.Cond.fieldLink "PromiseTries$Reader" (82 : Nat) "PromiseTries$Reader" "depth" "I") ∈ lw_all := lw_g (lw_at lw_m1 175 rfl) rfl
theorem q269 : (Jvm.Cond.fieldLink "PromiseTries$Reader" (26 : Nat) "PromiseTries$Reader" "from" "I") ∈ lw_all := lw_g (lw_at lw_m1 176 rfl) rfl
theorem q270 : (Jvm.Cond.fieldLink "PromiseTries$Reader" (39 : Nat) "PromiseTries$Reader" "to" "I") ∈ lw_all := lw_g (lw_at lw_m1 177 rfl) rfl
theorem q271 : (Jvm.Cond.fieldLink "PromiseTries$Reader" (33 : Nat) "PromiseTries$Reader" "kind" "I") ∈ lw_all := lw_g (lw_at lw_m1 178 rfl) rfl
theorem q272 : (Jvm.Cond.fieldLink "PromiseTries$Reader" (36 : Nat) "PromiseTries$Reader" "value" "I") ∈ lw_all := lw_g (lw_at lw_m1 179 rfl) rfl
theorem q273 : (Jvm.Cond.laysFinal "PromiseTries$Reader" "PromiseTries$Reader" "t" "[B") ∈ lw_all := lw_g (lw_at lw_m1 180 rfl) rfl
theorem q274 : (Jvm.Cond.soleField "PromiseTries$Reader" "t") ∈ lw_all := lw_g (lw_at lw_m1 181 rfl) rfl
theorem q275 : (Jvm.Cond.laysFinal "PromiseTries$Reader" "PromiseTries$Reader" "promises" "[LPromiseTries$Promise;") ∈ lw_all := lw_g (lw_at lw_m1 182 rfl) rfl
theorem q276 : (Jvm.Cond.soleField "PromiseTries$Reader" "promises") ∈ lw_all := lw_g (lw_at lw_m1 183 rfl) rfl
theorem q277 : (Jvm.Cond.lays "PromiseTries$Reader" "PromiseTries$Reader" "many" "I") ∈ lw_all := lw_g (lw_at lw_m1 184 rfl) rfl
theorem q278 : (Jvm.Cond.soleField "PromiseTries$Reader" "many") ∈ lw_all := lw_g (lw_at lw_m1 185 rfl) rfl
theorem q279 : (Jvm.Cond.lays "PromiseTries$Reader" "PromiseTries$Reader" "side" "LPromiseTries$Side;") ∈ lw_all := lw_g (lw_at lw_m1 186 rfl) rfl
theorem q280 : (Jvm.Cond.soleField "PromiseTries$Reader" "side") ∈ lw_all := lw_g (lw_at lw_m1 187 rfl) rfl
theorem q281 : (Jvm.Cond.lays "PromiseTries$Reader" "PromiseTries$Reader" "depth" "I") ∈ lw_all := lw_g (lw_at lw_m1 188 rfl) rfl
theorem q282 : (Jvm.Cond.soleField "PromiseTries$Reader" "depth") ∈ lw_all := lw_g (lw_at lw_m1 189 rfl) rfl
theorem q283 : (Jvm.Cond.lays "PromiseTries$Reader" "PromiseTries$Reader" "from" "I") ∈ lw_all := lw_g (lw_at lw_m1 190 rfl) rfl
theorem q284 : (Jvm.Cond.soleField "PromiseTries$Reader" "from") ∈ lw_all := lw_g (lw_at lw_m1 191 rfl) rfl
theorem q285 : (Jvm.Cond.lays "PromiseTries$Reader" "PromiseTries$Reader" "to" "I") ∈ lw_all := lw_g (lw_at lw_m1 192 rfl) rfl
theorem q286 : (Jvm.Cond.soleField "PromiseTries$Reader" "to") ∈ lw_all := lw_g (lw_at lw_m1 193 rfl) rfl
theorem q287 : (Jvm.Cond.lays "PromiseTries$Reader" "PromiseTries$Reader" "kind" "I") ∈ lw_all := lw_g (lw_at lw_m1 194 rfl) rfl
theorem q288 : (Jvm.Cond.soleField "PromiseTries$Reader" "kind") ∈ lw_all := lw_g (lw_at lw_m1 195 rfl) rfl
theorem q289 : (Jvm.Cond.lays "PromiseTries$Reader" "PromiseTries$Reader" "value" "I") ∈ lw_all := lw_g (lw_at lw_m1 196 rfl) rfl
theorem q290 : (Jvm.Cond.soleField "PromiseTries$Reader" "value") ∈ lw_all := lw_g (lw_at lw_m1 197 rfl) rfl
theorem q291 : (Jvm.Cond.superclass "PromiseTries$Reader" "java/lang/Object") ∈ lw_all := lw_g (lw_at lw_m1 198 rfl) rfl
theorem q293 : (Jvm.Cond.instanceMethod ({ cls := "PromiseTries$Reader", name := "all", desc := "()LPromiseTries$Reader;" } : Jvm.MethodName)) ∈ lw_all := lw_g (lw_at lw_m1 200 rfl) rfl
theorem q294 : (Jvm.Cond.selects "PromiseTries$Reader" ({ cls := "PromiseTries$Reader", name := "all", desc := "()LPromiseTries$Reader;" } : Jvm.MethodName) ({ cls := "PromiseTries$Reader", name := "all", desc := "()LPromiseTries$Reader;" } : Jvm.MethodName)) ∈ lw_all := lw_g (lw_at lw_m1 201 rfl) rfl
theorem q295 : (Jvm.Cond.code ({ cls := "PromiseTries$Reader", name := "all", desc := "()LPromiseTries$Reader;" } : Jvm.MethodName) prog_14_method_21_code (1 : Nat) (Option.some (Jvm.ClassFile.FieldType.object "PromiseTries$Reader"))) ∈ lw_all := lw_g (lw_at lw_m1 202 rfl) rfl
theorem q296 : (Jvm.Cond.methodLink "PromiseTries$Reader" (196 : Nat) ({ cls := "PromiseTries$Reader", name := "promiseComes", desc := "()V" } : Jvm.MethodName)) ∈ lw_all := lw_g (lw_at lw_m1 203 rfl) rfl
theorem q297 : (Jvm.Cond.privateMethod ({ cls := "PromiseTries$Reader", name := "promiseComes", desc := "()V" } : Jvm.MethodName)) ∈ lw_tbl := lw_at lw_m1 204 rfl
theorem q298 : (Jvm.Cond.instanceMethod ({ cls := "PromiseTries$Reader", name := "promiseComes", desc := "()V" } : Jvm.MethodName)) ∈ lw_all := lw_g (lw_at lw_m1 205 rfl) rfl
theorem q299 : (Jvm.Cond.code ({ cls := "PromiseTries$Reader", name := "promiseComes", desc := "()V" } : Jvm.MethodName) prog_14_method_20_code (6 : Nat) (Option.none : Option Jvm.ClassFile.FieldType)) ∈ lw_all := lw_g (lw_at lw_m1 206 rfl) rfl
theorem q300 : (Jvm.Cond.methodLink "PromiseTries$Reader" (69 : Nat) ({ cls := "PromiseTries$Reader", name := "isSign", desc := "(I)Z" } : Jvm.MethodName)) ∈ lw_all := lw_g (lw_at lw_m1 207 rfl) rfl
theorem q301 : (Jvm.Cond.privateMethod ({ cls := "PromiseTries$Reader", name := "isSign", desc := "(I)Z" } : Jvm.MethodName)) ∈ lw_tbl := lw_at lw_m1 208 rfl
theorem q302 : (Jvm.Cond.instanceMethod ({ cls := "PromiseTries$Reader", name := "isSign", desc := "(I)Z" } : Jvm.MethodName)) ∈ lw_all := lw_g (lw_at lw_m1 209 rfl) rfl
theorem q303 : (Jvm.Cond.code ({ cls := "PromiseTries$Reader", name := "isSign", desc := "(I)Z" } : Jvm.MethodName) prog_14_method_4_code (2 : Nat) (Option.some Jvm.ClassFile.FieldType.boolean)) ∈ lw_all := lw_g (lw_at lw_m1 210 rfl) rfl
theorem q305 : (Jvm.Cond.methodLinkNest "PromiseTries$Reader" (163 : Nat) ({ cls := "PromiseTries$Promise", name := "<init>", desc := "()V" } : Jvm.MethodName) "PromiseTries") ∈ lw_tbl := lw_at lw_m1 212 rfl
theorem q321 : (Jvm.Cond.fieldLinkNest "PromiseTries$Reader" (118 : Nat) "PromiseTries$Side" "conditions" "[LPromiseTries$Holds;" "PromiseTries") ∈ lw_tbl := lw_at lw_m1 228 rfl
theorem q323 : (Jvm.Cond.fieldLinkNest "PromiseTries$Reader" (113 : Nat) "PromiseTries$Side" "many" "I" "PromiseTries") ∈ lw_tbl := lw_at lw_m1 230 rfl
theorem q325 : (Jvm.Cond.fieldLinkNest "PromiseTries$Reader" (158 : Nat) "PromiseTries$Side" "node" "LPromiseTries$Node;" "PromiseTries") ∈ lw_tbl := lw_at lw_m1 232 rfl
theorem q328 : (Jvm.Cond.fieldLinkNest "PromiseTries$Reader" (188 : Nat) "PromiseTries$Side" "machine" "LPromiseTries$Machine;" "PromiseTries") ∈ lw_tbl := lw_at lw_m1 235 rfl
theorem q345 : (Jvm.Cond.fieldLinkNest "PromiseTries$Reader" (164 : Nat) "PromiseTries$Promise" "sides" "[LPromiseTries$Side;" "PromiseTries") ∈ lw_tbl := lw_at lw_m2 12 rfl
theorem q347 : (Jvm.Cond.fieldLinkNest "PromiseTries$Reader" (171 : Nat) "PromiseTries$Promise" "kind" "I" "PromiseTries") ∈ lw_tbl := lw_at lw_m2 14 rfl
theorem q350 : (Jvm.Cond.fieldLinkNest "PromiseTries$Reader" (172 : Nat) "PromiseTries$Promise" "off" "LPromiseTries$Holds;" "PromiseTries") ∈ lw_tbl := lw_at lw_m2 17 rfl
theorem q358 : (Jvm.Cond.methodLink "PromiseTries$Reader" (168 : Nat) ({ cls := "PromiseTries$Reader", name := "side", desc := "(LPromiseTries$Side;)V" } : Jvm.MethodName)) ∈ lw_all := lw_g (lw_at lw_m2 25 rfl) rfl
theorem q359 : (Jvm.Cond.privateMethod ({ cls := "PromiseTries$Reader", name := "side", desc := "(LPromiseTries$Side;)V" } : Jvm.MethodName)) ∈ lw_tbl := lw_at lw_m2 26 rfl
theorem q360 : (Jvm.Cond.instanceMethod ({ cls := "PromiseTries$Reader", name := "side", desc := "(LPromiseTries$Side;)V" } : Jvm.MethodName)) ∈ lw_all := lw_g (lw_at lw_m2 27 rfl) rfl
theorem q361 : (Jvm.Cond.code ({ cls := "PromiseTries$Reader", name := "side", desc := "(LPromiseTries$Side;)V" } : Jvm.MethodName) prog_14_method_19_code (2 : Nat) (Option.none : Option Jvm.ClassFile.FieldType)) ∈ lw_all := lw_g (lw_at lw_m2 28 rfl) rfl
theorem q362 : (Jvm.Cond.methodLink "PromiseTries$Reader" (105 : Nat) ({ cls := "PromiseTries$Reader", name := "sequence", desc := "()LPromiseTries$Node;" } : Jvm.MethodName)) ∈ lw_all := lw_g (lw_at lw_m2 29 rfl) rfl
theorem q363 : (Jvm.Cond.privateMethod ({ cls := "PromiseTries$Reader", name := "sequence", desc := "()LPromiseTries$Node;" } : Jvm.MethodName)) ∈ lw_tbl := lw_at lw_m2 30 rfl
theorem q364 : (Jvm.Cond.instanceMethod ({ cls := "PromiseTries$Reader", name := "sequence", desc := "()LPromiseTries$Node;" } : Jvm.MethodName)) ∈ lw_all := lw_g (lw_at lw_m2 31 rfl) rfl
theorem q365 : (Jvm.Cond.code ({ cls := "PromiseTries$Reader", name := "sequence", desc := "()LPromiseTries$Node;" } : Jvm.MethodName) prog_14_method_18_code (2 : Nat) (Option.some (Jvm.ClassFile.FieldType.object "PromiseTries$Node"))) ∈ lw_all := lw_g (lw_at lw_m2 32 rfl) rfl
theorem q366 : (Jvm.Cond.methodLink "PromiseTries$Reader" (152 : Nat) ({ cls := "PromiseTries$Reader", name := "thens", desc := "()LPromiseTries$Node;" } : Jvm.MethodName)) ∈ lw_all := lw_g (lw_at lw_m2 33 rfl) rfl
theorem q367 : (Jvm.Cond.privateMethod ({ cls := "PromiseTries$Reader", name := "thens", desc := "()LPromiseTries$Node;" } : Jvm.MethodName)) ∈ lw_tbl := lw_at lw_m2 34 rfl
theorem q368 : (Jvm.Cond.instanceMethod ({ cls := "PromiseTries$Reader", name := "thens", desc := "()LPromiseTries$Node;" } : Jvm.MethodName)) ∈ lw_all := lw_g (lw_at lw_m2 35 rfl) rfl
theorem q369 : (Jvm.Cond.code ({ cls := "PromiseTries$Reader", name := "thens", desc := "()LPromiseTries$Node;" } : Jvm.MethodName) prog_14_method_17_code (2 : Nat) (Option.some (Jvm.ClassFile.FieldType.object "PromiseTries$Node"))) ∈ lw_all := lw_g (lw_at lw_m2 36 rfl) rfl
theorem q370 : (Jvm.Cond.methodLink "PromiseTries$Reader" (144 : Nat) ({ cls := "PromiseTries$Reader", name := "repeated", desc := "()LPromiseTries$Node;" } : Jvm.MethodName)) ∈ lw_all := lw_g (lw_at lw_m2 37 rfl) rfl
theorem q371 : (Jvm.Cond.privateMethod ({ cls := "PromiseTries$Reader", name := "repeated", desc := "()LPromiseTries$Node;" } : Jvm.MethodName)) ∈ lw_tbl := lw_at lw_m2 38 rfl
theorem q372 : (Jvm.Cond.instanceMethod ({ cls := "PromiseTries$Reader", name := "repeated", desc := "()LPromiseTries$Node;" } : Jvm.MethodName)) ∈ lw_all := lw_g (lw_at lw_m2 39 rfl) rfl
theorem q373 : (Jvm.Cond.code ({ cls := "PromiseTries$Reader", name := "repeated", desc := "()LPromiseTries$Node;" } : Jvm.MethodName) prog_14_method_16_code (3 : Nat) (Option.some (Jvm.ClassFile.FieldType.object "PromiseTries$Node"))) ∈ lw_all := lw_g (lw_at lw_m2 40 rfl) rfl
theorem q374 : (Jvm.Cond.methodLink "PromiseTries$Reader" (127 : Nat) ({ cls := "PromiseTries$Reader", name := "atom", desc := "()LPromiseTries$Node;" } : Jvm.MethodName)) ∈ lw_all := lw_g (lw_at lw_m2 41 rfl) rfl
theorem q375 : (Jvm.Cond.privateMethod ({ cls := "PromiseTries$Reader", name := "atom", desc := "()LPromiseTries$Node;" } : Jvm.MethodName)) ∈ lw_tbl := lw_at lw_m2 42 rfl
theorem q376 : (Jvm.Cond.instanceMethod ({ cls := "PromiseTries$Reader", name := "atom", desc := "()LPromiseTries$Node;" } : Jvm.MethodName)) ∈ lw_all := lw_g (lw_at lw_m2 43 rfl) rfl
theorem q377 : (Jvm.Cond.code ({ cls := "PromiseTries$Reader", name := "atom", desc := "()LPromiseTries$Node;" } : Jvm.MethodName) prog_14_method_15_code (3 : Nat) (Option.some (Jvm.ClassFile.FieldType.object "PromiseTries$Node"))) ∈ lw_all := lw_g (lw_at lw_m2 44 rfl) rfl
theorem q378 : (Jvm.Cond.methodLink "PromiseTries$Reader" (85 : Nat) ({ cls := "PromiseTries$Reader", name := "opens", desc := "()V" } : Jvm.MethodName)) ∈ lw_all := lw_g (lw_at lw_m2 45 rfl) rfl
theorem q379 : (Jvm.Cond.privateMethod ({ cls := "PromiseTries$Reader", name := "opens", desc := "()V" } : Jvm.MethodName)) ∈ lw_tbl := lw_at lw_m2 46 rfl
theorem q380 : (Jvm.Cond.instanceMethod ({ cls := "PromiseTries$Reader", name := "opens", desc := "()V" } : Jvm.MethodName)) ∈ lw_all := lw_g (lw_at lw_m2 47 rfl) rfl
theorem q381 : (Jvm.Cond.code ({ cls := "PromiseTries$Reader", name := "opens", desc := "()V" } : Jvm.MethodName) prog_14_method_10_code (1 : Nat) (Option.none : Option Jvm.ClassFile.FieldType)) ∈ lw_all := lw_g (lw_at lw_m2 48 rfl) rfl
theorem q382 : (Jvm.Cond.methodLink "PromiseTries$Reader" (91 : Nat) ({ cls := "PromiseTries$Reader", name := "closes", desc := "(I)V" } : Jvm.MethodName)) ∈ lw_all := lw_g (lw_at lw_m2 49 rfl) rfl
theorem q383 : (Jvm.Cond.privateMethod ({ cls := "PromiseTries$Reader", name := "closes", desc := "(I)V" } : Jvm.MethodName)) ∈ lw_tbl := lw_at lw_m2 50 rfl
theorem q384 : (Jvm.Cond.instanceMethod ({ cls := "PromiseTries$Reader", name := "closes", desc := "(I)V" } : Jvm.MethodName)) ∈ lw_all := lw_g (lw_at lw_m2 51 rfl) rfl
theorem q385 : (Jvm.Cond.code ({ cls := "PromiseTries$Reader", name := "closes", desc := "(I)V" } : Jvm.MethodName) prog_14_method_11_code (2 : Nat) (Option.none : Option Jvm.ClassFile.FieldType)) ∈ lw_all := lw_g (lw_at lw_m2 52 rfl) rfl
theorem q386 : (Jvm.Cond.methodLink "PromiseTries$Reader" (101 : Nat) ({ cls := "PromiseTries$Reader", name := "condition", desc := "()LPromiseTries$Holds;" } : Jvm.MethodName)) ∈ lw_all := lw_g (lw_at lw_m2 53 rfl) rfl
theorem q387 : (Jvm.Cond.privateMethod ({ cls := "PromiseTries$Reader", name := "condition", desc := "()LPromiseTries$Holds;" } : Jvm.MethodName)) ∈ lw_tbl := lw_at lw_m2 54 rfl
theorem q388 : (Jvm.Cond.instanceMethod ({ cls := "PromiseTries$Reader", name := "condition", desc := "()LPromiseTries$Holds;" } : Jvm.MethodName)) ∈ lw_all := lw_g (lw_at lw_m2 55 rfl) rfl
theorem q389 : (Jvm.Cond.code ({ cls := "PromiseTries$Reader", name := "condition", desc := "()LPromiseTries$Holds;" } : Jvm.MethodName) prog_14_method_9_code (3 : Nat) (Option.some (Jvm.ClassFile.FieldType.object "PromiseTries$Holds"))) ∈ lw_all := lw_g (lw_at lw_m2 56 rfl) rfl
theorem q390 : (Jvm.Cond.methodLink "PromiseTries$Reader" (72 : Nat) ({ cls := "PromiseTries$Reader", name := "wire", desc := "()LPromiseTries$Holds;" } : Jvm.MethodName)) ∈ lw_all := lw_g (lw_at lw_m2 57 rfl) rfl
theorem q391 : (Jvm.Cond.privateMethod ({ cls := "PromiseTries$Reader", name := "wire", desc := "()LPromiseTries$Holds;" } : Jvm.MethodName)) ∈ lw_tbl := lw_at lw_m2 58 rfl
theorem q392 : (Jvm.Cond.instanceMethod ({ cls := "PromiseTries$Reader", name := "wire", desc := "()LPromiseTries$Holds;" } : Jvm.MethodName)) ∈ lw_all := lw_g (lw_at lw_m2 59 rfl) rfl
theorem q393 : (Jvm.Cond.code ({ cls := "PromiseTries$Reader", name := "wire", desc := "()LPromiseTries$Holds;" } : Jvm.MethodName) prog_14_method_8_code (2 : Nat) (Option.some (Jvm.ClassFile.FieldType.object "PromiseTries$Holds"))) ∈ lw_all := lw_g (lw_at lw_m2 60 rfl) rfl
theorem q394 : (Jvm.Cond.static ({ cls := "PromiseTries$Reader", name := "lambda$wire$0", desc := "(II)Z" } : Jvm.MethodName)) ∈ lw_all := lw_g (lw_at lw_m2 61 rfl) rfl
theorem q395 : (Jvm.Cond.code ({ cls := "PromiseTries$Reader", name := "lambda$wire$0", desc := "(II)Z" } : Jvm.MethodName) prog_14_method_25_code (2 : Nat) (Option.some Jvm.ClassFile.FieldType.boolean)) ∈ lw_all := lw_g (lw_at lw_m2 62 rfl) rfl
theorem q396 : (Jvm.Cond.methodLink "PromiseTries$Reader" (76 : Nat) ({ cls := "PromiseTries$Reader", name := "bracket", desc := "()LPromiseTries$Holds;" } : Jvm.MethodName)) ∈ lw_all := lw_g (lw_at lw_m2 63 rfl) rfl
theorem q397 : (Jvm.Cond.privateMethod ({ cls := "PromiseTries$Reader", name := "bracket", desc := "()LPromiseTries$Holds;" } : Jvm.MethodName)) ∈ lw_tbl := lw_at lw_m2 64 rfl
theorem q398 : (Jvm.Cond.instanceMethod ({ cls := "PromiseTries$Reader", name := "bracket", desc := "()LPromiseTries$Holds;" } : Jvm.MethodName)) ∈ lw_all := lw_g (lw_at lw_m2 65 rfl) rfl
theorem q399 : (Jvm.Cond.code ({ cls := "PromiseTries$Reader", name := "bracket", desc := "()LPromiseTries$Holds;" } : Jvm.MethodName) prog_14_method_12_code (2 : Nat) (Option.some (Jvm.ClassFile.FieldType.object "PromiseTries$Holds"))) ∈ lw_all := lw_g (lw_at lw_m2 66 rfl) rfl
theorem q400 : (Jvm.Cond.methodLink "PromiseTries$Reader" (88 : Nat) ({ cls := "PromiseTries$Reader", name := "ors", desc := "()LPromiseTries$Holds;" } : Jvm.MethodName)) ∈ lw_all := lw_g (lw_at lw_m2 67 rfl) rfl
theorem q401 : (Jvm.Cond.privateMethod ({ cls := "PromiseTries$Reader", name := "ors", desc := "()LPromiseTries$Holds;" } : Jvm.MethodName)) ∈ lw_tbl := lw_at lw_m2 68 rfl
theorem q402 : (Jvm.Cond.instanceMethod ({ cls := "PromiseTries$Reader", name := "ors", desc := "()LPromiseTries$Holds;" } : Jvm.MethodName)) ∈ lw_all := lw_g (lw_at lw_m2 69 rfl) rfl
theorem q403 : (Jvm.Cond.code ({ cls := "PromiseTries$Reader", name := "ors", desc := "()LPromiseTries$Holds;" } : Jvm.MethodName) prog_14_method_13_code (4 : Nat) (Option.some (Jvm.ClassFile.FieldType.object "PromiseTries$Holds"))) ∈ lw_all := lw_g (lw_at lw_m2 70 rfl) rfl
theorem q404 : (Jvm.Cond.methodLink "PromiseTries$Reader" (95 : Nat) ({ cls := "PromiseTries$Reader", name := "ands", desc := "()LPromiseTries$Holds;" } : Jvm.MethodName)) ∈ lw_all := lw_g (lw_at lw_m2 71 rfl) rfl
theorem q405 : (Jvm.Cond.privateMethod ({ cls := "PromiseTries$Reader", name := "ands", desc := "()LPromiseTries$Holds;" } : Jvm.MethodName)) ∈ lw_tbl := lw_at lw_m2 72 rfl
theorem q406 : (Jvm.Cond.instanceMethod ({ cls := "PromiseTries$Reader", name := "ands", desc := "()LPromiseTries$Holds;" } : Jvm.MethodName)) ∈ lw_all := lw_g (lw_at lw_m2 73 rfl) rfl
theorem q407 : (Jvm.Cond.code ({ cls := "PromiseTries$Reader", name := "ands", desc := "()LPromiseTries$Holds;" } : Jvm.MethodName) prog_14_method_14_code (4 : Nat) (Option.some (Jvm.ClassFile.FieldType.object "PromiseTries$Holds"))) ∈ lw_all := lw_g (lw_at lw_m2 74 rfl) rfl
theorem q408 : (Jvm.Cond.static ({ cls := "PromiseTries$Reader", name := "lambda$ands$3", desc := "(LPromiseTries$Holds;LPromiseTries$Holds;I)Z" } : Jvm.MethodName)) ∈ lw_all := lw_g (lw_at lw_m2 75 rfl) rfl
theorem q409 : (Jvm.Cond.code ({ cls := "PromiseTries$Reader", name := "lambda$ands$3", desc := "(LPromiseTries$Holds;LPromiseTries$Holds;I)Z" } : Jvm.MethodName) prog_14_method_22_code (3 : Nat) (Option.some Jvm.ClassFile.FieldType.boolean)) ∈ lw_all := lw_g (lw_at lw_m2 76 rfl) rfl
theorem q410 : (Jvm.Cond.interfaceEntry "PromiseTries$Reader" (199 : Nat)) ∈ lw_tbl := lw_at lw_m2 77 rfl
theorem q411 : (Jvm.Cond.methodLink "PromiseTries$Reader" (199 : Nat) ({ cls := "PromiseTries$Holds", name := "at", desc := "(I)Z" } : Jvm.MethodName)) ∈ lw_all := lw_g (lw_at lw_m2 78 rfl) rfl
theorem q414 : (Jvm.Cond.static ({ cls := "PromiseTries$Reader", name := "lambda$ors$2", desc := "(LPromiseTries$Holds;LPromiseTries$Holds;I)Z" } : Jvm.MethodName)) ∈ lw_all := lw_g (lw_at lw_m2 81 rfl) rfl
theorem q415 : (Jvm.Cond.code ({ cls := "PromiseTries$Reader", name := "lambda$ors$2", desc := "(LPromiseTries$Holds;LPromiseTries$Holds;I)Z" } : Jvm.MethodName) prog_14_method_23_code (3 : Nat) (Option.some Jvm.ClassFile.FieldType.boolean)) ∈ lw_all := lw_g (lw_at lw_m2 82 rfl) rfl
theorem q416 : (Jvm.Cond.static ({ cls := "PromiseTries$Reader", name := "lambda$condition$1", desc := "(LPromiseTries$Holds;I)Z" } : Jvm.MethodName)) ∈ lw_all := lw_g (lw_at lw_m2 83 rfl) rfl
theorem q417 : (Jvm.Cond.code ({ cls := "PromiseTries$Reader", name := "lambda$condition$1", desc := "(LPromiseTries$Holds;I)Z" } : Jvm.MethodName) prog_14_method_24_code (2 : Nat) (Option.some Jvm.ClassFile.FieldType.boolean)) ∈ lw_all := lw_g (lw_at lw_m2 84 rfl) rfl
theorem q418 : (Jvm.Cond.classLink "PromiseTries$Reader" (122 : Nat) "PromiseTries$Atom") ∈ lw_all := lw_g (lw_at lw_m2 85 rfl) rfl
theorem q420 : (Jvm.Cond.methodLink "PromiseTries$Reader" (124 : Nat) ({ cls := "PromiseTries$Atom", name := "<init>", desc := "(ILPromiseTries$Holds;)V" } : Jvm.MethodName)) ∈ lw_all := lw_g (lw_at lw_m2 87 rfl) rfl
theorem q434 : (Jvm.Cond.methodLink "PromiseTries$Reader" (130 : Nat) ({ cls := "PromiseTries$Reader", name := "number", desc := "(II)I" } : Jvm.MethodName)) ∈ lw_all := lw_g (lw_at lw_m2 101 rfl) rfl
theorem q435 : (Jvm.Cond.privateMethod ({ cls := "PromiseTries$Reader", name := "number", desc := "(II)I" } : Jvm.MethodName)) ∈ lw_tbl := lw_at lw_m2 102 rfl
theorem q436 : (Jvm.Cond.instanceMethod ({ cls := "PromiseTries$Reader", name := "number", desc := "(II)I" } : Jvm.MethodName)) ∈ lw_all := lw_g (lw_at lw_m2 103 rfl) rfl
theorem q437 : (Jvm.Cond.code ({ cls := "PromiseTries$Reader", name := "number", desc := "(II)I" } : Jvm.MethodName) prog_14_method_7_code (4 : Nat) (Option.some Jvm.ClassFile.FieldType.int)) ∈ lw_all := lw_g (lw_at lw_m2 104 rfl) rfl
theorem q438 : (Jvm.Cond.classLink "PromiseTries$Reader" (134 : Nat) "PromiseTries$Times") ∈ lw_all := lw_g (lw_at lw_m2 105 rfl) rfl
theorem q440 : (Jvm.Cond.methodLink "PromiseTries$Reader" (136 : Nat) ({ cls := "java/lang/Math", name := "max", desc := "(II)I" } : Jvm.MethodName)) ∈ lw_all := lw_g (lw_at lw_m2 107 rfl) rfl
theorem q443 : (Jvm.Cond.methodLink "PromiseTries$Reader" (141 : Nat) ({ cls := "PromiseTries$Times", name := "<init>", desc := "(LPromiseTries$Node;II)V" } : Jvm.MethodName)) ∈ lw_all := lw_g (lw_at lw_m2 110 rfl) rfl
theorem q457 : (Jvm.Cond.classLink "PromiseTries$Reader" (147 : Nat) "PromiseTries$Then") ∈ lw_all := lw_g (lw_at lw_m2 124 rfl) rfl
theorem q459 : (Jvm.Cond.methodLink "PromiseTries$Reader" (149 : Nat) ({ cls := "PromiseTries$Then", name := "<init>", desc := "(LPromiseTries$Node;LPromiseTries$Node;)V" } : Jvm.MethodName)) ∈ lw_all := lw_g (lw_at lw_m2 126 rfl) rfl
theorem q481 : (Jvm.Cond.classLink "PromiseTries$Reader" (155 : Nat) "PromiseTries$Either") ∈ lw_all := lw_g (lw_at lw_m2 148 rfl) rfl
theorem q483 : (Jvm.Cond.methodLink "PromiseTries$Reader" (157 : Nat) ({ cls := "PromiseTries$Either", name := "<init>", desc := "(LPromiseTries$Node;LPromiseTries$Node;)V" } : Jvm.MethodName)) ∈ lw_all := lw_g (lw_at lw_m2 150 rfl) rfl
theorem q490 : (Jvm.Cond.methodLink "PromiseTries$Reader" (176 : Nat) ({ cls := "PromiseTries$Node", name := "least", desc := "()I" } : Jvm.MethodName)) ∈ lw_all := lw_g (lw_at lw_m2 157 rfl) rfl
theorem q516 : (Jvm.Cond.methodLink "PromiseTries$Reader" (182 : Nat) ({ cls := "PromiseTries$Node", name := "weight", desc := "()I" } : Jvm.MethodName)) ∈ lw_all := lw_g (lw_at lw_m2 183 rfl) rfl
theorem q541 : (Jvm.Cond.classLink "PromiseTries$Reader" (185 : Nat) "PromiseTries$Machine") ∈ lw_all := lw_g (lw_at lw_m2 208 rfl) rfl
theorem q543 : (Jvm.Cond.methodLinkNest "PromiseTries$Reader" (187 : Nat) ({ cls := "PromiseTries$Machine", name := "<init>", desc := "()V" } : Jvm.MethodName) "PromiseTries") ∈ lw_tbl := lw_at lw_m2 210 rfl
theorem q568 : (Jvm.Cond.methodLink "PromiseTries$Reader" (192 : Nat) ({ cls := "PromiseTries$Machine", name := "built", desc := "(LPromiseTries$Node;)V" } : Jvm.MethodName)) ∈ lw_all := lw_g (lw_at lw_m2 235 rfl) rfl
theorem in_X3 : ∀ w ∈ wsX30, w ∈ lw_all := lw_in wsX30 [273, 275, 277, 279, 281, 283, 285, 287, 289] (by decide +kernel) (by decide +kernel)
/-! PromiseTries$Fault -/
set_option maxRecDepth 100000
def RX4 : String := "PromiseTries$Fault"
def TX4 : u_T := fun k => match k with
  | 0 => ("java/lang/Throwable", "cause", "Ljava/lang/Throwable;", false)
  | 1 => ("java/lang/Throwable", "stackTrace", "[Ljava/lang/StackTraceElement;", false)
  | 2 => ("java/lang/Throwable", "suppressedExceptions", "Ljava/util/List;", false)
  | 3 => ("java/lang/Throwable", "detailMessage", "Ljava/lang/String;", false)
  | 4 => ("java/lang/Throwable", "backtrace", "Ljava/lang/Object;", false)
  | 5 => ("java/lang/Throwable", "depth", "I", false)
  | 6 => ("PromiseTries$Fault", "code", "I", true)
  | _ => ("PromiseTries$Fault", "place", "I", true)
def tyX4 : Nat → FieldType := fun k => match k with
  | 0 => .object "java/lang/Throwable"
  | 1 => .array (.object "java/lang/StackTraceElement")
  | 2 => .object "java/util/List"
  | 3 => .object "java/lang/String"
  | 4 => .object "java/lang/Object"
  | 5 => .int
  | 6 => .int
  | _ => .int
abbrev wsX40 : List Cond := u_ws RX4 TX4 8
theorem nmX4 : ∀ a, a < 8 → ∀ b, b < 8 → a ≠ b → (TX4 a).2.1 ≠ (TX4 b).2.1 := by decide +kernel
theorem tyX4_ok : ∀ k, k < 8 → parseFieldDescriptor (TX4 k).2.2.1 = some (tyX4 k) := by decide +kernel
abbrev cX4_init : ByteArray := prog_5_method_1_code
def yX4_init : MethodName := ⟨RX4, "<init>", "(II)V"⟩
def dkwX4_init_0 : List UInt8 := [42, 1, 1, 3, 3, 183, 0, 1, 42, 27, 181, 0, 7, 42, 28, 181, 0, 13, 177]
abbrev dktX4_init_0 : List UInt8 := dkwX4_init_0 ++ []
theorem dksX4_init_0 : cX4_init.data.toList.drop 0 = dktX4_init_0 := by decide +kernel
theorem dX4_init_0 : decode cX4_init 0 = .ok (.aload_n 0, 1) := dk_42 (dk_at dksX4_init_0 0 rfl rfl)
theorem dX4_init_1 : decode cX4_init 1 = .ok (.aconst_null, 1) := dk_1 (dk_at dksX4_init_0 1 rfl rfl)
theorem dX4_init_2 : decode cX4_init 2 = .ok (.aconst_null, 1) := dk_1 (dk_at dksX4_init_0 2 rfl rfl)
theorem dX4_init_3 : decode cX4_init 3 = .ok (.iconst 0, 1) := dk_3 (dk_at dksX4_init_0 3 rfl rfl)
theorem dX4_init_4 : decode cX4_init 4 = .ok (.iconst 0, 1) := dk_3 (dk_at dksX4_init_0 4 rfl rfl)
theorem dX4_init_5 : decode cX4_init 5 = .ok (.invokespecial 1, 3) := dk_183 0 1 (dk_at dksX4_init_0 5 rfl rfl)
theorem dX4_init_8 : decode cX4_init 8 = .ok (.aload_n 0, 1) := dk_42 (dk_at dksX4_init_0 8 rfl rfl)
theorem dX4_init_9 : decode cX4_init 9 = .ok (.iload_n 1, 1) := dk_27 (dk_at dksX4_init_0 9 rfl rfl)
theorem dX4_init_10 : decode cX4_init 10 = .ok (.putfield 7, 3) := dk_181 0 7 (dk_at dksX4_init_0 10 rfl rfl)
theorem dX4_init_13 : decode cX4_init 13 = .ok (.aload_n 0, 1) := dk_42 (dk_at dksX4_init_0 13 rfl rfl)
theorem dX4_init_14 : decode cX4_init 14 = .ok (.iload_n 2, 1) := dk_28 (dk_at dksX4_init_0 14 rfl rfl)
theorem dX4_init_15 : decode cX4_init 15 = .ok (.putfield 13, 3) := dk_181 0 13 (dk_at dksX4_init_0 15 rfl rfl)
theorem dX4_init_18 : decode cX4_init 18 = .ok (.return_, 1) := dk_177 (dk_at dksX4_init_0 18 rfl rfl)
theorem q102 : (Jvm.Cond.initialized "PromiseTries$Fault") ∈ lw_all := lw_g (lw_at lw_m1 9 rfl) rfl
theorem q170 : (Jvm.Cond.instantiable "PromiseTries$Fault" (8 : Nat)) ∈ lw_all := lw_g (lw_at lw_m1 77 rfl) rfl
theorem q171 : (Jvm.Cond.castable "PromiseTries$Fault" "PromiseTries$Fault") ∈ lw_tbl := lw_at lw_m1 78 rfl
theorem q178 : (Jvm.Cond.selects "PromiseTries$Fault" ({ cls := "java/lang/Throwable", name := "fillInStackTrace", desc := "(I)Ljava/lang/Throwable;" } : Jvm.MethodName) ({ cls := "java/lang/Throwable", name := "fillInStackTrace", desc := "(I)Ljava/lang/Throwable;" } : Jvm.MethodName)) ∈ lw_all := lw_g (lw_at lw_m1 85 rfl) rfl
theorem q179 : (Jvm.Cond.selects "PromiseTries$Fault" ({ cls := "java/lang/Throwable", name := "fillInStackTrace", desc := "()Ljava/lang/Throwable;" } : Jvm.MethodName) ({ cls := "java/lang/Throwable", name := "fillInStackTrace", desc := "()Ljava/lang/Throwable;" } : Jvm.MethodName)) ∈ lw_all := lw_g (lw_at lw_m1 86 rfl) rfl
theorem q180 : (Jvm.Cond.lays "PromiseTries$Fault" "java/lang/Throwable" "cause" "Ljava/lang/Throwable;") ∈ lw_all := lw_g (lw_at lw_m1 87 rfl) rfl
theorem q182 : (Jvm.Cond.lays "PromiseTries$Fault" "java/lang/Throwable" "stackTrace" "[Ljava/lang/StackTraceElement;") ∈ lw_all := lw_g (lw_at lw_m1 89 rfl) rfl
theorem q184 : (Jvm.Cond.lays "PromiseTries$Fault" "java/lang/Throwable" "suppressedExceptions" "Ljava/util/List;") ∈ lw_all := lw_g (lw_at lw_m1 91 rfl) rfl
theorem q186 : (Jvm.Cond.lays "PromiseTries$Fault" "java/lang/Throwable" "detailMessage" "Ljava/lang/String;") ∈ lw_all := lw_g (lw_at lw_m1 93 rfl) rfl
theorem q188 : (Jvm.Cond.lays "PromiseTries$Fault" "java/lang/Throwable" "backtrace" "Ljava/lang/Object;") ∈ lw_all := lw_g (lw_at lw_m1 95 rfl) rfl
theorem q226 : (Jvm.Cond.instanceMethod ({ cls := "PromiseTries$Fault", name := "<init>", desc := "(II)V" } : Jvm.MethodName)) ∈ lw_all := lw_g (lw_at lw_m1 133 rfl) rfl
theorem q227 : (Jvm.Cond.code ({ cls := "PromiseTries$Fault", name := "<init>", desc := "(II)V" } : Jvm.MethodName) prog_5_method_1_code (3 : Nat) (Option.none : Option Jvm.ClassFile.FieldType)) ∈ lw_all := lw_g (lw_at lw_m1 134 rfl) rfl
theorem q228 : (Jvm.Cond.methodLink "PromiseTries$Fault" (1 : Nat) ({ cls := "java/lang/RuntimeException", name := "<init>", desc := "(Ljava/lang/String;Ljava/lang/Throwable;ZZ)V" } : Jvm.MethodName)) ∈ lw_all := lw_g (lw_at lw_m1 135 rfl) rfl
theorem q237 : (Jvm.Cond.fieldLink "PromiseTries$Fault" (7 : Nat) "PromiseTries$Fault" "code" "I") ∈ lw_all := lw_g (lw_at lw_m1 144 rfl) rfl
theorem q239 : (Jvm.Cond.fieldLink "PromiseTries$Fault" (13 : Nat) "PromiseTries$Fault" "place" "I") ∈ lw_all := lw_g (lw_at lw_m1 146 rfl) rfl
theorem q246 : (Jvm.Cond.laysFinal "PromiseTries$Fault" "PromiseTries$Fault" "code" "I") ∈ lw_all := lw_g (lw_at lw_m1 153 rfl) rfl
theorem q247 : (Jvm.Cond.soleField "PromiseTries$Fault" "code") ∈ lw_all := lw_g (lw_at lw_m1 154 rfl) rfl
theorem q248 : (Jvm.Cond.laysFinal "PromiseTries$Fault" "PromiseTries$Fault" "place" "I") ∈ lw_all := lw_g (lw_at lw_m1 155 rfl) rfl
theorem q249 : (Jvm.Cond.soleField "PromiseTries$Fault" "place") ∈ lw_all := lw_g (lw_at lw_m1 156 rfl) rfl
theorem q254 : (Jvm.Cond.lays "PromiseTries$Fault" "java/lang/Throwable" "depth" "I") ∈ lw_all := lw_g (lw_at lw_m1 161 rfl) rfl
theorem q257 : (Jvm.Cond.superclass "PromiseTries$Fault" "java/lang/RuntimeException") ∈ lw_all := lw_g (lw_at lw_m1 164 rfl) rfl
theorem in_X4 : ∀ w ∈ wsX40, w ∈ lw_all := lw_in wsX40 [180, 182, 184, 186, 188, 254, 246, 248] (by decide +kernel) (by decide +kernel)
/-! PromiseTries$Promise -/
set_option maxRecDepth 100000
def RX5 : String := "PromiseTries$Promise"
def TX5 : u_T := fun k => match k with
  | 0 => ("PromiseTries$Promise", "sides", "[LPromiseTries$Side;", true)
  | 1 => ("PromiseTries$Promise", "kind", "I", false)
  | _ => ("PromiseTries$Promise", "off", "LPromiseTries$Holds;", false)
def tyX5 : Nat → FieldType := fun k => match k with
  | 0 => .array (.object "PromiseTries$Side")
  | 1 => .int
  | _ => .object "PromiseTries$Holds"
abbrev wsX50 : List Cond := u_ws RX5 TX5 3
theorem nmX5 : ∀ a, a < 3 → ∀ b, b < 3 → a ≠ b → (TX5 a).2.1 ≠ (TX5 b).2.1 := by decide +kernel
theorem tyX5_ok : ∀ k, k < 3 → parseFieldDescriptor (TX5 k).2.2.1 = some (tyX5 k) := by decide +kernel
abbrev cX5_init : ByteArray := prog_13_method_1_code
def yX5_init : MethodName := ⟨RX5, "<init>", "()V"⟩
def dkwX5_init_1 : List UInt8 := [89, 183, 0, 9, 83, 181, 0, 10, 177]
abbrev dktX5_init_1 : List UInt8 := dkwX5_init_1 ++ []
def dkwX5_init_0 : List UInt8 := [42, 183, 0, 1, 42, 5, 189, 0, 7, 89, 3, 187, 0, 7, 89, 183, 0, 9, 83, 89, 4, 187, 0, 7]
abbrev dktX5_init_0 : List UInt8 := dkwX5_init_0 ++ dktX5_init_1
theorem dksX5_init_0 : cX5_init.data.toList.drop 0 = dktX5_init_0 := by decide +kernel
theorem dksX5_init_1 : cX5_init.data.toList.drop 24 = dktX5_init_1 := dk_seg dksX5_init_0 24 rfl rfl
theorem dX5_init_0 : decode cX5_init 0 = .ok (.aload_n 0, 1) := dk_42 (dk_at dksX5_init_0 0 rfl rfl)
theorem dX5_init_1 : decode cX5_init 1 = .ok (.invokespecial 1, 3) := dk_183 0 1 (dk_at dksX5_init_0 1 rfl rfl)
theorem dX5_init_4 : decode cX5_init 4 = .ok (.aload_n 0, 1) := dk_42 (dk_at dksX5_init_0 4 rfl rfl)
theorem dX5_init_5 : decode cX5_init 5 = .ok (.iconst 2, 1) := dk_5 (dk_at dksX5_init_0 5 rfl rfl)
theorem dX5_init_6 : decode cX5_init 6 = .ok (.anewarray 7, 3) := dk_189 0 7 (dk_at dksX5_init_0 6 rfl rfl)
theorem dX5_init_9 : decode cX5_init 9 = .ok (.dup, 1) := dk_89 (dk_at dksX5_init_0 9 rfl rfl)
theorem dX5_init_10 : decode cX5_init 10 = .ok (.iconst 0, 1) := dk_3 (dk_at dksX5_init_0 10 rfl rfl)
theorem dX5_init_11 : decode cX5_init 11 = .ok (.new 7, 3) := dk_187 0 7 (dk_at dksX5_init_0 11 rfl rfl)
theorem dX5_init_14 : decode cX5_init 14 = .ok (.dup, 1) := dk_89 (dk_at dksX5_init_0 14 rfl rfl)
theorem dX5_init_15 : decode cX5_init 15 = .ok (.invokespecial 9, 3) := dk_183 0 9 (dk_at dksX5_init_0 15 rfl rfl)
theorem dX5_init_18 : decode cX5_init 18 = .ok (.aastore, 1) := dk_83 (dk_at dksX5_init_0 18 rfl rfl)
theorem dX5_init_19 : decode cX5_init 19 = .ok (.dup, 1) := dk_89 (dk_at dksX5_init_0 19 rfl rfl)
theorem dX5_init_20 : decode cX5_init 20 = .ok (.iconst 1, 1) := dk_4 (dk_at dksX5_init_0 20 rfl rfl)
theorem dX5_init_21 : decode cX5_init 21 = .ok (.new 7, 3) := dk_187 0 7 (dk_at dksX5_init_0 21 rfl rfl)
theorem dX5_init_24 : decode cX5_init 24 = .ok (.dup, 1) := dk_89 (dk_at dksX5_init_1 0 rfl rfl)
theorem dX5_init_25 : decode cX5_init 25 = .ok (.invokespecial 9, 3) := dk_183 0 9 (dk_at dksX5_init_1 1 rfl rfl)
theorem dX5_init_28 : decode cX5_init 28 = .ok (.aastore, 1) := dk_83 (dk_at dksX5_init_1 4 rfl rfl)
theorem dX5_init_29 : decode cX5_init 29 = .ok (.putfield 10, 3) := dk_181 0 10 (dk_at dksX5_init_1 5 rfl rfl)
theorem dX5_init_32 : decode cX5_init 32 = .ok (.return_, 1) := dk_177 (dk_at dksX5_init_1 8 rfl rfl)
abbrev cX5_kind : ByteArray := prog_13_method_2_code
def yX5_kind : MethodName := ⟨RX5, "kind", "()LPromiseTries$Kind;"⟩
def dkwX5_kind_0 : List UInt8 := [42, 180, 0, 16, 154, 0, 9, 178, 0, 20, 167, 0, 6, 178, 0, 26, 176]
abbrev dktX5_kind_0 : List UInt8 := dkwX5_kind_0 ++ []
theorem dksX5_kind_0 : cX5_kind.data.toList.drop 0 = dktX5_kind_0 := by decide +kernel
theorem dX5_kind_0 : decode cX5_kind 0 = .ok (.aload_n 0, 1) := dk_42 (dk_at dksX5_kind_0 0 rfl rfl)
theorem dX5_kind_1 : decode cX5_kind 1 = .ok (.getfield 16, 3) := dk_180 0 16 (dk_at dksX5_kind_0 1 rfl rfl)
theorem dX5_kind_4 : decode cX5_kind 4 = .ok (.ifCond .ne 9, 3) := dk_154 0 9 (dk_at dksX5_kind_0 4 rfl rfl)
theorem dX5_kind_7 : decode cX5_kind 7 = .ok (.getstatic 20, 3) := dk_178 0 20 (dk_at dksX5_kind_0 7 rfl rfl)
theorem dX5_kind_10 : decode cX5_kind 10 = .ok (.goto 6, 3) := dk_167 0 6 (dk_at dksX5_kind_0 10 rfl rfl)
theorem dX5_kind_13 : decode cX5_kind 13 = .ok (.getstatic 26, 3) := dk_178 0 26 (dk_at dksX5_kind_0 13 rfl rfl)
theorem dX5_kind_16 : decode cX5_kind 16 = .ok (.areturn, 1) := dk_176 (dk_at dksX5_kind_0 16 rfl rfl)
theorem q103 : (Jvm.Cond.initialized "PromiseTries$Promise") ∈ lw_all := lw_g (lw_at lw_m1 10 rfl) rfl
theorem q304 : (Jvm.Cond.instantiable "PromiseTries$Promise" (3 : Nat)) ∈ lw_all := lw_g (lw_at lw_m1 211 rfl) rfl
theorem q306 : (Jvm.Cond.instanceMethod ({ cls := "PromiseTries$Promise", name := "<init>", desc := "()V" } : Jvm.MethodName)) ∈ lw_all := lw_g (lw_at lw_m1 213 rfl) rfl
theorem q307 : (Jvm.Cond.code ({ cls := "PromiseTries$Promise", name := "<init>", desc := "()V" } : Jvm.MethodName) prog_13_method_1_code (1 : Nat) (Option.none : Option Jvm.ClassFile.FieldType)) ∈ lw_all := lw_g (lw_at lw_m1 214 rfl) rfl
theorem q308 : (Jvm.Cond.methodLink "PromiseTries$Promise" (1 : Nat) ({ cls := "java/lang/Object", name := "<init>", desc := "()V" } : Jvm.MethodName)) ∈ lw_all := lw_g (lw_at lw_m1 215 rfl) rfl
theorem q309 : (Jvm.Cond.classLink "PromiseTries$Promise" (7 : Nat) "PromiseTries$Side") ∈ lw_all := lw_g (lw_at lw_m1 216 rfl) rfl
theorem q312 : (Jvm.Cond.methodLinkNest "PromiseTries$Promise" (9 : Nat) ({ cls := "PromiseTries$Side", name := "<init>", desc := "()V" } : Jvm.MethodName) "PromiseTries") ∈ lw_tbl := lw_at lw_m1 219 rfl
theorem q343 : (Jvm.Cond.fieldLink "PromiseTries$Promise" (10 : Nat) "PromiseTries$Promise" "sides" "[LPromiseTries$Side;") ∈ lw_all := lw_g (lw_at lw_m2 10 rfl) rfl
theorem q346 : (Jvm.Cond.fieldLink "PromiseTries$Promise" (16 : Nat) "PromiseTries$Promise" "kind" "I") ∈ lw_all := lw_g (lw_at lw_m2 13 rfl) rfl
theorem q351 : (Jvm.Cond.laysFinal "PromiseTries$Promise" "PromiseTries$Promise" "sides" "[LPromiseTries$Side;") ∈ lw_all := lw_g (lw_at lw_m2 18 rfl) rfl
theorem q352 : (Jvm.Cond.soleField "PromiseTries$Promise" "sides") ∈ lw_all := lw_g (lw_at lw_m2 19 rfl) rfl
theorem q353 : (Jvm.Cond.lays "PromiseTries$Promise" "PromiseTries$Promise" "kind" "I") ∈ lw_all := lw_g (lw_at lw_m2 20 rfl) rfl
theorem q354 : (Jvm.Cond.soleField "PromiseTries$Promise" "kind") ∈ lw_all := lw_g (lw_at lw_m2 21 rfl) rfl
theorem q355 : (Jvm.Cond.lays "PromiseTries$Promise" "PromiseTries$Promise" "off" "LPromiseTries$Holds;") ∈ lw_all := lw_g (lw_at lw_m2 22 rfl) rfl
theorem q356 : (Jvm.Cond.soleField "PromiseTries$Promise" "off") ∈ lw_all := lw_g (lw_at lw_m2 23 rfl) rfl
theorem q357 : (Jvm.Cond.superclass "PromiseTries$Promise" "java/lang/Object") ∈ lw_all := lw_g (lw_at lw_m2 24 rfl) rfl
theorem q683 : (Jvm.Cond.instanceMethod ({ cls := "PromiseTries$Promise", name := "kind", desc := "()LPromiseTries$Kind;" } : Jvm.MethodName)) ∈ lw_all := lw_g (lw_at lw_m3 110 rfl) rfl
theorem q684 : (Jvm.Cond.selects "PromiseTries$Promise" ({ cls := "PromiseTries$Promise", name := "kind", desc := "()LPromiseTries$Kind;" } : Jvm.MethodName) ({ cls := "PromiseTries$Promise", name := "kind", desc := "()LPromiseTries$Kind;" } : Jvm.MethodName)) ∈ lw_all := lw_g (lw_at lw_m3 111 rfl) rfl
theorem q685 : (Jvm.Cond.code ({ cls := "PromiseTries$Promise", name := "kind", desc := "()LPromiseTries$Kind;" } : Jvm.MethodName) prog_13_method_2_code (1 : Nat) (Option.some (Jvm.ClassFile.FieldType.object "PromiseTries$Kind"))) ∈ lw_all := lw_g (lw_at lw_m3 112 rfl) rfl
theorem q686 : (Jvm.Cond.fieldLink "PromiseTries$Promise" (20 : Nat) "PromiseTries$Kind" "HERE" "LPromiseTries$Kind;") ∈ lw_all := lw_g (lw_at lw_m3 113 rfl) rfl
theorem q688 : (Jvm.Cond.fieldLink "PromiseTries$Promise" (26 : Nat) "PromiseTries$Kind" "NEXT" "LPromiseTries$Kind;") ∈ lw_all := lw_g (lw_at lw_m3 115 rfl) rfl
theorem in_X5 : ∀ w ∈ wsX50, w ∈ lw_all := lw_in wsX50 [351, 353, 355] (by decide +kernel) (by decide +kernel)
/-! PromiseTries$Side -/
set_option maxRecDepth 100000
def RX6 : String := "PromiseTries$Side"
def TX6 : u_T := fun k => match k with
  | 0 => ("PromiseTries$Side", "conditions", "[LPromiseTries$Holds;", true)
  | 1 => ("PromiseTries$Side", "many", "I", false)
  | 2 => ("PromiseTries$Side", "node", "LPromiseTries$Node;", false)
  | 3 => ("PromiseTries$Side", "machine", "LPromiseTries$Machine;", false)
  | _ => ("PromiseTries$Side", "runs", "[[J", true)
def tyX6 : Nat → FieldType := fun k => match k with
  | 0 => .array (.object "PromiseTries$Holds")
  | 1 => .int
  | 2 => .object "PromiseTries$Node"
  | 3 => .object "PromiseTries$Machine"
  | _ => .array (.array .long)
abbrev wsX60 : List Cond := u_ws RX6 TX6 5
theorem nmX6 : ∀ a, a < 5 → ∀ b, b < 5 → a ≠ b → (TX6 a).2.1 ≠ (TX6 b).2.1 := by decide +kernel
theorem tyX6_ok : ∀ k, k < 5 → parseFieldDescriptor (TX6 k).2.2.1 = some (tyX6 k) := by decide +kernel
abbrev cX6_init : ByteArray := prog_16_method_1_code
def yX6_init : MethodName := ⟨RX6, "<init>", "()V"⟩
def dkwX6_init_1 : List UInt8 := [181, 0, 19, 177]
abbrev dktX6_init_1 : List UInt8 := dkwX6_init_1 ++ []
def dkwX6_init_0 : List UInt8 := [42, 183, 0, 3, 42, 16, 41, 189, 0, 9, 181, 0, 11, 42, 16, 48, 16, 48, 197, 0, 17, 2]
abbrev dktX6_init_0 : List UInt8 := dkwX6_init_0 ++ dktX6_init_1
theorem dksX6_init_0 : cX6_init.data.toList.drop 0 = dktX6_init_0 := by decide +kernel
theorem dksX6_init_1 : cX6_init.data.toList.drop 22 = dktX6_init_1 := dk_seg dksX6_init_0 22 rfl rfl
theorem dX6_init_0 : decode cX6_init 0 = .ok (.aload_n 0, 1) := dk_42 (dk_at dksX6_init_0 0 rfl rfl)
theorem dX6_init_1 : decode cX6_init 1 = .ok (.invokespecial 3, 3) := dk_183 0 3 (dk_at dksX6_init_0 1 rfl rfl)
theorem dX6_init_4 : decode cX6_init 4 = .ok (.aload_n 0, 1) := dk_42 (dk_at dksX6_init_0 4 rfl rfl)
theorem dX6_init_5 : decode cX6_init 5 = .ok (.bipush 41, 2) := dk_16 41 (dk_at dksX6_init_0 5 rfl rfl)
theorem dX6_init_7 : decode cX6_init 7 = .ok (.anewarray 9, 3) := dk_189 0 9 (dk_at dksX6_init_0 7 rfl rfl)
theorem dX6_init_10 : decode cX6_init 10 = .ok (.putfield 11, 3) := dk_181 0 11 (dk_at dksX6_init_0 10 rfl rfl)
theorem dX6_init_13 : decode cX6_init 13 = .ok (.aload_n 0, 1) := dk_42 (dk_at dksX6_init_0 13 rfl rfl)
theorem dX6_init_14 : decode cX6_init 14 = .ok (.bipush 48, 2) := dk_16 48 (dk_at dksX6_init_0 14 rfl rfl)
theorem dX6_init_16 : decode cX6_init 16 = .ok (.bipush 48, 2) := dk_16 48 (dk_at dksX6_init_0 16 rfl rfl)
theorem dX6_init_18 : decode cX6_init 18 = .ok (.multianewarray 17 2, 4) := by decide +kernel
theorem dX6_init_22 : decode cX6_init 22 = .ok (.putfield 19, 3) := dk_181 0 19 (dk_at dksX6_init_1 0 rfl rfl)
theorem dX6_init_25 : decode cX6_init 25 = .ok (.return_, 1) := dk_177 (dk_at dksX6_init_1 3 rfl rfl)
theorem q104 : (Jvm.Cond.initialized "PromiseTries$Side") ∈ lw_all := lw_g (lw_at lw_m1 11 rfl) rfl
theorem q311 : (Jvm.Cond.instantiable "PromiseTries$Side" (5 : Nat)) ∈ lw_all := lw_g (lw_at lw_m1 218 rfl) rfl
theorem q313 : (Jvm.Cond.instanceMethod ({ cls := "PromiseTries$Side", name := "<init>", desc := "()V" } : Jvm.MethodName)) ∈ lw_all := lw_g (lw_at lw_m1 220 rfl) rfl
theorem q314 : (Jvm.Cond.code ({ cls := "PromiseTries$Side", name := "<init>", desc := "()V" } : Jvm.MethodName) prog_16_method_1_code (1 : Nat) (Option.none : Option Jvm.ClassFile.FieldType)) ∈ lw_all := lw_g (lw_at lw_m1 221 rfl) rfl
theorem q315 : (Jvm.Cond.methodLink "PromiseTries$Side" (3 : Nat) ({ cls := "java/lang/Object", name := "<init>", desc := "()V" } : Jvm.MethodName)) ∈ lw_all := lw_g (lw_at lw_m1 222 rfl) rfl
theorem q316 : (Jvm.Cond.classLink "PromiseTries$Side" (9 : Nat) "PromiseTries$Holds") ∈ lw_all := lw_g (lw_at lw_m1 223 rfl) rfl
theorem q318 : (Jvm.Cond.classLink "PromiseTries$Side" (17 : Nat) "[[J") ∈ lw_all := lw_g (lw_at lw_m1 225 rfl) rfl
theorem q320 : (Jvm.Cond.fieldLink "PromiseTries$Side" (11 : Nat) "PromiseTries$Side" "conditions" "[LPromiseTries$Holds;") ∈ lw_all := lw_g (lw_at lw_m1 227 rfl) rfl
theorem q329 : (Jvm.Cond.fieldLink "PromiseTries$Side" (19 : Nat) "PromiseTries$Side" "runs" "[[J") ∈ lw_all := lw_g (lw_at lw_m1 236 rfl) rfl
theorem q331 : (Jvm.Cond.laysFinal "PromiseTries$Side" "PromiseTries$Side" "conditions" "[LPromiseTries$Holds;") ∈ lw_all := lw_g (lw_at lw_m1 238 rfl) rfl
theorem q332 : (Jvm.Cond.soleField "PromiseTries$Side" "conditions") ∈ lw_all := lw_g (lw_at lw_m1 239 rfl) rfl
theorem q333 : (Jvm.Cond.lays "PromiseTries$Side" "PromiseTries$Side" "many" "I") ∈ lw_all := lw_g (lw_at lw_m2 0 rfl) rfl
theorem q334 : (Jvm.Cond.soleField "PromiseTries$Side" "many") ∈ lw_all := lw_g (lw_at lw_m2 1 rfl) rfl
theorem q335 : (Jvm.Cond.lays "PromiseTries$Side" "PromiseTries$Side" "node" "LPromiseTries$Node;") ∈ lw_all := lw_g (lw_at lw_m2 2 rfl) rfl
theorem q336 : (Jvm.Cond.soleField "PromiseTries$Side" "node") ∈ lw_all := lw_g (lw_at lw_m2 3 rfl) rfl
theorem q337 : (Jvm.Cond.lays "PromiseTries$Side" "PromiseTries$Side" "machine" "LPromiseTries$Machine;") ∈ lw_all := lw_g (lw_at lw_m2 4 rfl) rfl
theorem q338 : (Jvm.Cond.soleField "PromiseTries$Side" "machine") ∈ lw_all := lw_g (lw_at lw_m2 5 rfl) rfl
theorem q339 : (Jvm.Cond.laysFinal "PromiseTries$Side" "PromiseTries$Side" "runs" "[[J") ∈ lw_all := lw_g (lw_at lw_m2 6 rfl) rfl
theorem q340 : (Jvm.Cond.soleField "PromiseTries$Side" "runs") ∈ lw_all := lw_g (lw_at lw_m2 7 rfl) rfl
theorem q341 : (Jvm.Cond.superclass "PromiseTries$Side" "java/lang/Object") ∈ lw_all := lw_g (lw_at lw_m2 8 rfl) rfl
theorem in_X6 : ∀ w ∈ wsX60, w ∈ lw_all := lw_in wsX60 [331, 333, 335, 337, 339] (by decide +kernel) (by decide +kernel)
/-! PromiseTries$Node -/
set_option maxRecDepth 100000
def RX7 : String := "PromiseTries$Node"
abbrev cX7_init : ByteArray := prog_11_method_1_code
def yX7_init : MethodName := ⟨RX7, "<init>", "()V"⟩
theorem dX7_init_0 : decode cX7_init 0 = .ok (.aload_n 0, 1) := by decide +kernel
theorem dX7_init_1 : decode cX7_init 1 = .ok (.invokespecial 1, 3) := by decide +kernel
theorem dX7_init_4 : decode cX7_init 4 = .ok (.return_, 1) := by decide +kernel
abbrev cX7_weight : ByteArray := prog_11_method_2_code
def yX7_weight : MethodName := ⟨RX7, "weight", "()I"⟩
theorem dX7_weight_0 : decode cX7_weight 0 = .ok (.iconst 0, 1) := by decide +kernel
theorem dX7_weight_1 : decode cX7_weight 1 = .ok (.ireturn, 1) := by decide +kernel
theorem q105 : (Jvm.Cond.initialized "PromiseTries$Node") ∈ lw_all := lw_g (lw_at lw_m1 12 rfl) rfl
theorem q424 : (Jvm.Cond.instanceMethod ({ cls := "PromiseTries$Node", name := "<init>", desc := "()V" } : Jvm.MethodName)) ∈ lw_all := lw_g (lw_at lw_m2 91 rfl) rfl
theorem q425 : (Jvm.Cond.code ({ cls := "PromiseTries$Node", name := "<init>", desc := "()V" } : Jvm.MethodName) prog_11_method_1_code (1 : Nat) (Option.none : Option Jvm.ClassFile.FieldType)) ∈ lw_all := lw_g (lw_at lw_m2 92 rfl) rfl
theorem q426 : (Jvm.Cond.methodLink "PromiseTries$Node" (1 : Nat) ({ cls := "java/lang/Object", name := "<init>", desc := "()V" } : Jvm.MethodName)) ∈ lw_all := lw_g (lw_at lw_m2 93 rfl) rfl
theorem q491 : (Jvm.Cond.declares ({ cls := "PromiseTries$Node", name := "least", desc := "()I" } : Jvm.MethodName)) ∈ lw_tbl := lw_at lw_m2 158 rfl
theorem q492 : (Jvm.Cond.sameMethod "PromiseTries$Node" "PromiseTries$Node" "least" "()I") ∈ lw_all := lw_g (lw_at lw_m2 159 rfl) rfl
theorem q517 : (Jvm.Cond.instanceMethod ({ cls := "PromiseTries$Node", name := "weight", desc := "()I" } : Jvm.MethodName)) ∈ lw_all := lw_g (lw_at lw_m2 184 rfl) rfl
theorem q518 : (Jvm.Cond.sameMethod "PromiseTries$Node" "PromiseTries$Node" "weight" "()I") ∈ lw_all := lw_g (lw_at lw_m2 185 rfl) rfl
theorem q527 : (Jvm.Cond.declares ({ cls := "PromiseTries$Node", name := "weight", desc := "()I" } : Jvm.MethodName)) ∈ lw_tbl := lw_at lw_m2 194 rfl
theorem q529 : (Jvm.Cond.code ({ cls := "PromiseTries$Node", name := "weight", desc := "()I" } : Jvm.MethodName) prog_11_method_2_code (1 : Nat) (Option.some Jvm.ClassFile.FieldType.int)) ∈ lw_all := lw_g (lw_at lw_m2 196 rfl) rfl
theorem q573 : (Jvm.Cond.declares ({ cls := "PromiseTries$Node", name := "built", desc := "(LPromiseTries$Machine;)LPromiseTries$Part;" } : Jvm.MethodName)) ∈ lw_tbl := lw_at lw_m3 0 rfl
theorem q574 : (Jvm.Cond.sameMethod "PromiseTries$Node" "PromiseTries$Node" "built" "(LPromiseTries$Machine;)LPromiseTries$Part;") ∈ lw_all := lw_g (lw_at lw_m3 1 rfl) rfl
theorem q750 : (Jvm.Cond.declares ({ cls := "PromiseTries$Node", name := "most", desc := "()I" } : Jvm.MethodName)) ∈ lw_tbl := lw_at lw_m3 177 rfl
theorem q751 : (Jvm.Cond.sameMethod "PromiseTries$Node" "PromiseTries$Node" "most" "()I") ∈ lw_all := lw_g (lw_at lw_m3 178 rfl) rfl
/-! PromiseTries$Atom -/
set_option maxRecDepth 100000
def RX8 : String := "PromiseTries$Atom"
def TX8 : u_T := fun k => match k with
  | 0 => ("PromiseTries$Atom", "condition", "I", true)
  | _ => ("PromiseTries$Atom", "holds", "LPromiseTries$Holds;", true)
def tyX8 : Nat → FieldType := fun k => match k with
  | 0 => .int
  | _ => .object "PromiseTries$Holds"
abbrev wsX80 : List Cond := u_ws RX8 TX8 2
theorem nmX8 : ∀ a, a < 2 → ∀ b, b < 2 → a ≠ b → (TX8 a).2.1 ≠ (TX8 b).2.1 := by decide +kernel
theorem tyX8_ok : ∀ k, k < 2 → parseFieldDescriptor (TX8 k).2.2.1 = some (tyX8 k) := by decide +kernel
abbrev cX8_init : ByteArray := prog_2_method_1_code
def yX8_init : MethodName := ⟨RX8, "<init>", "(ILPromiseTries$Holds;)V"⟩
def dkwX8_init_0 : List UInt8 := [42, 183, 0, 1, 42, 27, 181, 0, 7, 42, 44, 181, 0, 13, 177]
abbrev dktX8_init_0 : List UInt8 := dkwX8_init_0 ++ []
theorem dksX8_init_0 : cX8_init.data.toList.drop 0 = dktX8_init_0 := by decide +kernel
theorem dX8_init_0 : decode cX8_init 0 = .ok (.aload_n 0, 1) := dk_42 (dk_at dksX8_init_0 0 rfl rfl)
theorem dX8_init_1 : decode cX8_init 1 = .ok (.invokespecial 1, 3) := dk_183 0 1 (dk_at dksX8_init_0 1 rfl rfl)
theorem dX8_init_4 : decode cX8_init 4 = .ok (.aload_n 0, 1) := dk_42 (dk_at dksX8_init_0 4 rfl rfl)
theorem dX8_init_5 : decode cX8_init 5 = .ok (.iload_n 1, 1) := dk_27 (dk_at dksX8_init_0 5 rfl rfl)
theorem dX8_init_6 : decode cX8_init 6 = .ok (.putfield 7, 3) := dk_181 0 7 (dk_at dksX8_init_0 6 rfl rfl)
theorem dX8_init_9 : decode cX8_init 9 = .ok (.aload_n 0, 1) := dk_42 (dk_at dksX8_init_0 9 rfl rfl)
theorem dX8_init_10 : decode cX8_init 10 = .ok (.aload_n 2, 1) := dk_44 (dk_at dksX8_init_0 10 rfl rfl)
theorem dX8_init_11 : decode cX8_init 11 = .ok (.putfield 13, 3) := dk_181 0 13 (dk_at dksX8_init_0 11 rfl rfl)
theorem dX8_init_14 : decode cX8_init 14 = .ok (.return_, 1) := dk_177 (dk_at dksX8_init_0 14 rfl rfl)
abbrev cX8_least : ByteArray := prog_2_method_3_code
def yX8_least : MethodName := ⟨RX8, "least", "()I"⟩
theorem dX8_least_0 : decode cX8_least 0 = .ok (.iconst 1, 1) := by decide +kernel
theorem dX8_least_1 : decode cX8_least 1 = .ok (.ireturn, 1) := by decide +kernel
abbrev cX8_weight : ByteArray := prog_2_method_2_code
def yX8_weight : MethodName := ⟨RX8, "weight", "()I"⟩
theorem dX8_weight_0 : decode cX8_weight 0 = .ok (.iconst 1, 1) := by decide +kernel
theorem dX8_weight_1 : decode cX8_weight 1 = .ok (.ireturn, 1) := by decide +kernel
abbrev cX8_built : ByteArray := prog_2_method_5_code
def yX8_built : MethodName := ⟨RX8, "built", "(LPromiseTries$Machine;)LPromiseTries$Part;"⟩
def dkwX8_built_0 : List UInt8 := [43, 42, 180, 0, 13, 182, 0, 17, 176]
abbrev dktX8_built_0 : List UInt8 := dkwX8_built_0 ++ []
theorem dksX8_built_0 : cX8_built.data.toList.drop 0 = dktX8_built_0 := by decide +kernel
theorem dX8_built_0 : decode cX8_built 0 = .ok (.aload_n 1, 1) := dk_43 (dk_at dksX8_built_0 0 rfl rfl)
theorem dX8_built_1 : decode cX8_built 1 = .ok (.aload_n 0, 1) := dk_42 (dk_at dksX8_built_0 1 rfl rfl)
theorem dX8_built_2 : decode cX8_built 2 = .ok (.getfield 13, 3) := dk_180 0 13 (dk_at dksX8_built_0 2 rfl rfl)
theorem dX8_built_5 : decode cX8_built 5 = .ok (.invokevirtual 17, 3) := dk_182 0 17 (dk_at dksX8_built_0 5 rfl rfl)
theorem dX8_built_8 : decode cX8_built 8 = .ok (.areturn, 1) := dk_176 (dk_at dksX8_built_0 8 rfl rfl)
abbrev cX8_most : ByteArray := prog_2_method_4_code
def yX8_most : MethodName := ⟨RX8, "most", "()I"⟩
theorem dX8_most_0 : decode cX8_most 0 = .ok (.iconst 1, 1) := by decide +kernel
theorem dX8_most_1 : decode cX8_most 1 = .ok (.ireturn, 1) := by decide +kernel
theorem q106 : (Jvm.Cond.initialized "PromiseTries$Atom") ∈ lw_all := lw_g (lw_at lw_m1 13 rfl) rfl
theorem q419 : (Jvm.Cond.instantiable "PromiseTries$Atom" (2 : Nat)) ∈ lw_all := lw_g (lw_at lw_m2 86 rfl) rfl
theorem q421 : (Jvm.Cond.instanceMethod ({ cls := "PromiseTries$Atom", name := "<init>", desc := "(ILPromiseTries$Holds;)V" } : Jvm.MethodName)) ∈ lw_all := lw_g (lw_at lw_m2 88 rfl) rfl
theorem q422 : (Jvm.Cond.code ({ cls := "PromiseTries$Atom", name := "<init>", desc := "(ILPromiseTries$Holds;)V" } : Jvm.MethodName) prog_2_method_1_code (3 : Nat) (Option.none : Option Jvm.ClassFile.FieldType)) ∈ lw_all := lw_g (lw_at lw_m2 89 rfl) rfl
theorem q423 : (Jvm.Cond.methodLinkNest "PromiseTries$Atom" (1 : Nat) ({ cls := "PromiseTries$Node", name := "<init>", desc := "()V" } : Jvm.MethodName) "PromiseTries") ∈ lw_tbl := lw_at lw_m2 90 rfl
theorem q427 : (Jvm.Cond.fieldLink "PromiseTries$Atom" (7 : Nat) "PromiseTries$Atom" "condition" "I") ∈ lw_all := lw_g (lw_at lw_m2 94 rfl) rfl
theorem q428 : (Jvm.Cond.fieldLink "PromiseTries$Atom" (13 : Nat) "PromiseTries$Atom" "holds" "LPromiseTries$Holds;") ∈ lw_all := lw_g (lw_at lw_m2 95 rfl) rfl
theorem q429 : (Jvm.Cond.laysFinal "PromiseTries$Atom" "PromiseTries$Atom" "condition" "I") ∈ lw_all := lw_g (lw_at lw_m2 96 rfl) rfl
theorem q430 : (Jvm.Cond.soleField "PromiseTries$Atom" "condition") ∈ lw_all := lw_g (lw_at lw_m2 97 rfl) rfl
theorem q431 : (Jvm.Cond.laysFinal "PromiseTries$Atom" "PromiseTries$Atom" "holds" "LPromiseTries$Holds;") ∈ lw_all := lw_g (lw_at lw_m2 98 rfl) rfl
theorem q432 : (Jvm.Cond.soleField "PromiseTries$Atom" "holds") ∈ lw_all := lw_g (lw_at lw_m2 99 rfl) rfl
theorem q433 : (Jvm.Cond.superclass "PromiseTries$Atom" "PromiseTries$Node") ∈ lw_all := lw_g (lw_at lw_m2 100 rfl) rfl
theorem q493 : (Jvm.Cond.selects "PromiseTries$Atom" ({ cls := "PromiseTries$Node", name := "least", desc := "()I" } : Jvm.MethodName) ({ cls := "PromiseTries$Atom", name := "least", desc := "()I" } : Jvm.MethodName)) ∈ lw_all := lw_g (lw_at lw_m2 160 rfl) rfl
theorem q494 : (Jvm.Cond.instanceMethod ({ cls := "PromiseTries$Atom", name := "least", desc := "()I" } : Jvm.MethodName)) ∈ lw_all := lw_g (lw_at lw_m2 161 rfl) rfl
theorem q495 : (Jvm.Cond.code ({ cls := "PromiseTries$Atom", name := "least", desc := "()I" } : Jvm.MethodName) prog_2_method_3_code (1 : Nat) (Option.some Jvm.ClassFile.FieldType.int)) ∈ lw_all := lw_g (lw_at lw_m2 162 rfl) rfl
theorem q519 : (Jvm.Cond.selects "PromiseTries$Atom" ({ cls := "PromiseTries$Node", name := "weight", desc := "()I" } : Jvm.MethodName) ({ cls := "PromiseTries$Atom", name := "weight", desc := "()I" } : Jvm.MethodName)) ∈ lw_all := lw_g (lw_at lw_m2 186 rfl) rfl
theorem q520 : (Jvm.Cond.instanceMethod ({ cls := "PromiseTries$Atom", name := "weight", desc := "()I" } : Jvm.MethodName)) ∈ lw_all := lw_g (lw_at lw_m2 187 rfl) rfl
theorem q521 : (Jvm.Cond.code ({ cls := "PromiseTries$Atom", name := "weight", desc := "()I" } : Jvm.MethodName) prog_2_method_2_code (1 : Nat) (Option.some Jvm.ClassFile.FieldType.int)) ∈ lw_all := lw_g (lw_at lw_m2 188 rfl) rfl
theorem q575 : (Jvm.Cond.selects "PromiseTries$Atom" ({ cls := "PromiseTries$Node", name := "built", desc := "(LPromiseTries$Machine;)LPromiseTries$Part;" } : Jvm.MethodName) ({ cls := "PromiseTries$Atom", name := "built", desc := "(LPromiseTries$Machine;)LPromiseTries$Part;" } : Jvm.MethodName)) ∈ lw_all := lw_g (lw_at lw_m3 2 rfl) rfl
theorem q576 : (Jvm.Cond.instanceMethod ({ cls := "PromiseTries$Atom", name := "built", desc := "(LPromiseTries$Machine;)LPromiseTries$Part;" } : Jvm.MethodName)) ∈ lw_all := lw_g (lw_at lw_m3 3 rfl) rfl
theorem q577 : (Jvm.Cond.code ({ cls := "PromiseTries$Atom", name := "built", desc := "(LPromiseTries$Machine;)LPromiseTries$Part;" } : Jvm.MethodName) prog_2_method_5_code (2 : Nat) (Option.some (Jvm.ClassFile.FieldType.object "PromiseTries$Part"))) ∈ lw_all := lw_g (lw_at lw_m3 4 rfl) rfl
theorem q578 : (Jvm.Cond.methodLink "PromiseTries$Atom" (17 : Nat) ({ cls := "PromiseTries$Machine", name := "place", desc := "(LPromiseTries$Holds;)LPromiseTries$Part;" } : Jvm.MethodName)) ∈ lw_all := lw_g (lw_at lw_m3 5 rfl) rfl
theorem q752 : (Jvm.Cond.selects "PromiseTries$Atom" ({ cls := "PromiseTries$Node", name := "most", desc := "()I" } : Jvm.MethodName) ({ cls := "PromiseTries$Atom", name := "most", desc := "()I" } : Jvm.MethodName)) ∈ lw_all := lw_g (lw_at lw_m3 179 rfl) rfl
theorem q753 : (Jvm.Cond.instanceMethod ({ cls := "PromiseTries$Atom", name := "most", desc := "()I" } : Jvm.MethodName)) ∈ lw_all := lw_g (lw_at lw_m3 180 rfl) rfl
theorem q754 : (Jvm.Cond.code ({ cls := "PromiseTries$Atom", name := "most", desc := "()I" } : Jvm.MethodName) prog_2_method_4_code (1 : Nat) (Option.some Jvm.ClassFile.FieldType.int)) ∈ lw_all := lw_g (lw_at lw_m3 181 rfl) rfl
theorem in_X8 : ∀ w ∈ wsX80, w ∈ lw_all := lw_in wsX80 [429, 431] (by decide +kernel) (by decide +kernel)
/-! PromiseTries$Times -/
set_option maxRecDepth 100000
def RX9 : String := "PromiseTries$Times"
def TX9 : u_T := fun k => match k with
  | 0 => ("PromiseTries$Times", "node", "LPromiseTries$Node;", true)
  | 1 => ("PromiseTries$Times", "fewest", "I", true)
  | _ => ("PromiseTries$Times", "many", "I", true)
def tyX9 : Nat → FieldType := fun k => match k with
  | 0 => .object "PromiseTries$Node"
  | 1 => .int
  | _ => .int
abbrev wsX90 : List Cond := u_ws RX9 TX9 3
theorem nmX9 : ∀ a, a < 3 → ∀ b, b < 3 → a ≠ b → (TX9 a).2.1 ≠ (TX9 b).2.1 := by decide +kernel
theorem tyX9_ok : ∀ k, k < 3 → parseFieldDescriptor (TX9 k).2.2.1 = some (tyX9 k) := by decide +kernel
abbrev cX9_init : ByteArray := prog_18_method_1_code
def yX9_init : MethodName := ⟨RX9, "<init>", "(LPromiseTries$Node;II)V"⟩
def dkwX9_init_0 : List UInt8 := [42, 183, 0, 1, 42, 43, 181, 0, 7, 42, 28, 181, 0, 13, 42, 29, 181, 0, 17, 177]
abbrev dktX9_init_0 : List UInt8 := dkwX9_init_0 ++ []
theorem dksX9_init_0 : cX9_init.data.toList.drop 0 = dktX9_init_0 := by decide +kernel
theorem dX9_init_0 : decode cX9_init 0 = .ok (.aload_n 0, 1) := dk_42 (dk_at dksX9_init_0 0 rfl rfl)
theorem dX9_init_1 : decode cX9_init 1 = .ok (.invokespecial 1, 3) := dk_183 0 1 (dk_at dksX9_init_0 1 rfl rfl)
theorem dX9_init_4 : decode cX9_init 4 = .ok (.aload_n 0, 1) := dk_42 (dk_at dksX9_init_0 4 rfl rfl)
theorem dX9_init_5 : decode cX9_init 5 = .ok (.aload_n 1, 1) := dk_43 (dk_at dksX9_init_0 5 rfl rfl)
theorem dX9_init_6 : decode cX9_init 6 = .ok (.putfield 7, 3) := dk_181 0 7 (dk_at dksX9_init_0 6 rfl rfl)
theorem dX9_init_9 : decode cX9_init 9 = .ok (.aload_n 0, 1) := dk_42 (dk_at dksX9_init_0 9 rfl rfl)
theorem dX9_init_10 : decode cX9_init 10 = .ok (.iload_n 2, 1) := dk_28 (dk_at dksX9_init_0 10 rfl rfl)
theorem dX9_init_11 : decode cX9_init 11 = .ok (.putfield 13, 3) := dk_181 0 13 (dk_at dksX9_init_0 11 rfl rfl)
theorem dX9_init_14 : decode cX9_init 14 = .ok (.aload_n 0, 1) := dk_42 (dk_at dksX9_init_0 14 rfl rfl)
theorem dX9_init_15 : decode cX9_init 15 = .ok (.iload_n 3, 1) := dk_29 (dk_at dksX9_init_0 15 rfl rfl)
theorem dX9_init_16 : decode cX9_init 16 = .ok (.putfield 17, 3) := dk_181 0 17 (dk_at dksX9_init_0 16 rfl rfl)
theorem dX9_init_19 : decode cX9_init 19 = .ok (.return_, 1) := dk_177 (dk_at dksX9_init_0 19 rfl rfl)
abbrev cX9_least : ByteArray := prog_18_method_3_code
def yX9_least : MethodName := ⟨RX9, "least", "()I"⟩
def dkwX9_least_0 : List UInt8 := [42, 180, 0, 13, 42, 180, 0, 7, 182, 0, 30, 104, 184, 0, 24, 172]
abbrev dktX9_least_0 : List UInt8 := dkwX9_least_0 ++ []
theorem dksX9_least_0 : cX9_least.data.toList.drop 0 = dktX9_least_0 := by decide +kernel
theorem dX9_least_0 : decode cX9_least 0 = .ok (.aload_n 0, 1) := dk_42 (dk_at dksX9_least_0 0 rfl rfl)
theorem dX9_least_1 : decode cX9_least 1 = .ok (.getfield 13, 3) := dk_180 0 13 (dk_at dksX9_least_0 1 rfl rfl)
theorem dX9_least_4 : decode cX9_least 4 = .ok (.aload_n 0, 1) := dk_42 (dk_at dksX9_least_0 4 rfl rfl)
theorem dX9_least_5 : decode cX9_least 5 = .ok (.getfield 7, 3) := dk_180 0 7 (dk_at dksX9_least_0 5 rfl rfl)
theorem dX9_least_8 : decode cX9_least 8 = .ok (.invokevirtual 30, 3) := dk_182 0 30 (dk_at dksX9_least_0 8 rfl rfl)
theorem dX9_least_11 : decode cX9_least 11 = .ok (.imul, 1) := dk_104 (dk_at dksX9_least_0 11 rfl rfl)
theorem dX9_least_12 : decode cX9_least 12 = .ok (.invokestatic 24, 3) := dk_184 0 24 (dk_at dksX9_least_0 12 rfl rfl)
theorem dX9_least_15 : decode cX9_least 15 = .ok (.ireturn, 1) := dk_172 (dk_at dksX9_least_0 15 rfl rfl)
abbrev cX9_weight : ByteArray := prog_18_method_2_code
def yX9_weight : MethodName := ⟨RX9, "weight", "()I"⟩
def dkwX9_weight_0 : List UInt8 := [42, 180, 0, 17, 42, 180, 0, 7, 182, 0, 20, 104, 184, 0, 24, 172]
abbrev dktX9_weight_0 : List UInt8 := dkwX9_weight_0 ++ []
theorem dksX9_weight_0 : cX9_weight.data.toList.drop 0 = dktX9_weight_0 := by decide +kernel
theorem dX9_weight_0 : decode cX9_weight 0 = .ok (.aload_n 0, 1) := dk_42 (dk_at dksX9_weight_0 0 rfl rfl)
theorem dX9_weight_1 : decode cX9_weight 1 = .ok (.getfield 17, 3) := dk_180 0 17 (dk_at dksX9_weight_0 1 rfl rfl)
theorem dX9_weight_4 : decode cX9_weight 4 = .ok (.aload_n 0, 1) := dk_42 (dk_at dksX9_weight_0 4 rfl rfl)
theorem dX9_weight_5 : decode cX9_weight 5 = .ok (.getfield 7, 3) := dk_180 0 7 (dk_at dksX9_weight_0 5 rfl rfl)
theorem dX9_weight_8 : decode cX9_weight 8 = .ok (.invokevirtual 20, 3) := dk_182 0 20 (dk_at dksX9_weight_0 8 rfl rfl)
theorem dX9_weight_11 : decode cX9_weight 11 = .ok (.imul, 1) := dk_104 (dk_at dksX9_weight_0 11 rfl rfl)
theorem dX9_weight_12 : decode cX9_weight 12 = .ok (.invokestatic 24, 3) := dk_184 0 24 (dk_at dksX9_weight_0 12 rfl rfl)
theorem dX9_weight_15 : decode cX9_weight 15 = .ok (.ireturn, 1) := dk_172 (dk_at dksX9_weight_0 15 rfl rfl)
abbrev cX9_built : ByteArray := prog_18_method_5_code
def yX9_built : MethodName := ⟨RX9, "built", "(LPromiseTries$Machine;)LPromiseTries$Part;"⟩
def dkwX9_built_3 : List UInt8 := [182, 0, 40, 182, 0, 46, 77, 132, 3, 1, 167, 255, 211, 44, 176]
abbrev dktX9_built_3 : List UInt8 := dkwX9_built_3 ++ []
def dkwX9_built_2 : List UInt8 := [182, 0, 36, 58, 4, 43, 44, 29, 42, 180, 0, 13, 162, 0, 8, 25, 4, 167, 0, 8, 25, 4]
abbrev dktX9_built_2 : List UInt8 := dkwX9_built_2 ++ dktX9_built_3
def dkwX9_built_1 : List UInt8 := [180, 0, 7, 43, 182, 0, 36, 77, 4, 62, 29, 42, 180, 0, 17, 162, 0, 43, 42, 180, 0, 7, 43]
abbrev dktX9_built_1 : List UInt8 := dkwX9_built_1 ++ dktX9_built_2
def dkwX9_built_0 : List UInt8 := [42, 180, 0, 13, 154, 0, 17, 42, 180, 0, 7, 43, 182, 0, 36, 182, 0, 40, 167, 0, 11, 42]
abbrev dktX9_built_0 : List UInt8 := dkwX9_built_0 ++ dktX9_built_1
theorem dksX9_built_0 : cX9_built.data.toList.drop 0 = dktX9_built_0 := by decide +kernel
theorem dksX9_built_1 : cX9_built.data.toList.drop 22 = dktX9_built_1 := dk_seg dksX9_built_0 22 rfl rfl
theorem dksX9_built_2 : cX9_built.data.toList.drop 45 = dktX9_built_2 := dk_seg dksX9_built_1 23 rfl rfl
theorem dksX9_built_3 : cX9_built.data.toList.drop 67 = dktX9_built_3 := dk_seg dksX9_built_2 22 rfl rfl
theorem dX9_built_0 : decode cX9_built 0 = .ok (.aload_n 0, 1) := dk_42 (dk_at dksX9_built_0 0 rfl rfl)
theorem dX9_built_1 : decode cX9_built 1 = .ok (.getfield 13, 3) := dk_180 0 13 (dk_at dksX9_built_0 1 rfl rfl)
theorem dX9_built_4 : decode cX9_built 4 = .ok (.ifCond .ne 17, 3) := dk_154 0 17 (dk_at dksX9_built_0 4 rfl rfl)
theorem dX9_built_7 : decode cX9_built 7 = .ok (.aload_n 0, 1) := dk_42 (dk_at dksX9_built_0 7 rfl rfl)
theorem dX9_built_8 : decode cX9_built 8 = .ok (.getfield 7, 3) := dk_180 0 7 (dk_at dksX9_built_0 8 rfl rfl)
theorem dX9_built_11 : decode cX9_built 11 = .ok (.aload_n 1, 1) := dk_43 (dk_at dksX9_built_0 11 rfl rfl)
theorem dX9_built_12 : decode cX9_built 12 = .ok (.invokevirtual 36, 3) := dk_182 0 36 (dk_at dksX9_built_0 12 rfl rfl)
theorem dX9_built_15 : decode cX9_built 15 = .ok (.invokevirtual 40, 3) := dk_182 0 40 (dk_at dksX9_built_0 15 rfl rfl)
theorem dX9_built_18 : decode cX9_built 18 = .ok (.goto 11, 3) := dk_167 0 11 (dk_at dksX9_built_0 18 rfl rfl)
theorem dX9_built_21 : decode cX9_built 21 = .ok (.aload_n 0, 1) := dk_42 (dk_at dksX9_built_0 21 rfl rfl)
theorem dX9_built_22 : decode cX9_built 22 = .ok (.getfield 7, 3) := dk_180 0 7 (dk_at dksX9_built_1 0 rfl rfl)
theorem dX9_built_25 : decode cX9_built 25 = .ok (.aload_n 1, 1) := dk_43 (dk_at dksX9_built_1 3 rfl rfl)
theorem dX9_built_26 : decode cX9_built 26 = .ok (.invokevirtual 36, 3) := dk_182 0 36 (dk_at dksX9_built_1 4 rfl rfl)
theorem dX9_built_29 : decode cX9_built 29 = .ok (.astore_n 2, 1) := dk_77 (dk_at dksX9_built_1 7 rfl rfl)
theorem dX9_built_30 : decode cX9_built 30 = .ok (.iconst 1, 1) := dk_4 (dk_at dksX9_built_1 8 rfl rfl)
theorem dX9_built_31 : decode cX9_built 31 = .ok (.istore_n 3, 1) := dk_62 (dk_at dksX9_built_1 9 rfl rfl)
theorem dX9_built_32 : decode cX9_built 32 = .ok (.iload_n 3, 1) := dk_29 (dk_at dksX9_built_1 10 rfl rfl)
theorem dX9_built_33 : decode cX9_built 33 = .ok (.aload_n 0, 1) := dk_42 (dk_at dksX9_built_1 11 rfl rfl)
theorem dX9_built_34 : decode cX9_built 34 = .ok (.getfield 17, 3) := dk_180 0 17 (dk_at dksX9_built_1 12 rfl rfl)
theorem dX9_built_37 : decode cX9_built 37 = .ok (.if_icmp .ge 43, 3) := dk_162 0 43 (dk_at dksX9_built_1 15 rfl rfl)
theorem dX9_built_40 : decode cX9_built 40 = .ok (.aload_n 0, 1) := dk_42 (dk_at dksX9_built_1 18 rfl rfl)
theorem dX9_built_41 : decode cX9_built 41 = .ok (.getfield 7, 3) := dk_180 0 7 (dk_at dksX9_built_1 19 rfl rfl)
theorem dX9_built_44 : decode cX9_built 44 = .ok (.aload_n 1, 1) := dk_43 (dk_at dksX9_built_1 22 rfl rfl)
theorem dX9_built_45 : decode cX9_built 45 = .ok (.invokevirtual 36, 3) := dk_182 0 36 (dk_at dksX9_built_2 0 rfl rfl)
theorem dX9_built_48 : decode cX9_built 48 = .ok (.astore 4, 2) := dk_58 4 (dk_at dksX9_built_2 3 rfl rfl)
theorem dX9_built_50 : decode cX9_built 50 = .ok (.aload_n 1, 1) := dk_43 (dk_at dksX9_built_2 5 rfl rfl)
theorem dX9_built_51 : decode cX9_built 51 = .ok (.aload_n 2, 1) := dk_44 (dk_at dksX9_built_2 6 rfl rfl)
theorem dX9_built_52 : decode cX9_built 52 = .ok (.iload_n 3, 1) := dk_29 (dk_at dksX9_built_2 7 rfl rfl)
theorem dX9_built_53 : decode cX9_built 53 = .ok (.aload_n 0, 1) := dk_42 (dk_at dksX9_built_2 8 rfl rfl)
theorem dX9_built_54 : decode cX9_built 54 = .ok (.getfield 13, 3) := dk_180 0 13 (dk_at dksX9_built_2 9 rfl rfl)
theorem dX9_built_57 : decode cX9_built 57 = .ok (.if_icmp .ge 8, 3) := dk_162 0 8 (dk_at dksX9_built_2 12 rfl rfl)
theorem dX9_built_60 : decode cX9_built 60 = .ok (.aload 4, 2) := dk_25 4 (dk_at dksX9_built_2 15 rfl rfl)
theorem dX9_built_62 : decode cX9_built 62 = .ok (.goto 8, 3) := dk_167 0 8 (dk_at dksX9_built_2 17 rfl rfl)
theorem dX9_built_65 : decode cX9_built 65 = .ok (.aload 4, 2) := dk_25 4 (dk_at dksX9_built_2 20 rfl rfl)
theorem dX9_built_67 : decode cX9_built 67 = .ok (.invokevirtual 40, 3) := dk_182 0 40 (dk_at dksX9_built_3 0 rfl rfl)
theorem dX9_built_70 : decode cX9_built 70 = .ok (.invokevirtual 46, 3) := dk_182 0 46 (dk_at dksX9_built_3 3 rfl rfl)
theorem dX9_built_73 : decode cX9_built 73 = .ok (.astore_n 2, 1) := dk_77 (dk_at dksX9_built_3 6 rfl rfl)
theorem dX9_built_74 : decode cX9_built 74 = .ok (.iinc 3 1, 3) := dk_132 3 1 (dk_at dksX9_built_3 7 rfl rfl)
theorem dX9_built_77 : decode cX9_built 77 = .ok (.goto (-45), 3) := dk_167 255 211 (dk_at dksX9_built_3 10 rfl rfl)
theorem dX9_built_80 : decode cX9_built 80 = .ok (.aload_n 2, 1) := dk_44 (dk_at dksX9_built_3 13 rfl rfl)
theorem dX9_built_81 : decode cX9_built 81 = .ok (.areturn, 1) := dk_176 (dk_at dksX9_built_3 14 rfl rfl)
abbrev cX9_most : ByteArray := prog_18_method_4_code
def yX9_most : MethodName := ⟨RX9, "most", "()I"⟩
def dkwX9_most_0 : List UInt8 := [42, 180, 0, 17, 42, 180, 0, 7, 182, 0, 33, 104, 184, 0, 24, 172]
abbrev dktX9_most_0 : List UInt8 := dkwX9_most_0 ++ []
theorem dksX9_most_0 : cX9_most.data.toList.drop 0 = dktX9_most_0 := by decide +kernel
theorem dX9_most_0 : decode cX9_most 0 = .ok (.aload_n 0, 1) := dk_42 (dk_at dksX9_most_0 0 rfl rfl)
theorem dX9_most_1 : decode cX9_most 1 = .ok (.getfield 17, 3) := dk_180 0 17 (dk_at dksX9_most_0 1 rfl rfl)
theorem dX9_most_4 : decode cX9_most 4 = .ok (.aload_n 0, 1) := dk_42 (dk_at dksX9_most_0 4 rfl rfl)
theorem dX9_most_5 : decode cX9_most 5 = .ok (.getfield 7, 3) := dk_180 0 7 (dk_at dksX9_most_0 5 rfl rfl)
theorem dX9_most_8 : decode cX9_most 8 = .ok (.invokevirtual 33, 3) := dk_182 0 33 (dk_at dksX9_most_0 8 rfl rfl)
theorem dX9_most_11 : decode cX9_most 11 = .ok (.imul, 1) := dk_104 (dk_at dksX9_most_0 11 rfl rfl)
theorem dX9_most_12 : decode cX9_most 12 = .ok (.invokestatic 24, 3) := dk_184 0 24 (dk_at dksX9_most_0 12 rfl rfl)
theorem dX9_most_15 : decode cX9_most 15 = .ok (.ireturn, 1) := dk_172 (dk_at dksX9_most_0 15 rfl rfl)
theorem q107 : (Jvm.Cond.initialized "PromiseTries$Times") ∈ lw_all := lw_g (lw_at lw_m1 14 rfl) rfl
theorem q439 : (Jvm.Cond.instantiable "PromiseTries$Times" (3 : Nat)) ∈ lw_all := lw_g (lw_at lw_m2 106 rfl) rfl
theorem q444 : (Jvm.Cond.instanceMethod ({ cls := "PromiseTries$Times", name := "<init>", desc := "(LPromiseTries$Node;II)V" } : Jvm.MethodName)) ∈ lw_all := lw_g (lw_at lw_m2 111 rfl) rfl
theorem q445 : (Jvm.Cond.code ({ cls := "PromiseTries$Times", name := "<init>", desc := "(LPromiseTries$Node;II)V" } : Jvm.MethodName) prog_18_method_1_code (4 : Nat) (Option.none : Option Jvm.ClassFile.FieldType)) ∈ lw_all := lw_g (lw_at lw_m2 112 rfl) rfl
theorem q446 : (Jvm.Cond.methodLinkNest "PromiseTries$Times" (1 : Nat) ({ cls := "PromiseTries$Node", name := "<init>", desc := "()V" } : Jvm.MethodName) "PromiseTries") ∈ lw_tbl := lw_at lw_m2 113 rfl
theorem q447 : (Jvm.Cond.fieldLink "PromiseTries$Times" (7 : Nat) "PromiseTries$Times" "node" "LPromiseTries$Node;") ∈ lw_all := lw_g (lw_at lw_m2 114 rfl) rfl
theorem q448 : (Jvm.Cond.fieldLink "PromiseTries$Times" (13 : Nat) "PromiseTries$Times" "fewest" "I") ∈ lw_all := lw_g (lw_at lw_m2 115 rfl) rfl
theorem q449 : (Jvm.Cond.fieldLink "PromiseTries$Times" (17 : Nat) "PromiseTries$Times" "many" "I") ∈ lw_all := lw_g (lw_at lw_m2 116 rfl) rfl
theorem q450 : (Jvm.Cond.laysFinal "PromiseTries$Times" "PromiseTries$Times" "node" "LPromiseTries$Node;") ∈ lw_all := lw_g (lw_at lw_m2 117 rfl) rfl
theorem q451 : (Jvm.Cond.soleField "PromiseTries$Times" "node") ∈ lw_all := lw_g (lw_at lw_m2 118 rfl) rfl
theorem q452 : (Jvm.Cond.laysFinal "PromiseTries$Times" "PromiseTries$Times" "fewest" "I") ∈ lw_all := lw_g (lw_at lw_m2 119 rfl) rfl
theorem q453 : (Jvm.Cond.soleField "PromiseTries$Times" "fewest") ∈ lw_all := lw_g (lw_at lw_m2 120 rfl) rfl
theorem q454 : (Jvm.Cond.laysFinal "PromiseTries$Times" "PromiseTries$Times" "many" "I") ∈ lw_all := lw_g (lw_at lw_m2 121 rfl) rfl
theorem q455 : (Jvm.Cond.soleField "PromiseTries$Times" "many") ∈ lw_all := lw_g (lw_at lw_m2 122 rfl) rfl
theorem q456 : (Jvm.Cond.superclass "PromiseTries$Times" "PromiseTries$Node") ∈ lw_all := lw_g (lw_at lw_m2 123 rfl) rfl
theorem q503 : (Jvm.Cond.instanceMethod ({ cls := "PromiseTries$Times", name := "least", desc := "()I" } : Jvm.MethodName)) ∈ lw_all := lw_g (lw_at lw_m2 170 rfl) rfl
theorem q504 : (Jvm.Cond.code ({ cls := "PromiseTries$Times", name := "least", desc := "()I" } : Jvm.MethodName) prog_18_method_3_code (1 : Nat) (Option.some Jvm.ClassFile.FieldType.int)) ∈ lw_all := lw_g (lw_at lw_m2 171 rfl) rfl
theorem q505 : (Jvm.Cond.methodLink "PromiseTries$Times" (30 : Nat) ({ cls := "PromiseTries$Node", name := "least", desc := "()I" } : Jvm.MethodName)) ∈ lw_all := lw_g (lw_at lw_m2 172 rfl) rfl
theorem q506 : (Jvm.Cond.methodLinkNest "PromiseTries$Times" (24 : Nat) ({ cls := "PromiseTries", name := "capped", desc := "(I)I" } : Jvm.MethodName) "PromiseTries") ∈ lw_tbl := lw_at lw_m2 173 rfl
theorem q515 : (Jvm.Cond.selects "PromiseTries$Times" ({ cls := "PromiseTries$Node", name := "least", desc := "()I" } : Jvm.MethodName) ({ cls := "PromiseTries$Times", name := "least", desc := "()I" } : Jvm.MethodName)) ∈ lw_all := lw_g (lw_at lw_m2 182 rfl) rfl
theorem q535 : (Jvm.Cond.instanceMethod ({ cls := "PromiseTries$Times", name := "weight", desc := "()I" } : Jvm.MethodName)) ∈ lw_all := lw_g (lw_at lw_m2 202 rfl) rfl
theorem q536 : (Jvm.Cond.code ({ cls := "PromiseTries$Times", name := "weight", desc := "()I" } : Jvm.MethodName) prog_18_method_2_code (1 : Nat) (Option.some Jvm.ClassFile.FieldType.int)) ∈ lw_all := lw_g (lw_at lw_m2 203 rfl) rfl
theorem q537 : (Jvm.Cond.methodLink "PromiseTries$Times" (20 : Nat) ({ cls := "PromiseTries$Node", name := "weight", desc := "()I" } : Jvm.MethodName)) ∈ lw_all := lw_g (lw_at lw_m2 204 rfl) rfl
theorem q540 : (Jvm.Cond.selects "PromiseTries$Times" ({ cls := "PromiseTries$Node", name := "weight", desc := "()I" } : Jvm.MethodName) ({ cls := "PromiseTries$Times", name := "weight", desc := "()I" } : Jvm.MethodName)) ∈ lw_all := lw_g (lw_at lw_m2 207 rfl) rfl
theorem q611 : (Jvm.Cond.instanceMethod ({ cls := "PromiseTries$Times", name := "built", desc := "(LPromiseTries$Machine;)LPromiseTries$Part;" } : Jvm.MethodName)) ∈ lw_all := lw_g (lw_at lw_m3 38 rfl) rfl
theorem q612 : (Jvm.Cond.code ({ cls := "PromiseTries$Times", name := "built", desc := "(LPromiseTries$Machine;)LPromiseTries$Part;" } : Jvm.MethodName) prog_18_method_5_code (5 : Nat) (Option.some (Jvm.ClassFile.FieldType.object "PromiseTries$Part"))) ∈ lw_all := lw_g (lw_at lw_m3 39 rfl) rfl
theorem q613 : (Jvm.Cond.methodLink "PromiseTries$Times" (36 : Nat) ({ cls := "PromiseTries$Node", name := "built", desc := "(LPromiseTries$Machine;)LPromiseTries$Part;" } : Jvm.MethodName)) ∈ lw_all := lw_g (lw_at lw_m3 40 rfl) rfl
theorem q614 : (Jvm.Cond.methodLink "PromiseTries$Times" (40 : Nat) ({ cls := "PromiseTries$Part", name := "orNone", desc := "()LPromiseTries$Part;" } : Jvm.MethodName)) ∈ lw_all := lw_g (lw_at lw_m3 41 rfl) rfl
theorem q620 : (Jvm.Cond.methodLink "PromiseTries$Times" (46 : Nat) ({ cls := "PromiseTries$Machine", name := "joined", desc := "(LPromiseTries$Part;LPromiseTries$Part;)LPromiseTries$Part;" } : Jvm.MethodName)) ∈ lw_all := lw_g (lw_at lw_m3 47 rfl) rfl
theorem q628 : (Jvm.Cond.selects "PromiseTries$Times" ({ cls := "PromiseTries$Node", name := "built", desc := "(LPromiseTries$Machine;)LPromiseTries$Part;" } : Jvm.MethodName) ({ cls := "PromiseTries$Times", name := "built", desc := "(LPromiseTries$Machine;)LPromiseTries$Part;" } : Jvm.MethodName)) ∈ lw_all := lw_g (lw_at lw_m3 55 rfl) rfl
theorem q762 : (Jvm.Cond.instanceMethod ({ cls := "PromiseTries$Times", name := "most", desc := "()I" } : Jvm.MethodName)) ∈ lw_all := lw_g (lw_at lw_m3 189 rfl) rfl
theorem q763 : (Jvm.Cond.code ({ cls := "PromiseTries$Times", name := "most", desc := "()I" } : Jvm.MethodName) prog_18_method_4_code (1 : Nat) (Option.some Jvm.ClassFile.FieldType.int)) ∈ lw_all := lw_g (lw_at lw_m3 190 rfl) rfl
theorem q764 : (Jvm.Cond.methodLink "PromiseTries$Times" (33 : Nat) ({ cls := "PromiseTries$Node", name := "most", desc := "()I" } : Jvm.MethodName)) ∈ lw_all := lw_g (lw_at lw_m3 191 rfl) rfl
theorem q767 : (Jvm.Cond.selects "PromiseTries$Times" ({ cls := "PromiseTries$Node", name := "most", desc := "()I" } : Jvm.MethodName) ({ cls := "PromiseTries$Times", name := "most", desc := "()I" } : Jvm.MethodName)) ∈ lw_all := lw_g (lw_at lw_m3 194 rfl) rfl
theorem in_X9 : ∀ w ∈ wsX90, w ∈ lw_all := lw_in wsX90 [450, 452, 454] (by decide +kernel) (by decide +kernel)
theorem q93 : (Jvm.Cond.initialized "PromiseTriesLaw") ∈ lw_all := lw_g (lw_at lw_m1 0 rfl) rfl
set_option maxRecDepth 100000
theorem q122 : (Jvm.Cond.methodLink "PromiseTriesLaw" (13 : Nat) ({ cls := "PromiseTries", name := "feed", desc := "(I)I" } : Jvm.MethodName)) ∈ lw_all := lw_g (lw_at lw_m1 29 rfl) rfl
theorem q130 : (Jvm.Cond.methodLink "PromiseTriesLaw" (18 : Nat) ({ cls := "PromiseTries", name := "end", desc := "(I)I" } : Jvm.MethodName)) ∈ lw_all := lw_g (lw_at lw_m1 37 rfl) rfl
theorem q134 : (Jvm.Cond.methodLink "PromiseTriesLaw" (22 : Nat) ({ cls := "PromiseTries", name := "text", desc := "()I" } : Jvm.MethodName)) ∈ lw_all := lw_g (lw_at lw_m1 41 rfl) rfl
theorem q643 : (Jvm.Cond.methodLink "PromiseTriesLaw" (27 : Nat) ({ cls := "PromiseTries", name := "fault", desc := "()I" } : Jvm.MethodName)) ∈ lw_all := lw_g (lw_at lw_m3 70 rfl) rfl
theorem q647 : (Jvm.Cond.methodLink "PromiseTriesLaw" (31 : Nat) ({ cls := "PromiseTries", name := "rule", desc := "(I)I" } : Jvm.MethodName)) ∈ lw_all := lw_g (lw_at lw_m3 74 rfl) rfl
theorem q738 : (Jvm.Cond.methodLink "PromiseTriesLaw" (35 : Nat) ({ cls := "PromiseTries", name := "promise", desc := "(II)I" } : Jvm.MethodName)) ∈ lw_all := lw_g (lw_at lw_m3 165 rfl) rfl
theorem q768 : (Jvm.Cond.methodLink "PromiseTriesLaw" (40 : Nat) ({ cls := "PromiseTries", name := "fulfils", desc := "(IIII)I" } : Jvm.MethodName)) ∈ lw_all := lw_g (lw_at lw_m3 195 rfl) rfl
theorem q778 : (Jvm.Cond.methodLink "PromiseTriesLaw" (45 : Nat) ({ cls := "PromiseTries", name := "fulfilled", desc := "(III)I" } : Jvm.MethodName)) ∈ lw_all := lw_g (lw_at lw_m3 205 rfl) rfl
theorem q783 : (Jvm.Cond.methodLink "PromiseTriesLaw" (50 : Nat) ({ cls := "PromiseTries", name := "matches", desc := "(IIII)I" } : Jvm.MethodName)) ∈ lw_all := lw_g (lw_at lw_m3 210 rfl) rfl
theorem q792 : (Jvm.Cond.methodLink "PromiseTriesLaw" (54 : Nat) ({ cls := "PromiseTries", name := "might", desc := "(III)I" } : Jvm.MethodName)) ∈ lw_all := lw_g (lw_at lw_m3 219 rfl) rfl
theorem q796 : (Jvm.Cond.methodLink "PromiseTriesLaw" (58 : Nat) ({ cls := "PromiseTries", name := "tick", desc := "(I)I" } : Jvm.MethodName)) ∈ lw_all := lw_g (lw_at lw_m3 223 rfl) rfl
theorem q808 : (Jvm.Cond.methodLink "PromiseTriesLaw" (62 : Nat) ({ cls := "PromiseTries", name := "bits", desc := "(I)I" } : Jvm.MethodName)) ∈ lw_all := lw_g (lw_at lw_m3 235 rfl) rfl
theorem q816 : (Jvm.Cond.methodLink "PromiseTriesLaw" (66 : Nat) ({ cls := "PromiseTries", name := "put", desc := "(II)I" } : Jvm.MethodName)) ∈ lw_all := lw_g (lw_at lw_m4 3 rfl) rfl
theorem q820 : (Jvm.Cond.methodLink "PromiseTriesLaw" (70 : Nat) ({ cls := "PromiseTries", name := "keeps", desc := "(I)I" } : Jvm.MethodName)) ∈ lw_all := lw_g (lw_at lw_m4 7 rfl) rfl
theorem q824 : (Jvm.Cond.methodLink "PromiseTriesLaw" (74 : Nat) ({ cls := "PromiseTries", name := "draw", desc := "(II)I" } : Jvm.MethodName)) ∈ lw_all := lw_g (lw_at lw_m4 11 rfl) rfl
theorem q834 : (Jvm.Cond.methodLink "PromiseTriesLaw" (78 : Nat) ({ cls := "PromiseTries", name := "verdict", desc := "(II)I" } : Jvm.MethodName)) ∈ lw_all := lw_g (lw_at lw_m4 21 rfl) rfl
theorem q838 : (Jvm.Cond.methodLink "PromiseTriesLaw" (82 : Nat) ({ cls := "PromiseTries", name := "decided", desc := "(II)I" } : Jvm.MethodName)) ∈ lw_all := lw_g (lw_at lw_m4 25 rfl) rfl
theorem q842 : (Jvm.Cond.methodLink "PromiseTriesLaw" (86 : Nat) ({ cls := "PromiseTries", name := "duties", desc := "(II)I" } : Jvm.MethodName)) ∈ lw_all := lw_g (lw_at lw_m4 29 rfl) rfl
theorem q846 : (Jvm.Cond.methodLink "PromiseTriesLaw" (90 : Nat) ({ cls := "PromiseTries", name := "duty", desc := "(IIII)I" } : Jvm.MethodName)) ∈ lw_all := lw_g (lw_at lw_m4 33 rfl) rfl
theorem q854 : (Jvm.Cond.methodLink "PromiseTriesLaw" (94 : Nat) ({ cls := "PromiseTries", name := "tries", desc := "(II)I" } : Jvm.MethodName)) ∈ lw_all := lw_g (lw_at lw_m4 41 rfl) rfl
theorem q859 : (Jvm.Cond.methodLink "PromiseTriesLaw" (98 : Nat) ({ cls := "PromiseTries", name := "first", desc := "(II)I" } : Jvm.MethodName)) ∈ lw_all := lw_g (lw_at lw_m4 46 rfl) rfl
theorem q863 : (Jvm.Cond.methodLink "PromiseTriesLaw" (102 : Nat) ({ cls := "PromiseTries", name := "keep", desc := "(I)I" } : Jvm.MethodName)) ∈ lw_all := lw_g (lw_at lw_m4 50 rfl) rfl
theorem q871 : (Jvm.Cond.methodLink "PromiseTriesLaw" (106 : Nat) ({ cls := "PromiseTries", name := "back", desc := "(I)I" } : Jvm.MethodName)) ∈ lw_all := lw_g (lw_at lw_m4 58 rfl) rfl
theorem q875 : (Jvm.Cond.classLink "PromiseTriesLaw" (7 : Nat) "PromiseTries") ∈ lw_all := lw_g (lw_at lw_m4 62 rfl) rfl
theorem q876 : (Jvm.Cond.methodLink "PromiseTriesLaw" (9 : Nat) ({ cls := "PromiseTries", name := "<init>", desc := "()V" } : Jvm.MethodName)) ∈ lw_all := lw_g (lw_at lw_m4 63 rfl) rfl
theorem q957 : (Jvm.Cond.methodLink "PromiseTriesLaw" (110 : Nat) ({ cls := "PromiseTries", name := "sheet", desc := "(III)I" } : Jvm.MethodName)) ∈ lw_all := lw_g (lw_at lw_m4 144 rfl) rfl
theorem q996 : (Jvm.Cond.methodLink "PromiseTriesLaw" (114 : Nat) ({ cls := "PromiseTries", name := "lay", desc := "(III)I" } : Jvm.MethodName)) ∈ lw_all := lw_g (lw_at lw_m4 183 rfl) rfl
theorem q1044 : (Jvm.Cond.methodLink "PromiseTriesLaw" (118 : Nat) ({ cls := "PromiseTries", name := "run", desc := "(IIII)I" } : Jvm.MethodName)) ∈ lw_all := lw_g (lw_at lw_m4 231 rfl) rfl
theorem q1070 : (Jvm.Cond.methodLink "PromiseTriesLaw" (122 : Nat) ({ cls := "PromiseTries", name := "torn", desc := "()I" } : Jvm.MethodName)) ∈ lw_all := lw_g (lw_at lw_m5 17 rfl) rfl
theorem q1074 : (Jvm.Cond.methodLink "PromiseTriesLaw" (126 : Nat) ({ cls := "PromiseTries", name := "count", desc := "(I)I" } : Jvm.MethodName)) ∈ lw_all := lw_g (lw_at lw_m5 21 rfl) rfl
theorem q1078 : (Jvm.Cond.classLink "PromiseTriesLaw" (10 : Nat) "PromiseTriesModel") ∈ lw_all := lw_g (lw_at lw_m5 25 rfl) rfl
theorem q1080 : (Jvm.Cond.methodLink "PromiseTriesLaw" (12 : Nat) ({ cls := "PromiseTriesModel", name := "<init>", desc := "()V" } : Jvm.MethodName)) ∈ lw_all := lw_g (lw_at lw_m5 27 rfl) rfl
theorem q1248 : (Jvm.Cond.methodLink "PromiseTriesLaw" (17 : Nat) ({ cls := "PromiseTriesModel", name := "feed", desc := "(I)I" } : Jvm.MethodName)) ∈ lw_all := lw_g (lw_at lw_m5 195 rfl) rfl
theorem q1256 : (Jvm.Cond.methodLink "PromiseTriesLaw" (21 : Nat) ({ cls := "PromiseTriesModel", name := "end", desc := "(I)I" } : Jvm.MethodName)) ∈ lw_all := lw_g (lw_at lw_m5 203 rfl) rfl
theorem q1260 : (Jvm.Cond.methodLink "PromiseTriesLaw" (26 : Nat) ({ cls := "PromiseTriesModel", name := "text", desc := "()I" } : Jvm.MethodName)) ∈ lw_all := lw_g (lw_at lw_m5 207 rfl) rfl
theorem q1397 : (Jvm.Cond.methodLink "PromiseTriesLaw" (30 : Nat) ({ cls := "PromiseTriesModel", name := "fault", desc := "()I" } : Jvm.MethodName)) ∈ lw_all := lw_g (lw_at lw_m6 104 rfl) rfl
theorem q1401 : (Jvm.Cond.methodLink "PromiseTriesLaw" (44 : Nat) ({ cls := "PromiseTriesModel", name := "fulfils", desc := "(IIII)I" } : Jvm.MethodName)) ∈ lw_all := lw_g (lw_at lw_m6 108 rfl) rfl
theorem q1426 : (Jvm.Cond.methodLink "PromiseTriesLaw" (49 : Nat) ({ cls := "PromiseTriesModel", name := "fulfilled", desc := "(III)I" } : Jvm.MethodName)) ∈ lw_all := lw_g (lw_at lw_m6 133 rfl) rfl
theorem q1431 : (Jvm.Cond.methodLink "PromiseTriesLaw" (53 : Nat) ({ cls := "PromiseTriesModel", name := "matches", desc := "(IIII)I" } : Jvm.MethodName)) ∈ lw_all := lw_g (lw_at lw_m6 138 rfl) rfl
theorem q1454 : (Jvm.Cond.methodLink "PromiseTriesLaw" (57 : Nat) ({ cls := "PromiseTriesModel", name := "might", desc := "(III)I" } : Jvm.MethodName)) ∈ lw_all := lw_g (lw_at lw_m6 161 rfl) rfl
theorem q1462 : (Jvm.Cond.methodLink "PromiseTriesLaw" (39 : Nat) ({ cls := "PromiseTriesModel", name := "promise", desc := "(II)I" } : Jvm.MethodName)) ∈ lw_all := lw_g (lw_at lw_m6 169 rfl) rfl
theorem q1467 : (Jvm.Cond.methodLink "PromiseTriesLaw" (81 : Nat) ({ cls := "PromiseTriesModel", name := "verdict", desc := "(II)I" } : Jvm.MethodName)) ∈ lw_all := lw_g (lw_at lw_m6 174 rfl) rfl
theorem q1503 : (Jvm.Cond.methodLink "PromiseTriesLaw" (85 : Nat) ({ cls := "PromiseTriesModel", name := "decided", desc := "(II)I" } : Jvm.MethodName)) ∈ lw_all := lw_g (lw_at lw_m6 210 rfl) rfl
theorem q1507 : (Jvm.Cond.methodLink "PromiseTriesLaw" (89 : Nat) ({ cls := "PromiseTriesModel", name := "duties", desc := "(II)I" } : Jvm.MethodName)) ∈ lw_all := lw_g (lw_at lw_m6 214 rfl) rfl
theorem q1515 : (Jvm.Cond.methodLink "PromiseTriesLaw" (93 : Nat) ({ cls := "PromiseTriesModel", name := "duty", desc := "(IIII)I" } : Jvm.MethodName)) ∈ lw_all := lw_g (lw_at lw_m6 222 rfl) rfl
theorem q1519 : (Jvm.Cond.methodLink "PromiseTriesLaw" (97 : Nat) ({ cls := "PromiseTriesModel", name := "tries", desc := "(II)I" } : Jvm.MethodName)) ∈ lw_all := lw_g (lw_at lw_m6 226 rfl) rfl
theorem q1528 : (Jvm.Cond.methodLink "PromiseTriesLaw" (101 : Nat) ({ cls := "PromiseTriesModel", name := "first", desc := "(II)I" } : Jvm.MethodName)) ∈ lw_all := lw_g (lw_at lw_m6 235 rfl) rfl
theorem q1532 : (Jvm.Cond.methodLink "PromiseTriesLaw" (34 : Nat) ({ cls := "PromiseTriesModel", name := "rule", desc := "(I)I" } : Jvm.MethodName)) ∈ lw_all := lw_g (lw_at lw_m6 239 rfl) rfl
theorem q1545 : (Jvm.Cond.methodLink "PromiseTriesLaw" (61 : Nat) ({ cls := "PromiseTriesModel", name := "tick", desc := "(I)I" } : Jvm.MethodName)) ∈ lw_all := lw_g (lw_at lw_m7 12 rfl) rfl
theorem q1553 : (Jvm.Cond.methodLink "PromiseTriesLaw" (65 : Nat) ({ cls := "PromiseTriesModel", name := "bits", desc := "(I)I" } : Jvm.MethodName)) ∈ lw_all := lw_g (lw_at lw_m7 20 rfl) rfl
theorem q1557 : (Jvm.Cond.methodLink "PromiseTriesLaw" (69 : Nat) ({ cls := "PromiseTriesModel", name := "put", desc := "(II)I" } : Jvm.MethodName)) ∈ lw_all := lw_g (lw_at lw_m7 24 rfl) rfl
theorem q1561 : (Jvm.Cond.methodLink "PromiseTriesLaw" (73 : Nat) ({ cls := "PromiseTriesModel", name := "keeps", desc := "(I)I" } : Jvm.MethodName)) ∈ lw_all := lw_g (lw_at lw_m7 28 rfl) rfl
theorem q1565 : (Jvm.Cond.methodLink "PromiseTriesLaw" (77 : Nat) ({ cls := "PromiseTriesModel", name := "draw", desc := "(II)I" } : Jvm.MethodName)) ∈ lw_all := lw_g (lw_at lw_m7 32 rfl) rfl
theorem q1575 : (Jvm.Cond.methodLink "PromiseTriesLaw" (105 : Nat) ({ cls := "PromiseTriesModel", name := "keep", desc := "(I)I" } : Jvm.MethodName)) ∈ lw_all := lw_g (lw_at lw_m7 42 rfl) rfl
theorem q1579 : (Jvm.Cond.methodLink "PromiseTriesLaw" (109 : Nat) ({ cls := "PromiseTriesModel", name := "back", desc := "(I)I" } : Jvm.MethodName)) ∈ lw_all := lw_g (lw_at lw_m7 46 rfl) rfl
theorem q1583 : (Jvm.Cond.methodLink "PromiseTriesLaw" (113 : Nat) ({ cls := "PromiseTriesModel", name := "sheet", desc := "(III)I" } : Jvm.MethodName)) ∈ lw_all := lw_g (lw_at lw_m7 50 rfl) rfl
theorem q1591 : (Jvm.Cond.methodLink "PromiseTriesLaw" (117 : Nat) ({ cls := "PromiseTriesModel", name := "lay", desc := "(III)I" } : Jvm.MethodName)) ∈ lw_all := lw_g (lw_at lw_m7 58 rfl) rfl
theorem q1596 : (Jvm.Cond.methodLink "PromiseTriesLaw" (121 : Nat) ({ cls := "PromiseTriesModel", name := "run", desc := "(IIII)I" } : Jvm.MethodName)) ∈ lw_all := lw_g (lw_at lw_m7 63 rfl) rfl
theorem q1600 : (Jvm.Cond.methodLink "PromiseTriesLaw" (125 : Nat) ({ cls := "PromiseTriesModel", name := "torn", desc := "()I" } : Jvm.MethodName)) ∈ lw_all := lw_g (lw_at lw_m7 67 rfl) rfl
theorem q1604 : (Jvm.Cond.methodLink "PromiseTriesLaw" (129 : Nat) ({ cls := "PromiseTriesModel", name := "count", desc := "(I)I" } : Jvm.MethodName)) ∈ lw_all := lw_g (lw_at lw_m7 71 rfl) rfl
theorem q1068 : (Jvm.Cond.interfaceMethod "PromiseTries$Cells" "PromiseTries$Cells" "at" "(Ljava/lang/Object;I)I") ∈ lw_tbl := lw_at lw_m5 15 rfl
set_option maxRecDepth 100000
theorem q1069 : (Jvm.Cond.declares ({ cls := "PromiseTries$Cells", name := "at", desc := "(Ljava/lang/Object;I)I" } : Jvm.MethodName)) ∈ lw_tbl := lw_at lw_m5 16 rfl
theorem q412 : (Jvm.Cond.interfaceMethod "PromiseTries$Holds" "PromiseTries$Holds" "at" "(I)Z") ∈ lw_tbl := lw_at lw_m2 79 rfl
set_option maxRecDepth 100000
theorem q413 : (Jvm.Cond.declares ({ cls := "PromiseTries$Holds", name := "at", desc := "(I)Z" } : Jvm.MethodName)) ∈ lw_tbl := lw_at lw_m2 80 rfl
theorem q115 : (Jvm.Cond.initialized "PromiseTries$Kind") ∈ lw_all := lw_g (lw_at lw_m1 22 rfl) rfl
set_option maxRecDepth 100000
theorem q687 : (Jvm.Cond.laysStatic "PromiseTries$Kind" "HERE" "LPromiseTries$Kind;") ∈ lw_tbl := lw_at lw_m3 114 rfl
theorem q689 : (Jvm.Cond.laysStatic "PromiseTries$Kind" "NEXT" "LPromiseTries$Kind;") ∈ lw_tbl := lw_at lw_m3 116 rfl
theorem q691 : (Jvm.Cond.declares ({ cls := "PromiseTries$Kind", name := "begin", desc := "(I)I" } : Jvm.MethodName)) ∈ lw_tbl := lw_at lw_m3 118 rfl
theorem q692 : (Jvm.Cond.sameMethod "PromiseTries$Kind" "PromiseTries$Kind" "begin" "(I)I") ∈ lw_all := lw_g (lw_at lw_m3 119 rfl) rfl
theorem q114 : (Jvm.Cond.initialized "java/lang/Enum") ∈ lw_all := lw_g (lw_at lw_m1 21 rfl) rfl
set_option maxRecDepth 100000
theorem q97 : (Jvm.Cond.initialized "java/lang/System") ∈ lw_all := lw_g (lw_at lw_m1 4 rfl) rfl
set_option maxRecDepth 100000
theorem q140 : (Jvm.Cond.static ({ cls := "java/lang/System", name := "arraycopy", desc := "(Ljava/lang/Object;ILjava/lang/Object;II)V" } : Jvm.MethodName)) ∈ lw_all := lw_g (lw_at lw_m1 47 rfl) rfl
theorem q141 : (Jvm.Cond.native ({ cls := "java/lang/System", name := "arraycopy", desc := "(Ljava/lang/Object;ILjava/lang/Object;II)V" } : Jvm.MethodName)) ∈ lw_all := lw_g (lw_at lw_m1 48 rfl) rfl
theorem q151 : (Jvm.Cond.arrayOver (Jvm.ClassFile.FieldType.object "PromiseTries$Promise")) ∈ lw_tbl := lw_at lw_m1 58 rfl
set_option maxRecDepth 100000
theorem q258 : (Jvm.Cond.arrayClass Jvm.ClassFile.FieldType.byte) ∈ lw_all := lw_g (lw_at lw_m1 165 rfl) rfl
theorem q310 : (Jvm.Cond.arrayOver (Jvm.ClassFile.FieldType.object "PromiseTries$Side")) ∈ lw_tbl := lw_at lw_m1 217 rfl
theorem q317 : (Jvm.Cond.arrayOver (Jvm.ClassFile.FieldType.object "PromiseTries$Holds")) ∈ lw_tbl := lw_at lw_m1 224 rfl
theorem q319 : (Jvm.Cond.arrayOver (Jvm.ClassFile.FieldType.array Jvm.ClassFile.FieldType.long)) ∈ lw_tbl := lw_at lw_m1 226 rfl
theorem q342 : (Jvm.Cond.arrayClass Jvm.ClassFile.FieldType.long) ∈ lw_all := lw_g (lw_at lw_m2 9 rfl) rfl
theorem q870 : (Jvm.Cond.arrayClass Jvm.ClassFile.FieldType.int) ∈ lw_all := lw_g (lw_at lw_m4 57 rfl) rfl
theorem q882 : (Jvm.Cond.arrayOver (Jvm.ClassFile.FieldType.array Jvm.ClassFile.FieldType.int)) ∈ lw_tbl := lw_at lw_m4 69 rfl
theorem q885 : (Jvm.Cond.arrayOver (Jvm.ClassFile.FieldType.object "PromiseTries$Sheet")) ∈ lw_tbl := lw_at lw_m4 72 rfl
theorem q899 : (Jvm.Cond.arrayOver (Jvm.ClassFile.FieldType.object "PromiseTries$Cells")) ∈ lw_tbl := lw_at lw_m4 86 rfl
theorem q995 : (Jvm.Cond.arrayClass Jvm.ClassFile.FieldType.char) ∈ lw_all := lw_g (lw_at lw_m4 182 rfl) rfl
theorem q1247 : (Jvm.Cond.arrayClass Jvm.ClassFile.FieldType.boolean) ∈ lw_all := lw_g (lw_at lw_m5 194 rfl) rfl
