/-! java/lang/Throwable -/
set_option maxRecDepth 100000
def RJ0 : String := "java/lang/Throwable"
def TJ0 : u_T := fun k => match k with
  | 0 => ("java/lang/Throwable", "cause", "Ljava/lang/Throwable;", false)
  | 1 => ("java/lang/Throwable", "stackTrace", "[Ljava/lang/StackTraceElement;", false)
  | 2 => ("java/lang/Throwable", "suppressedExceptions", "Ljava/util/List;", false)
  | 3 => ("java/lang/Throwable", "detailMessage", "Ljava/lang/String;", false)
  | _ => ("java/lang/Throwable", "backtrace", "Ljava/lang/Object;", false)
def tyJ0 : Nat → FieldType := fun k => match k with
  | 0 => .object "java/lang/Throwable"
  | 1 => .array (.object "java/lang/StackTraceElement")
  | 2 => .object "java/util/List"
  | 3 => .object "java/lang/String"
  | _ => .object "java/lang/Object"
abbrev wsJ00 : List Cond := u_ws RJ0 TJ0 5
theorem nmJ0 : ∀ a, a < 5 → ∀ b, b < 5 → a ≠ b → (TJ0 a).2.1 ≠ (TJ0 b).2.1 := by decide +kernel
theorem tyJ0_ok : ∀ k, k < 5 → parseFieldDescriptor (TJ0 k).2.2.1 = some (tyJ0 k) := by decide +kernel
abbrev cJ0_init : ByteArray := prog_21_method_1_code
def yJ0_init : MethodName := ⟨RJ0, "<init>", "()V"⟩
def dkwJ0_init_1 : List UInt8 := [182, 0, 27, 87, 177]
abbrev dktJ0_init_1 : List UInt8 := dkwJ0_init_1 ++ []
def dkwJ0_init_0 : List UInt8 := [42, 183, 0, 1, 42, 42, 181, 0, 7, 42, 178, 0, 13, 181, 0, 17, 42, 178, 0, 20, 181, 0, 24, 42]
abbrev dktJ0_init_0 : List UInt8 := dkwJ0_init_0 ++ dktJ0_init_1
theorem dksJ0_init_0 : cJ0_init.data.toList.drop 0 = dktJ0_init_0 := by decide +kernel
theorem dksJ0_init_1 : cJ0_init.data.toList.drop 24 = dktJ0_init_1 := dk_seg dksJ0_init_0 24 rfl rfl
theorem dJ0_init_0 : decode cJ0_init 0 = .ok (.aload_n 0, 1) := dk_42 (dk_at dksJ0_init_0 0 rfl rfl)
theorem dJ0_init_1 : decode cJ0_init 1 = .ok (.invokespecial 1, 3) := dk_183 0 1 (dk_at dksJ0_init_0 1 rfl rfl)
theorem dJ0_init_4 : decode cJ0_init 4 = .ok (.aload_n 0, 1) := dk_42 (dk_at dksJ0_init_0 4 rfl rfl)
theorem dJ0_init_5 : decode cJ0_init 5 = .ok (.aload_n 0, 1) := dk_42 (dk_at dksJ0_init_0 5 rfl rfl)
theorem dJ0_init_6 : decode cJ0_init 6 = .ok (.putfield 7, 3) := dk_181 0 7 (dk_at dksJ0_init_0 6 rfl rfl)
theorem dJ0_init_9 : decode cJ0_init 9 = .ok (.aload_n 0, 1) := dk_42 (dk_at dksJ0_init_0 9 rfl rfl)
theorem dJ0_init_10 : decode cJ0_init 10 = .ok (.getstatic 13, 3) := dk_178 0 13 (dk_at dksJ0_init_0 10 rfl rfl)
theorem dJ0_init_13 : decode cJ0_init 13 = .ok (.putfield 17, 3) := dk_181 0 17 (dk_at dksJ0_init_0 13 rfl rfl)
theorem dJ0_init_16 : decode cJ0_init 16 = .ok (.aload_n 0, 1) := dk_42 (dk_at dksJ0_init_0 16 rfl rfl)
theorem dJ0_init_17 : decode cJ0_init 17 = .ok (.getstatic 20, 3) := dk_178 0 20 (dk_at dksJ0_init_0 17 rfl rfl)
theorem dJ0_init_20 : decode cJ0_init 20 = .ok (.putfield 24, 3) := dk_181 0 24 (dk_at dksJ0_init_0 20 rfl rfl)
theorem dJ0_init_23 : decode cJ0_init 23 = .ok (.aload_n 0, 1) := dk_42 (dk_at dksJ0_init_0 23 rfl rfl)
theorem dJ0_init_24 : decode cJ0_init 24 = .ok (.invokevirtual 27, 3) := dk_182 0 27 (dk_at dksJ0_init_1 0 rfl rfl)
theorem dJ0_init_27 : decode cJ0_init 27 = .ok (.pop, 1) := dk_87 (dk_at dksJ0_init_1 3 rfl rfl)
theorem dJ0_init_28 : decode cJ0_init 28 = .ok (.return_, 1) := dk_177 (dk_at dksJ0_init_1 4 rfl rfl)
abbrev cJ0_init_2 : ByteArray := prog_21_method_5_code
def yJ0_init_2 : MethodName := ⟨RJ0, "<init>", "(Ljava/lang/String;Ljava/lang/Throwable;ZZ)V"⟩
def dkwJ0_init_2_2 : List UInt8 := [44, 181, 0, 7, 29, 154, 0, 8, 42, 1, 181, 0, 24, 177]
abbrev dktJ0_init_2_2 : List UInt8 := dkwJ0_init_2_2 ++ []
def dkwJ0_init_2_1 : List UInt8 := [21, 4, 153, 0, 11, 42, 182, 0, 27, 87, 167, 0, 8, 42, 1, 181, 0, 17, 42, 43, 181, 0, 31, 42]
abbrev dktJ0_init_2_1 : List UInt8 := dkwJ0_init_2_1 ++ dktJ0_init_2_2
def dkwJ0_init_2_0 : List UInt8 := [42, 183, 0, 1, 42, 42, 181, 0, 7, 42, 178, 0, 13, 181, 0, 17, 42, 178, 0, 20, 181, 0, 24]
abbrev dktJ0_init_2_0 : List UInt8 := dkwJ0_init_2_0 ++ dktJ0_init_2_1
theorem dksJ0_init_2_0 : cJ0_init_2.data.toList.drop 0 = dktJ0_init_2_0 := by decide +kernel
theorem dksJ0_init_2_1 : cJ0_init_2.data.toList.drop 23 = dktJ0_init_2_1 := dk_seg dksJ0_init_2_0 23 rfl rfl
theorem dksJ0_init_2_2 : cJ0_init_2.data.toList.drop 47 = dktJ0_init_2_2 := dk_seg dksJ0_init_2_1 24 rfl rfl
theorem dJ0_init_2_0 : decode cJ0_init_2 0 = .ok (.aload_n 0, 1) := dk_42 (dk_at dksJ0_init_2_0 0 rfl rfl)
theorem dJ0_init_2_1 : decode cJ0_init_2 1 = .ok (.invokespecial 1, 3) := dk_183 0 1 (dk_at dksJ0_init_2_0 1 rfl rfl)
theorem dJ0_init_2_4 : decode cJ0_init_2 4 = .ok (.aload_n 0, 1) := dk_42 (dk_at dksJ0_init_2_0 4 rfl rfl)
theorem dJ0_init_2_5 : decode cJ0_init_2 5 = .ok (.aload_n 0, 1) := dk_42 (dk_at dksJ0_init_2_0 5 rfl rfl)
theorem dJ0_init_2_6 : decode cJ0_init_2 6 = .ok (.putfield 7, 3) := dk_181 0 7 (dk_at dksJ0_init_2_0 6 rfl rfl)
theorem dJ0_init_2_9 : decode cJ0_init_2 9 = .ok (.aload_n 0, 1) := dk_42 (dk_at dksJ0_init_2_0 9 rfl rfl)
theorem dJ0_init_2_10 : decode cJ0_init_2 10 = .ok (.getstatic 13, 3) := dk_178 0 13 (dk_at dksJ0_init_2_0 10 rfl rfl)
theorem dJ0_init_2_13 : decode cJ0_init_2 13 = .ok (.putfield 17, 3) := dk_181 0 17 (dk_at dksJ0_init_2_0 13 rfl rfl)
theorem dJ0_init_2_16 : decode cJ0_init_2 16 = .ok (.aload_n 0, 1) := dk_42 (dk_at dksJ0_init_2_0 16 rfl rfl)
theorem dJ0_init_2_17 : decode cJ0_init_2 17 = .ok (.getstatic 20, 3) := dk_178 0 20 (dk_at dksJ0_init_2_0 17 rfl rfl)
theorem dJ0_init_2_20 : decode cJ0_init_2 20 = .ok (.putfield 24, 3) := dk_181 0 24 (dk_at dksJ0_init_2_0 20 rfl rfl)
theorem dJ0_init_2_23 : decode cJ0_init_2 23 = .ok (.iload 4, 2) := dk_21 4 (dk_at dksJ0_init_2_1 0 rfl rfl)
theorem dJ0_init_2_25 : decode cJ0_init_2 25 = .ok (.ifCond .eq 11, 3) := dk_153 0 11 (dk_at dksJ0_init_2_1 2 rfl rfl)
theorem dJ0_init_2_28 : decode cJ0_init_2 28 = .ok (.aload_n 0, 1) := dk_42 (dk_at dksJ0_init_2_1 5 rfl rfl)
theorem dJ0_init_2_29 : decode cJ0_init_2 29 = .ok (.invokevirtual 27, 3) := dk_182 0 27 (dk_at dksJ0_init_2_1 6 rfl rfl)
theorem dJ0_init_2_32 : decode cJ0_init_2 32 = .ok (.pop, 1) := dk_87 (dk_at dksJ0_init_2_1 9 rfl rfl)
theorem dJ0_init_2_33 : decode cJ0_init_2 33 = .ok (.goto 8, 3) := dk_167 0 8 (dk_at dksJ0_init_2_1 10 rfl rfl)
theorem dJ0_init_2_36 : decode cJ0_init_2 36 = .ok (.aload_n 0, 1) := dk_42 (dk_at dksJ0_init_2_1 13 rfl rfl)
theorem dJ0_init_2_37 : decode cJ0_init_2 37 = .ok (.aconst_null, 1) := dk_1 (dk_at dksJ0_init_2_1 14 rfl rfl)
theorem dJ0_init_2_38 : decode cJ0_init_2 38 = .ok (.putfield 17, 3) := dk_181 0 17 (dk_at dksJ0_init_2_1 15 rfl rfl)
theorem dJ0_init_2_41 : decode cJ0_init_2 41 = .ok (.aload_n 0, 1) := dk_42 (dk_at dksJ0_init_2_1 18 rfl rfl)
theorem dJ0_init_2_42 : decode cJ0_init_2 42 = .ok (.aload_n 1, 1) := dk_43 (dk_at dksJ0_init_2_1 19 rfl rfl)
theorem dJ0_init_2_43 : decode cJ0_init_2 43 = .ok (.putfield 31, 3) := dk_181 0 31 (dk_at dksJ0_init_2_1 20 rfl rfl)
theorem dJ0_init_2_46 : decode cJ0_init_2 46 = .ok (.aload_n 0, 1) := dk_42 (dk_at dksJ0_init_2_1 23 rfl rfl)
theorem dJ0_init_2_47 : decode cJ0_init_2 47 = .ok (.aload_n 2, 1) := dk_44 (dk_at dksJ0_init_2_2 0 rfl rfl)
theorem dJ0_init_2_48 : decode cJ0_init_2 48 = .ok (.putfield 7, 3) := dk_181 0 7 (dk_at dksJ0_init_2_2 1 rfl rfl)
theorem dJ0_init_2_51 : decode cJ0_init_2 51 = .ok (.iload_n 3, 1) := dk_29 (dk_at dksJ0_init_2_2 4 rfl rfl)
theorem dJ0_init_2_52 : decode cJ0_init_2 52 = .ok (.ifCond .ne 8, 3) := dk_154 0 8 (dk_at dksJ0_init_2_2 5 rfl rfl)
theorem dJ0_init_2_55 : decode cJ0_init_2 55 = .ok (.aload_n 0, 1) := dk_42 (dk_at dksJ0_init_2_2 8 rfl rfl)
theorem dJ0_init_2_56 : decode cJ0_init_2 56 = .ok (.aconst_null, 1) := dk_1 (dk_at dksJ0_init_2_2 9 rfl rfl)
theorem dJ0_init_2_57 : decode cJ0_init_2 57 = .ok (.putfield 24, 3) := dk_181 0 24 (dk_at dksJ0_init_2_2 10 rfl rfl)
theorem dJ0_init_2_60 : decode cJ0_init_2 60 = .ok (.return_, 1) := dk_177 (dk_at dksJ0_init_2_2 13 rfl rfl)
theorem q111 : (Jvm.Cond.initialized "java/lang/Throwable") ∈ lw_all := lw_g (lw_at lw_m1 3 rfl) rfl
theorem q152 : (Jvm.Cond.declares ({ cls := "java/lang/Throwable", name := "<init>", desc := "()V" } : Jvm.MethodName)) ∈ lw_tbl := lw_at lw_m1 44 rfl
theorem q153 : (Jvm.Cond.declares ({ cls := "java/lang/Throwable", name := "<init>", desc := "(Ljava/lang/String;)V" } : Jvm.MethodName)) ∈ lw_tbl := lw_at lw_m1 45 rfl
theorem q157 : (Jvm.Cond.lays "java/lang/Throwable" "java/lang/Throwable" "cause" "Ljava/lang/Throwable;") ∈ lw_all := lw_g (lw_at lw_m1 49 rfl) rfl
theorem q159 : (Jvm.Cond.lays "java/lang/Throwable" "java/lang/Throwable" "stackTrace" "[Ljava/lang/StackTraceElement;") ∈ lw_all := lw_g (lw_at lw_m1 51 rfl) rfl
theorem q161 : (Jvm.Cond.lays "java/lang/Throwable" "java/lang/Throwable" "suppressedExceptions" "Ljava/util/List;") ∈ lw_all := lw_g (lw_at lw_m1 53 rfl) rfl
theorem q163 : (Jvm.Cond.lays "java/lang/Throwable" "java/lang/Throwable" "detailMessage" "Ljava/lang/String;") ∈ lw_all := lw_g (lw_at lw_m1 55 rfl) rfl
theorem q165 : (Jvm.Cond.lays "java/lang/Throwable" "java/lang/Throwable" "backtrace" "Ljava/lang/Object;") ∈ lw_all := lw_g (lw_at lw_m1 57 rfl) rfl
theorem q166 : (Jvm.Cond.fieldLink "java/lang/Throwable" (198 : Nat) "java/lang/Throwable" "backtrace" "Ljava/lang/Object;") ∈ lw_all := lw_g (lw_at lw_m1 58 rfl) rfl
theorem q167 : (Jvm.Cond.superclass "java/lang/Throwable" "java/lang/Object") ∈ lw_all := lw_g (lw_at lw_m1 59 rfl) rfl
theorem q168 : (Jvm.Cond.instanceMethod ({ cls := "java/lang/Throwable", name := "<init>", desc := "()V" } : Jvm.MethodName)) ∈ lw_all := lw_g (lw_at lw_m1 60 rfl) rfl
theorem q169 : (Jvm.Cond.code ({ cls := "java/lang/Throwable", name := "<init>", desc := "()V" } : Jvm.MethodName) prog_21_method_1_code (1 : Nat) (Option.none : Option Jvm.ClassFile.FieldType)) ∈ lw_all := lw_g (lw_at lw_m1 61 rfl) rfl
theorem q170 : (Jvm.Cond.methodLink "java/lang/Throwable" (1 : Nat) ({ cls := "java/lang/Object", name := "<init>", desc := "()V" } : Jvm.MethodName)) ∈ lw_all := lw_g (lw_at lw_m1 62 rfl) rfl
theorem q171 : (Jvm.Cond.fieldLink "java/lang/Throwable" (13 : Nat) "java/lang/Throwable" "UNASSIGNED_STACK" "[Ljava/lang/StackTraceElement;") ∈ lw_all := lw_g (lw_at lw_m1 63 rfl) rfl
theorem q172 : (Jvm.Cond.laysStatic "java/lang/Throwable" "UNASSIGNED_STACK" "[Ljava/lang/StackTraceElement;") ∈ lw_tbl := lw_at lw_m1 64 rfl
theorem q173 : (Jvm.Cond.fieldLink "java/lang/Throwable" (20 : Nat) "java/lang/Throwable" "SUPPRESSED_SENTINEL" "Ljava/util/List;") ∈ lw_all := lw_g (lw_at lw_m1 65 rfl) rfl
theorem q174 : (Jvm.Cond.laysStatic "java/lang/Throwable" "SUPPRESSED_SENTINEL" "Ljava/util/List;") ∈ lw_tbl := lw_at lw_m1 66 rfl
theorem q175 : (Jvm.Cond.methodLink "java/lang/Throwable" (27 : Nat) ({ cls := "java/lang/Throwable", name := "fillInStackTrace", desc := "()Ljava/lang/Throwable;" } : Jvm.MethodName)) ∈ lw_all := lw_g (lw_at lw_m1 67 rfl) rfl
theorem q176 : (Jvm.Cond.instanceMethod ({ cls := "java/lang/Throwable", name := "fillInStackTrace", desc := "()Ljava/lang/Throwable;" } : Jvm.MethodName)) ∈ lw_all := lw_g (lw_at lw_m1 68 rfl) rfl
theorem q177 : (Jvm.Cond.sameMethod "java/lang/Throwable" "java/lang/Throwable" "fillInStackTrace" "()Ljava/lang/Throwable;") ∈ lw_all := lw_g (lw_at lw_m1 69 rfl) rfl
theorem q178 : (Jvm.Cond.codeSync ({ cls := "java/lang/Throwable", name := "fillInStackTrace", desc := "()Ljava/lang/Throwable;" } : Jvm.MethodName) prog_21_method_18_code (1 : Nat) (Option.some (Jvm.ClassFile.FieldType.object "java/lang/Throwable"))) ∈ lw_all := lw_g (lw_at lw_m1 70 rfl) rfl
theorem q179 : (Jvm.Cond.methodLink "java/lang/Throwable" (202 : Nat) ({ cls := "java/lang/Throwable", name := "fillInStackTrace", desc := "(I)Ljava/lang/Throwable;" } : Jvm.MethodName)) ∈ lw_all := lw_g (lw_at lw_m1 71 rfl) rfl
theorem q180 : (Jvm.Cond.privateMethod ({ cls := "java/lang/Throwable", name := "fillInStackTrace", desc := "(I)Ljava/lang/Throwable;" } : Jvm.MethodName)) ∈ lw_tbl := lw_at lw_m1 72 rfl
theorem q181 : (Jvm.Cond.instanceMethod ({ cls := "java/lang/Throwable", name := "fillInStackTrace", desc := "(I)Ljava/lang/Throwable;" } : Jvm.MethodName)) ∈ lw_all := lw_g (lw_at lw_m1 73 rfl) rfl
theorem q182 : (Jvm.Cond.instantiable "java/lang/Throwable" (6 : Nat)) ∈ lw_all := lw_g (lw_at lw_m1 74 rfl) rfl
theorem q183 : (Jvm.Cond.native ({ cls := "java/lang/Throwable", name := "fillInStackTrace", desc := "(I)Ljava/lang/Throwable;" } : Jvm.MethodName)) ∈ lw_all := lw_g (lw_at lw_m1 75 rfl) rfl
theorem q194 : (Jvm.Cond.instanceMethod ({ cls := "java/lang/Throwable", name := "<init>", desc := "(Ljava/lang/String;Ljava/lang/Throwable;ZZ)V" } : Jvm.MethodName)) ∈ lw_all := lw_g (lw_at lw_m1 86 rfl) rfl
theorem q195 : (Jvm.Cond.code ({ cls := "java/lang/Throwable", name := "<init>", desc := "(Ljava/lang/String;Ljava/lang/Throwable;ZZ)V" } : Jvm.MethodName) prog_21_method_5_code (5 : Nat) (Option.none : Option Jvm.ClassFile.FieldType)) ∈ lw_all := lw_g (lw_at lw_m1 87 rfl) rfl
theorem q196 : (Jvm.Cond.fieldLink "java/lang/Throwable" (198 : Nat) "java/lang/Throwable" "backtrace" "Ljava/lang/Object;") ∈ lw_all := lw_g (lw_at lw_m1 88 rfl) rfl
theorem q197 : (Jvm.Cond.fieldLink "java/lang/Throwable" (31 : Nat) "java/lang/Throwable" "detailMessage" "Ljava/lang/String;") ∈ lw_all := lw_g (lw_at lw_m1 89 rfl) rfl
theorem q198 : (Jvm.Cond.fieldLink "java/lang/Throwable" (7 : Nat) "java/lang/Throwable" "cause" "Ljava/lang/Throwable;") ∈ lw_all := lw_g (lw_at lw_m1 90 rfl) rfl
theorem q199 : (Jvm.Cond.fieldLink "java/lang/Throwable" (17 : Nat) "java/lang/Throwable" "stackTrace" "[Ljava/lang/StackTraceElement;") ∈ lw_all := lw_g (lw_at lw_m1 91 rfl) rfl
theorem q200 : (Jvm.Cond.fieldLink "java/lang/Throwable" (24 : Nat) "java/lang/Throwable" "suppressedExceptions" "Ljava/util/List;") ∈ lw_all := lw_g (lw_at lw_m1 92 rfl) rfl
theorem q201 : (Jvm.Cond.soleField "java/lang/Throwable" "backtrace") ∈ lw_all := lw_g (lw_at lw_m1 93 rfl) rfl
theorem q202 : (Jvm.Cond.soleField "java/lang/Throwable" "detailMessage") ∈ lw_all := lw_g (lw_at lw_m1 94 rfl) rfl
theorem q203 : (Jvm.Cond.soleField "java/lang/Throwable" "cause") ∈ lw_all := lw_g (lw_at lw_m1 95 rfl) rfl
theorem q204 : (Jvm.Cond.soleField "java/lang/Throwable" "stackTrace") ∈ lw_all := lw_g (lw_at lw_m1 96 rfl) rfl
theorem q206 : (Jvm.Cond.soleField "java/lang/Throwable" "depth") ∈ lw_all := lw_g (lw_at lw_m1 98 rfl) rfl
theorem q207 : (Jvm.Cond.soleField "java/lang/Throwable" "suppressedExceptions") ∈ lw_all := lw_g (lw_at lw_m1 99 rfl) rfl
theorem q2234 : (Jvm.Cond.sameMethod "java/lang/Throwable" "java/lang/Throwable" "fillInStackTrace" "(I)Ljava/lang/Throwable;") ∈ lw_all := lw_g (lw_at lw_m9 206 rfl) rfl
theorem q2263 : (Jvm.Cond.castable "java/lang/Throwable" "java/lang/Object") ∈ lw_tbl := lw_at lw_m9 235 rfl
theorem in_J0 : ∀ w ∈ wsJ00, w ∈ lw_all := lw_in wsJ00 [157, 159, 161, 163, 165] (by decide +kernel) (by decide +kernel)

/-! java/lang/Exception -/
set_option maxRecDepth 100000
def RJ1 : String := "java/lang/Exception"
abbrev cJ1_init : ByteArray := prog_16_method_5_code
def yJ1_init : MethodName := ⟨RJ1, "<init>", "(Ljava/lang/String;Ljava/lang/Throwable;ZZ)V"⟩
def dkwJ1_init_0 : List UInt8 := [42, 43, 44, 29, 21, 4, 183, 0, 16, 177]
abbrev dktJ1_init_0 : List UInt8 := dkwJ1_init_0 ++ []
theorem dksJ1_init_0 : cJ1_init.data.toList.drop 0 = dktJ1_init_0 := by decide +kernel
theorem dJ1_init_0 : decode cJ1_init 0 = .ok (.aload_n 0, 1) := dk_42 (dk_at dksJ1_init_0 0 rfl rfl)
theorem dJ1_init_1 : decode cJ1_init 1 = .ok (.aload_n 1, 1) := dk_43 (dk_at dksJ1_init_0 1 rfl rfl)
theorem dJ1_init_2 : decode cJ1_init 2 = .ok (.aload_n 2, 1) := dk_44 (dk_at dksJ1_init_0 2 rfl rfl)
theorem dJ1_init_3 : decode cJ1_init 3 = .ok (.iload_n 3, 1) := dk_29 (dk_at dksJ1_init_0 3 rfl rfl)
theorem dJ1_init_4 : decode cJ1_init 4 = .ok (.iload 4, 2) := dk_21 4 (dk_at dksJ1_init_0 4 rfl rfl)
theorem dJ1_init_6 : decode cJ1_init 6 = .ok (.invokespecial 16, 3) := dk_183 0 16 (dk_at dksJ1_init_0 6 rfl rfl)
theorem dJ1_init_9 : decode cJ1_init 9 = .ok (.return_, 1) := dk_177 (dk_at dksJ1_init_0 9 rfl rfl)
theorem q112 : (Jvm.Cond.initialized "java/lang/Exception") ∈ lw_all := lw_g (lw_at lw_m1 4 rfl) rfl
theorem q150 : (Jvm.Cond.declares ({ cls := "java/lang/Exception", name := "<init>", desc := "()V" } : Jvm.MethodName)) ∈ lw_tbl := lw_at lw_m1 42 rfl
theorem q151 : (Jvm.Cond.declares ({ cls := "java/lang/Exception", name := "<init>", desc := "(Ljava/lang/String;)V" } : Jvm.MethodName)) ∈ lw_tbl := lw_at lw_m1 43 rfl
theorem q191 : (Jvm.Cond.instanceMethod ({ cls := "java/lang/Exception", name := "<init>", desc := "(Ljava/lang/String;Ljava/lang/Throwable;ZZ)V" } : Jvm.MethodName)) ∈ lw_all := lw_g (lw_at lw_m1 83 rfl) rfl
theorem q192 : (Jvm.Cond.code ({ cls := "java/lang/Exception", name := "<init>", desc := "(Ljava/lang/String;Ljava/lang/Throwable;ZZ)V" } : Jvm.MethodName) prog_16_method_5_code (5 : Nat) (Option.none : Option Jvm.ClassFile.FieldType)) ∈ lw_all := lw_g (lw_at lw_m1 84 rfl) rfl
theorem q193 : (Jvm.Cond.methodLink "java/lang/Exception" (16 : Nat) ({ cls := "java/lang/Throwable", name := "<init>", desc := "(Ljava/lang/String;Ljava/lang/Throwable;ZZ)V" } : Jvm.MethodName)) ∈ lw_all := lw_g (lw_at lw_m1 85 rfl) rfl

/-! java/lang/RuntimeException -/
set_option maxRecDepth 100000
def RJ2 : String := "java/lang/RuntimeException"
abbrev cJ2_init : ByteArray := prog_19_method_5_code
def yJ2_init : MethodName := ⟨RJ2, "<init>", "(Ljava/lang/String;Ljava/lang/Throwable;ZZ)V"⟩
def dkwJ2_init_0 : List UInt8 := [42, 43, 44, 29, 21, 4, 183, 0, 16, 177]
abbrev dktJ2_init_0 : List UInt8 := dkwJ2_init_0 ++ []
theorem dksJ2_init_0 : cJ2_init.data.toList.drop 0 = dktJ2_init_0 := by decide +kernel
theorem dJ2_init_0 : decode cJ2_init 0 = .ok (.aload_n 0, 1) := dk_42 (dk_at dksJ2_init_0 0 rfl rfl)
theorem dJ2_init_1 : decode cJ2_init 1 = .ok (.aload_n 1, 1) := dk_43 (dk_at dksJ2_init_0 1 rfl rfl)
theorem dJ2_init_2 : decode cJ2_init 2 = .ok (.aload_n 2, 1) := dk_44 (dk_at dksJ2_init_0 2 rfl rfl)
theorem dJ2_init_3 : decode cJ2_init 3 = .ok (.iload_n 3, 1) := dk_29 (dk_at dksJ2_init_0 3 rfl rfl)
theorem dJ2_init_4 : decode cJ2_init 4 = .ok (.iload 4, 2) := dk_21 4 (dk_at dksJ2_init_0 4 rfl rfl)
theorem dJ2_init_6 : decode cJ2_init 6 = .ok (.invokespecial 16, 3) := dk_183 0 16 (dk_at dksJ2_init_0 6 rfl rfl)
theorem dJ2_init_9 : decode cJ2_init 9 = .ok (.return_, 1) := dk_177 (dk_at dksJ2_init_0 9 rfl rfl)
theorem q113 : (Jvm.Cond.initialized "java/lang/RuntimeException") ∈ lw_all := lw_g (lw_at lw_m1 5 rfl) rfl
theorem q148 : (Jvm.Cond.declares ({ cls := "java/lang/RuntimeException", name := "<init>", desc := "()V" } : Jvm.MethodName)) ∈ lw_tbl := lw_at lw_m1 40 rfl
theorem q149 : (Jvm.Cond.declares ({ cls := "java/lang/RuntimeException", name := "<init>", desc := "(Ljava/lang/String;)V" } : Jvm.MethodName)) ∈ lw_tbl := lw_at lw_m1 41 rfl
theorem q188 : (Jvm.Cond.instanceMethod ({ cls := "java/lang/RuntimeException", name := "<init>", desc := "(Ljava/lang/String;Ljava/lang/Throwable;ZZ)V" } : Jvm.MethodName)) ∈ lw_all := lw_g (lw_at lw_m1 80 rfl) rfl
theorem q189 : (Jvm.Cond.code ({ cls := "java/lang/RuntimeException", name := "<init>", desc := "(Ljava/lang/String;Ljava/lang/Throwable;ZZ)V" } : Jvm.MethodName) prog_19_method_5_code (5 : Nat) (Option.none : Option Jvm.ClassFile.FieldType)) ∈ lw_all := lw_g (lw_at lw_m1 81 rfl) rfl
theorem q190 : (Jvm.Cond.methodLink "java/lang/RuntimeException" (16 : Nat) ({ cls := "java/lang/Exception", name := "<init>", desc := "(Ljava/lang/String;Ljava/lang/Throwable;ZZ)V" } : Jvm.MethodName)) ∈ lw_all := lw_g (lw_at lw_m1 82 rfl) rfl

/-! java/lang/Math -/
set_option maxRecDepth 100000
def RJ3 : String := "java/lang/Math"
abbrev cJ3_min : ByteArray := prog_18_method_69_code
def yJ3_min : MethodName := ⟨RJ3, "min", "(II)I"⟩
def dkwJ3_min_0 : List UInt8 := [26, 27, 163, 0, 7, 26, 167, 0, 4, 27, 172]
abbrev dktJ3_min_0 : List UInt8 := dkwJ3_min_0 ++ []
theorem dksJ3_min_0 : cJ3_min.data.toList.drop 0 = dktJ3_min_0 := by decide +kernel
theorem dJ3_min_0 : decode cJ3_min 0 = .ok (.iload_n 0, 1) := dk_26 (dk_at dksJ3_min_0 0 rfl rfl)
theorem dJ3_min_1 : decode cJ3_min 1 = .ok (.iload_n 1, 1) := dk_27 (dk_at dksJ3_min_0 1 rfl rfl)
theorem dJ3_min_2 : decode cJ3_min 2 = .ok (.if_icmp .gt 7, 3) := dk_163 0 7 (dk_at dksJ3_min_0 2 rfl rfl)
theorem dJ3_min_5 : decode cJ3_min 5 = .ok (.iload_n 0, 1) := dk_26 (dk_at dksJ3_min_0 5 rfl rfl)
theorem dJ3_min_6 : decode cJ3_min 6 = .ok (.goto 4, 3) := dk_167 0 4 (dk_at dksJ3_min_0 6 rfl rfl)
theorem dJ3_min_9 : decode cJ3_min 9 = .ok (.iload_n 1, 1) := dk_27 (dk_at dksJ3_min_0 9 rfl rfl)
theorem dJ3_min_10 : decode cJ3_min 10 = .ok (.ireturn, 1) := dk_172 (dk_at dksJ3_min_0 10 rfl rfl)
abbrev cJ3_max : ByteArray := prog_18_method_65_code
def yJ3_max : MethodName := ⟨RJ3, "max", "(II)I"⟩
def dkwJ3_max_0 : List UInt8 := [26, 27, 161, 0, 7, 26, 167, 0, 4, 27, 172]
abbrev dktJ3_max_0 : List UInt8 := dkwJ3_max_0 ++ []
theorem dksJ3_max_0 : cJ3_max.data.toList.drop 0 = dktJ3_max_0 := by decide +kernel
theorem dJ3_max_0 : decode cJ3_max 0 = .ok (.iload_n 0, 1) := dk_26 (dk_at dksJ3_max_0 0 rfl rfl)
theorem dJ3_max_1 : decode cJ3_max 1 = .ok (.iload_n 1, 1) := dk_27 (dk_at dksJ3_max_0 1 rfl rfl)
theorem dJ3_max_2 : decode cJ3_max 2 = .ok (.if_icmp .lt 7, 3) := dk_161 0 7 (dk_at dksJ3_max_0 2 rfl rfl)
theorem dJ3_max_5 : decode cJ3_max 5 = .ok (.iload_n 0, 1) := dk_26 (dk_at dksJ3_max_0 5 rfl rfl)
theorem dJ3_max_6 : decode cJ3_max 6 = .ok (.goto 4, 3) := dk_167 0 4 (dk_at dksJ3_max_0 6 rfl rfl)
theorem dJ3_max_9 : decode cJ3_max 9 = .ok (.iload_n 1, 1) := dk_27 (dk_at dksJ3_max_0 9 rfl rfl)
theorem dJ3_max_10 : decode cJ3_max 10 = .ok (.ireturn, 1) := dk_172 (dk_at dksJ3_max_0 10 rfl rfl)
abbrev cJ3_abs : ByteArray := prog_18_method_59_code
def yJ3_abs : MethodName := ⟨RJ3, "abs", "(I)I"⟩
def dkwJ3_abs_0 : List UInt8 := [26, 156, 0, 8, 26, 116, 167, 0, 4, 26, 172]
abbrev dktJ3_abs_0 : List UInt8 := dkwJ3_abs_0 ++ []
theorem dksJ3_abs_0 : cJ3_abs.data.toList.drop 0 = dktJ3_abs_0 := by decide +kernel
theorem dJ3_abs_0 : decode cJ3_abs 0 = .ok (.iload_n 0, 1) := dk_26 (dk_at dksJ3_abs_0 0 rfl rfl)
theorem dJ3_abs_1 : decode cJ3_abs 1 = .ok (.ifCond .ge 8, 3) := dk_156 0 8 (dk_at dksJ3_abs_0 1 rfl rfl)
theorem dJ3_abs_4 : decode cJ3_abs 4 = .ok (.iload_n 0, 1) := dk_26 (dk_at dksJ3_abs_0 4 rfl rfl)
theorem dJ3_abs_5 : decode cJ3_abs 5 = .ok (.ineg, 1) := dk_116 (dk_at dksJ3_abs_0 5 rfl rfl)
theorem dJ3_abs_6 : decode cJ3_abs 6 = .ok (.goto 4, 3) := dk_167 0 4 (dk_at dksJ3_abs_0 6 rfl rfl)
theorem dJ3_abs_9 : decode cJ3_abs 9 = .ok (.iload_n 0, 1) := dk_26 (dk_at dksJ3_abs_0 9 rfl rfl)
theorem dJ3_abs_10 : decode cJ3_abs 10 = .ok (.ireturn, 1) := dk_172 (dk_at dksJ3_abs_0 10 rfl rfl)
abbrev cJ3_abs_2 : ByteArray := prog_18_method_61_code
def yJ3_abs_2 : MethodName := ⟨RJ3, "abs", "(J)J"⟩
def dkwJ3_abs_2_0 : List UInt8 := [30, 9, 148, 156, 0, 8, 30, 117, 167, 0, 4, 30, 173]
abbrev dktJ3_abs_2_0 : List UInt8 := dkwJ3_abs_2_0 ++ []
theorem dksJ3_abs_2_0 : cJ3_abs_2.data.toList.drop 0 = dktJ3_abs_2_0 := by decide +kernel
theorem dJ3_abs_2_0 : decode cJ3_abs_2 0 = .ok (.lload_n 0, 1) := dk_30 (dk_at dksJ3_abs_2_0 0 rfl rfl)
theorem dJ3_abs_2_1 : decode cJ3_abs_2 1 = .ok (.lconst 0, 1) := dk_9 (dk_at dksJ3_abs_2_0 1 rfl rfl)
theorem dJ3_abs_2_2 : decode cJ3_abs_2 2 = .ok (.lcmp, 1) := dk_148 (dk_at dksJ3_abs_2_0 2 rfl rfl)
theorem dJ3_abs_2_3 : decode cJ3_abs_2 3 = .ok (.ifCond .ge 8, 3) := dk_156 0 8 (dk_at dksJ3_abs_2_0 3 rfl rfl)
theorem dJ3_abs_2_6 : decode cJ3_abs_2 6 = .ok (.lload_n 0, 1) := dk_30 (dk_at dksJ3_abs_2_0 6 rfl rfl)
theorem dJ3_abs_2_7 : decode cJ3_abs_2 7 = .ok (.lneg, 1) := dk_117 (dk_at dksJ3_abs_2_0 7 rfl rfl)
theorem dJ3_abs_2_8 : decode cJ3_abs_2 8 = .ok (.goto 4, 3) := dk_167 0 4 (dk_at dksJ3_abs_2_0 8 rfl rfl)
theorem dJ3_abs_2_11 : decode cJ3_abs_2 11 = .ok (.lload_n 0, 1) := dk_30 (dk_at dksJ3_abs_2_0 11 rfl rfl)
theorem dJ3_abs_2_12 : decode cJ3_abs_2 12 = .ok (.lreturn, 1) := dk_173 (dk_at dksJ3_abs_2_0 12 rfl rfl)
abbrev cJ3_max_2 : ByteArray := prog_18_method_66_code
def yJ3_max_2 : MethodName := ⟨RJ3, "max", "(JJ)J"⟩
def dkwJ3_max_2_0 : List UInt8 := [30, 32, 148, 155, 0, 7, 30, 167, 0, 4, 32, 173]
abbrev dktJ3_max_2_0 : List UInt8 := dkwJ3_max_2_0 ++ []
theorem dksJ3_max_2_0 : cJ3_max_2.data.toList.drop 0 = dktJ3_max_2_0 := by decide +kernel
theorem dJ3_max_2_0 : decode cJ3_max_2 0 = .ok (.lload_n 0, 1) := dk_30 (dk_at dksJ3_max_2_0 0 rfl rfl)
theorem dJ3_max_2_1 : decode cJ3_max_2 1 = .ok (.lload_n 2, 1) := dk_32 (dk_at dksJ3_max_2_0 1 rfl rfl)
theorem dJ3_max_2_2 : decode cJ3_max_2 2 = .ok (.lcmp, 1) := dk_148 (dk_at dksJ3_max_2_0 2 rfl rfl)
theorem dJ3_max_2_3 : decode cJ3_max_2 3 = .ok (.ifCond .lt 7, 3) := dk_155 0 7 (dk_at dksJ3_max_2_0 3 rfl rfl)
theorem dJ3_max_2_6 : decode cJ3_max_2 6 = .ok (.lload_n 0, 1) := dk_30 (dk_at dksJ3_max_2_0 6 rfl rfl)
theorem dJ3_max_2_7 : decode cJ3_max_2 7 = .ok (.goto 4, 3) := dk_167 0 4 (dk_at dksJ3_max_2_0 7 rfl rfl)
theorem dJ3_max_2_10 : decode cJ3_max_2 10 = .ok (.lload_n 2, 1) := dk_32 (dk_at dksJ3_max_2_0 10 rfl rfl)
theorem dJ3_max_2_11 : decode cJ3_max_2 11 = .ok (.lreturn, 1) := dk_173 (dk_at dksJ3_max_2_0 11 rfl rfl)
abbrev cJ3_min_2 : ByteArray := prog_18_method_70_code
def yJ3_min_2 : MethodName := ⟨RJ3, "min", "(JJ)J"⟩
def dkwJ3_min_2_0 : List UInt8 := [30, 32, 148, 157, 0, 7, 30, 167, 0, 4, 32, 173]
abbrev dktJ3_min_2_0 : List UInt8 := dkwJ3_min_2_0 ++ []
theorem dksJ3_min_2_0 : cJ3_min_2.data.toList.drop 0 = dktJ3_min_2_0 := by decide +kernel
theorem dJ3_min_2_0 : decode cJ3_min_2 0 = .ok (.lload_n 0, 1) := dk_30 (dk_at dksJ3_min_2_0 0 rfl rfl)
theorem dJ3_min_2_1 : decode cJ3_min_2 1 = .ok (.lload_n 2, 1) := dk_32 (dk_at dksJ3_min_2_0 1 rfl rfl)
theorem dJ3_min_2_2 : decode cJ3_min_2 2 = .ok (.lcmp, 1) := dk_148 (dk_at dksJ3_min_2_0 2 rfl rfl)
theorem dJ3_min_2_3 : decode cJ3_min_2 3 = .ok (.ifCond .gt 7, 3) := dk_157 0 7 (dk_at dksJ3_min_2_0 3 rfl rfl)
theorem dJ3_min_2_6 : decode cJ3_min_2 6 = .ok (.lload_n 0, 1) := dk_30 (dk_at dksJ3_min_2_0 6 rfl rfl)
theorem dJ3_min_2_7 : decode cJ3_min_2 7 = .ok (.goto 4, 3) := dk_167 0 4 (dk_at dksJ3_min_2_0 7 rfl rfl)
theorem dJ3_min_2_10 : decode cJ3_min_2 10 = .ok (.lload_n 2, 1) := dk_32 (dk_at dksJ3_min_2_0 10 rfl rfl)
theorem dJ3_min_2_11 : decode cJ3_min_2 11 = .ok (.lreturn, 1) := dk_173 (dk_at dksJ3_min_2_0 11 rfl rfl)
theorem q120 : (Jvm.Cond.initialized "java/lang/Math") ∈ lw_all := lw_g (lw_at lw_m1 12 rfl) rfl
theorem q693 : (Jvm.Cond.static ({ cls := "java/lang/Math", name := "min", desc := "(II)I" } : Jvm.MethodName)) ∈ lw_all := lw_g (lw_at lw_m3 105 rfl) rfl
theorem q694 : (Jvm.Cond.code ({ cls := "java/lang/Math", name := "min", desc := "(II)I" } : Jvm.MethodName) prog_18_method_69_code (2 : Nat) (Option.some Jvm.ClassFile.FieldType.int)) ∈ lw_all := lw_g (lw_at lw_m3 106 rfl) rfl
theorem q696 : (Jvm.Cond.static ({ cls := "java/lang/Math", name := "max", desc := "(II)I" } : Jvm.MethodName)) ∈ lw_all := lw_g (lw_at lw_m3 108 rfl) rfl
theorem q697 : (Jvm.Cond.code ({ cls := "java/lang/Math", name := "max", desc := "(II)I" } : Jvm.MethodName) prog_18_method_65_code (2 : Nat) (Option.some Jvm.ClassFile.FieldType.int)) ∈ lw_all := lw_g (lw_at lw_m3 109 rfl) rfl
theorem q958 : (Jvm.Cond.static ({ cls := "java/lang/Math", name := "abs", desc := "(I)I" } : Jvm.MethodName)) ∈ lw_all := lw_g (lw_at lw_m4 130 rfl) rfl
theorem q959 : (Jvm.Cond.code ({ cls := "java/lang/Math", name := "abs", desc := "(I)I" } : Jvm.MethodName) prog_18_method_59_code (1 : Nat) (Option.some Jvm.ClassFile.FieldType.int)) ∈ lw_all := lw_g (lw_at lw_m4 131 rfl) rfl
theorem q1068 : (Jvm.Cond.static ({ cls := "java/lang/Math", name := "abs", desc := "(J)J" } : Jvm.MethodName)) ∈ lw_all := lw_g (lw_at lw_m5 0 rfl) rfl
theorem q1069 : (Jvm.Cond.code ({ cls := "java/lang/Math", name := "abs", desc := "(J)J" } : Jvm.MethodName) prog_18_method_61_code (2 : Nat) (Option.some Jvm.ClassFile.FieldType.long)) ∈ lw_all := lw_g (lw_at lw_m5 1 rfl) rfl
theorem q1071 : (Jvm.Cond.static ({ cls := "java/lang/Math", name := "max", desc := "(JJ)J" } : Jvm.MethodName)) ∈ lw_all := lw_g (lw_at lw_m5 3 rfl) rfl
theorem q1072 : (Jvm.Cond.code ({ cls := "java/lang/Math", name := "max", desc := "(JJ)J" } : Jvm.MethodName) prog_18_method_66_code (4 : Nat) (Option.some Jvm.ClassFile.FieldType.long)) ∈ lw_all := lw_g (lw_at lw_m5 4 rfl) rfl
theorem q1074 : (Jvm.Cond.static ({ cls := "java/lang/Math", name := "min", desc := "(JJ)J" } : Jvm.MethodName)) ∈ lw_all := lw_g (lw_at lw_m5 6 rfl) rfl
theorem q1075 : (Jvm.Cond.code ({ cls := "java/lang/Math", name := "min", desc := "(JJ)J" } : Jvm.MethodName) prog_18_method_70_code (4 : Nat) (Option.some Jvm.ClassFile.FieldType.long)) ∈ lw_all := lw_g (lw_at lw_m5 7 rfl) rfl

/-! java/lang/Integer -/
set_option maxRecDepth 100000
def RJ4 : String := "java/lang/Integer"
abbrev cJ4_bitCount : ByteArray := prog_17_method_49_code
def yJ4_bitCount : MethodName := ⟨RJ4, "bitCount", "(I)I"⟩
def dkwJ4_bitCount_2 : List UInt8 := [26, 16, 63, 126, 172]
abbrev dktJ4_bitCount_2 : List UInt8 := dkwJ4_bitCount_2 ++ []
def dkwJ4_bitCount_1 : List UInt8 := [26, 26, 7, 124, 96, 19, 1, 11, 126, 59, 26, 26, 16, 8, 124, 96, 59, 26, 26, 16, 16, 124, 96, 59]
abbrev dktJ4_bitCount_1 : List UInt8 := dkwJ4_bitCount_1 ++ dktJ4_bitCount_2
def dkwJ4_bitCount_0 : List UInt8 := [26, 26, 4, 124, 19, 1, 9, 126, 100, 59, 26, 19, 1, 10, 126, 26, 5, 124, 19, 1, 10, 126, 96, 59]
abbrev dktJ4_bitCount_0 : List UInt8 := dkwJ4_bitCount_0 ++ dktJ4_bitCount_1
theorem dksJ4_bitCount_0 : cJ4_bitCount.data.toList.drop 0 = dktJ4_bitCount_0 := by decide +kernel
theorem dksJ4_bitCount_1 : cJ4_bitCount.data.toList.drop 24 = dktJ4_bitCount_1 := dk_seg dksJ4_bitCount_0 24 rfl rfl
theorem dksJ4_bitCount_2 : cJ4_bitCount.data.toList.drop 48 = dktJ4_bitCount_2 := dk_seg dksJ4_bitCount_1 24 rfl rfl
theorem dJ4_bitCount_0 : decode cJ4_bitCount 0 = .ok (.iload_n 0, 1) := dk_26 (dk_at dksJ4_bitCount_0 0 rfl rfl)
theorem dJ4_bitCount_1 : decode cJ4_bitCount 1 = .ok (.iload_n 0, 1) := dk_26 (dk_at dksJ4_bitCount_0 1 rfl rfl)
theorem dJ4_bitCount_2 : decode cJ4_bitCount 2 = .ok (.iconst 1, 1) := dk_4 (dk_at dksJ4_bitCount_0 2 rfl rfl)
theorem dJ4_bitCount_3 : decode cJ4_bitCount 3 = .ok (.iushr, 1) := dk_124 (dk_at dksJ4_bitCount_0 3 rfl rfl)
theorem dJ4_bitCount_4 : decode cJ4_bitCount 4 = .ok (.ldc_w 265, 3) := dk_19 1 9 (dk_at dksJ4_bitCount_0 4 rfl rfl)
theorem dJ4_bitCount_7 : decode cJ4_bitCount 7 = .ok (.iand, 1) := dk_126 (dk_at dksJ4_bitCount_0 7 rfl rfl)
theorem dJ4_bitCount_8 : decode cJ4_bitCount 8 = .ok (.isub, 1) := dk_100 (dk_at dksJ4_bitCount_0 8 rfl rfl)
theorem dJ4_bitCount_9 : decode cJ4_bitCount 9 = .ok (.istore_n 0, 1) := dk_59 (dk_at dksJ4_bitCount_0 9 rfl rfl)
theorem dJ4_bitCount_10 : decode cJ4_bitCount 10 = .ok (.iload_n 0, 1) := dk_26 (dk_at dksJ4_bitCount_0 10 rfl rfl)
theorem dJ4_bitCount_11 : decode cJ4_bitCount 11 = .ok (.ldc_w 266, 3) := dk_19 1 10 (dk_at dksJ4_bitCount_0 11 rfl rfl)
theorem dJ4_bitCount_14 : decode cJ4_bitCount 14 = .ok (.iand, 1) := dk_126 (dk_at dksJ4_bitCount_0 14 rfl rfl)
theorem dJ4_bitCount_15 : decode cJ4_bitCount 15 = .ok (.iload_n 0, 1) := dk_26 (dk_at dksJ4_bitCount_0 15 rfl rfl)
theorem dJ4_bitCount_16 : decode cJ4_bitCount 16 = .ok (.iconst 2, 1) := dk_5 (dk_at dksJ4_bitCount_0 16 rfl rfl)
theorem dJ4_bitCount_17 : decode cJ4_bitCount 17 = .ok (.iushr, 1) := dk_124 (dk_at dksJ4_bitCount_0 17 rfl rfl)
theorem dJ4_bitCount_18 : decode cJ4_bitCount 18 = .ok (.ldc_w 266, 3) := dk_19 1 10 (dk_at dksJ4_bitCount_0 18 rfl rfl)
theorem dJ4_bitCount_21 : decode cJ4_bitCount 21 = .ok (.iand, 1) := dk_126 (dk_at dksJ4_bitCount_0 21 rfl rfl)
theorem dJ4_bitCount_22 : decode cJ4_bitCount 22 = .ok (.iadd, 1) := dk_96 (dk_at dksJ4_bitCount_0 22 rfl rfl)
theorem dJ4_bitCount_23 : decode cJ4_bitCount 23 = .ok (.istore_n 0, 1) := dk_59 (dk_at dksJ4_bitCount_0 23 rfl rfl)
theorem dJ4_bitCount_24 : decode cJ4_bitCount 24 = .ok (.iload_n 0, 1) := dk_26 (dk_at dksJ4_bitCount_1 0 rfl rfl)
theorem dJ4_bitCount_25 : decode cJ4_bitCount 25 = .ok (.iload_n 0, 1) := dk_26 (dk_at dksJ4_bitCount_1 1 rfl rfl)
theorem dJ4_bitCount_26 : decode cJ4_bitCount 26 = .ok (.iconst 4, 1) := dk_7 (dk_at dksJ4_bitCount_1 2 rfl rfl)
theorem dJ4_bitCount_27 : decode cJ4_bitCount 27 = .ok (.iushr, 1) := dk_124 (dk_at dksJ4_bitCount_1 3 rfl rfl)
theorem dJ4_bitCount_28 : decode cJ4_bitCount 28 = .ok (.iadd, 1) := dk_96 (dk_at dksJ4_bitCount_1 4 rfl rfl)
theorem dJ4_bitCount_29 : decode cJ4_bitCount 29 = .ok (.ldc_w 267, 3) := dk_19 1 11 (dk_at dksJ4_bitCount_1 5 rfl rfl)
theorem dJ4_bitCount_32 : decode cJ4_bitCount 32 = .ok (.iand, 1) := dk_126 (dk_at dksJ4_bitCount_1 8 rfl rfl)
theorem dJ4_bitCount_33 : decode cJ4_bitCount 33 = .ok (.istore_n 0, 1) := dk_59 (dk_at dksJ4_bitCount_1 9 rfl rfl)
theorem dJ4_bitCount_34 : decode cJ4_bitCount 34 = .ok (.iload_n 0, 1) := dk_26 (dk_at dksJ4_bitCount_1 10 rfl rfl)
theorem dJ4_bitCount_35 : decode cJ4_bitCount 35 = .ok (.iload_n 0, 1) := dk_26 (dk_at dksJ4_bitCount_1 11 rfl rfl)
theorem dJ4_bitCount_36 : decode cJ4_bitCount 36 = .ok (.bipush 8, 2) := dk_16 8 (dk_at dksJ4_bitCount_1 12 rfl rfl)
theorem dJ4_bitCount_38 : decode cJ4_bitCount 38 = .ok (.iushr, 1) := dk_124 (dk_at dksJ4_bitCount_1 14 rfl rfl)
theorem dJ4_bitCount_39 : decode cJ4_bitCount 39 = .ok (.iadd, 1) := dk_96 (dk_at dksJ4_bitCount_1 15 rfl rfl)
theorem dJ4_bitCount_40 : decode cJ4_bitCount 40 = .ok (.istore_n 0, 1) := dk_59 (dk_at dksJ4_bitCount_1 16 rfl rfl)
theorem dJ4_bitCount_41 : decode cJ4_bitCount 41 = .ok (.iload_n 0, 1) := dk_26 (dk_at dksJ4_bitCount_1 17 rfl rfl)
theorem dJ4_bitCount_42 : decode cJ4_bitCount 42 = .ok (.iload_n 0, 1) := dk_26 (dk_at dksJ4_bitCount_1 18 rfl rfl)
theorem dJ4_bitCount_43 : decode cJ4_bitCount 43 = .ok (.bipush 16, 2) := dk_16 16 (dk_at dksJ4_bitCount_1 19 rfl rfl)
theorem dJ4_bitCount_45 : decode cJ4_bitCount 45 = .ok (.iushr, 1) := dk_124 (dk_at dksJ4_bitCount_1 21 rfl rfl)
theorem dJ4_bitCount_46 : decode cJ4_bitCount 46 = .ok (.iadd, 1) := dk_96 (dk_at dksJ4_bitCount_1 22 rfl rfl)
theorem dJ4_bitCount_47 : decode cJ4_bitCount 47 = .ok (.istore_n 0, 1) := dk_59 (dk_at dksJ4_bitCount_1 23 rfl rfl)
theorem dJ4_bitCount_48 : decode cJ4_bitCount 48 = .ok (.iload_n 0, 1) := dk_26 (dk_at dksJ4_bitCount_2 0 rfl rfl)
theorem dJ4_bitCount_49 : decode cJ4_bitCount 49 = .ok (.bipush 63, 2) := dk_16 63 (dk_at dksJ4_bitCount_2 1 rfl rfl)
theorem dJ4_bitCount_51 : decode cJ4_bitCount 51 = .ok (.iand, 1) := dk_126 (dk_at dksJ4_bitCount_2 3 rfl rfl)
theorem dJ4_bitCount_52 : decode cJ4_bitCount 52 = .ok (.ireturn, 1) := dk_172 (dk_at dksJ4_bitCount_2 4 rfl rfl)
abbrev cJ4_numberOfTrailingZeros : ByteArray := prog_17_method_48_code
def yJ4_numberOfTrailingZeros : MethodName := ⟨RJ4, "numberOfTrailingZeros", "(I)I"⟩
def dkwJ4_numberOfTrailingZeros_3 : List UInt8 := [5, 124, 59, 27, 26, 4, 124, 96, 172]
abbrev dktJ4_numberOfTrailingZeros_3 : List UInt8 := dkwJ4_numberOfTrailingZeros_3 ++ []
def dkwJ4_numberOfTrailingZeros_2 : List UInt8 := [124, 59, 26, 16, 16, 164, 0, 10, 132, 1, 4, 26, 7, 124, 59, 26, 7, 164, 0, 10, 132, 1, 2, 26]
abbrev dktJ4_numberOfTrailingZeros_2 : List UInt8 := dkwJ4_numberOfTrailingZeros_2 ++ dktJ4_numberOfTrailingZeros_3
def dkwJ4_numberOfTrailingZeros_1 : List UInt8 := [164, 0, 11, 132, 1, 16, 26, 16, 16, 124, 59, 26, 17, 1, 0, 164, 0, 11, 132, 1, 8, 26, 16, 8]
abbrev dktJ4_numberOfTrailingZeros_1 : List UInt8 := dkwJ4_numberOfTrailingZeros_1 ++ dktJ4_numberOfTrailingZeros_2
def dkwJ4_numberOfTrailingZeros_0 : List UInt8 := [26, 2, 130, 26, 4, 100, 126, 59, 26, 157, 0, 8, 26, 16, 32, 126, 172, 4, 60, 26, 19, 1, 8]
abbrev dktJ4_numberOfTrailingZeros_0 : List UInt8 := dkwJ4_numberOfTrailingZeros_0 ++ dktJ4_numberOfTrailingZeros_1
theorem dksJ4_numberOfTrailingZeros_0 : cJ4_numberOfTrailingZeros.data.toList.drop 0 = dktJ4_numberOfTrailingZeros_0 := by decide +kernel
theorem dksJ4_numberOfTrailingZeros_1 : cJ4_numberOfTrailingZeros.data.toList.drop 23 = dktJ4_numberOfTrailingZeros_1 := dk_seg dksJ4_numberOfTrailingZeros_0 23 rfl rfl
theorem dksJ4_numberOfTrailingZeros_2 : cJ4_numberOfTrailingZeros.data.toList.drop 47 = dktJ4_numberOfTrailingZeros_2 := dk_seg dksJ4_numberOfTrailingZeros_1 24 rfl rfl
theorem dksJ4_numberOfTrailingZeros_3 : cJ4_numberOfTrailingZeros.data.toList.drop 71 = dktJ4_numberOfTrailingZeros_3 := dk_seg dksJ4_numberOfTrailingZeros_2 24 rfl rfl
theorem dJ4_numberOfTrailingZeros_0 : decode cJ4_numberOfTrailingZeros 0 = .ok (.iload_n 0, 1) := dk_26 (dk_at dksJ4_numberOfTrailingZeros_0 0 rfl rfl)
theorem dJ4_numberOfTrailingZeros_1 : decode cJ4_numberOfTrailingZeros 1 = .ok (.iconst (-1), 1) := dk_2 (dk_at dksJ4_numberOfTrailingZeros_0 1 rfl rfl)
theorem dJ4_numberOfTrailingZeros_2 : decode cJ4_numberOfTrailingZeros 2 = .ok (.ixor, 1) := dk_130 (dk_at dksJ4_numberOfTrailingZeros_0 2 rfl rfl)
theorem dJ4_numberOfTrailingZeros_3 : decode cJ4_numberOfTrailingZeros 3 = .ok (.iload_n 0, 1) := dk_26 (dk_at dksJ4_numberOfTrailingZeros_0 3 rfl rfl)
theorem dJ4_numberOfTrailingZeros_4 : decode cJ4_numberOfTrailingZeros 4 = .ok (.iconst 1, 1) := dk_4 (dk_at dksJ4_numberOfTrailingZeros_0 4 rfl rfl)
theorem dJ4_numberOfTrailingZeros_5 : decode cJ4_numberOfTrailingZeros 5 = .ok (.isub, 1) := dk_100 (dk_at dksJ4_numberOfTrailingZeros_0 5 rfl rfl)
theorem dJ4_numberOfTrailingZeros_6 : decode cJ4_numberOfTrailingZeros 6 = .ok (.iand, 1) := dk_126 (dk_at dksJ4_numberOfTrailingZeros_0 6 rfl rfl)
theorem dJ4_numberOfTrailingZeros_7 : decode cJ4_numberOfTrailingZeros 7 = .ok (.istore_n 0, 1) := dk_59 (dk_at dksJ4_numberOfTrailingZeros_0 7 rfl rfl)
theorem dJ4_numberOfTrailingZeros_8 : decode cJ4_numberOfTrailingZeros 8 = .ok (.iload_n 0, 1) := dk_26 (dk_at dksJ4_numberOfTrailingZeros_0 8 rfl rfl)
theorem dJ4_numberOfTrailingZeros_9 : decode cJ4_numberOfTrailingZeros 9 = .ok (.ifCond .gt 8, 3) := dk_157 0 8 (dk_at dksJ4_numberOfTrailingZeros_0 9 rfl rfl)
theorem dJ4_numberOfTrailingZeros_12 : decode cJ4_numberOfTrailingZeros 12 = .ok (.iload_n 0, 1) := dk_26 (dk_at dksJ4_numberOfTrailingZeros_0 12 rfl rfl)
theorem dJ4_numberOfTrailingZeros_13 : decode cJ4_numberOfTrailingZeros 13 = .ok (.bipush 32, 2) := dk_16 32 (dk_at dksJ4_numberOfTrailingZeros_0 13 rfl rfl)
theorem dJ4_numberOfTrailingZeros_15 : decode cJ4_numberOfTrailingZeros 15 = .ok (.iand, 1) := dk_126 (dk_at dksJ4_numberOfTrailingZeros_0 15 rfl rfl)
theorem dJ4_numberOfTrailingZeros_16 : decode cJ4_numberOfTrailingZeros 16 = .ok (.ireturn, 1) := dk_172 (dk_at dksJ4_numberOfTrailingZeros_0 16 rfl rfl)
theorem dJ4_numberOfTrailingZeros_17 : decode cJ4_numberOfTrailingZeros 17 = .ok (.iconst 1, 1) := dk_4 (dk_at dksJ4_numberOfTrailingZeros_0 17 rfl rfl)
theorem dJ4_numberOfTrailingZeros_18 : decode cJ4_numberOfTrailingZeros 18 = .ok (.istore_n 1, 1) := dk_60 (dk_at dksJ4_numberOfTrailingZeros_0 18 rfl rfl)
theorem dJ4_numberOfTrailingZeros_19 : decode cJ4_numberOfTrailingZeros 19 = .ok (.iload_n 0, 1) := dk_26 (dk_at dksJ4_numberOfTrailingZeros_0 19 rfl rfl)
theorem dJ4_numberOfTrailingZeros_20 : decode cJ4_numberOfTrailingZeros 20 = .ok (.ldc_w 264, 3) := dk_19 1 8 (dk_at dksJ4_numberOfTrailingZeros_0 20 rfl rfl)
theorem dJ4_numberOfTrailingZeros_23 : decode cJ4_numberOfTrailingZeros 23 = .ok (.if_icmp .le 11, 3) := dk_164 0 11 (dk_at dksJ4_numberOfTrailingZeros_1 0 rfl rfl)
theorem dJ4_numberOfTrailingZeros_26 : decode cJ4_numberOfTrailingZeros 26 = .ok (.iinc 1 16, 3) := dk_132 1 16 (dk_at dksJ4_numberOfTrailingZeros_1 3 rfl rfl)
theorem dJ4_numberOfTrailingZeros_29 : decode cJ4_numberOfTrailingZeros 29 = .ok (.iload_n 0, 1) := dk_26 (dk_at dksJ4_numberOfTrailingZeros_1 6 rfl rfl)
theorem dJ4_numberOfTrailingZeros_30 : decode cJ4_numberOfTrailingZeros 30 = .ok (.bipush 16, 2) := dk_16 16 (dk_at dksJ4_numberOfTrailingZeros_1 7 rfl rfl)
theorem dJ4_numberOfTrailingZeros_32 : decode cJ4_numberOfTrailingZeros 32 = .ok (.iushr, 1) := dk_124 (dk_at dksJ4_numberOfTrailingZeros_1 9 rfl rfl)
theorem dJ4_numberOfTrailingZeros_33 : decode cJ4_numberOfTrailingZeros 33 = .ok (.istore_n 0, 1) := dk_59 (dk_at dksJ4_numberOfTrailingZeros_1 10 rfl rfl)
theorem dJ4_numberOfTrailingZeros_34 : decode cJ4_numberOfTrailingZeros 34 = .ok (.iload_n 0, 1) := dk_26 (dk_at dksJ4_numberOfTrailingZeros_1 11 rfl rfl)
theorem dJ4_numberOfTrailingZeros_35 : decode cJ4_numberOfTrailingZeros 35 = .ok (.sipush 256, 3) := dk_17 1 0 (dk_at dksJ4_numberOfTrailingZeros_1 12 rfl rfl)
theorem dJ4_numberOfTrailingZeros_38 : decode cJ4_numberOfTrailingZeros 38 = .ok (.if_icmp .le 11, 3) := dk_164 0 11 (dk_at dksJ4_numberOfTrailingZeros_1 15 rfl rfl)
theorem dJ4_numberOfTrailingZeros_41 : decode cJ4_numberOfTrailingZeros 41 = .ok (.iinc 1 8, 3) := dk_132 1 8 (dk_at dksJ4_numberOfTrailingZeros_1 18 rfl rfl)
theorem dJ4_numberOfTrailingZeros_44 : decode cJ4_numberOfTrailingZeros 44 = .ok (.iload_n 0, 1) := dk_26 (dk_at dksJ4_numberOfTrailingZeros_1 21 rfl rfl)
theorem dJ4_numberOfTrailingZeros_45 : decode cJ4_numberOfTrailingZeros 45 = .ok (.bipush 8, 2) := dk_16 8 (dk_at dksJ4_numberOfTrailingZeros_1 22 rfl rfl)
theorem dJ4_numberOfTrailingZeros_47 : decode cJ4_numberOfTrailingZeros 47 = .ok (.iushr, 1) := dk_124 (dk_at dksJ4_numberOfTrailingZeros_2 0 rfl rfl)
theorem dJ4_numberOfTrailingZeros_48 : decode cJ4_numberOfTrailingZeros 48 = .ok (.istore_n 0, 1) := dk_59 (dk_at dksJ4_numberOfTrailingZeros_2 1 rfl rfl)
theorem dJ4_numberOfTrailingZeros_49 : decode cJ4_numberOfTrailingZeros 49 = .ok (.iload_n 0, 1) := dk_26 (dk_at dksJ4_numberOfTrailingZeros_2 2 rfl rfl)
theorem dJ4_numberOfTrailingZeros_50 : decode cJ4_numberOfTrailingZeros 50 = .ok (.bipush 16, 2) := dk_16 16 (dk_at dksJ4_numberOfTrailingZeros_2 3 rfl rfl)
theorem dJ4_numberOfTrailingZeros_52 : decode cJ4_numberOfTrailingZeros 52 = .ok (.if_icmp .le 10, 3) := dk_164 0 10 (dk_at dksJ4_numberOfTrailingZeros_2 5 rfl rfl)
theorem dJ4_numberOfTrailingZeros_55 : decode cJ4_numberOfTrailingZeros 55 = .ok (.iinc 1 4, 3) := dk_132 1 4 (dk_at dksJ4_numberOfTrailingZeros_2 8 rfl rfl)
theorem dJ4_numberOfTrailingZeros_58 : decode cJ4_numberOfTrailingZeros 58 = .ok (.iload_n 0, 1) := dk_26 (dk_at dksJ4_numberOfTrailingZeros_2 11 rfl rfl)
theorem dJ4_numberOfTrailingZeros_59 : decode cJ4_numberOfTrailingZeros 59 = .ok (.iconst 4, 1) := dk_7 (dk_at dksJ4_numberOfTrailingZeros_2 12 rfl rfl)
theorem dJ4_numberOfTrailingZeros_60 : decode cJ4_numberOfTrailingZeros 60 = .ok (.iushr, 1) := dk_124 (dk_at dksJ4_numberOfTrailingZeros_2 13 rfl rfl)
theorem dJ4_numberOfTrailingZeros_61 : decode cJ4_numberOfTrailingZeros 61 = .ok (.istore_n 0, 1) := dk_59 (dk_at dksJ4_numberOfTrailingZeros_2 14 rfl rfl)
theorem dJ4_numberOfTrailingZeros_62 : decode cJ4_numberOfTrailingZeros 62 = .ok (.iload_n 0, 1) := dk_26 (dk_at dksJ4_numberOfTrailingZeros_2 15 rfl rfl)
theorem dJ4_numberOfTrailingZeros_63 : decode cJ4_numberOfTrailingZeros 63 = .ok (.iconst 4, 1) := dk_7 (dk_at dksJ4_numberOfTrailingZeros_2 16 rfl rfl)
theorem dJ4_numberOfTrailingZeros_64 : decode cJ4_numberOfTrailingZeros 64 = .ok (.if_icmp .le 10, 3) := dk_164 0 10 (dk_at dksJ4_numberOfTrailingZeros_2 17 rfl rfl)
theorem dJ4_numberOfTrailingZeros_67 : decode cJ4_numberOfTrailingZeros 67 = .ok (.iinc 1 2, 3) := dk_132 1 2 (dk_at dksJ4_numberOfTrailingZeros_2 20 rfl rfl)
theorem dJ4_numberOfTrailingZeros_70 : decode cJ4_numberOfTrailingZeros 70 = .ok (.iload_n 0, 1) := dk_26 (dk_at dksJ4_numberOfTrailingZeros_2 23 rfl rfl)
theorem dJ4_numberOfTrailingZeros_71 : decode cJ4_numberOfTrailingZeros 71 = .ok (.iconst 2, 1) := dk_5 (dk_at dksJ4_numberOfTrailingZeros_3 0 rfl rfl)
theorem dJ4_numberOfTrailingZeros_72 : decode cJ4_numberOfTrailingZeros 72 = .ok (.iushr, 1) := dk_124 (dk_at dksJ4_numberOfTrailingZeros_3 1 rfl rfl)
theorem dJ4_numberOfTrailingZeros_73 : decode cJ4_numberOfTrailingZeros 73 = .ok (.istore_n 0, 1) := dk_59 (dk_at dksJ4_numberOfTrailingZeros_3 2 rfl rfl)
theorem dJ4_numberOfTrailingZeros_74 : decode cJ4_numberOfTrailingZeros 74 = .ok (.iload_n 1, 1) := dk_27 (dk_at dksJ4_numberOfTrailingZeros_3 3 rfl rfl)
theorem dJ4_numberOfTrailingZeros_75 : decode cJ4_numberOfTrailingZeros 75 = .ok (.iload_n 0, 1) := dk_26 (dk_at dksJ4_numberOfTrailingZeros_3 4 rfl rfl)
theorem dJ4_numberOfTrailingZeros_76 : decode cJ4_numberOfTrailingZeros 76 = .ok (.iconst 1, 1) := dk_4 (dk_at dksJ4_numberOfTrailingZeros_3 5 rfl rfl)
theorem dJ4_numberOfTrailingZeros_77 : decode cJ4_numberOfTrailingZeros 77 = .ok (.iushr, 1) := dk_124 (dk_at dksJ4_numberOfTrailingZeros_3 6 rfl rfl)
theorem dJ4_numberOfTrailingZeros_78 : decode cJ4_numberOfTrailingZeros 78 = .ok (.iadd, 1) := dk_96 (dk_at dksJ4_numberOfTrailingZeros_3 7 rfl rfl)
theorem dJ4_numberOfTrailingZeros_79 : decode cJ4_numberOfTrailingZeros 79 = .ok (.ireturn, 1) := dk_172 (dk_at dksJ4_numberOfTrailingZeros_3 8 rfl rfl)
abbrev cJ4_signum : ByteArray := prog_17_method_56_code
def yJ4_signum : MethodName := ⟨RJ4, "signum", "(I)I"⟩
def dkwJ4_signum_0 : List UInt8 := [26, 16, 31, 122, 26, 116, 16, 31, 124, 128, 172]
abbrev dktJ4_signum_0 : List UInt8 := dkwJ4_signum_0 ++ []
theorem dksJ4_signum_0 : cJ4_signum.data.toList.drop 0 = dktJ4_signum_0 := by decide +kernel
theorem dJ4_signum_0 : decode cJ4_signum 0 = .ok (.iload_n 0, 1) := dk_26 (dk_at dksJ4_signum_0 0 rfl rfl)
theorem dJ4_signum_1 : decode cJ4_signum 1 = .ok (.bipush 31, 2) := dk_16 31 (dk_at dksJ4_signum_0 1 rfl rfl)
theorem dJ4_signum_3 : decode cJ4_signum 3 = .ok (.ishr, 1) := dk_122 (dk_at dksJ4_signum_0 3 rfl rfl)
theorem dJ4_signum_4 : decode cJ4_signum 4 = .ok (.iload_n 0, 1) := dk_26 (dk_at dksJ4_signum_0 4 rfl rfl)
theorem dJ4_signum_5 : decode cJ4_signum 5 = .ok (.ineg, 1) := dk_116 (dk_at dksJ4_signum_0 5 rfl rfl)
theorem dJ4_signum_6 : decode cJ4_signum 6 = .ok (.bipush 31, 2) := dk_16 31 (dk_at dksJ4_signum_0 6 rfl rfl)
theorem dJ4_signum_8 : decode cJ4_signum 8 = .ok (.iushr, 1) := dk_124 (dk_at dksJ4_signum_0 8 rfl rfl)
theorem dJ4_signum_9 : decode cJ4_signum 9 = .ok (.ior, 1) := dk_128 (dk_at dksJ4_signum_0 9 rfl rfl)
theorem dJ4_signum_10 : decode cJ4_signum 10 = .ok (.ireturn, 1) := dk_172 (dk_at dksJ4_signum_0 10 rfl rfl)
theorem q121 : (Jvm.Cond.initialized "java/lang/Integer") ∈ lw_all := lw_g (lw_at lw_m1 13 rfl) rfl
theorem q826 : (Jvm.Cond.static ({ cls := "java/lang/Integer", name := "bitCount", desc := "(I)I" } : Jvm.MethodName)) ∈ lw_all := lw_g (lw_at lw_m3 238 rfl) rfl
theorem q827 : (Jvm.Cond.code ({ cls := "java/lang/Integer", name := "bitCount", desc := "(I)I" } : Jvm.MethodName) prog_17_method_49_code (1 : Nat) (Option.some Jvm.ClassFile.FieldType.int)) ∈ lw_all := lw_g (lw_at lw_m3 239 rfl) rfl
theorem q828 : (Jvm.Cond.constant "java/lang/Integer" (265 : Nat) (1431655765 : Int32)) ∈ lw_all := lw_g (lw_at lw_m4 0 rfl) rfl
theorem q829 : (Jvm.Cond.constant "java/lang/Integer" (266 : Nat) (858993459 : Int32)) ∈ lw_all := lw_g (lw_at lw_m4 1 rfl) rfl
theorem q830 : (Jvm.Cond.constant "java/lang/Integer" (267 : Nat) (252645135 : Int32)) ∈ lw_all := lw_g (lw_at lw_m4 2 rfl) rfl
theorem q836 : (Jvm.Cond.static ({ cls := "java/lang/Integer", name := "numberOfTrailingZeros", desc := "(I)I" } : Jvm.MethodName)) ∈ lw_all := lw_g (lw_at lw_m4 8 rfl) rfl
theorem q837 : (Jvm.Cond.code ({ cls := "java/lang/Integer", name := "numberOfTrailingZeros", desc := "(I)I" } : Jvm.MethodName) prog_17_method_48_code (2 : Nat) (Option.some Jvm.ClassFile.FieldType.int)) ∈ lw_all := lw_g (lw_at lw_m4 9 rfl) rfl
theorem q838 : (Jvm.Cond.constant "java/lang/Integer" (264 : Nat) (65536 : Int32)) ∈ lw_all := lw_g (lw_at lw_m4 10 rfl) rfl
theorem q1065 : (Jvm.Cond.static ({ cls := "java/lang/Integer", name := "signum", desc := "(I)I" } : Jvm.MethodName)) ∈ lw_all := lw_g (lw_at lw_m4 237 rfl) rfl
theorem q1066 : (Jvm.Cond.code ({ cls := "java/lang/Integer", name := "signum", desc := "(I)I" } : Jvm.MethodName) prog_17_method_56_code (1 : Nat) (Option.some Jvm.ClassFile.FieldType.int)) ∈ lw_all := lw_g (lw_at lw_m4 238 rfl) rfl

/-! java/lang/Object -/
set_option maxRecDepth 100000
def RJ5 : String := "java/lang/Object"
abbrev cJ5_init : ByteArray := object_method_1_code
def yJ5_init : MethodName := ⟨RJ5, "<init>", "()V"⟩
theorem dJ5_init_0 : decode cJ5_init 0 = .ok (.return_, 1) := by decide +kernel
theorem q133 : (Jvm.Cond.instanceMethod ({ cls := "java/lang/Object", name := "<init>", desc := "()V" } : Jvm.MethodName)) ∈ lw_all := lw_g (lw_at lw_m1 25 rfl) rfl
theorem q134 : (Jvm.Cond.code ({ cls := "java/lang/Object", name := "<init>", desc := "()V" } : Jvm.MethodName) object_method_1_code (1 : Nat) (Option.none : Option Jvm.ClassFile.FieldType)) ∈ lw_all := lw_g (lw_at lw_m1 26 rfl) rfl

/-! PlatesSing$Reader -/
set_option maxRecDepth 100000
def RX1 : String := "PlatesSing$Reader"
def TX1 : u_T := fun k => match k with
  | 0 => ("PlatesSing$Reader", "fault", "LPlatesSing$Fault;", true)
  | 1 => ("PlatesSing$Reader", "at", "I", false)
  | 2 => ("PlatesSing$Reader", "heavy", "[I", true)
  | 3 => ("PlatesSing$Reader", "corners", "I", false)
  | 4 => ("PlatesSing$Reader", "pad", "[I", true)
  | 5 => ("PlatesSing$Reader", "weight", "[I", true)
  | 6 => ("PlatesSing$Reader", "isHeld", "[Z", true)
  | 7 => ("PlatesSing$Reader", "from", "[I", true)
  | 8 => ("PlatesSing$Reader", "to", "[I", true)
  | 9 => ("PlatesSing$Reader", "stiff", "[I", true)
  | 10 => ("PlatesSing$Reader", "many", "I", false)
  | _ => ("PlatesSing$Reader", "this$0", "LPlatesSing;", true)
def tyX1 : Nat → FieldType := fun k => match k with
  | 0 => .object "PlatesSing$Fault"
  | 1 => .int
  | 2 => .array .int
  | 3 => .int
  | 4 => .array .int
  | 5 => .array .int
  | 6 => .array .boolean
  | 7 => .array .int
  | 8 => .array .int
  | 9 => .array .int
  | 10 => .int
  | _ => .object "PlatesSing"
abbrev wsX10 : List Cond := u_ws RX1 TX1 12
theorem nmX1 : ∀ a, a < 12 → ∀ b, b < 12 → a ≠ b → (TX1 a).2.1 ≠ (TX1 b).2.1 := by decide +kernel
theorem tyX1_ok : ∀ k, k < 12 → parseFieldDescriptor (TX1 k).2.2.1 = some (tyX1 k) := by decide +kernel
abbrev cX1_init : ByteArray := prog_9_method_1_code
def yX1_init : MethodName := ⟨RX1, "<init>", "(LPlatesSing;)V"⟩
def dkwX1_init_3 : List UInt8 := [188, 10, 181, 0, 42, 177]
abbrev dktX1_init_3 : List UInt8 := dkwX1_init_3 ++ []
def dkwX1_init_2 : List UInt8 := [188, 4, 181, 0, 32, 42, 16, 15, 188, 10, 181, 0, 36, 42, 16, 15, 188, 10, 181, 0, 39, 42, 16, 15]
abbrev dktX1_init_2 : List UInt8 := dkwX1_init_2 ++ dktX1_init_3
def dkwX1_init_1 : List UInt8 := [188, 10, 181, 0, 22, 42, 16, 6, 188, 10, 181, 0, 26, 42, 16, 6, 188, 10, 181, 0, 29, 42, 16, 6]
abbrev dktX1_init_1 : List UInt8 := dkwX1_init_1 ++ dktX1_init_2
def dkwX1_init_0 : List UInt8 := [42, 43, 181, 0, 3, 42, 183, 0, 9, 42, 187, 0, 15, 89, 183, 0, 17, 181, 0, 18, 42, 16, 6]
abbrev dktX1_init_0 : List UInt8 := dkwX1_init_0 ++ dktX1_init_1
theorem dksX1_init_0 : cX1_init.data.toList.drop 0 = dktX1_init_0 := by decide +kernel
theorem dksX1_init_1 : cX1_init.data.toList.drop 23 = dktX1_init_1 := dk_seg dksX1_init_0 23 rfl rfl
theorem dksX1_init_2 : cX1_init.data.toList.drop 47 = dktX1_init_2 := dk_seg dksX1_init_1 24 rfl rfl
theorem dksX1_init_3 : cX1_init.data.toList.drop 71 = dktX1_init_3 := dk_seg dksX1_init_2 24 rfl rfl
theorem dX1_init_0 : decode cX1_init 0 = .ok (.aload_n 0, 1) := dk_42 (dk_at dksX1_init_0 0 rfl rfl)
theorem dX1_init_1 : decode cX1_init 1 = .ok (.aload_n 1, 1) := dk_43 (dk_at dksX1_init_0 1 rfl rfl)
theorem dX1_init_2 : decode cX1_init 2 = .ok (.putfield 3, 3) := dk_181 0 3 (dk_at dksX1_init_0 2 rfl rfl)
theorem dX1_init_5 : decode cX1_init 5 = .ok (.aload_n 0, 1) := dk_42 (dk_at dksX1_init_0 5 rfl rfl)
theorem dX1_init_6 : decode cX1_init 6 = .ok (.invokespecial 9, 3) := dk_183 0 9 (dk_at dksX1_init_0 6 rfl rfl)
theorem dX1_init_9 : decode cX1_init 9 = .ok (.aload_n 0, 1) := dk_42 (dk_at dksX1_init_0 9 rfl rfl)
theorem dX1_init_10 : decode cX1_init 10 = .ok (.new 15, 3) := dk_187 0 15 (dk_at dksX1_init_0 10 rfl rfl)
theorem dX1_init_13 : decode cX1_init 13 = .ok (.dup, 1) := dk_89 (dk_at dksX1_init_0 13 rfl rfl)
theorem dX1_init_14 : decode cX1_init 14 = .ok (.invokespecial 17, 3) := dk_183 0 17 (dk_at dksX1_init_0 14 rfl rfl)
theorem dX1_init_17 : decode cX1_init 17 = .ok (.putfield 18, 3) := dk_181 0 18 (dk_at dksX1_init_0 17 rfl rfl)
theorem dX1_init_20 : decode cX1_init 20 = .ok (.aload_n 0, 1) := dk_42 (dk_at dksX1_init_0 20 rfl rfl)
theorem dX1_init_21 : decode cX1_init 21 = .ok (.bipush 6, 2) := dk_16 6 (dk_at dksX1_init_0 21 rfl rfl)
theorem dX1_init_23 : decode cX1_init 23 = .ok (.newarray .int, 2) := dk_188_10 (dk_at dksX1_init_1 0 rfl rfl)
theorem dX1_init_25 : decode cX1_init 25 = .ok (.putfield 22, 3) := dk_181 0 22 (dk_at dksX1_init_1 2 rfl rfl)
theorem dX1_init_28 : decode cX1_init 28 = .ok (.aload_n 0, 1) := dk_42 (dk_at dksX1_init_1 5 rfl rfl)
theorem dX1_init_29 : decode cX1_init 29 = .ok (.bipush 6, 2) := dk_16 6 (dk_at dksX1_init_1 6 rfl rfl)
theorem dX1_init_31 : decode cX1_init 31 = .ok (.newarray .int, 2) := dk_188_10 (dk_at dksX1_init_1 8 rfl rfl)
theorem dX1_init_33 : decode cX1_init 33 = .ok (.putfield 26, 3) := dk_181 0 26 (dk_at dksX1_init_1 10 rfl rfl)
theorem dX1_init_36 : decode cX1_init 36 = .ok (.aload_n 0, 1) := dk_42 (dk_at dksX1_init_1 13 rfl rfl)
theorem dX1_init_37 : decode cX1_init 37 = .ok (.bipush 6, 2) := dk_16 6 (dk_at dksX1_init_1 14 rfl rfl)
theorem dX1_init_39 : decode cX1_init 39 = .ok (.newarray .int, 2) := dk_188_10 (dk_at dksX1_init_1 16 rfl rfl)
theorem dX1_init_41 : decode cX1_init 41 = .ok (.putfield 29, 3) := dk_181 0 29 (dk_at dksX1_init_1 18 rfl rfl)
theorem dX1_init_44 : decode cX1_init 44 = .ok (.aload_n 0, 1) := dk_42 (dk_at dksX1_init_1 21 rfl rfl)
theorem dX1_init_45 : decode cX1_init 45 = .ok (.bipush 6, 2) := dk_16 6 (dk_at dksX1_init_1 22 rfl rfl)
theorem dX1_init_47 : decode cX1_init 47 = .ok (.newarray .boolean, 2) := dk_188_4 (dk_at dksX1_init_2 0 rfl rfl)
theorem dX1_init_49 : decode cX1_init 49 = .ok (.putfield 32, 3) := dk_181 0 32 (dk_at dksX1_init_2 2 rfl rfl)
theorem dX1_init_52 : decode cX1_init 52 = .ok (.aload_n 0, 1) := dk_42 (dk_at dksX1_init_2 5 rfl rfl)
theorem dX1_init_53 : decode cX1_init 53 = .ok (.bipush 15, 2) := dk_16 15 (dk_at dksX1_init_2 6 rfl rfl)
theorem dX1_init_55 : decode cX1_init 55 = .ok (.newarray .int, 2) := dk_188_10 (dk_at dksX1_init_2 8 rfl rfl)
theorem dX1_init_57 : decode cX1_init 57 = .ok (.putfield 36, 3) := dk_181 0 36 (dk_at dksX1_init_2 10 rfl rfl)
theorem dX1_init_60 : decode cX1_init 60 = .ok (.aload_n 0, 1) := dk_42 (dk_at dksX1_init_2 13 rfl rfl)
theorem dX1_init_61 : decode cX1_init 61 = .ok (.bipush 15, 2) := dk_16 15 (dk_at dksX1_init_2 14 rfl rfl)
theorem dX1_init_63 : decode cX1_init 63 = .ok (.newarray .int, 2) := dk_188_10 (dk_at dksX1_init_2 16 rfl rfl)
theorem dX1_init_65 : decode cX1_init 65 = .ok (.putfield 39, 3) := dk_181 0 39 (dk_at dksX1_init_2 18 rfl rfl)
theorem dX1_init_68 : decode cX1_init 68 = .ok (.aload_n 0, 1) := dk_42 (dk_at dksX1_init_2 21 rfl rfl)
theorem dX1_init_69 : decode cX1_init 69 = .ok (.bipush 15, 2) := dk_16 15 (dk_at dksX1_init_2 22 rfl rfl)
theorem dX1_init_71 : decode cX1_init 71 = .ok (.newarray .int, 2) := dk_188_10 (dk_at dksX1_init_3 0 rfl rfl)
theorem dX1_init_73 : decode cX1_init 73 = .ok (.putfield 42, 3) := dk_181 0 42 (dk_at dksX1_init_3 2 rfl rfl)
theorem dX1_init_76 : decode cX1_init 76 = .ok (.return_, 1) := dk_177 (dk_at dksX1_init_3 5 rfl rfl)
abbrev cX1_read : ByteArray := prog_9_method_6_code
def yX1_read : MethodName := ⟨RX1, "read", "()I"⟩
def dkwX1_read_8 : List UInt8 := [191, 2, 172, 76, 42, 180, 0, 45, 172]
abbrev dktX1_read_8 : List UInt8 := dkwX1_read_8 ++ []
def dkwX1_read_7 : List UInt8 := [182, 0, 78, 167, 255, 233, 42, 180, 0, 45, 42, 180, 0, 3, 180, 0, 49, 162, 0, 8, 42, 180, 0, 18]
abbrev dktX1_read_7 : List UInt8 := dkwX1_read_7 ++ dktX1_read_8
def dkwX1_read_6 : List UInt8 := [167, 255, 210, 42, 182, 0, 55, 16, 59, 160, 0, 20, 42, 89, 180, 0, 45, 4, 96, 181, 0, 45, 42]
abbrev dktX1_read_6 : List UInt8 := dkwX1_read_6 ++ dktX1_read_7
def dkwX1_read_5 : List UInt8 := [153, 0, 26, 42, 180, 0, 22, 42, 89, 180, 0, 69, 90, 4, 96, 181, 0, 69, 42, 182, 0, 75, 79]
abbrev dktX1_read_5 : List UInt8 := dkwX1_read_5 ++ dktX1_read_6
def dkwX1_read_4 : List UInt8 := [180, 0, 69, 16, 6, 162, 0, 43, 42, 182, 0, 55, 133, 20, 0, 59, 20, 0, 61, 184, 0, 63]
abbrev dktX1_read_4 : List UInt8 := dkwX1_read_4 ++ dktX1_read_5
def dkwX1_read_3 : List UInt8 := [181, 0, 45, 42, 180, 0, 22, 42, 89, 180, 0, 69, 90, 4, 96, 181, 0, 69, 42, 182, 0, 75, 79, 42]
abbrev dktX1_read_3 : List UInt8 := dkwX1_read_3 ++ dktX1_read_4
def dkwX1_read_2 : List UInt8 := [167, 255, 226, 42, 182, 0, 55, 16, 99, 159, 0, 8, 42, 180, 0, 18, 191, 42, 89, 180, 0, 45, 4, 96]
abbrev dktX1_read_2 : List UInt8 := dkwX1_read_2 ++ dktX1_read_3
def dkwX1_read_1 : List UInt8 := [180, 0, 26, 27, 3, 79, 42, 180, 0, 29, 27, 3, 79, 42, 180, 0, 32, 27, 3, 84, 132, 1, 1]
abbrev dktX1_read_1 : List UInt8 := dkwX1_read_1 ++ dktX1_read_2
def dkwX1_read_0 : List UInt8 := [42, 3, 181, 0, 45, 42, 3, 181, 0, 69, 42, 3, 181, 0, 72, 3, 60, 27, 16, 6, 162, 0, 30, 42]
abbrev dktX1_read_0 : List UInt8 := dkwX1_read_0 ++ dktX1_read_1
theorem dksX1_read_0 : cX1_read.data.toList.drop 0 = dktX1_read_0 := by decide +kernel
theorem dksX1_read_1 : cX1_read.data.toList.drop 24 = dktX1_read_1 := dk_seg dksX1_read_0 24 rfl rfl
theorem dksX1_read_2 : cX1_read.data.toList.drop 47 = dktX1_read_2 := dk_seg dksX1_read_1 23 rfl rfl
theorem dksX1_read_3 : cX1_read.data.toList.drop 71 = dktX1_read_3 := dk_seg dksX1_read_2 24 rfl rfl
theorem dksX1_read_4 : cX1_read.data.toList.drop 95 = dktX1_read_4 := dk_seg dksX1_read_3 24 rfl rfl
theorem dksX1_read_5 : cX1_read.data.toList.drop 117 = dktX1_read_5 := dk_seg dksX1_read_4 22 rfl rfl
theorem dksX1_read_6 : cX1_read.data.toList.drop 140 = dktX1_read_6 := dk_seg dksX1_read_5 23 rfl rfl
theorem dksX1_read_7 : cX1_read.data.toList.drop 163 = dktX1_read_7 := dk_seg dksX1_read_6 23 rfl rfl
theorem dksX1_read_8 : cX1_read.data.toList.drop 187 = dktX1_read_8 := dk_seg dksX1_read_7 24 rfl rfl
theorem dX1_read_0 : decode cX1_read 0 = .ok (.aload_n 0, 1) := dk_42 (dk_at dksX1_read_0 0 rfl rfl)
theorem dX1_read_1 : decode cX1_read 1 = .ok (.iconst 0, 1) := dk_3 (dk_at dksX1_read_0 1 rfl rfl)
theorem dX1_read_2 : decode cX1_read 2 = .ok (.putfield 45, 3) := dk_181 0 45 (dk_at dksX1_read_0 2 rfl rfl)
theorem dX1_read_5 : decode cX1_read 5 = .ok (.aload_n 0, 1) := dk_42 (dk_at dksX1_read_0 5 rfl rfl)
theorem dX1_read_6 : decode cX1_read 6 = .ok (.iconst 0, 1) := dk_3 (dk_at dksX1_read_0 6 rfl rfl)
theorem dX1_read_7 : decode cX1_read 7 = .ok (.putfield 69, 3) := dk_181 0 69 (dk_at dksX1_read_0 7 rfl rfl)
theorem dX1_read_10 : decode cX1_read 10 = .ok (.aload_n 0, 1) := dk_42 (dk_at dksX1_read_0 10 rfl rfl)
theorem dX1_read_11 : decode cX1_read 11 = .ok (.iconst 0, 1) := dk_3 (dk_at dksX1_read_0 11 rfl rfl)
theorem dX1_read_12 : decode cX1_read 12 = .ok (.putfield 72, 3) := dk_181 0 72 (dk_at dksX1_read_0 12 rfl rfl)
theorem dX1_read_15 : decode cX1_read 15 = .ok (.iconst 0, 1) := dk_3 (dk_at dksX1_read_0 15 rfl rfl)
theorem dX1_read_16 : decode cX1_read 16 = .ok (.istore_n 1, 1) := dk_60 (dk_at dksX1_read_0 16 rfl rfl)
theorem dX1_read_17 : decode cX1_read 17 = .ok (.iload_n 1, 1) := dk_27 (dk_at dksX1_read_0 17 rfl rfl)
theorem dX1_read_18 : decode cX1_read 18 = .ok (.bipush 6, 2) := dk_16 6 (dk_at dksX1_read_0 18 rfl rfl)
theorem dX1_read_20 : decode cX1_read 20 = .ok (.if_icmp .ge 30, 3) := dk_162 0 30 (dk_at dksX1_read_0 20 rfl rfl)
theorem dX1_read_23 : decode cX1_read 23 = .ok (.aload_n 0, 1) := dk_42 (dk_at dksX1_read_0 23 rfl rfl)
theorem dX1_read_24 : decode cX1_read 24 = .ok (.getfield 26, 3) := dk_180 0 26 (dk_at dksX1_read_1 0 rfl rfl)
theorem dX1_read_27 : decode cX1_read 27 = .ok (.iload_n 1, 1) := dk_27 (dk_at dksX1_read_1 3 rfl rfl)
theorem dX1_read_28 : decode cX1_read 28 = .ok (.iconst 0, 1) := dk_3 (dk_at dksX1_read_1 4 rfl rfl)
theorem dX1_read_29 : decode cX1_read 29 = .ok (.iastore, 1) := dk_79 (dk_at dksX1_read_1 5 rfl rfl)
theorem dX1_read_30 : decode cX1_read 30 = .ok (.aload_n 0, 1) := dk_42 (dk_at dksX1_read_1 6 rfl rfl)
theorem dX1_read_31 : decode cX1_read 31 = .ok (.getfield 29, 3) := dk_180 0 29 (dk_at dksX1_read_1 7 rfl rfl)
theorem dX1_read_34 : decode cX1_read 34 = .ok (.iload_n 1, 1) := dk_27 (dk_at dksX1_read_1 10 rfl rfl)
theorem dX1_read_35 : decode cX1_read 35 = .ok (.iconst 0, 1) := dk_3 (dk_at dksX1_read_1 11 rfl rfl)
theorem dX1_read_36 : decode cX1_read 36 = .ok (.iastore, 1) := dk_79 (dk_at dksX1_read_1 12 rfl rfl)
theorem dX1_read_37 : decode cX1_read 37 = .ok (.aload_n 0, 1) := dk_42 (dk_at dksX1_read_1 13 rfl rfl)
theorem dX1_read_38 : decode cX1_read 38 = .ok (.getfield 32, 3) := dk_180 0 32 (dk_at dksX1_read_1 14 rfl rfl)
theorem dX1_read_41 : decode cX1_read 41 = .ok (.iload_n 1, 1) := dk_27 (dk_at dksX1_read_1 17 rfl rfl)
theorem dX1_read_42 : decode cX1_read 42 = .ok (.iconst 0, 1) := dk_3 (dk_at dksX1_read_1 18 rfl rfl)
theorem dX1_read_43 : decode cX1_read 43 = .ok (.bastore, 1) := dk_84 (dk_at dksX1_read_1 19 rfl rfl)
theorem dX1_read_44 : decode cX1_read 44 = .ok (.iinc 1 1, 3) := dk_132 1 1 (dk_at dksX1_read_1 20 rfl rfl)
theorem dX1_read_47 : decode cX1_read 47 = .ok (.goto (-30), 3) := dk_167 255 226 (dk_at dksX1_read_2 0 rfl rfl)
theorem dX1_read_50 : decode cX1_read 50 = .ok (.aload_n 0, 1) := dk_42 (dk_at dksX1_read_2 3 rfl rfl)
theorem dX1_read_51 : decode cX1_read 51 = .ok (.invokevirtual 55, 3) := dk_182 0 55 (dk_at dksX1_read_2 4 rfl rfl)
theorem dX1_read_54 : decode cX1_read 54 = .ok (.bipush 99, 2) := dk_16 99 (dk_at dksX1_read_2 7 rfl rfl)
theorem dX1_read_56 : decode cX1_read 56 = .ok (.if_icmp .eq 8, 3) := dk_159 0 8 (dk_at dksX1_read_2 9 rfl rfl)
theorem dX1_read_59 : decode cX1_read 59 = .ok (.aload_n 0, 1) := dk_42 (dk_at dksX1_read_2 12 rfl rfl)
theorem dX1_read_60 : decode cX1_read 60 = .ok (.getfield 18, 3) := dk_180 0 18 (dk_at dksX1_read_2 13 rfl rfl)
theorem dX1_read_63 : decode cX1_read 63 = .ok (.athrow, 1) := dk_191 (dk_at dksX1_read_2 16 rfl rfl)
theorem dX1_read_64 : decode cX1_read 64 = .ok (.aload_n 0, 1) := dk_42 (dk_at dksX1_read_2 17 rfl rfl)
theorem dX1_read_65 : decode cX1_read 65 = .ok (.dup, 1) := dk_89 (dk_at dksX1_read_2 18 rfl rfl)
theorem dX1_read_66 : decode cX1_read 66 = .ok (.getfield 45, 3) := dk_180 0 45 (dk_at dksX1_read_2 19 rfl rfl)
theorem dX1_read_69 : decode cX1_read 69 = .ok (.iconst 1, 1) := dk_4 (dk_at dksX1_read_2 22 rfl rfl)
theorem dX1_read_70 : decode cX1_read 70 = .ok (.iadd, 1) := dk_96 (dk_at dksX1_read_2 23 rfl rfl)
theorem dX1_read_71 : decode cX1_read 71 = .ok (.putfield 45, 3) := dk_181 0 45 (dk_at dksX1_read_3 0 rfl rfl)
theorem dX1_read_74 : decode cX1_read 74 = .ok (.aload_n 0, 1) := dk_42 (dk_at dksX1_read_3 3 rfl rfl)
theorem dX1_read_75 : decode cX1_read 75 = .ok (.getfield 22, 3) := dk_180 0 22 (dk_at dksX1_read_3 4 rfl rfl)
theorem dX1_read_78 : decode cX1_read 78 = .ok (.aload_n 0, 1) := dk_42 (dk_at dksX1_read_3 7 rfl rfl)
theorem dX1_read_79 : decode cX1_read 79 = .ok (.dup, 1) := dk_89 (dk_at dksX1_read_3 8 rfl rfl)
theorem dX1_read_80 : decode cX1_read 80 = .ok (.getfield 69, 3) := dk_180 0 69 (dk_at dksX1_read_3 9 rfl rfl)
theorem dX1_read_83 : decode cX1_read 83 = .ok (.dup_x1, 1) := dk_90 (dk_at dksX1_read_3 12 rfl rfl)
theorem dX1_read_84 : decode cX1_read 84 = .ok (.iconst 1, 1) := dk_4 (dk_at dksX1_read_3 13 rfl rfl)
theorem dX1_read_85 : decode cX1_read 85 = .ok (.iadd, 1) := dk_96 (dk_at dksX1_read_3 14 rfl rfl)
theorem dX1_read_86 : decode cX1_read 86 = .ok (.putfield 69, 3) := dk_181 0 69 (dk_at dksX1_read_3 15 rfl rfl)
theorem dX1_read_89 : decode cX1_read 89 = .ok (.aload_n 0, 1) := dk_42 (dk_at dksX1_read_3 18 rfl rfl)
theorem dX1_read_90 : decode cX1_read 90 = .ok (.invokevirtual 75, 3) := dk_182 0 75 (dk_at dksX1_read_3 19 rfl rfl)
theorem dX1_read_93 : decode cX1_read 93 = .ok (.iastore, 1) := dk_79 (dk_at dksX1_read_3 22 rfl rfl)
theorem dX1_read_94 : decode cX1_read 94 = .ok (.aload_n 0, 1) := dk_42 (dk_at dksX1_read_3 23 rfl rfl)
theorem dX1_read_95 : decode cX1_read 95 = .ok (.getfield 69, 3) := dk_180 0 69 (dk_at dksX1_read_4 0 rfl rfl)
theorem dX1_read_98 : decode cX1_read 98 = .ok (.bipush 6, 2) := dk_16 6 (dk_at dksX1_read_4 3 rfl rfl)
theorem dX1_read_100 : decode cX1_read 100 = .ok (.if_icmp .ge 43, 3) := dk_162 0 43 (dk_at dksX1_read_4 5 rfl rfl)
theorem dX1_read_103 : decode cX1_read 103 = .ok (.aload_n 0, 1) := dk_42 (dk_at dksX1_read_4 8 rfl rfl)
theorem dX1_read_104 : decode cX1_read 104 = .ok (.invokevirtual 55, 3) := dk_182 0 55 (dk_at dksX1_read_4 9 rfl rfl)
theorem dX1_read_107 : decode cX1_read 107 = .ok (.i2l, 1) := dk_133 (dk_at dksX1_read_4 12 rfl rfl)
theorem dX1_read_108 : decode cX1_read 108 = .ok (.ldc2_w 59, 3) := dk_20 0 59 (dk_at dksX1_read_4 13 rfl rfl)
theorem dX1_read_111 : decode cX1_read 111 = .ok (.ldc2_w 61, 3) := dk_20 0 61 (dk_at dksX1_read_4 16 rfl rfl)
theorem dX1_read_114 : decode cX1_read 114 = .ok (.invokestatic 63, 3) := dk_184 0 63 (dk_at dksX1_read_4 19 rfl rfl)
theorem dX1_read_117 : decode cX1_read 117 = .ok (.ifCond .eq 26, 3) := dk_153 0 26 (dk_at dksX1_read_5 0 rfl rfl)
theorem dX1_read_120 : decode cX1_read 120 = .ok (.aload_n 0, 1) := dk_42 (dk_at dksX1_read_5 3 rfl rfl)
theorem dX1_read_121 : decode cX1_read 121 = .ok (.getfield 22, 3) := dk_180 0 22 (dk_at dksX1_read_5 4 rfl rfl)
theorem dX1_read_124 : decode cX1_read 124 = .ok (.aload_n 0, 1) := dk_42 (dk_at dksX1_read_5 7 rfl rfl)
theorem dX1_read_125 : decode cX1_read 125 = .ok (.dup, 1) := dk_89 (dk_at dksX1_read_5 8 rfl rfl)
theorem dX1_read_126 : decode cX1_read 126 = .ok (.getfield 69, 3) := dk_180 0 69 (dk_at dksX1_read_5 9 rfl rfl)
theorem dX1_read_129 : decode cX1_read 129 = .ok (.dup_x1, 1) := dk_90 (dk_at dksX1_read_5 12 rfl rfl)
theorem dX1_read_130 : decode cX1_read 130 = .ok (.iconst 1, 1) := dk_4 (dk_at dksX1_read_5 13 rfl rfl)
theorem dX1_read_131 : decode cX1_read 131 = .ok (.iadd, 1) := dk_96 (dk_at dksX1_read_5 14 rfl rfl)
theorem dX1_read_132 : decode cX1_read 132 = .ok (.putfield 69, 3) := dk_181 0 69 (dk_at dksX1_read_5 15 rfl rfl)
theorem dX1_read_135 : decode cX1_read 135 = .ok (.aload_n 0, 1) := dk_42 (dk_at dksX1_read_5 18 rfl rfl)
theorem dX1_read_136 : decode cX1_read 136 = .ok (.invokevirtual 75, 3) := dk_182 0 75 (dk_at dksX1_read_5 19 rfl rfl)
theorem dX1_read_139 : decode cX1_read 139 = .ok (.iastore, 1) := dk_79 (dk_at dksX1_read_5 22 rfl rfl)
theorem dX1_read_140 : decode cX1_read 140 = .ok (.goto (-46), 3) := dk_167 255 210 (dk_at dksX1_read_6 0 rfl rfl)
theorem dX1_read_143 : decode cX1_read 143 = .ok (.aload_n 0, 1) := dk_42 (dk_at dksX1_read_6 3 rfl rfl)
theorem dX1_read_144 : decode cX1_read 144 = .ok (.invokevirtual 55, 3) := dk_182 0 55 (dk_at dksX1_read_6 4 rfl rfl)
theorem dX1_read_147 : decode cX1_read 147 = .ok (.bipush 59, 2) := dk_16 59 (dk_at dksX1_read_6 7 rfl rfl)
theorem dX1_read_149 : decode cX1_read 149 = .ok (.if_icmp .ne 20, 3) := dk_160 0 20 (dk_at dksX1_read_6 9 rfl rfl)
theorem dX1_read_152 : decode cX1_read 152 = .ok (.aload_n 0, 1) := dk_42 (dk_at dksX1_read_6 12 rfl rfl)
theorem dX1_read_153 : decode cX1_read 153 = .ok (.dup, 1) := dk_89 (dk_at dksX1_read_6 13 rfl rfl)
theorem dX1_read_154 : decode cX1_read 154 = .ok (.getfield 45, 3) := dk_180 0 45 (dk_at dksX1_read_6 14 rfl rfl)
theorem dX1_read_157 : decode cX1_read 157 = .ok (.iconst 1, 1) := dk_4 (dk_at dksX1_read_6 17 rfl rfl)
theorem dX1_read_158 : decode cX1_read 158 = .ok (.iadd, 1) := dk_96 (dk_at dksX1_read_6 18 rfl rfl)
theorem dX1_read_159 : decode cX1_read 159 = .ok (.putfield 45, 3) := dk_181 0 45 (dk_at dksX1_read_6 19 rfl rfl)
theorem dX1_read_162 : decode cX1_read 162 = .ok (.aload_n 0, 1) := dk_42 (dk_at dksX1_read_6 22 rfl rfl)
theorem dX1_read_163 : decode cX1_read 163 = .ok (.invokevirtual 78, 3) := dk_182 0 78 (dk_at dksX1_read_7 0 rfl rfl)
theorem dX1_read_166 : decode cX1_read 166 = .ok (.goto (-23), 3) := dk_167 255 233 (dk_at dksX1_read_7 3 rfl rfl)
theorem dX1_read_169 : decode cX1_read 169 = .ok (.aload_n 0, 1) := dk_42 (dk_at dksX1_read_7 6 rfl rfl)
theorem dX1_read_170 : decode cX1_read 170 = .ok (.getfield 45, 3) := dk_180 0 45 (dk_at dksX1_read_7 7 rfl rfl)
theorem dX1_read_173 : decode cX1_read 173 = .ok (.aload_n 0, 1) := dk_42 (dk_at dksX1_read_7 10 rfl rfl)
theorem dX1_read_174 : decode cX1_read 174 = .ok (.getfield 3, 3) := dk_180 0 3 (dk_at dksX1_read_7 11 rfl rfl)
theorem dX1_read_177 : decode cX1_read 177 = .ok (.getfield 49, 3) := dk_180 0 49 (dk_at dksX1_read_7 14 rfl rfl)
theorem dX1_read_180 : decode cX1_read 180 = .ok (.if_icmp .ge 8, 3) := dk_162 0 8 (dk_at dksX1_read_7 17 rfl rfl)
theorem dX1_read_183 : decode cX1_read 183 = .ok (.aload_n 0, 1) := dk_42 (dk_at dksX1_read_7 20 rfl rfl)
theorem dX1_read_184 : decode cX1_read 184 = .ok (.getfield 18, 3) := dk_180 0 18 (dk_at dksX1_read_7 21 rfl rfl)
theorem dX1_read_187 : decode cX1_read 187 = .ok (.athrow, 1) := dk_191 (dk_at dksX1_read_8 0 rfl rfl)
theorem dX1_read_188 : decode cX1_read 188 = .ok (.iconst (-1), 1) := dk_2 (dk_at dksX1_read_8 1 rfl rfl)
theorem dX1_read_189 : decode cX1_read 189 = .ok (.ireturn, 1) := dk_172 (dk_at dksX1_read_8 2 rfl rfl)
theorem dX1_read_190 : decode cX1_read 190 = .ok (.astore_n 1, 1) := dk_76 (dk_at dksX1_read_8 3 rfl rfl)
theorem dX1_read_191 : decode cX1_read 191 = .ok (.aload_n 0, 1) := dk_42 (dk_at dksX1_read_8 4 rfl rfl)
theorem dX1_read_192 : decode cX1_read 192 = .ok (.getfield 45, 3) := dk_180 0 45 (dk_at dksX1_read_8 5 rfl rfl)
theorem dX1_read_195 : decode cX1_read 195 = .ok (.ireturn, 1) := dk_172 (dk_at dksX1_read_8 8 rfl rfl)
abbrev cX1_next : ByteArray := prog_9_method_2_code
def yX1_next : MethodName := ⟨RX1, "next", "()I"⟩
def dkwX1_next_1 : List UInt8 := [180, 0, 45, 46, 167, 0, 4, 2, 172]
abbrev dktX1_next_1 : List UInt8 := dkwX1_next_1 ++ []
def dkwX1_next_0 : List UInt8 := [42, 180, 0, 45, 42, 180, 0, 3, 180, 0, 49, 162, 0, 18, 42, 180, 0, 3, 180, 0, 52, 42]
abbrev dktX1_next_0 : List UInt8 := dkwX1_next_0 ++ dktX1_next_1
theorem dksX1_next_0 : cX1_next.data.toList.drop 0 = dktX1_next_0 := by decide +kernel
theorem dksX1_next_1 : cX1_next.data.toList.drop 22 = dktX1_next_1 := dk_seg dksX1_next_0 22 rfl rfl
theorem dX1_next_0 : decode cX1_next 0 = .ok (.aload_n 0, 1) := dk_42 (dk_at dksX1_next_0 0 rfl rfl)
theorem dX1_next_1 : decode cX1_next 1 = .ok (.getfield 45, 3) := dk_180 0 45 (dk_at dksX1_next_0 1 rfl rfl)
theorem dX1_next_4 : decode cX1_next 4 = .ok (.aload_n 0, 1) := dk_42 (dk_at dksX1_next_0 4 rfl rfl)
theorem dX1_next_5 : decode cX1_next 5 = .ok (.getfield 3, 3) := dk_180 0 3 (dk_at dksX1_next_0 5 rfl rfl)
theorem dX1_next_8 : decode cX1_next 8 = .ok (.getfield 49, 3) := dk_180 0 49 (dk_at dksX1_next_0 8 rfl rfl)
theorem dX1_next_11 : decode cX1_next 11 = .ok (.if_icmp .ge 18, 3) := dk_162 0 18 (dk_at dksX1_next_0 11 rfl rfl)
theorem dX1_next_14 : decode cX1_next 14 = .ok (.aload_n 0, 1) := dk_42 (dk_at dksX1_next_0 14 rfl rfl)
theorem dX1_next_15 : decode cX1_next 15 = .ok (.getfield 3, 3) := dk_180 0 3 (dk_at dksX1_next_0 15 rfl rfl)
theorem dX1_next_18 : decode cX1_next 18 = .ok (.getfield 52, 3) := dk_180 0 52 (dk_at dksX1_next_0 18 rfl rfl)
theorem dX1_next_21 : decode cX1_next 21 = .ok (.aload_n 0, 1) := dk_42 (dk_at dksX1_next_0 21 rfl rfl)
theorem dX1_next_22 : decode cX1_next 22 = .ok (.getfield 45, 3) := dk_180 0 45 (dk_at dksX1_next_1 0 rfl rfl)
theorem dX1_next_25 : decode cX1_next 25 = .ok (.iaload, 1) := dk_46 (dk_at dksX1_next_1 3 rfl rfl)
theorem dX1_next_26 : decode cX1_next 26 = .ok (.goto 4, 3) := dk_167 0 4 (dk_at dksX1_next_1 4 rfl rfl)
theorem dX1_next_29 : decode cX1_next 29 = .ok (.iconst (-1), 1) := dk_2 (dk_at dksX1_next_1 7 rfl rfl)
theorem dX1_next_30 : decode cX1_next 30 = .ok (.ireturn, 1) := dk_172 (dk_at dksX1_next_1 8 rfl rfl)
abbrev cX1_digit : ByteArray := prog_9_method_3_code
def yX1_digit : MethodName := ⟨RX1, "digit", "()I"⟩
def dkwX1_digit_1 : List UInt8 := [180, 0, 3, 180, 0, 52, 42, 89, 180, 0, 45, 90, 4, 96, 181, 0, 45, 46, 16, 48, 100, 172]
abbrev dktX1_digit_1 : List UInt8 := dkwX1_digit_1 ++ []
def dkwX1_digit_0 : List UInt8 := [42, 182, 0, 55, 133, 20, 0, 59, 20, 0, 61, 184, 0, 63, 154, 0, 8, 42, 180, 0, 18, 191, 42]
abbrev dktX1_digit_0 : List UInt8 := dkwX1_digit_0 ++ dktX1_digit_1
theorem dksX1_digit_0 : cX1_digit.data.toList.drop 0 = dktX1_digit_0 := by decide +kernel
theorem dksX1_digit_1 : cX1_digit.data.toList.drop 23 = dktX1_digit_1 := dk_seg dksX1_digit_0 23 rfl rfl
theorem dX1_digit_0 : decode cX1_digit 0 = .ok (.aload_n 0, 1) := dk_42 (dk_at dksX1_digit_0 0 rfl rfl)
theorem dX1_digit_1 : decode cX1_digit 1 = .ok (.invokevirtual 55, 3) := dk_182 0 55 (dk_at dksX1_digit_0 1 rfl rfl)
theorem dX1_digit_4 : decode cX1_digit 4 = .ok (.i2l, 1) := dk_133 (dk_at dksX1_digit_0 4 rfl rfl)
theorem dX1_digit_5 : decode cX1_digit 5 = .ok (.ldc2_w 59, 3) := dk_20 0 59 (dk_at dksX1_digit_0 5 rfl rfl)
theorem dX1_digit_8 : decode cX1_digit 8 = .ok (.ldc2_w 61, 3) := dk_20 0 61 (dk_at dksX1_digit_0 8 rfl rfl)
theorem dX1_digit_11 : decode cX1_digit 11 = .ok (.invokestatic 63, 3) := dk_184 0 63 (dk_at dksX1_digit_0 11 rfl rfl)
theorem dX1_digit_14 : decode cX1_digit 14 = .ok (.ifCond .ne 8, 3) := dk_154 0 8 (dk_at dksX1_digit_0 14 rfl rfl)
theorem dX1_digit_17 : decode cX1_digit 17 = .ok (.aload_n 0, 1) := dk_42 (dk_at dksX1_digit_0 17 rfl rfl)
theorem dX1_digit_18 : decode cX1_digit 18 = .ok (.getfield 18, 3) := dk_180 0 18 (dk_at dksX1_digit_0 18 rfl rfl)
theorem dX1_digit_21 : decode cX1_digit 21 = .ok (.athrow, 1) := dk_191 (dk_at dksX1_digit_0 21 rfl rfl)
theorem dX1_digit_22 : decode cX1_digit 22 = .ok (.aload_n 0, 1) := dk_42 (dk_at dksX1_digit_0 22 rfl rfl)
theorem dX1_digit_23 : decode cX1_digit 23 = .ok (.getfield 3, 3) := dk_180 0 3 (dk_at dksX1_digit_1 0 rfl rfl)
theorem dX1_digit_26 : decode cX1_digit 26 = .ok (.getfield 52, 3) := dk_180 0 52 (dk_at dksX1_digit_1 3 rfl rfl)
theorem dX1_digit_29 : decode cX1_digit 29 = .ok (.aload_n 0, 1) := dk_42 (dk_at dksX1_digit_1 6 rfl rfl)
theorem dX1_digit_30 : decode cX1_digit 30 = .ok (.dup, 1) := dk_89 (dk_at dksX1_digit_1 7 rfl rfl)
theorem dX1_digit_31 : decode cX1_digit 31 = .ok (.getfield 45, 3) := dk_180 0 45 (dk_at dksX1_digit_1 8 rfl rfl)
theorem dX1_digit_34 : decode cX1_digit 34 = .ok (.dup_x1, 1) := dk_90 (dk_at dksX1_digit_1 11 rfl rfl)
theorem dX1_digit_35 : decode cX1_digit 35 = .ok (.iconst 1, 1) := dk_4 (dk_at dksX1_digit_1 12 rfl rfl)
theorem dX1_digit_36 : decode cX1_digit 36 = .ok (.iadd, 1) := dk_96 (dk_at dksX1_digit_1 13 rfl rfl)
theorem dX1_digit_37 : decode cX1_digit 37 = .ok (.putfield 45, 3) := dk_181 0 45 (dk_at dksX1_digit_1 14 rfl rfl)
theorem dX1_digit_40 : decode cX1_digit 40 = .ok (.iaload, 1) := dk_46 (dk_at dksX1_digit_1 17 rfl rfl)
theorem dX1_digit_41 : decode cX1_digit 41 = .ok (.bipush 48, 2) := dk_16 48 (dk_at dksX1_digit_1 18 rfl rfl)
theorem dX1_digit_43 : decode cX1_digit 43 = .ok (.isub, 1) := dk_100 (dk_at dksX1_digit_1 20 rfl rfl)
theorem dX1_digit_44 : decode cX1_digit 44 = .ok (.ireturn, 1) := dk_172 (dk_at dksX1_digit_1 21 rfl rfl)
abbrev cX1_part : ByteArray := prog_9_method_7_code
def yX1_part : MethodName := ⟨RX1, "part", "()V"⟩
def dkwX1_part_10 : List UInt8 := [181, 0, 72, 21, 4, 79, 177]
abbrev dktX1_part_10 : List UInt8 := dkwX1_part_10 ++ []
def dkwX1_part_9 : List UInt8 := [79, 42, 180, 0, 39, 42, 180, 0, 72, 29, 79, 42, 180, 0, 42, 42, 89, 180, 0, 72, 90, 4, 96]
abbrev dktX1_part_9 : List UInt8 := dkwX1_part_9 ++ dktX1_part_10
def dkwX1_part_8 : List UInt8 := [89, 180, 0, 45, 4, 96, 181, 0, 45, 42, 182, 0, 75, 54, 4, 42, 180, 0, 36, 42, 180, 0, 72, 28]
abbrev dktX1_part_8 : List UInt8 := dkwX1_part_8 ++ dktX1_part_9
def dkwX1_part_7 : List UInt8 := [182, 0, 81, 62, 28, 29, 159, 0, 12, 42, 28, 29, 182, 0, 84, 153, 0, 8, 42, 180, 0, 18, 191, 42]
abbrev dktX1_part_7 : List UInt8 := dkwX1_part_7 ++ dktX1_part_8
def dkwX1_part_6 : List UInt8 := [167, 0, 100, 27, 16, 119, 160, 0, 16, 42, 180, 0, 29, 28, 42, 182, 0, 75, 79, 167, 0, 81, 42]
abbrev dktX1_part_6 : List UInt8 := dkwX1_part_6 ++ dktX1_part_7
def dkwX1_part_5 : List UInt8 := [28, 4, 84, 167, 0, 119, 27, 16, 115, 160, 0, 16, 42, 180, 0, 26, 28, 42, 182, 0, 75, 79]
abbrev dktX1_part_5 : List UInt8 := dkwX1_part_5 ++ dktX1_part_6
def dkwX1_part_4 : List UInt8 := [180, 0, 18, 191, 42, 89, 180, 0, 45, 4, 96, 181, 0, 45, 27, 16, 104, 160, 0, 13, 42, 180, 0, 32]
abbrev dktX1_part_4 : List UInt8 := dkwX1_part_4 ++ dktX1_part_5
def dkwX1_part_3 : List UInt8 := [180, 0, 29, 28, 46, 157, 0, 18, 27, 16, 104, 160, 0, 17, 42, 180, 0, 32, 28, 51, 153, 0, 8, 42]
abbrev dktX1_part_3 : List UInt8 := dkwX1_part_3 ++ dktX1_part_4
def dkwX1_part_2 : List UInt8 := [61, 27, 16, 115, 160, 0, 12, 42, 180, 0, 26, 28, 46, 157, 0, 33, 27, 16, 119, 160, 0, 12, 42]
abbrev dktX1_part_2 : List UInt8 := dkwX1_part_2 ++ dktX1_part_3
def dkwX1_part_1 : List UInt8 := [16, 119, 159, 0, 8, 42, 180, 0, 18, 191, 42, 89, 180, 0, 45, 4, 96, 181, 0, 45, 42, 182, 0, 81]
abbrev dktX1_part_1 : List UInt8 := dkwX1_part_1 ++ dktX1_part_2
def dkwX1_part_0 : List UInt8 := [42, 182, 0, 55, 60, 27, 16, 112, 159, 0, 26, 27, 16, 115, 159, 0, 20, 27, 16, 104, 159, 0, 14, 27]
abbrev dktX1_part_0 : List UInt8 := dkwX1_part_0 ++ dktX1_part_1
theorem dksX1_part_0 : cX1_part.data.toList.drop 0 = dktX1_part_0 := by decide +kernel
theorem dksX1_part_1 : cX1_part.data.toList.drop 24 = dktX1_part_1 := dk_seg dksX1_part_0 24 rfl rfl
theorem dksX1_part_2 : cX1_part.data.toList.drop 48 = dktX1_part_2 := dk_seg dksX1_part_1 24 rfl rfl
theorem dksX1_part_3 : cX1_part.data.toList.drop 71 = dktX1_part_3 := dk_seg dksX1_part_2 23 rfl rfl
theorem dksX1_part_4 : cX1_part.data.toList.drop 95 = dktX1_part_4 := dk_seg dksX1_part_3 24 rfl rfl
theorem dksX1_part_5 : cX1_part.data.toList.drop 119 = dktX1_part_5 := dk_seg dksX1_part_4 24 rfl rfl
theorem dksX1_part_6 : cX1_part.data.toList.drop 141 = dktX1_part_6 := dk_seg dksX1_part_5 22 rfl rfl
theorem dksX1_part_7 : cX1_part.data.toList.drop 164 = dktX1_part_7 := dk_seg dksX1_part_6 23 rfl rfl
theorem dksX1_part_8 : cX1_part.data.toList.drop 188 = dktX1_part_8 := dk_seg dksX1_part_7 24 rfl rfl
theorem dksX1_part_9 : cX1_part.data.toList.drop 212 = dktX1_part_9 := dk_seg dksX1_part_8 24 rfl rfl
theorem dksX1_part_10 : cX1_part.data.toList.drop 235 = dktX1_part_10 := dk_seg dksX1_part_9 23 rfl rfl
theorem dX1_part_0 : decode cX1_part 0 = .ok (.aload_n 0, 1) := dk_42 (dk_at dksX1_part_0 0 rfl rfl)
theorem dX1_part_1 : decode cX1_part 1 = .ok (.invokevirtual 55, 3) := dk_182 0 55 (dk_at dksX1_part_0 1 rfl rfl)
theorem dX1_part_4 : decode cX1_part 4 = .ok (.istore_n 1, 1) := dk_60 (dk_at dksX1_part_0 4 rfl rfl)
theorem dX1_part_5 : decode cX1_part 5 = .ok (.iload_n 1, 1) := dk_27 (dk_at dksX1_part_0 5 rfl rfl)
theorem dX1_part_6 : decode cX1_part 6 = .ok (.bipush 112, 2) := dk_16 112 (dk_at dksX1_part_0 6 rfl rfl)
theorem dX1_part_8 : decode cX1_part 8 = .ok (.if_icmp .eq 26, 3) := dk_159 0 26 (dk_at dksX1_part_0 8 rfl rfl)
theorem dX1_part_11 : decode cX1_part 11 = .ok (.iload_n 1, 1) := dk_27 (dk_at dksX1_part_0 11 rfl rfl)
theorem dX1_part_12 : decode cX1_part 12 = .ok (.bipush 115, 2) := dk_16 115 (dk_at dksX1_part_0 12 rfl rfl)
theorem dX1_part_14 : decode cX1_part 14 = .ok (.if_icmp .eq 20, 3) := dk_159 0 20 (dk_at dksX1_part_0 14 rfl rfl)
theorem dX1_part_17 : decode cX1_part 17 = .ok (.iload_n 1, 1) := dk_27 (dk_at dksX1_part_0 17 rfl rfl)
theorem dX1_part_18 : decode cX1_part 18 = .ok (.bipush 104, 2) := dk_16 104 (dk_at dksX1_part_0 18 rfl rfl)
theorem dX1_part_20 : decode cX1_part 20 = .ok (.if_icmp .eq 14, 3) := dk_159 0 14 (dk_at dksX1_part_0 20 rfl rfl)
theorem dX1_part_23 : decode cX1_part 23 = .ok (.iload_n 1, 1) := dk_27 (dk_at dksX1_part_0 23 rfl rfl)
theorem dX1_part_24 : decode cX1_part 24 = .ok (.bipush 119, 2) := dk_16 119 (dk_at dksX1_part_1 0 rfl rfl)
theorem dX1_part_26 : decode cX1_part 26 = .ok (.if_icmp .eq 8, 3) := dk_159 0 8 (dk_at dksX1_part_1 2 rfl rfl)
theorem dX1_part_29 : decode cX1_part 29 = .ok (.aload_n 0, 1) := dk_42 (dk_at dksX1_part_1 5 rfl rfl)
theorem dX1_part_30 : decode cX1_part 30 = .ok (.getfield 18, 3) := dk_180 0 18 (dk_at dksX1_part_1 6 rfl rfl)
theorem dX1_part_33 : decode cX1_part 33 = .ok (.athrow, 1) := dk_191 (dk_at dksX1_part_1 9 rfl rfl)
theorem dX1_part_34 : decode cX1_part 34 = .ok (.aload_n 0, 1) := dk_42 (dk_at dksX1_part_1 10 rfl rfl)
theorem dX1_part_35 : decode cX1_part 35 = .ok (.dup, 1) := dk_89 (dk_at dksX1_part_1 11 rfl rfl)
theorem dX1_part_36 : decode cX1_part 36 = .ok (.getfield 45, 3) := dk_180 0 45 (dk_at dksX1_part_1 12 rfl rfl)
theorem dX1_part_39 : decode cX1_part 39 = .ok (.iconst 1, 1) := dk_4 (dk_at dksX1_part_1 15 rfl rfl)
theorem dX1_part_40 : decode cX1_part 40 = .ok (.iadd, 1) := dk_96 (dk_at dksX1_part_1 16 rfl rfl)
theorem dX1_part_41 : decode cX1_part 41 = .ok (.putfield 45, 3) := dk_181 0 45 (dk_at dksX1_part_1 17 rfl rfl)
theorem dX1_part_44 : decode cX1_part 44 = .ok (.aload_n 0, 1) := dk_42 (dk_at dksX1_part_1 20 rfl rfl)
theorem dX1_part_45 : decode cX1_part 45 = .ok (.invokevirtual 81, 3) := dk_182 0 81 (dk_at dksX1_part_1 21 rfl rfl)
theorem dX1_part_48 : decode cX1_part 48 = .ok (.istore_n 2, 1) := dk_61 (dk_at dksX1_part_2 0 rfl rfl)
theorem dX1_part_49 : decode cX1_part 49 = .ok (.iload_n 1, 1) := dk_27 (dk_at dksX1_part_2 1 rfl rfl)
theorem dX1_part_50 : decode cX1_part 50 = .ok (.bipush 115, 2) := dk_16 115 (dk_at dksX1_part_2 2 rfl rfl)
theorem dX1_part_52 : decode cX1_part 52 = .ok (.if_icmp .ne 12, 3) := dk_160 0 12 (dk_at dksX1_part_2 4 rfl rfl)
theorem dX1_part_55 : decode cX1_part 55 = .ok (.aload_n 0, 1) := dk_42 (dk_at dksX1_part_2 7 rfl rfl)
theorem dX1_part_56 : decode cX1_part 56 = .ok (.getfield 26, 3) := dk_180 0 26 (dk_at dksX1_part_2 8 rfl rfl)
theorem dX1_part_59 : decode cX1_part 59 = .ok (.iload_n 2, 1) := dk_28 (dk_at dksX1_part_2 11 rfl rfl)
theorem dX1_part_60 : decode cX1_part 60 = .ok (.iaload, 1) := dk_46 (dk_at dksX1_part_2 12 rfl rfl)
theorem dX1_part_61 : decode cX1_part 61 = .ok (.ifCond .gt 33, 3) := dk_157 0 33 (dk_at dksX1_part_2 13 rfl rfl)
theorem dX1_part_64 : decode cX1_part 64 = .ok (.iload_n 1, 1) := dk_27 (dk_at dksX1_part_2 16 rfl rfl)
theorem dX1_part_65 : decode cX1_part 65 = .ok (.bipush 119, 2) := dk_16 119 (dk_at dksX1_part_2 17 rfl rfl)
theorem dX1_part_67 : decode cX1_part 67 = .ok (.if_icmp .ne 12, 3) := dk_160 0 12 (dk_at dksX1_part_2 19 rfl rfl)
theorem dX1_part_70 : decode cX1_part 70 = .ok (.aload_n 0, 1) := dk_42 (dk_at dksX1_part_2 22 rfl rfl)
theorem dX1_part_71 : decode cX1_part 71 = .ok (.getfield 29, 3) := dk_180 0 29 (dk_at dksX1_part_3 0 rfl rfl)
theorem dX1_part_74 : decode cX1_part 74 = .ok (.iload_n 2, 1) := dk_28 (dk_at dksX1_part_3 3 rfl rfl)
theorem dX1_part_75 : decode cX1_part 75 = .ok (.iaload, 1) := dk_46 (dk_at dksX1_part_3 4 rfl rfl)
theorem dX1_part_76 : decode cX1_part 76 = .ok (.ifCond .gt 18, 3) := dk_157 0 18 (dk_at dksX1_part_3 5 rfl rfl)
theorem dX1_part_79 : decode cX1_part 79 = .ok (.iload_n 1, 1) := dk_27 (dk_at dksX1_part_3 8 rfl rfl)
theorem dX1_part_80 : decode cX1_part 80 = .ok (.bipush 104, 2) := dk_16 104 (dk_at dksX1_part_3 9 rfl rfl)
theorem dX1_part_82 : decode cX1_part 82 = .ok (.if_icmp .ne 17, 3) := dk_160 0 17 (dk_at dksX1_part_3 11 rfl rfl)
theorem dX1_part_85 : decode cX1_part 85 = .ok (.aload_n 0, 1) := dk_42 (dk_at dksX1_part_3 14 rfl rfl)
theorem dX1_part_86 : decode cX1_part 86 = .ok (.getfield 32, 3) := dk_180 0 32 (dk_at dksX1_part_3 15 rfl rfl)
theorem dX1_part_89 : decode cX1_part 89 = .ok (.iload_n 2, 1) := dk_28 (dk_at dksX1_part_3 18 rfl rfl)
theorem dX1_part_90 : decode cX1_part 90 = .ok (.baload, 1) := dk_51 (dk_at dksX1_part_3 19 rfl rfl)
theorem dX1_part_91 : decode cX1_part 91 = .ok (.ifCond .eq 8, 3) := dk_153 0 8 (dk_at dksX1_part_3 20 rfl rfl)
theorem dX1_part_94 : decode cX1_part 94 = .ok (.aload_n 0, 1) := dk_42 (dk_at dksX1_part_3 23 rfl rfl)
theorem dX1_part_95 : decode cX1_part 95 = .ok (.getfield 18, 3) := dk_180 0 18 (dk_at dksX1_part_4 0 rfl rfl)
theorem dX1_part_98 : decode cX1_part 98 = .ok (.athrow, 1) := dk_191 (dk_at dksX1_part_4 3 rfl rfl)
theorem dX1_part_99 : decode cX1_part 99 = .ok (.aload_n 0, 1) := dk_42 (dk_at dksX1_part_4 4 rfl rfl)
theorem dX1_part_100 : decode cX1_part 100 = .ok (.dup, 1) := dk_89 (dk_at dksX1_part_4 5 rfl rfl)
theorem dX1_part_101 : decode cX1_part 101 = .ok (.getfield 45, 3) := dk_180 0 45 (dk_at dksX1_part_4 6 rfl rfl)
theorem dX1_part_104 : decode cX1_part 104 = .ok (.iconst 1, 1) := dk_4 (dk_at dksX1_part_4 9 rfl rfl)
theorem dX1_part_105 : decode cX1_part 105 = .ok (.iadd, 1) := dk_96 (dk_at dksX1_part_4 10 rfl rfl)
theorem dX1_part_106 : decode cX1_part 106 = .ok (.putfield 45, 3) := dk_181 0 45 (dk_at dksX1_part_4 11 rfl rfl)
theorem dX1_part_109 : decode cX1_part 109 = .ok (.iload_n 1, 1) := dk_27 (dk_at dksX1_part_4 14 rfl rfl)
theorem dX1_part_110 : decode cX1_part 110 = .ok (.bipush 104, 2) := dk_16 104 (dk_at dksX1_part_4 15 rfl rfl)
theorem dX1_part_112 : decode cX1_part 112 = .ok (.if_icmp .ne 13, 3) := dk_160 0 13 (dk_at dksX1_part_4 17 rfl rfl)
theorem dX1_part_115 : decode cX1_part 115 = .ok (.aload_n 0, 1) := dk_42 (dk_at dksX1_part_4 20 rfl rfl)
theorem dX1_part_116 : decode cX1_part 116 = .ok (.getfield 32, 3) := dk_180 0 32 (dk_at dksX1_part_4 21 rfl rfl)
theorem dX1_part_119 : decode cX1_part 119 = .ok (.iload_n 2, 1) := dk_28 (dk_at dksX1_part_5 0 rfl rfl)
theorem dX1_part_120 : decode cX1_part 120 = .ok (.iconst 1, 1) := dk_4 (dk_at dksX1_part_5 1 rfl rfl)
theorem dX1_part_121 : decode cX1_part 121 = .ok (.bastore, 1) := dk_84 (dk_at dksX1_part_5 2 rfl rfl)
theorem dX1_part_122 : decode cX1_part 122 = .ok (.goto 119, 3) := dk_167 0 119 (dk_at dksX1_part_5 3 rfl rfl)
theorem dX1_part_125 : decode cX1_part 125 = .ok (.iload_n 1, 1) := dk_27 (dk_at dksX1_part_5 6 rfl rfl)
theorem dX1_part_126 : decode cX1_part 126 = .ok (.bipush 115, 2) := dk_16 115 (dk_at dksX1_part_5 7 rfl rfl)
theorem dX1_part_128 : decode cX1_part 128 = .ok (.if_icmp .ne 16, 3) := dk_160 0 16 (dk_at dksX1_part_5 9 rfl rfl)
theorem dX1_part_131 : decode cX1_part 131 = .ok (.aload_n 0, 1) := dk_42 (dk_at dksX1_part_5 12 rfl rfl)
theorem dX1_part_132 : decode cX1_part 132 = .ok (.getfield 26, 3) := dk_180 0 26 (dk_at dksX1_part_5 13 rfl rfl)
theorem dX1_part_135 : decode cX1_part 135 = .ok (.iload_n 2, 1) := dk_28 (dk_at dksX1_part_5 16 rfl rfl)
theorem dX1_part_136 : decode cX1_part 136 = .ok (.aload_n 0, 1) := dk_42 (dk_at dksX1_part_5 17 rfl rfl)
theorem dX1_part_137 : decode cX1_part 137 = .ok (.invokevirtual 75, 3) := dk_182 0 75 (dk_at dksX1_part_5 18 rfl rfl)
theorem dX1_part_140 : decode cX1_part 140 = .ok (.iastore, 1) := dk_79 (dk_at dksX1_part_5 21 rfl rfl)
theorem dX1_part_141 : decode cX1_part 141 = .ok (.goto 100, 3) := dk_167 0 100 (dk_at dksX1_part_6 0 rfl rfl)
theorem dX1_part_144 : decode cX1_part 144 = .ok (.iload_n 1, 1) := dk_27 (dk_at dksX1_part_6 3 rfl rfl)
theorem dX1_part_145 : decode cX1_part 145 = .ok (.bipush 119, 2) := dk_16 119 (dk_at dksX1_part_6 4 rfl rfl)
theorem dX1_part_147 : decode cX1_part 147 = .ok (.if_icmp .ne 16, 3) := dk_160 0 16 (dk_at dksX1_part_6 6 rfl rfl)
theorem dX1_part_150 : decode cX1_part 150 = .ok (.aload_n 0, 1) := dk_42 (dk_at dksX1_part_6 9 rfl rfl)
theorem dX1_part_151 : decode cX1_part 151 = .ok (.getfield 29, 3) := dk_180 0 29 (dk_at dksX1_part_6 10 rfl rfl)
theorem dX1_part_154 : decode cX1_part 154 = .ok (.iload_n 2, 1) := dk_28 (dk_at dksX1_part_6 13 rfl rfl)
theorem dX1_part_155 : decode cX1_part 155 = .ok (.aload_n 0, 1) := dk_42 (dk_at dksX1_part_6 14 rfl rfl)
theorem dX1_part_156 : decode cX1_part 156 = .ok (.invokevirtual 75, 3) := dk_182 0 75 (dk_at dksX1_part_6 15 rfl rfl)
theorem dX1_part_159 : decode cX1_part 159 = .ok (.iastore, 1) := dk_79 (dk_at dksX1_part_6 18 rfl rfl)
theorem dX1_part_160 : decode cX1_part 160 = .ok (.goto 81, 3) := dk_167 0 81 (dk_at dksX1_part_6 19 rfl rfl)
theorem dX1_part_163 : decode cX1_part 163 = .ok (.aload_n 0, 1) := dk_42 (dk_at dksX1_part_6 22 rfl rfl)
theorem dX1_part_164 : decode cX1_part 164 = .ok (.invokevirtual 81, 3) := dk_182 0 81 (dk_at dksX1_part_7 0 rfl rfl)
theorem dX1_part_167 : decode cX1_part 167 = .ok (.istore_n 3, 1) := dk_62 (dk_at dksX1_part_7 3 rfl rfl)
theorem dX1_part_168 : decode cX1_part 168 = .ok (.iload_n 2, 1) := dk_28 (dk_at dksX1_part_7 4 rfl rfl)
theorem dX1_part_169 : decode cX1_part 169 = .ok (.iload_n 3, 1) := dk_29 (dk_at dksX1_part_7 5 rfl rfl)
theorem dX1_part_170 : decode cX1_part 170 = .ok (.if_icmp .eq 12, 3) := dk_159 0 12 (dk_at dksX1_part_7 6 rfl rfl)
theorem dX1_part_173 : decode cX1_part 173 = .ok (.aload_n 0, 1) := dk_42 (dk_at dksX1_part_7 9 rfl rfl)
theorem dX1_part_174 : decode cX1_part 174 = .ok (.iload_n 2, 1) := dk_28 (dk_at dksX1_part_7 10 rfl rfl)
theorem dX1_part_175 : decode cX1_part 175 = .ok (.iload_n 3, 1) := dk_29 (dk_at dksX1_part_7 11 rfl rfl)
theorem dX1_part_176 : decode cX1_part 176 = .ok (.invokevirtual 84, 3) := dk_182 0 84 (dk_at dksX1_part_7 12 rfl rfl)
theorem dX1_part_179 : decode cX1_part 179 = .ok (.ifCond .eq 8, 3) := dk_153 0 8 (dk_at dksX1_part_7 15 rfl rfl)
theorem dX1_part_182 : decode cX1_part 182 = .ok (.aload_n 0, 1) := dk_42 (dk_at dksX1_part_7 18 rfl rfl)
theorem dX1_part_183 : decode cX1_part 183 = .ok (.getfield 18, 3) := dk_180 0 18 (dk_at dksX1_part_7 19 rfl rfl)
theorem dX1_part_186 : decode cX1_part 186 = .ok (.athrow, 1) := dk_191 (dk_at dksX1_part_7 22 rfl rfl)
theorem dX1_part_187 : decode cX1_part 187 = .ok (.aload_n 0, 1) := dk_42 (dk_at dksX1_part_7 23 rfl rfl)
theorem dX1_part_188 : decode cX1_part 188 = .ok (.dup, 1) := dk_89 (dk_at dksX1_part_8 0 rfl rfl)
theorem dX1_part_189 : decode cX1_part 189 = .ok (.getfield 45, 3) := dk_180 0 45 (dk_at dksX1_part_8 1 rfl rfl)
theorem dX1_part_192 : decode cX1_part 192 = .ok (.iconst 1, 1) := dk_4 (dk_at dksX1_part_8 4 rfl rfl)
theorem dX1_part_193 : decode cX1_part 193 = .ok (.iadd, 1) := dk_96 (dk_at dksX1_part_8 5 rfl rfl)
theorem dX1_part_194 : decode cX1_part 194 = .ok (.putfield 45, 3) := dk_181 0 45 (dk_at dksX1_part_8 6 rfl rfl)
theorem dX1_part_197 : decode cX1_part 197 = .ok (.aload_n 0, 1) := dk_42 (dk_at dksX1_part_8 9 rfl rfl)
theorem dX1_part_198 : decode cX1_part 198 = .ok (.invokevirtual 75, 3) := dk_182 0 75 (dk_at dksX1_part_8 10 rfl rfl)
theorem dX1_part_201 : decode cX1_part 201 = .ok (.istore 4, 2) := dk_54 4 (dk_at dksX1_part_8 13 rfl rfl)
theorem dX1_part_203 : decode cX1_part 203 = .ok (.aload_n 0, 1) := dk_42 (dk_at dksX1_part_8 15 rfl rfl)
theorem dX1_part_204 : decode cX1_part 204 = .ok (.getfield 36, 3) := dk_180 0 36 (dk_at dksX1_part_8 16 rfl rfl)
theorem dX1_part_207 : decode cX1_part 207 = .ok (.aload_n 0, 1) := dk_42 (dk_at dksX1_part_8 19 rfl rfl)
theorem dX1_part_208 : decode cX1_part 208 = .ok (.getfield 72, 3) := dk_180 0 72 (dk_at dksX1_part_8 20 rfl rfl)
theorem dX1_part_211 : decode cX1_part 211 = .ok (.iload_n 2, 1) := dk_28 (dk_at dksX1_part_8 23 rfl rfl)
theorem dX1_part_212 : decode cX1_part 212 = .ok (.iastore, 1) := dk_79 (dk_at dksX1_part_9 0 rfl rfl)
theorem dX1_part_213 : decode cX1_part 213 = .ok (.aload_n 0, 1) := dk_42 (dk_at dksX1_part_9 1 rfl rfl)
theorem dX1_part_214 : decode cX1_part 214 = .ok (.getfield 39, 3) := dk_180 0 39 (dk_at dksX1_part_9 2 rfl rfl)
theorem dX1_part_217 : decode cX1_part 217 = .ok (.aload_n 0, 1) := dk_42 (dk_at dksX1_part_9 5 rfl rfl)
theorem dX1_part_218 : decode cX1_part 218 = .ok (.getfield 72, 3) := dk_180 0 72 (dk_at dksX1_part_9 6 rfl rfl)
theorem dX1_part_221 : decode cX1_part 221 = .ok (.iload_n 3, 1) := dk_29 (dk_at dksX1_part_9 9 rfl rfl)
theorem dX1_part_222 : decode cX1_part 222 = .ok (.iastore, 1) := dk_79 (dk_at dksX1_part_9 10 rfl rfl)
theorem dX1_part_223 : decode cX1_part 223 = .ok (.aload_n 0, 1) := dk_42 (dk_at dksX1_part_9 11 rfl rfl)
theorem dX1_part_224 : decode cX1_part 224 = .ok (.getfield 42, 3) := dk_180 0 42 (dk_at dksX1_part_9 12 rfl rfl)
theorem dX1_part_227 : decode cX1_part 227 = .ok (.aload_n 0, 1) := dk_42 (dk_at dksX1_part_9 15 rfl rfl)
theorem dX1_part_228 : decode cX1_part 228 = .ok (.dup, 1) := dk_89 (dk_at dksX1_part_9 16 rfl rfl)
theorem dX1_part_229 : decode cX1_part 229 = .ok (.getfield 72, 3) := dk_180 0 72 (dk_at dksX1_part_9 17 rfl rfl)
theorem dX1_part_232 : decode cX1_part 232 = .ok (.dup_x1, 1) := dk_90 (dk_at dksX1_part_9 20 rfl rfl)
theorem dX1_part_233 : decode cX1_part 233 = .ok (.iconst 1, 1) := dk_4 (dk_at dksX1_part_9 21 rfl rfl)
theorem dX1_part_234 : decode cX1_part 234 = .ok (.iadd, 1) := dk_96 (dk_at dksX1_part_9 22 rfl rfl)
theorem dX1_part_235 : decode cX1_part 235 = .ok (.putfield 72, 3) := dk_181 0 72 (dk_at dksX1_part_10 0 rfl rfl)
theorem dX1_part_238 : decode cX1_part 238 = .ok (.iload 4, 2) := dk_21 4 (dk_at dksX1_part_10 3 rfl rfl)
theorem dX1_part_240 : decode cX1_part 240 = .ok (.iastore, 1) := dk_79 (dk_at dksX1_part_10 5 rfl rfl)
theorem dX1_part_241 : decode cX1_part 241 = .ok (.return_, 1) := dk_177 (dk_at dksX1_part_10 6 rfl rfl)
abbrev cX1_corner : ByteArray := prog_9_method_4_code
def yX1_corner : MethodName := ⟨RX1, "corner", "()I"⟩
def dkwX1_corner_1 : List UInt8 := [42, 180, 0, 18, 191, 42, 180, 0, 3, 180, 0, 52, 42, 180, 0, 45, 46, 16, 97, 100, 172]
abbrev dktX1_corner_1 : List UInt8 := dkwX1_corner_1 ++ []
def dkwX1_corner_0 : List UInt8 := [42, 182, 0, 55, 133, 20, 0, 67, 16, 97, 42, 180, 0, 69, 96, 4, 100, 133, 184, 0, 63, 154, 0, 8]
abbrev dktX1_corner_0 : List UInt8 := dkwX1_corner_0 ++ dktX1_corner_1
theorem dksX1_corner_0 : cX1_corner.data.toList.drop 0 = dktX1_corner_0 := by decide +kernel
theorem dksX1_corner_1 : cX1_corner.data.toList.drop 24 = dktX1_corner_1 := dk_seg dksX1_corner_0 24 rfl rfl
theorem dX1_corner_0 : decode cX1_corner 0 = .ok (.aload_n 0, 1) := dk_42 (dk_at dksX1_corner_0 0 rfl rfl)
theorem dX1_corner_1 : decode cX1_corner 1 = .ok (.invokevirtual 55, 3) := dk_182 0 55 (dk_at dksX1_corner_0 1 rfl rfl)
theorem dX1_corner_4 : decode cX1_corner 4 = .ok (.i2l, 1) := dk_133 (dk_at dksX1_corner_0 4 rfl rfl)
theorem dX1_corner_5 : decode cX1_corner 5 = .ok (.ldc2_w 67, 3) := dk_20 0 67 (dk_at dksX1_corner_0 5 rfl rfl)
theorem dX1_corner_8 : decode cX1_corner 8 = .ok (.bipush 97, 2) := dk_16 97 (dk_at dksX1_corner_0 8 rfl rfl)
theorem dX1_corner_10 : decode cX1_corner 10 = .ok (.aload_n 0, 1) := dk_42 (dk_at dksX1_corner_0 10 rfl rfl)
theorem dX1_corner_11 : decode cX1_corner 11 = .ok (.getfield 69, 3) := dk_180 0 69 (dk_at dksX1_corner_0 11 rfl rfl)
theorem dX1_corner_14 : decode cX1_corner 14 = .ok (.iadd, 1) := dk_96 (dk_at dksX1_corner_0 14 rfl rfl)
theorem dX1_corner_15 : decode cX1_corner 15 = .ok (.iconst 1, 1) := dk_4 (dk_at dksX1_corner_0 15 rfl rfl)
theorem dX1_corner_16 : decode cX1_corner 16 = .ok (.isub, 1) := dk_100 (dk_at dksX1_corner_0 16 rfl rfl)
theorem dX1_corner_17 : decode cX1_corner 17 = .ok (.i2l, 1) := dk_133 (dk_at dksX1_corner_0 17 rfl rfl)
theorem dX1_corner_18 : decode cX1_corner 18 = .ok (.invokestatic 63, 3) := dk_184 0 63 (dk_at dksX1_corner_0 18 rfl rfl)
theorem dX1_corner_21 : decode cX1_corner 21 = .ok (.ifCond .ne 8, 3) := dk_154 0 8 (dk_at dksX1_corner_0 21 rfl rfl)
theorem dX1_corner_24 : decode cX1_corner 24 = .ok (.aload_n 0, 1) := dk_42 (dk_at dksX1_corner_1 0 rfl rfl)
theorem dX1_corner_25 : decode cX1_corner 25 = .ok (.getfield 18, 3) := dk_180 0 18 (dk_at dksX1_corner_1 1 rfl rfl)
theorem dX1_corner_28 : decode cX1_corner 28 = .ok (.athrow, 1) := dk_191 (dk_at dksX1_corner_1 4 rfl rfl)
theorem dX1_corner_29 : decode cX1_corner 29 = .ok (.aload_n 0, 1) := dk_42 (dk_at dksX1_corner_1 5 rfl rfl)
theorem dX1_corner_30 : decode cX1_corner 30 = .ok (.getfield 3, 3) := dk_180 0 3 (dk_at dksX1_corner_1 6 rfl rfl)
theorem dX1_corner_33 : decode cX1_corner 33 = .ok (.getfield 52, 3) := dk_180 0 52 (dk_at dksX1_corner_1 9 rfl rfl)
theorem dX1_corner_36 : decode cX1_corner 36 = .ok (.aload_n 0, 1) := dk_42 (dk_at dksX1_corner_1 12 rfl rfl)
theorem dX1_corner_37 : decode cX1_corner 37 = .ok (.getfield 45, 3) := dk_180 0 45 (dk_at dksX1_corner_1 13 rfl rfl)
theorem dX1_corner_40 : decode cX1_corner 40 = .ok (.iaload, 1) := dk_46 (dk_at dksX1_corner_1 16 rfl rfl)
theorem dX1_corner_41 : decode cX1_corner 41 = .ok (.bipush 97, 2) := dk_16 97 (dk_at dksX1_corner_1 17 rfl rfl)
theorem dX1_corner_43 : decode cX1_corner 43 = .ok (.isub, 1) := dk_100 (dk_at dksX1_corner_1 19 rfl rfl)
theorem dX1_corner_44 : decode cX1_corner 44 = .ok (.ireturn, 1) := dk_172 (dk_at dksX1_corner_1 20 rfl rfl)
abbrev cX1_has : ByteArray := prog_9_method_5_code
def yX1_has : MethodName := ⟨RX1, "has", "(II)Z"⟩
def dkwX1_has_2 : List UInt8 := [160, 0, 5, 4, 172, 132, 3, 1, 167, 255, 203, 3, 172]
abbrev dktX1_has_2 : List UInt8 := dkwX1_has_2 ++ []
def dkwX1_has_1 : List UInt8 := [29, 46, 28, 159, 0, 23, 42, 180, 0, 36, 29, 46, 28, 160, 0, 15, 42, 180, 0, 39, 29, 46, 27]
abbrev dktX1_has_1 : List UInt8 := dkwX1_has_1 ++ dktX1_has_2
def dkwX1_has_0 : List UInt8 := [3, 62, 29, 42, 180, 0, 72, 162, 0, 51, 42, 180, 0, 36, 29, 46, 27, 160, 0, 13, 42, 180, 0, 39]
abbrev dktX1_has_0 : List UInt8 := dkwX1_has_0 ++ dktX1_has_1
theorem dksX1_has_0 : cX1_has.data.toList.drop 0 = dktX1_has_0 := by decide +kernel
theorem dksX1_has_1 : cX1_has.data.toList.drop 24 = dktX1_has_1 := dk_seg dksX1_has_0 24 rfl rfl
theorem dksX1_has_2 : cX1_has.data.toList.drop 47 = dktX1_has_2 := dk_seg dksX1_has_1 23 rfl rfl
theorem dX1_has_0 : decode cX1_has 0 = .ok (.iconst 0, 1) := dk_3 (dk_at dksX1_has_0 0 rfl rfl)
theorem dX1_has_1 : decode cX1_has 1 = .ok (.istore_n 3, 1) := dk_62 (dk_at dksX1_has_0 1 rfl rfl)
theorem dX1_has_2 : decode cX1_has 2 = .ok (.iload_n 3, 1) := dk_29 (dk_at dksX1_has_0 2 rfl rfl)
theorem dX1_has_3 : decode cX1_has 3 = .ok (.aload_n 0, 1) := dk_42 (dk_at dksX1_has_0 3 rfl rfl)
theorem dX1_has_4 : decode cX1_has 4 = .ok (.getfield 72, 3) := dk_180 0 72 (dk_at dksX1_has_0 4 rfl rfl)
theorem dX1_has_7 : decode cX1_has 7 = .ok (.if_icmp .ge 51, 3) := dk_162 0 51 (dk_at dksX1_has_0 7 rfl rfl)
theorem dX1_has_10 : decode cX1_has 10 = .ok (.aload_n 0, 1) := dk_42 (dk_at dksX1_has_0 10 rfl rfl)
theorem dX1_has_11 : decode cX1_has 11 = .ok (.getfield 36, 3) := dk_180 0 36 (dk_at dksX1_has_0 11 rfl rfl)
theorem dX1_has_14 : decode cX1_has 14 = .ok (.iload_n 3, 1) := dk_29 (dk_at dksX1_has_0 14 rfl rfl)
theorem dX1_has_15 : decode cX1_has 15 = .ok (.iaload, 1) := dk_46 (dk_at dksX1_has_0 15 rfl rfl)
theorem dX1_has_16 : decode cX1_has 16 = .ok (.iload_n 1, 1) := dk_27 (dk_at dksX1_has_0 16 rfl rfl)
theorem dX1_has_17 : decode cX1_has 17 = .ok (.if_icmp .ne 13, 3) := dk_160 0 13 (dk_at dksX1_has_0 17 rfl rfl)
theorem dX1_has_20 : decode cX1_has 20 = .ok (.aload_n 0, 1) := dk_42 (dk_at dksX1_has_0 20 rfl rfl)
theorem dX1_has_21 : decode cX1_has 21 = .ok (.getfield 39, 3) := dk_180 0 39 (dk_at dksX1_has_0 21 rfl rfl)
theorem dX1_has_24 : decode cX1_has 24 = .ok (.iload_n 3, 1) := dk_29 (dk_at dksX1_has_1 0 rfl rfl)
theorem dX1_has_25 : decode cX1_has 25 = .ok (.iaload, 1) := dk_46 (dk_at dksX1_has_1 1 rfl rfl)
theorem dX1_has_26 : decode cX1_has 26 = .ok (.iload_n 2, 1) := dk_28 (dk_at dksX1_has_1 2 rfl rfl)
theorem dX1_has_27 : decode cX1_has 27 = .ok (.if_icmp .eq 23, 3) := dk_159 0 23 (dk_at dksX1_has_1 3 rfl rfl)
theorem dX1_has_30 : decode cX1_has 30 = .ok (.aload_n 0, 1) := dk_42 (dk_at dksX1_has_1 6 rfl rfl)
theorem dX1_has_31 : decode cX1_has 31 = .ok (.getfield 36, 3) := dk_180 0 36 (dk_at dksX1_has_1 7 rfl rfl)
theorem dX1_has_34 : decode cX1_has 34 = .ok (.iload_n 3, 1) := dk_29 (dk_at dksX1_has_1 10 rfl rfl)
theorem dX1_has_35 : decode cX1_has 35 = .ok (.iaload, 1) := dk_46 (dk_at dksX1_has_1 11 rfl rfl)
theorem dX1_has_36 : decode cX1_has 36 = .ok (.iload_n 2, 1) := dk_28 (dk_at dksX1_has_1 12 rfl rfl)
theorem dX1_has_37 : decode cX1_has 37 = .ok (.if_icmp .ne 15, 3) := dk_160 0 15 (dk_at dksX1_has_1 13 rfl rfl)
theorem dX1_has_40 : decode cX1_has 40 = .ok (.aload_n 0, 1) := dk_42 (dk_at dksX1_has_1 16 rfl rfl)
theorem dX1_has_41 : decode cX1_has 41 = .ok (.getfield 39, 3) := dk_180 0 39 (dk_at dksX1_has_1 17 rfl rfl)
theorem dX1_has_44 : decode cX1_has 44 = .ok (.iload_n 3, 1) := dk_29 (dk_at dksX1_has_1 20 rfl rfl)
theorem dX1_has_45 : decode cX1_has 45 = .ok (.iaload, 1) := dk_46 (dk_at dksX1_has_1 21 rfl rfl)
theorem dX1_has_46 : decode cX1_has 46 = .ok (.iload_n 1, 1) := dk_27 (dk_at dksX1_has_1 22 rfl rfl)
theorem dX1_has_47 : decode cX1_has 47 = .ok (.if_icmp .ne 5, 3) := dk_160 0 5 (dk_at dksX1_has_2 0 rfl rfl)
theorem dX1_has_50 : decode cX1_has 50 = .ok (.iconst 1, 1) := dk_4 (dk_at dksX1_has_2 3 rfl rfl)
theorem dX1_has_51 : decode cX1_has 51 = .ok (.ireturn, 1) := dk_172 (dk_at dksX1_has_2 4 rfl rfl)
theorem dX1_has_52 : decode cX1_has 52 = .ok (.iinc 3 1, 3) := dk_132 3 1 (dk_at dksX1_has_2 5 rfl rfl)
theorem dX1_has_55 : decode cX1_has 55 = .ok (.goto (-53), 3) := dk_167 255 203 (dk_at dksX1_has_2 8 rfl rfl)
theorem dX1_has_58 : decode cX1_has 58 = .ok (.iconst 0, 1) := dk_3 (dk_at dksX1_has_2 11 rfl rfl)
theorem dX1_has_59 : decode cX1_has 59 = .ok (.ireturn, 1) := dk_172 (dk_at dksX1_has_2 12 rfl rfl)
abbrev cX1_make : ByteArray := prog_9_method_8_code
def yX1_make : MethodName := ⟨RX1, "make", "()LPlatesSing$Shape;"⟩
def dkwX1_make_5 : List UInt8 := [28, 46, 42, 180, 0, 42, 28, 46, 182, 0, 102, 83, 132, 2, 1, 167, 255, 204, 43, 176]
abbrev dktX1_make_5 : List UInt8 := dkwX1_make_5 ++ []
def dkwX1_make_4 : List UInt8 := [89, 180, 0, 101, 90, 4, 96, 181, 0, 101, 42, 180, 0, 3, 42, 180, 0, 36, 28, 46, 42, 180, 0, 39]
abbrev dktX1_make_4 : List UInt8 := dkwX1_make_4 ++ dktX1_make_5
def dkwX1_make_3 : List UInt8 := [28, 51, 84, 132, 2, 1, 167, 255, 197, 3, 61, 28, 42, 180, 0, 72, 162, 0, 50, 43, 180, 0, 97, 43]
abbrev dktX1_make_3 : List UInt8 := dkwX1_make_3 ++ dktX1_make_4
def dkwX1_make_2 : List UInt8 := [28, 46, 79, 43, 180, 0, 95, 28, 42, 180, 0, 29, 28, 46, 79, 43, 180, 0, 96, 28, 42, 180, 0, 32]
abbrev dktX1_make_2 : List UInt8 := dkwX1_make_2 ++ dktX1_make_3
def dkwX1_make_1 : List UInt8 := [162, 0, 57, 43, 180, 0, 93, 28, 42, 180, 0, 22, 28, 46, 79, 43, 180, 0, 94, 28, 42, 180, 0, 26]
abbrev dktX1_make_1 : List UInt8 := dkwX1_make_1 ++ dktX1_make_2
def dkwX1_make_0 : List UInt8 := [187, 0, 88, 89, 42, 180, 0, 3, 42, 180, 0, 69, 183, 0, 90, 76, 3, 61, 28, 42, 180, 0, 69]
abbrev dktX1_make_0 : List UInt8 := dkwX1_make_0 ++ dktX1_make_1
theorem dksX1_make_0 : cX1_make.data.toList.drop 0 = dktX1_make_0 := by decide +kernel
theorem dksX1_make_1 : cX1_make.data.toList.drop 23 = dktX1_make_1 := dk_seg dksX1_make_0 23 rfl rfl
theorem dksX1_make_2 : cX1_make.data.toList.drop 47 = dktX1_make_2 := dk_seg dksX1_make_1 24 rfl rfl
theorem dksX1_make_3 : cX1_make.data.toList.drop 71 = dktX1_make_3 := dk_seg dksX1_make_2 24 rfl rfl
theorem dksX1_make_4 : cX1_make.data.toList.drop 95 = dktX1_make_4 := dk_seg dksX1_make_3 24 rfl rfl
theorem dksX1_make_5 : cX1_make.data.toList.drop 119 = dktX1_make_5 := dk_seg dksX1_make_4 24 rfl rfl
theorem dX1_make_0 : decode cX1_make 0 = .ok (.new 88, 3) := dk_187 0 88 (dk_at dksX1_make_0 0 rfl rfl)
theorem dX1_make_3 : decode cX1_make 3 = .ok (.dup, 1) := dk_89 (dk_at dksX1_make_0 3 rfl rfl)
theorem dX1_make_4 : decode cX1_make 4 = .ok (.aload_n 0, 1) := dk_42 (dk_at dksX1_make_0 4 rfl rfl)
theorem dX1_make_5 : decode cX1_make 5 = .ok (.getfield 3, 3) := dk_180 0 3 (dk_at dksX1_make_0 5 rfl rfl)
theorem dX1_make_8 : decode cX1_make 8 = .ok (.aload_n 0, 1) := dk_42 (dk_at dksX1_make_0 8 rfl rfl)
theorem dX1_make_9 : decode cX1_make 9 = .ok (.getfield 69, 3) := dk_180 0 69 (dk_at dksX1_make_0 9 rfl rfl)
theorem dX1_make_12 : decode cX1_make 12 = .ok (.invokespecial 90, 3) := dk_183 0 90 (dk_at dksX1_make_0 12 rfl rfl)
theorem dX1_make_15 : decode cX1_make 15 = .ok (.astore_n 1, 1) := dk_76 (dk_at dksX1_make_0 15 rfl rfl)
theorem dX1_make_16 : decode cX1_make 16 = .ok (.iconst 0, 1) := dk_3 (dk_at dksX1_make_0 16 rfl rfl)
theorem dX1_make_17 : decode cX1_make 17 = .ok (.istore_n 2, 1) := dk_61 (dk_at dksX1_make_0 17 rfl rfl)
theorem dX1_make_18 : decode cX1_make 18 = .ok (.iload_n 2, 1) := dk_28 (dk_at dksX1_make_0 18 rfl rfl)
theorem dX1_make_19 : decode cX1_make 19 = .ok (.aload_n 0, 1) := dk_42 (dk_at dksX1_make_0 19 rfl rfl)
theorem dX1_make_20 : decode cX1_make 20 = .ok (.getfield 69, 3) := dk_180 0 69 (dk_at dksX1_make_0 20 rfl rfl)
theorem dX1_make_23 : decode cX1_make 23 = .ok (.if_icmp .ge 57, 3) := dk_162 0 57 (dk_at dksX1_make_1 0 rfl rfl)
theorem dX1_make_26 : decode cX1_make 26 = .ok (.aload_n 1, 1) := dk_43 (dk_at dksX1_make_1 3 rfl rfl)
theorem dX1_make_27 : decode cX1_make 27 = .ok (.getfield 93, 3) := dk_180 0 93 (dk_at dksX1_make_1 4 rfl rfl)
theorem dX1_make_30 : decode cX1_make 30 = .ok (.iload_n 2, 1) := dk_28 (dk_at dksX1_make_1 7 rfl rfl)
theorem dX1_make_31 : decode cX1_make 31 = .ok (.aload_n 0, 1) := dk_42 (dk_at dksX1_make_1 8 rfl rfl)
theorem dX1_make_32 : decode cX1_make 32 = .ok (.getfield 22, 3) := dk_180 0 22 (dk_at dksX1_make_1 9 rfl rfl)
theorem dX1_make_35 : decode cX1_make 35 = .ok (.iload_n 2, 1) := dk_28 (dk_at dksX1_make_1 12 rfl rfl)
theorem dX1_make_36 : decode cX1_make 36 = .ok (.iaload, 1) := dk_46 (dk_at dksX1_make_1 13 rfl rfl)
theorem dX1_make_37 : decode cX1_make 37 = .ok (.iastore, 1) := dk_79 (dk_at dksX1_make_1 14 rfl rfl)
theorem dX1_make_38 : decode cX1_make 38 = .ok (.aload_n 1, 1) := dk_43 (dk_at dksX1_make_1 15 rfl rfl)
theorem dX1_make_39 : decode cX1_make 39 = .ok (.getfield 94, 3) := dk_180 0 94 (dk_at dksX1_make_1 16 rfl rfl)
theorem dX1_make_42 : decode cX1_make 42 = .ok (.iload_n 2, 1) := dk_28 (dk_at dksX1_make_1 19 rfl rfl)
theorem dX1_make_43 : decode cX1_make 43 = .ok (.aload_n 0, 1) := dk_42 (dk_at dksX1_make_1 20 rfl rfl)
theorem dX1_make_44 : decode cX1_make 44 = .ok (.getfield 26, 3) := dk_180 0 26 (dk_at dksX1_make_1 21 rfl rfl)
theorem dX1_make_47 : decode cX1_make 47 = .ok (.iload_n 2, 1) := dk_28 (dk_at dksX1_make_2 0 rfl rfl)
theorem dX1_make_48 : decode cX1_make 48 = .ok (.iaload, 1) := dk_46 (dk_at dksX1_make_2 1 rfl rfl)
theorem dX1_make_49 : decode cX1_make 49 = .ok (.iastore, 1) := dk_79 (dk_at dksX1_make_2 2 rfl rfl)
theorem dX1_make_50 : decode cX1_make 50 = .ok (.aload_n 1, 1) := dk_43 (dk_at dksX1_make_2 3 rfl rfl)
theorem dX1_make_51 : decode cX1_make 51 = .ok (.getfield 95, 3) := dk_180 0 95 (dk_at dksX1_make_2 4 rfl rfl)
theorem dX1_make_54 : decode cX1_make 54 = .ok (.iload_n 2, 1) := dk_28 (dk_at dksX1_make_2 7 rfl rfl)
theorem dX1_make_55 : decode cX1_make 55 = .ok (.aload_n 0, 1) := dk_42 (dk_at dksX1_make_2 8 rfl rfl)
theorem dX1_make_56 : decode cX1_make 56 = .ok (.getfield 29, 3) := dk_180 0 29 (dk_at dksX1_make_2 9 rfl rfl)
theorem dX1_make_59 : decode cX1_make 59 = .ok (.iload_n 2, 1) := dk_28 (dk_at dksX1_make_2 12 rfl rfl)
theorem dX1_make_60 : decode cX1_make 60 = .ok (.iaload, 1) := dk_46 (dk_at dksX1_make_2 13 rfl rfl)
theorem dX1_make_61 : decode cX1_make 61 = .ok (.iastore, 1) := dk_79 (dk_at dksX1_make_2 14 rfl rfl)
theorem dX1_make_62 : decode cX1_make 62 = .ok (.aload_n 1, 1) := dk_43 (dk_at dksX1_make_2 15 rfl rfl)
theorem dX1_make_63 : decode cX1_make 63 = .ok (.getfield 96, 3) := dk_180 0 96 (dk_at dksX1_make_2 16 rfl rfl)
theorem dX1_make_66 : decode cX1_make 66 = .ok (.iload_n 2, 1) := dk_28 (dk_at dksX1_make_2 19 rfl rfl)
theorem dX1_make_67 : decode cX1_make 67 = .ok (.aload_n 0, 1) := dk_42 (dk_at dksX1_make_2 20 rfl rfl)
theorem dX1_make_68 : decode cX1_make 68 = .ok (.getfield 32, 3) := dk_180 0 32 (dk_at dksX1_make_2 21 rfl rfl)
theorem dX1_make_71 : decode cX1_make 71 = .ok (.iload_n 2, 1) := dk_28 (dk_at dksX1_make_3 0 rfl rfl)
theorem dX1_make_72 : decode cX1_make 72 = .ok (.baload, 1) := dk_51 (dk_at dksX1_make_3 1 rfl rfl)
theorem dX1_make_73 : decode cX1_make 73 = .ok (.bastore, 1) := dk_84 (dk_at dksX1_make_3 2 rfl rfl)
theorem dX1_make_74 : decode cX1_make 74 = .ok (.iinc 2 1, 3) := dk_132 2 1 (dk_at dksX1_make_3 3 rfl rfl)
theorem dX1_make_77 : decode cX1_make 77 = .ok (.goto (-59), 3) := dk_167 255 197 (dk_at dksX1_make_3 6 rfl rfl)
theorem dX1_make_80 : decode cX1_make 80 = .ok (.iconst 0, 1) := dk_3 (dk_at dksX1_make_3 9 rfl rfl)
theorem dX1_make_81 : decode cX1_make 81 = .ok (.istore_n 2, 1) := dk_61 (dk_at dksX1_make_3 10 rfl rfl)
theorem dX1_make_82 : decode cX1_make 82 = .ok (.iload_n 2, 1) := dk_28 (dk_at dksX1_make_3 11 rfl rfl)
theorem dX1_make_83 : decode cX1_make 83 = .ok (.aload_n 0, 1) := dk_42 (dk_at dksX1_make_3 12 rfl rfl)
theorem dX1_make_84 : decode cX1_make 84 = .ok (.getfield 72, 3) := dk_180 0 72 (dk_at dksX1_make_3 13 rfl rfl)
theorem dX1_make_87 : decode cX1_make 87 = .ok (.if_icmp .ge 50, 3) := dk_162 0 50 (dk_at dksX1_make_3 16 rfl rfl)
theorem dX1_make_90 : decode cX1_make 90 = .ok (.aload_n 1, 1) := dk_43 (dk_at dksX1_make_3 19 rfl rfl)
theorem dX1_make_91 : decode cX1_make 91 = .ok (.getfield 97, 3) := dk_180 0 97 (dk_at dksX1_make_3 20 rfl rfl)
theorem dX1_make_94 : decode cX1_make 94 = .ok (.aload_n 1, 1) := dk_43 (dk_at dksX1_make_3 23 rfl rfl)
theorem dX1_make_95 : decode cX1_make 95 = .ok (.dup, 1) := dk_89 (dk_at dksX1_make_4 0 rfl rfl)
theorem dX1_make_96 : decode cX1_make 96 = .ok (.getfield 101, 3) := dk_180 0 101 (dk_at dksX1_make_4 1 rfl rfl)
theorem dX1_make_99 : decode cX1_make 99 = .ok (.dup_x1, 1) := dk_90 (dk_at dksX1_make_4 4 rfl rfl)
theorem dX1_make_100 : decode cX1_make 100 = .ok (.iconst 1, 1) := dk_4 (dk_at dksX1_make_4 5 rfl rfl)
theorem dX1_make_101 : decode cX1_make 101 = .ok (.iadd, 1) := dk_96 (dk_at dksX1_make_4 6 rfl rfl)
theorem dX1_make_102 : decode cX1_make 102 = .ok (.putfield 101, 3) := dk_181 0 101 (dk_at dksX1_make_4 7 rfl rfl)
theorem dX1_make_105 : decode cX1_make 105 = .ok (.aload_n 0, 1) := dk_42 (dk_at dksX1_make_4 10 rfl rfl)
theorem dX1_make_106 : decode cX1_make 106 = .ok (.getfield 3, 3) := dk_180 0 3 (dk_at dksX1_make_4 11 rfl rfl)
theorem dX1_make_109 : decode cX1_make 109 = .ok (.aload_n 0, 1) := dk_42 (dk_at dksX1_make_4 14 rfl rfl)
theorem dX1_make_110 : decode cX1_make 110 = .ok (.getfield 36, 3) := dk_180 0 36 (dk_at dksX1_make_4 15 rfl rfl)
theorem dX1_make_113 : decode cX1_make 113 = .ok (.iload_n 2, 1) := dk_28 (dk_at dksX1_make_4 18 rfl rfl)
theorem dX1_make_114 : decode cX1_make 114 = .ok (.iaload, 1) := dk_46 (dk_at dksX1_make_4 19 rfl rfl)
theorem dX1_make_115 : decode cX1_make 115 = .ok (.aload_n 0, 1) := dk_42 (dk_at dksX1_make_4 20 rfl rfl)
theorem dX1_make_116 : decode cX1_make 116 = .ok (.getfield 39, 3) := dk_180 0 39 (dk_at dksX1_make_4 21 rfl rfl)
theorem dX1_make_119 : decode cX1_make 119 = .ok (.iload_n 2, 1) := dk_28 (dk_at dksX1_make_5 0 rfl rfl)
theorem dX1_make_120 : decode cX1_make 120 = .ok (.iaload, 1) := dk_46 (dk_at dksX1_make_5 1 rfl rfl)
theorem dX1_make_121 : decode cX1_make 121 = .ok (.aload_n 0, 1) := dk_42 (dk_at dksX1_make_5 2 rfl rfl)
theorem dX1_make_122 : decode cX1_make 122 = .ok (.getfield 42, 3) := dk_180 0 42 (dk_at dksX1_make_5 3 rfl rfl)
theorem dX1_make_125 : decode cX1_make 125 = .ok (.iload_n 2, 1) := dk_28 (dk_at dksX1_make_5 6 rfl rfl)
theorem dX1_make_126 : decode cX1_make 126 = .ok (.iaload, 1) := dk_46 (dk_at dksX1_make_5 7 rfl rfl)
theorem dX1_make_127 : decode cX1_make 127 = .ok (.invokevirtual 102, 3) := dk_182 0 102 (dk_at dksX1_make_5 8 rfl rfl)
theorem dX1_make_130 : decode cX1_make 130 = .ok (.aastore, 1) := dk_83 (dk_at dksX1_make_5 11 rfl rfl)
theorem dX1_make_131 : decode cX1_make 131 = .ok (.iinc 2 1, 3) := dk_132 2 1 (dk_at dksX1_make_5 12 rfl rfl)
theorem dX1_make_134 : decode cX1_make 134 = .ok (.goto (-52), 3) := dk_167 255 204 (dk_at dksX1_make_5 15 rfl rfl)
theorem dX1_make_137 : decode cX1_make 137 = .ok (.aload_n 1, 1) := dk_43 (dk_at dksX1_make_5 18 rfl rfl)
theorem dX1_make_138 : decode cX1_make 138 = .ok (.areturn, 1) := dk_176 (dk_at dksX1_make_5 19 rfl rfl)
theorem q110 : (Jvm.Cond.initialized "PlatesSing$Reader") ∈ lw_all := lw_g (lw_at lw_m1 2 rfl) rfl
theorem q140 : (Jvm.Cond.instantiable "PlatesSing$Reader" (12 : Nat)) ∈ lw_all := lw_g (lw_at lw_m1 32 rfl) rfl
theorem q142 : (Jvm.Cond.instanceMethod ({ cls := "PlatesSing$Reader", name := "<init>", desc := "(LPlatesSing;)V" } : Jvm.MethodName)) ∈ lw_all := lw_g (lw_at lw_m1 34 rfl) rfl
theorem q143 : (Jvm.Cond.code ({ cls := "PlatesSing$Reader", name := "<init>", desc := "(LPlatesSing;)V" } : Jvm.MethodName) prog_9_method_1_code (2 : Nat) (Option.none : Option Jvm.ClassFile.FieldType)) ∈ lw_all := lw_g (lw_at lw_m1 35 rfl) rfl
theorem q144 : (Jvm.Cond.methodLink "PlatesSing$Reader" (9 : Nat) ({ cls := "java/lang/Object", name := "<init>", desc := "()V" } : Jvm.MethodName)) ∈ lw_all := lw_g (lw_at lw_m1 36 rfl) rfl
theorem q145 : (Jvm.Cond.classLink "PlatesSing$Reader" (15 : Nat) "PlatesSing$Fault") ∈ lw_all := lw_g (lw_at lw_m1 37 rfl) rfl
theorem q184 : (Jvm.Cond.methodLink "PlatesSing$Reader" (17 : Nat) ({ cls := "PlatesSing$Fault", name := "<init>", desc := "()V" } : Jvm.MethodName)) ∈ lw_all := lw_g (lw_at lw_m1 76 rfl) rfl
theorem q210 : (Jvm.Cond.fieldLink "PlatesSing$Reader" (18 : Nat) "PlatesSing$Reader" "fault" "LPlatesSing$Fault;") ∈ lw_all := lw_g (lw_at lw_m1 102 rfl) rfl
theorem q211 : (Jvm.Cond.fieldLink "PlatesSing$Reader" (45 : Nat) "PlatesSing$Reader" "at" "I") ∈ lw_all := lw_g (lw_at lw_m1 103 rfl) rfl
theorem q212 : (Jvm.Cond.fieldLink "PlatesSing$Reader" (22 : Nat) "PlatesSing$Reader" "heavy" "[I") ∈ lw_all := lw_g (lw_at lw_m1 104 rfl) rfl
theorem q213 : (Jvm.Cond.fieldLink "PlatesSing$Reader" (69 : Nat) "PlatesSing$Reader" "corners" "I") ∈ lw_all := lw_g (lw_at lw_m1 105 rfl) rfl
theorem q214 : (Jvm.Cond.fieldLink "PlatesSing$Reader" (26 : Nat) "PlatesSing$Reader" "pad" "[I") ∈ lw_all := lw_g (lw_at lw_m1 106 rfl) rfl
theorem q215 : (Jvm.Cond.fieldLink "PlatesSing$Reader" (29 : Nat) "PlatesSing$Reader" "weight" "[I") ∈ lw_all := lw_g (lw_at lw_m1 107 rfl) rfl
theorem q216 : (Jvm.Cond.fieldLink "PlatesSing$Reader" (32 : Nat) "PlatesSing$Reader" "isHeld" "[Z") ∈ lw_all := lw_g (lw_at lw_m1 108 rfl) rfl
theorem q217 : (Jvm.Cond.fieldLink "PlatesSing$Reader" (36 : Nat) "PlatesSing$Reader" "from" "[I") ∈ lw_all := lw_g (lw_at lw_m1 109 rfl) rfl
theorem q218 : (Jvm.Cond.fieldLink "PlatesSing$Reader" (39 : Nat) "PlatesSing$Reader" "to" "[I") ∈ lw_all := lw_g (lw_at lw_m1 110 rfl) rfl
theorem q219 : (Jvm.Cond.fieldLink "PlatesSing$Reader" (42 : Nat) "PlatesSing$Reader" "stiff" "[I") ∈ lw_all := lw_g (lw_at lw_m1 111 rfl) rfl
theorem q220 : (Jvm.Cond.fieldLink "PlatesSing$Reader" (72 : Nat) "PlatesSing$Reader" "many" "I") ∈ lw_all := lw_g (lw_at lw_m1 112 rfl) rfl
theorem q222 : (Jvm.Cond.fieldLink "PlatesSing$Reader" (3 : Nat) "PlatesSing$Reader" "this$0" "LPlatesSing;") ∈ lw_all := lw_g (lw_at lw_m1 114 rfl) rfl
theorem q223 : (Jvm.Cond.laysFinal "PlatesSing$Reader" "PlatesSing$Reader" "fault" "LPlatesSing$Fault;") ∈ lw_all := lw_g (lw_at lw_m1 115 rfl) rfl
theorem q224 : (Jvm.Cond.soleField "PlatesSing$Reader" "fault") ∈ lw_all := lw_g (lw_at lw_m1 116 rfl) rfl
theorem q225 : (Jvm.Cond.lays "PlatesSing$Reader" "PlatesSing$Reader" "at" "I") ∈ lw_all := lw_g (lw_at lw_m1 117 rfl) rfl
theorem q226 : (Jvm.Cond.soleField "PlatesSing$Reader" "at") ∈ lw_all := lw_g (lw_at lw_m1 118 rfl) rfl
theorem q227 : (Jvm.Cond.laysFinal "PlatesSing$Reader" "PlatesSing$Reader" "heavy" "[I") ∈ lw_all := lw_g (lw_at lw_m1 119 rfl) rfl
theorem q228 : (Jvm.Cond.soleField "PlatesSing$Reader" "heavy") ∈ lw_all := lw_g (lw_at lw_m1 120 rfl) rfl
theorem q229 : (Jvm.Cond.lays "PlatesSing$Reader" "PlatesSing$Reader" "corners" "I") ∈ lw_all := lw_g (lw_at lw_m1 121 rfl) rfl
theorem q230 : (Jvm.Cond.soleField "PlatesSing$Reader" "corners") ∈ lw_all := lw_g (lw_at lw_m1 122 rfl) rfl
theorem q231 : (Jvm.Cond.laysFinal "PlatesSing$Reader" "PlatesSing$Reader" "pad" "[I") ∈ lw_all := lw_g (lw_at lw_m1 123 rfl) rfl
theorem q232 : (Jvm.Cond.soleField "PlatesSing$Reader" "pad") ∈ lw_all := lw_g (lw_at lw_m1 124 rfl) rfl
theorem q233 : (Jvm.Cond.laysFinal "PlatesSing$Reader" "PlatesSing$Reader" "weight" "[I") ∈ lw_all := lw_g (lw_at lw_m1 125 rfl) rfl
theorem q234 : (Jvm.Cond.soleField "PlatesSing$Reader" "weight") ∈ lw_all := lw_g (lw_at lw_m1 126 rfl) rfl
theorem q235 : (Jvm.Cond.laysFinal "PlatesSing$Reader" "PlatesSing$Reader" "isHeld" "[Z") ∈ lw_all := lw_g (lw_at lw_m1 127 rfl) rfl
theorem q236 : (Jvm.Cond.soleField "PlatesSing$Reader" "isHeld") ∈ lw_all := lw_g (lw_at lw_m1 128 rfl) rfl
theorem q237 : (Jvm.Cond.laysFinal "PlatesSing$Reader" "PlatesSing$Reader" "from" "[I") ∈ lw_all := lw_g (lw_at lw_m1 129 rfl) rfl
theorem q238 : (Jvm.Cond.soleField "PlatesSing$Reader" "from") ∈ lw_all := lw_g (lw_at lw_m1 130 rfl) rfl
theorem q239 : (Jvm.Cond.laysFinal "PlatesSing$Reader" "PlatesSing$Reader" "to" "[I") ∈ lw_all := lw_g (lw_at lw_m1 131 rfl) rfl
theorem q240 : (Jvm.Cond.soleField "PlatesSing$Reader" "to") ∈ lw_all := lw_g (lw_at lw_m1 132 rfl) rfl
theorem q241 : (Jvm.Cond.laysFinal "PlatesSing$Reader" "PlatesSing$Reader" "stiff" "[I") ∈ lw_all := lw_g (lw_at lw_m1 133 rfl) rfl
theorem q242 : (Jvm.Cond.soleField "PlatesSing$Reader" "stiff") ∈ lw_all := lw_g (lw_at lw_m1 134 rfl) rfl
theorem q243 : (Jvm.Cond.lays "PlatesSing$Reader" "PlatesSing$Reader" "many" "I") ∈ lw_all := lw_g (lw_at lw_m1 135 rfl) rfl
theorem q244 : (Jvm.Cond.soleField "PlatesSing$Reader" "many") ∈ lw_all := lw_g (lw_at lw_m1 136 rfl) rfl
theorem q245 : (Jvm.Cond.laysFinal "PlatesSing$Reader" "PlatesSing$Reader" "this$0" "LPlatesSing;") ∈ lw_all := lw_g (lw_at lw_m1 137 rfl) rfl
theorem q246 : (Jvm.Cond.soleField "PlatesSing$Reader" "this$0") ∈ lw_all := lw_g (lw_at lw_m1 138 rfl) rfl
theorem q247 : (Jvm.Cond.superclass "PlatesSing$Reader" "java/lang/Object") ∈ lw_all := lw_g (lw_at lw_m1 139 rfl) rfl
theorem q292 : (Jvm.Cond.fieldLinkNest "PlatesSing$Reader" (52 : Nat) "PlatesSing" "tape" "[I" "PlatesSing") ∈ lw_tbl := lw_at lw_m1 184 rfl
theorem q294 : (Jvm.Cond.fieldLinkNest "PlatesSing$Reader" (49 : Nat) "PlatesSing" "length" "I" "PlatesSing") ∈ lw_tbl := lw_at lw_m1 186 rfl
theorem q605 : (Jvm.Cond.instanceMethod ({ cls := "PlatesSing$Reader", name := "read", desc := "()I" } : Jvm.MethodName)) ∈ lw_all := lw_g (lw_at lw_m3 17 rfl) rfl
theorem q606 : (Jvm.Cond.selects "PlatesSing$Reader" ({ cls := "PlatesSing$Reader", name := "read", desc := "()I" } : Jvm.MethodName) ({ cls := "PlatesSing$Reader", name := "read", desc := "()I" } : Jvm.MethodName)) ∈ lw_all := lw_g (lw_at lw_m3 18 rfl) rfl
theorem q607 : (Jvm.Cond.codeWith ({ cls := "PlatesSing$Reader", name := "read", desc := "()I" } : Jvm.MethodName) prog_9_method_6_code (2 : Nat) (Option.some Jvm.ClassFile.FieldType.int) [((50 : Nat), (189 : Nat), (190 : Nat), (15 : Nat))]) ∈ lw_all := lw_g (lw_at lw_m3 19 rfl) rfl
theorem q608 : (Jvm.Cond.methodLink "PlatesSing$Reader" (55 : Nat) ({ cls := "PlatesSing$Reader", name := "next", desc := "()I" } : Jvm.MethodName)) ∈ lw_all := lw_g (lw_at lw_m3 20 rfl) rfl
theorem q609 : (Jvm.Cond.privateMethod ({ cls := "PlatesSing$Reader", name := "next", desc := "()I" } : Jvm.MethodName)) ∈ lw_tbl := lw_at lw_m3 21 rfl
theorem q610 : (Jvm.Cond.instanceMethod ({ cls := "PlatesSing$Reader", name := "next", desc := "()I" } : Jvm.MethodName)) ∈ lw_all := lw_g (lw_at lw_m3 22 rfl) rfl
theorem q611 : (Jvm.Cond.code ({ cls := "PlatesSing$Reader", name := "next", desc := "()I" } : Jvm.MethodName) prog_9_method_2_code (1 : Nat) (Option.some Jvm.ClassFile.FieldType.int)) ∈ lw_all := lw_g (lw_at lw_m3 23 rfl) rfl
theorem q612 : (Jvm.Cond.methodLink "PlatesSing$Reader" (75 : Nat) ({ cls := "PlatesSing$Reader", name := "digit", desc := "()I" } : Jvm.MethodName)) ∈ lw_all := lw_g (lw_at lw_m3 24 rfl) rfl
theorem q613 : (Jvm.Cond.privateMethod ({ cls := "PlatesSing$Reader", name := "digit", desc := "()I" } : Jvm.MethodName)) ∈ lw_tbl := lw_at lw_m3 25 rfl
theorem q614 : (Jvm.Cond.instanceMethod ({ cls := "PlatesSing$Reader", name := "digit", desc := "()I" } : Jvm.MethodName)) ∈ lw_all := lw_g (lw_at lw_m3 26 rfl) rfl
theorem q615 : (Jvm.Cond.code ({ cls := "PlatesSing$Reader", name := "digit", desc := "()I" } : Jvm.MethodName) prog_9_method_3_code (1 : Nat) (Option.some Jvm.ClassFile.FieldType.int)) ∈ lw_all := lw_g (lw_at lw_m3 27 rfl) rfl
theorem q616 : (Jvm.Cond.constantLong "PlatesSing$Reader" (59 : Nat) (49 : Int64)) ∈ lw_all := lw_g (lw_at lw_m3 28 rfl) rfl
theorem q617 : (Jvm.Cond.constantLong "PlatesSing$Reader" (61 : Nat) (57 : Int64)) ∈ lw_all := lw_g (lw_at lw_m3 29 rfl) rfl
theorem q618 : (Jvm.Cond.methodLinkNest "PlatesSing$Reader" (63 : Nat) ({ cls := "PlatesSing", name := "within", desc := "(JJJ)Z" } : Jvm.MethodName) "PlatesSing") ∈ lw_tbl := lw_at lw_m3 30 rfl
theorem q619 : (Jvm.Cond.methodLink "PlatesSing$Reader" (78 : Nat) ({ cls := "PlatesSing$Reader", name := "part", desc := "()V" } : Jvm.MethodName)) ∈ lw_all := lw_g (lw_at lw_m3 31 rfl) rfl
theorem q620 : (Jvm.Cond.privateMethod ({ cls := "PlatesSing$Reader", name := "part", desc := "()V" } : Jvm.MethodName)) ∈ lw_tbl := lw_at lw_m3 32 rfl
theorem q621 : (Jvm.Cond.instanceMethod ({ cls := "PlatesSing$Reader", name := "part", desc := "()V" } : Jvm.MethodName)) ∈ lw_all := lw_g (lw_at lw_m3 33 rfl) rfl
theorem q622 : (Jvm.Cond.code ({ cls := "PlatesSing$Reader", name := "part", desc := "()V" } : Jvm.MethodName) prog_9_method_7_code (5 : Nat) (Option.none : Option Jvm.ClassFile.FieldType)) ∈ lw_all := lw_g (lw_at lw_m3 34 rfl) rfl
theorem q623 : (Jvm.Cond.methodLink "PlatesSing$Reader" (81 : Nat) ({ cls := "PlatesSing$Reader", name := "corner", desc := "()I" } : Jvm.MethodName)) ∈ lw_all := lw_g (lw_at lw_m3 35 rfl) rfl
theorem q624 : (Jvm.Cond.privateMethod ({ cls := "PlatesSing$Reader", name := "corner", desc := "()I" } : Jvm.MethodName)) ∈ lw_tbl := lw_at lw_m3 36 rfl
theorem q625 : (Jvm.Cond.instanceMethod ({ cls := "PlatesSing$Reader", name := "corner", desc := "()I" } : Jvm.MethodName)) ∈ lw_all := lw_g (lw_at lw_m3 37 rfl) rfl
theorem q626 : (Jvm.Cond.code ({ cls := "PlatesSing$Reader", name := "corner", desc := "()I" } : Jvm.MethodName) prog_9_method_4_code (1 : Nat) (Option.some Jvm.ClassFile.FieldType.int)) ∈ lw_all := lw_g (lw_at lw_m3 38 rfl) rfl
theorem q627 : (Jvm.Cond.constantLong "PlatesSing$Reader" (67 : Nat) (97 : Int64)) ∈ lw_all := lw_g (lw_at lw_m3 39 rfl) rfl
theorem q628 : (Jvm.Cond.methodLink "PlatesSing$Reader" (84 : Nat) ({ cls := "PlatesSing$Reader", name := "has", desc := "(II)Z" } : Jvm.MethodName)) ∈ lw_all := lw_g (lw_at lw_m3 40 rfl) rfl
theorem q629 : (Jvm.Cond.privateMethod ({ cls := "PlatesSing$Reader", name := "has", desc := "(II)Z" } : Jvm.MethodName)) ∈ lw_tbl := lw_at lw_m3 41 rfl
theorem q630 : (Jvm.Cond.instanceMethod ({ cls := "PlatesSing$Reader", name := "has", desc := "(II)Z" } : Jvm.MethodName)) ∈ lw_all := lw_g (lw_at lw_m3 42 rfl) rfl
theorem q631 : (Jvm.Cond.code ({ cls := "PlatesSing$Reader", name := "has", desc := "(II)Z" } : Jvm.MethodName) prog_9_method_5_code (4 : Nat) (Option.some Jvm.ClassFile.FieldType.boolean)) ∈ lw_all := lw_g (lw_at lw_m3 43 rfl) rfl
theorem q633 : (Jvm.Cond.instanceMethod ({ cls := "PlatesSing$Reader", name := "make", desc := "()LPlatesSing$Shape;" } : Jvm.MethodName)) ∈ lw_all := lw_g (lw_at lw_m3 45 rfl) rfl
theorem q634 : (Jvm.Cond.selects "PlatesSing$Reader" ({ cls := "PlatesSing$Reader", name := "make", desc := "()LPlatesSing$Shape;" } : Jvm.MethodName) ({ cls := "PlatesSing$Reader", name := "make", desc := "()LPlatesSing$Shape;" } : Jvm.MethodName)) ∈ lw_all := lw_g (lw_at lw_m3 46 rfl) rfl
theorem q635 : (Jvm.Cond.code ({ cls := "PlatesSing$Reader", name := "make", desc := "()LPlatesSing$Shape;" } : Jvm.MethodName) prog_9_method_8_code (3 : Nat) (Option.some (Jvm.ClassFile.FieldType.object "PlatesSing$Shape"))) ∈ lw_all := lw_g (lw_at lw_m3 47 rfl) rfl
theorem q636 : (Jvm.Cond.classLink "PlatesSing$Reader" (88 : Nat) "PlatesSing$Shape") ∈ lw_all := lw_g (lw_at lw_m3 48 rfl) rfl
theorem q638 : (Jvm.Cond.methodLink "PlatesSing$Reader" (90 : Nat) ({ cls := "PlatesSing$Shape", name := "<init>", desc := "(LPlatesSing;I)V" } : Jvm.MethodName)) ∈ lw_all := lw_g (lw_at lw_m3 50 rfl) rfl
theorem q647 : (Jvm.Cond.fieldLinkNest "PlatesSing$Reader" (93 : Nat) "PlatesSing$Shape" "heavy" "[I" "PlatesSing") ∈ lw_tbl := lw_at lw_m3 59 rfl
theorem q650 : (Jvm.Cond.fieldLinkNest "PlatesSing$Reader" (94 : Nat) "PlatesSing$Shape" "pad" "[I" "PlatesSing") ∈ lw_tbl := lw_at lw_m3 62 rfl
theorem q653 : (Jvm.Cond.fieldLinkNest "PlatesSing$Reader" (95 : Nat) "PlatesSing$Shape" "weight" "[I" "PlatesSing") ∈ lw_tbl := lw_at lw_m3 65 rfl
theorem q656 : (Jvm.Cond.fieldLinkNest "PlatesSing$Reader" (96 : Nat) "PlatesSing$Shape" "isHeld" "[Z" "PlatesSing") ∈ lw_tbl := lw_at lw_m3 68 rfl
theorem q659 : (Jvm.Cond.fieldLinkNest "PlatesSing$Reader" (97 : Nat) "PlatesSing$Shape" "pieces" "[LPlatesSing$Piece;" "PlatesSing") ∈ lw_tbl := lw_at lw_m3 71 rfl
theorem q662 : (Jvm.Cond.fieldLinkNest "PlatesSing$Reader" (101 : Nat) "PlatesSing$Shape" "many" "I" "PlatesSing") ∈ lw_tbl := lw_at lw_m3 74 rfl
theorem q688 : (Jvm.Cond.methodLinkNest "PlatesSing$Reader" (102 : Nat) ({ cls := "PlatesSing", name := "newPiece", desc := "(III)LPlatesSing$Piece;" } : Jvm.MethodName) "PlatesSing") ∈ lw_tbl := lw_at lw_m3 100 rfl
theorem q2252 : (Jvm.Cond.castable "PlatesSing$Reader" "java/lang/Object") ∈ lw_tbl := lw_at lw_m9 224 rfl
theorem in_X1 : ∀ w ∈ wsX10, w ∈ lw_all := lw_in wsX10 [223, 225, 227, 229, 231, 233, 235, 237, 239, 241, 243, 245] (by decide +kernel) (by decide +kernel)

/-! PlatesSing$Cracked -/
set_option maxRecDepth 100000
def RX10 : String := "PlatesSing$Cracked"
def TX10 : u_T := fun k => match k with
  | 0 => ("PlatesSing$Part", "number", "I", true)
  | 1 => ("PlatesSing$Part", "this$0", "LPlatesSing;", true)
  | 2 => ("PlatesSing$Piece", "from", "I", false)
  | 3 => ("PlatesSing$Piece", "to", "I", false)
  | 4 => ("PlatesSing$Piece", "stiff", "I", false)
  | 5 => ("PlatesSing$Piece", "crack", "I", false)
  | 6 => ("PlatesSing$Piece", "this$0", "LPlatesSing;", true)
  | _ => ("PlatesSing$Cracked", "this$0", "LPlatesSing;", true)
def tyX10 : Nat → FieldType := fun k => match k with
  | 0 => .int
  | 1 => .object "PlatesSing"
  | 2 => .int
  | 3 => .int
  | 4 => .int
  | 5 => .int
  | 6 => .object "PlatesSing"
  | _ => .object "PlatesSing"
abbrev wsX100 : List Cond := u_ws RX10 TX10 8
-- two fields of one name: no nmX10
theorem tyX10_ok : ∀ k, k < 8 → parseFieldDescriptor (TX10 k).2.2.1 = some (tyX10 k) := by decide +kernel
abbrev cX10_init : ByteArray := prog_4_method_1_code
def yX10_init : MethodName := ⟨RX10, "<init>", "(LPlatesSing;I)V"⟩
def dkwX10_init_0 : List UInt8 := [42, 43, 181, 0, 1, 42, 43, 28, 183, 0, 7, 177]
abbrev dktX10_init_0 : List UInt8 := dkwX10_init_0 ++ []
theorem dksX10_init_0 : cX10_init.data.toList.drop 0 = dktX10_init_0 := by decide +kernel
theorem dX10_init_0 : decode cX10_init 0 = .ok (.aload_n 0, 1) := dk_42 (dk_at dksX10_init_0 0 rfl rfl)
theorem dX10_init_1 : decode cX10_init 1 = .ok (.aload_n 1, 1) := dk_43 (dk_at dksX10_init_0 1 rfl rfl)
theorem dX10_init_2 : decode cX10_init 2 = .ok (.putfield 1, 3) := dk_181 0 1 (dk_at dksX10_init_0 2 rfl rfl)
theorem dX10_init_5 : decode cX10_init 5 = .ok (.aload_n 0, 1) := dk_42 (dk_at dksX10_init_0 5 rfl rfl)
theorem dX10_init_6 : decode cX10_init 6 = .ok (.aload_n 1, 1) := dk_43 (dk_at dksX10_init_0 6 rfl rfl)
theorem dX10_init_7 : decode cX10_init 7 = .ok (.iload_n 2, 1) := dk_28 (dk_at dksX10_init_0 7 rfl rfl)
theorem dX10_init_8 : decode cX10_init 8 = .ok (.invokespecial 7, 3) := dk_183 0 7 (dk_at dksX10_init_0 8 rfl rfl)
theorem dX10_init_11 : decode cX10_init 11 = .ok (.return_, 1) := dk_177 (dk_at dksX10_init_0 11 rfl rfl)
abbrev cX10_stiffens : ByteArray := prog_4_method_4_code
def yX10_stiffens : MethodName := ⟨RX10, "stiffens", "(I)I"⟩
def dkwX10_stiffens_0 : List UInt8 := [42, 16, 50, 182, 0, 17, 42, 27, 183, 0, 21, 6, 130, 172]
abbrev dktX10_stiffens_0 : List UInt8 := dkwX10_stiffens_0 ++ []
theorem dksX10_stiffens_0 : cX10_stiffens.data.toList.drop 0 = dktX10_stiffens_0 := by decide +kernel
theorem dX10_stiffens_0 : decode cX10_stiffens 0 = .ok (.aload_n 0, 1) := dk_42 (dk_at dksX10_stiffens_0 0 rfl rfl)
theorem dX10_stiffens_1 : decode cX10_stiffens 1 = .ok (.bipush 50, 2) := dk_16 50 (dk_at dksX10_stiffens_0 1 rfl rfl)
theorem dX10_stiffens_3 : decode cX10_stiffens 3 = .ok (.invokevirtual 17, 3) := dk_182 0 17 (dk_at dksX10_stiffens_0 3 rfl rfl)
theorem dX10_stiffens_6 : decode cX10_stiffens 6 = .ok (.aload_n 0, 1) := dk_42 (dk_at dksX10_stiffens_0 6 rfl rfl)
theorem dX10_stiffens_7 : decode cX10_stiffens 7 = .ok (.iload_n 1, 1) := dk_27 (dk_at dksX10_stiffens_0 7 rfl rfl)
theorem dX10_stiffens_8 : decode cX10_stiffens 8 = .ok (.invokespecial 21, 3) := dk_183 0 21 (dk_at dksX10_stiffens_0 8 rfl rfl)
theorem dX10_stiffens_11 : decode cX10_stiffens 11 = .ok (.iconst 3, 1) := dk_6 (dk_at dksX10_stiffens_0 11 rfl rfl)
theorem dX10_stiffens_12 : decode cX10_stiffens 12 = .ok (.ixor, 1) := dk_130 (dk_at dksX10_stiffens_0 12 rfl rfl)
theorem dX10_stiffens_13 : decode cX10_stiffens 13 = .ok (.ireturn, 1) := dk_172 (dk_at dksX10_stiffens_0 13 rfl rfl)
abbrev cX10_tells : ByteArray := prog_4_method_5_code
def yX10_tells : MethodName := ⟨RX10, "tells", "(I)I"⟩
def dkwX10_tells_0 : List UInt8 := [42, 16, 51, 182, 0, 17, 42, 27, 4, 96, 183, 0, 25, 172]
abbrev dktX10_tells_0 : List UInt8 := dkwX10_tells_0 ++ []
theorem dksX10_tells_0 : cX10_tells.data.toList.drop 0 = dktX10_tells_0 := by decide +kernel
theorem dX10_tells_0 : decode cX10_tells 0 = .ok (.aload_n 0, 1) := dk_42 (dk_at dksX10_tells_0 0 rfl rfl)
theorem dX10_tells_1 : decode cX10_tells 1 = .ok (.bipush 51, 2) := dk_16 51 (dk_at dksX10_tells_0 1 rfl rfl)
theorem dX10_tells_3 : decode cX10_tells 3 = .ok (.invokevirtual 17, 3) := dk_182 0 17 (dk_at dksX10_tells_0 3 rfl rfl)
theorem dX10_tells_6 : decode cX10_tells 6 = .ok (.aload_n 0, 1) := dk_42 (dk_at dksX10_tells_0 6 rfl rfl)
theorem dX10_tells_7 : decode cX10_tells 7 = .ok (.iload_n 1, 1) := dk_27 (dk_at dksX10_tells_0 7 rfl rfl)
theorem dX10_tells_8 : decode cX10_tells 8 = .ok (.iconst 1, 1) := dk_4 (dk_at dksX10_tells_0 8 rfl rfl)
theorem dX10_tells_9 : decode cX10_tells 9 = .ok (.iadd, 1) := dk_96 (dk_at dksX10_tells_0 9 rfl rfl)
theorem dX10_tells_10 : decode cX10_tells 10 = .ok (.invokespecial 25, 3) := dk_183 0 25 (dk_at dksX10_tells_0 10 rfl rfl)
theorem dX10_tells_13 : decode cX10_tells 13 = .ok (.ireturn, 1) := dk_172 (dk_at dksX10_tells_0 13 rfl rfl)
abbrev cX10_isUnder : ByteArray := prog_4_method_3_code
def yX10_isUnder : MethodName := ⟨RX10, "isUnder", "(I)Z"⟩
def dkwX10_isUnder_0 : List UInt8 := [27, 7, 159, 0, 11, 42, 27, 183, 0, 13, 153, 0, 7, 4, 167, 0, 4, 3, 172]
abbrev dktX10_isUnder_0 : List UInt8 := dkwX10_isUnder_0 ++ []
theorem dksX10_isUnder_0 : cX10_isUnder.data.toList.drop 0 = dktX10_isUnder_0 := by decide +kernel
theorem dX10_isUnder_0 : decode cX10_isUnder 0 = .ok (.iload_n 1, 1) := dk_27 (dk_at dksX10_isUnder_0 0 rfl rfl)
theorem dX10_isUnder_1 : decode cX10_isUnder 1 = .ok (.iconst 4, 1) := dk_7 (dk_at dksX10_isUnder_0 1 rfl rfl)
theorem dX10_isUnder_2 : decode cX10_isUnder 2 = .ok (.if_icmp .eq 11, 3) := dk_159 0 11 (dk_at dksX10_isUnder_0 2 rfl rfl)
theorem dX10_isUnder_5 : decode cX10_isUnder 5 = .ok (.aload_n 0, 1) := dk_42 (dk_at dksX10_isUnder_0 5 rfl rfl)
theorem dX10_isUnder_6 : decode cX10_isUnder 6 = .ok (.iload_n 1, 1) := dk_27 (dk_at dksX10_isUnder_0 6 rfl rfl)
theorem dX10_isUnder_7 : decode cX10_isUnder 7 = .ok (.invokespecial 13, 3) := dk_183 0 13 (dk_at dksX10_isUnder_0 7 rfl rfl)
theorem dX10_isUnder_10 : decode cX10_isUnder 10 = .ok (.ifCond .eq 7, 3) := dk_153 0 7 (dk_at dksX10_isUnder_0 10 rfl rfl)
theorem dX10_isUnder_13 : decode cX10_isUnder 13 = .ok (.iconst 1, 1) := dk_4 (dk_at dksX10_isUnder_0 13 rfl rfl)
theorem dX10_isUnder_14 : decode cX10_isUnder 14 = .ok (.goto 4, 3) := dk_167 0 4 (dk_at dksX10_isUnder_0 14 rfl rfl)
theorem dX10_isUnder_17 : decode cX10_isUnder 17 = .ok (.iconst 0, 1) := dk_3 (dk_at dksX10_isUnder_0 17 rfl rfl)
theorem dX10_isUnder_18 : decode cX10_isUnder 18 = .ok (.ireturn, 1) := dk_172 (dk_at dksX10_isUnder_0 18 rfl rfl)
abbrev cX10_kind : ByteArray := prog_4_method_2_code
def yX10_kind : MethodName := ⟨RX10, "kind", "()I"⟩
theorem dX10_kind_0 : decode cX10_kind 0 = .ok (.iconst 4, 1) := by decide +kernel
theorem dX10_kind_1 : decode cX10_kind 1 = .ok (.ireturn, 1) := by decide +kernel
theorem q125 : (Jvm.Cond.initialized "PlatesSing$Cracked") ∈ lw_all := lw_g (lw_at lw_m1 17 rfl) rfl
theorem q561 : (Jvm.Cond.instantiable "PlatesSing$Cracked" (8 : Nat)) ∈ lw_all := lw_g (lw_at lw_m2 213 rfl) rfl
theorem q563 : (Jvm.Cond.instanceMethod ({ cls := "PlatesSing$Cracked", name := "<init>", desc := "(LPlatesSing;I)V" } : Jvm.MethodName)) ∈ lw_all := lw_g (lw_at lw_m2 215 rfl) rfl
theorem q564 : (Jvm.Cond.code ({ cls := "PlatesSing$Cracked", name := "<init>", desc := "(LPlatesSing;I)V" } : Jvm.MethodName) prog_4_method_1_code (3 : Nat) (Option.none : Option Jvm.ClassFile.FieldType)) ∈ lw_all := lw_g (lw_at lw_m2 216 rfl) rfl
theorem q565 : (Jvm.Cond.methodLink "PlatesSing$Cracked" (7 : Nat) ({ cls := "PlatesSing$Piece", name := "<init>", desc := "(LPlatesSing;I)V" } : Jvm.MethodName)) ∈ lw_all := lw_g (lw_at lw_m2 217 rfl) rfl
theorem q566 : (Jvm.Cond.fieldLink "PlatesSing$Cracked" (1 : Nat) "PlatesSing$Cracked" "this$0" "LPlatesSing;") ∈ lw_all := lw_g (lw_at lw_m2 218 rfl) rfl
theorem q567 : (Jvm.Cond.laysFinal "PlatesSing$Cracked" "PlatesSing$Cracked" "this$0" "LPlatesSing;") ∈ lw_all := lw_g (lw_at lw_m2 219 rfl) rfl
theorem q568 : (Jvm.Cond.soleField "PlatesSing$Cracked" "this$0") ∈ lw_all := lw_g (lw_at lw_m2 220 rfl) rfl
theorem q569 : (Jvm.Cond.lays "PlatesSing$Cracked" "PlatesSing$Piece" "from" "I") ∈ lw_all := lw_g (lw_at lw_m2 221 rfl) rfl
theorem q570 : (Jvm.Cond.lays "PlatesSing$Cracked" "PlatesSing$Piece" "to" "I") ∈ lw_all := lw_g (lw_at lw_m2 222 rfl) rfl
theorem q571 : (Jvm.Cond.lays "PlatesSing$Cracked" "PlatesSing$Piece" "stiff" "I") ∈ lw_all := lw_g (lw_at lw_m2 223 rfl) rfl
theorem q572 : (Jvm.Cond.lays "PlatesSing$Cracked" "PlatesSing$Piece" "crack" "I") ∈ lw_all := lw_g (lw_at lw_m2 224 rfl) rfl
theorem q573 : (Jvm.Cond.laysFinal "PlatesSing$Cracked" "PlatesSing$Piece" "this$0" "LPlatesSing;") ∈ lw_all := lw_g (lw_at lw_m2 225 rfl) rfl
theorem q574 : (Jvm.Cond.laysFinal "PlatesSing$Cracked" "PlatesSing$Part" "number" "I") ∈ lw_all := lw_g (lw_at lw_m2 226 rfl) rfl
theorem q575 : (Jvm.Cond.laysFinal "PlatesSing$Cracked" "PlatesSing$Part" "this$0" "LPlatesSing;") ∈ lw_all := lw_g (lw_at lw_m2 227 rfl) rfl
theorem q576 : (Jvm.Cond.superclass "PlatesSing$Cracked" "PlatesSing$Piece") ∈ lw_all := lw_g (lw_at lw_m2 228 rfl) rfl
theorem q738 : (Jvm.Cond.selects "PlatesSing$Cracked" ({ cls := "PlatesSing$Piece", name := "isAt", desc := "(I)Z" } : Jvm.MethodName) ({ cls := "PlatesSing$Piece", name := "isAt", desc := "(I)Z" } : Jvm.MethodName)) ∈ lw_all := lw_g (lw_at lw_m3 150 rfl) rfl
theorem q811 : (Jvm.Cond.selects "PlatesSing$Cracked" ({ cls := "PlatesSing$Piece", name := "counts", desc := "()I" } : Jvm.MethodName) ({ cls := "PlatesSing$Piece", name := "counts", desc := "()I" } : Jvm.MethodName)) ∈ lw_all := lw_g (lw_at lw_m3 223 rfl) rfl
theorem q1126 : (Jvm.Cond.instanceMethod ({ cls := "PlatesSing$Cracked", name := "stiffens", desc := "(I)I" } : Jvm.MethodName)) ∈ lw_all := lw_g (lw_at lw_m5 58 rfl) rfl
theorem q1127 : (Jvm.Cond.code ({ cls := "PlatesSing$Cracked", name := "stiffens", desc := "(I)I" } : Jvm.MethodName) prog_4_method_4_code (2 : Nat) (Option.some Jvm.ClassFile.FieldType.int)) ∈ lw_all := lw_g (lw_at lw_m5 59 rfl) rfl
theorem q1128 : (Jvm.Cond.methodLink "PlatesSing$Cracked" (17 : Nat) ({ cls := "PlatesSing$Cracked", name := "begins", desc := "(I)V" } : Jvm.MethodName)) ∈ lw_all := lw_g (lw_at lw_m5 60 rfl) rfl
theorem q1129 : (Jvm.Cond.sameMethod "PlatesSing$Cracked" "PlatesSing$Part" "begins" "(I)V") ∈ lw_all := lw_g (lw_at lw_m5 61 rfl) rfl
theorem q1132 : (Jvm.Cond.selects "PlatesSing$Cracked" ({ cls := "PlatesSing$Cracked", name := "begins", desc := "(I)V" } : Jvm.MethodName) ({ cls := "PlatesSing$Part", name := "begins", desc := "(I)V" } : Jvm.MethodName)) ∈ lw_all := lw_g (lw_at lw_m5 64 rfl) rfl
theorem q1135 : (Jvm.Cond.methodLink "PlatesSing$Cracked" (21 : Nat) ({ cls := "PlatesSing$Piece", name := "stiffens", desc := "(I)I" } : Jvm.MethodName)) ∈ lw_all := lw_g (lw_at lw_m5 67 rfl) rfl
theorem q1141 : (Jvm.Cond.selects "PlatesSing$Cracked" ({ cls := "PlatesSing$Piece", name := "begins", desc := "(I)V" } : Jvm.MethodName) ({ cls := "PlatesSing$Part", name := "begins", desc := "(I)V" } : Jvm.MethodName)) ∈ lw_all := lw_g (lw_at lw_m5 73 rfl) rfl
theorem q1154 : (Jvm.Cond.castable "PlatesSing$Cracked" "PlatesSing$Stiffens") ∈ lw_tbl := lw_at lw_m5 86 rfl
theorem q1155 : (Jvm.Cond.selects "PlatesSing$Cracked" ({ cls := "PlatesSing$Stiffens", name := "begins", desc := "(I)V" } : Jvm.MethodName) ({ cls := "PlatesSing$Part", name := "begins", desc := "(I)V" } : Jvm.MethodName)) ∈ lw_all := lw_g (lw_at lw_m5 87 rfl) rfl
theorem q1156 : (Jvm.Cond.unhidden "PlatesSing$Cracked" "begins" "(I)V") ∈ lw_tbl := lw_at lw_m5 88 rfl
theorem q1178 : (Jvm.Cond.selects "PlatesSing$Cracked" ({ cls := "PlatesSing$Stiffens", name := "stiff", desc := "()I" } : Jvm.MethodName) ({ cls := "PlatesSing$Piece", name := "stiff", desc := "()I" } : Jvm.MethodName)) ∈ lw_all := lw_g (lw_at lw_m5 110 rfl) rfl
theorem q1179 : (Jvm.Cond.unhidden "PlatesSing$Cracked" "stiff" "()I") ∈ lw_tbl := lw_at lw_m5 111 rfl
theorem q1191 : (Jvm.Cond.selects "PlatesSing$Cracked" ({ cls := "PlatesSing$Stiffens", name := "stiffens", desc := "(I)I" } : Jvm.MethodName) ({ cls := "PlatesSing$Cracked", name := "stiffens", desc := "(I)I" } : Jvm.MethodName)) ∈ lw_all := lw_g (lw_at lw_m5 123 rfl) rfl
theorem q1202 : (Jvm.Cond.selects "PlatesSing$Cracked" ({ cls := "PlatesSing$Part", name := "weighs", desc := "(I)I" } : Jvm.MethodName) ({ cls := "PlatesSing$Part", name := "weighs", desc := "(I)I" } : Jvm.MethodName)) ∈ lw_all := lw_g (lw_at lw_m5 134 rfl) rfl
theorem q1237 : (Jvm.Cond.sameMethod "PlatesSing$Cracked" "PlatesSing$Part" "sounds" "(I)I") ∈ lw_all := lw_g (lw_at lw_m5 169 rfl) rfl
theorem q1242 : (Jvm.Cond.selects "PlatesSing$Cracked" ({ cls := "PlatesSing$Part", name := "sounds", desc := "(I)I" } : Jvm.MethodName) ({ cls := "PlatesSing$Part", name := "sounds", desc := "(I)I" } : Jvm.MethodName)) ∈ lw_all := lw_g (lw_at lw_m5 174 rfl) rfl
theorem q1256 : (Jvm.Cond.instanceMethod ({ cls := "PlatesSing$Cracked", name := "tells", desc := "(I)I" } : Jvm.MethodName)) ∈ lw_all := lw_g (lw_at lw_m5 188 rfl) rfl
theorem q1257 : (Jvm.Cond.code ({ cls := "PlatesSing$Cracked", name := "tells", desc := "(I)I" } : Jvm.MethodName) prog_4_method_5_code (2 : Nat) (Option.some Jvm.ClassFile.FieldType.int)) ∈ lw_all := lw_g (lw_at lw_m5 189 rfl) rfl
theorem q1266 : (Jvm.Cond.castable "PlatesSing$Cracked" "PlatesSing$Tells") ∈ lw_tbl := lw_at lw_m5 198 rfl
theorem q1267 : (Jvm.Cond.selects "PlatesSing$Cracked" ({ cls := "PlatesSing$Tells", name := "begins", desc := "(I)V" } : Jvm.MethodName) ({ cls := "PlatesSing$Part", name := "begins", desc := "(I)V" } : Jvm.MethodName)) ∈ lw_all := lw_g (lw_at lw_m5 199 rfl) rfl
theorem q1283 : (Jvm.Cond.selects "PlatesSing$Cracked" ({ cls := "PlatesSing$Tells", name := "weighs", desc := "(I)I" } : Jvm.MethodName) ({ cls := "PlatesSing$Part", name := "weighs", desc := "(I)I" } : Jvm.MethodName)) ∈ lw_all := lw_g (lw_at lw_m5 215 rfl) rfl
theorem q1284 : (Jvm.Cond.unhidden "PlatesSing$Cracked" "weighs" "(I)I") ∈ lw_tbl := lw_at lw_m5 216 rfl
theorem q1302 : (Jvm.Cond.selects "PlatesSing$Cracked" ({ cls := "PlatesSing$Tells", name := "sounds", desc := "(I)I" } : Jvm.MethodName) ({ cls := "PlatesSing$Part", name := "sounds", desc := "(I)I" } : Jvm.MethodName)) ∈ lw_all := lw_g (lw_at lw_m5 234 rfl) rfl
theorem q1303 : (Jvm.Cond.unhidden "PlatesSing$Cracked" "sounds" "(I)I") ∈ lw_tbl := lw_at lw_m5 235 rfl
theorem q1314 : (Jvm.Cond.selects "PlatesSing$Cracked" ({ cls := "PlatesSing$Tells", name := "tells", desc := "(I)I" } : Jvm.MethodName) ({ cls := "PlatesSing$Cracked", name := "tells", desc := "(I)I" } : Jvm.MethodName)) ∈ lw_all := lw_g (lw_at lw_m6 6 rfl) rfl
theorem q1370 : (Jvm.Cond.instanceMethod ({ cls := "PlatesSing$Cracked", name := "isUnder", desc := "(I)Z" } : Jvm.MethodName)) ∈ lw_all := lw_g (lw_at lw_m6 62 rfl) rfl
theorem q1371 : (Jvm.Cond.code ({ cls := "PlatesSing$Cracked", name := "isUnder", desc := "(I)Z" } : Jvm.MethodName) prog_4_method_3_code (2 : Nat) (Option.some Jvm.ClassFile.FieldType.boolean)) ∈ lw_all := lw_g (lw_at lw_m6 63 rfl) rfl
theorem q1372 : (Jvm.Cond.methodLink "PlatesSing$Cracked" (13 : Nat) ({ cls := "PlatesSing$Piece", name := "isUnder", desc := "(I)Z" } : Jvm.MethodName)) ∈ lw_all := lw_g (lw_at lw_m6 64 rfl) rfl
theorem q1376 : (Jvm.Cond.selects "PlatesSing$Cracked" ({ cls := "PlatesSing$Part", name := "isUnder", desc := "(I)Z" } : Jvm.MethodName) ({ cls := "PlatesSing$Cracked", name := "isUnder", desc := "(I)Z" } : Jvm.MethodName)) ∈ lw_all := lw_g (lw_at lw_m6 68 rfl) rfl
theorem q1394 : (Jvm.Cond.selects "PlatesSing$Cracked" ({ cls := "PlatesSing$Part", name := "kind", desc := "()I" } : Jvm.MethodName) ({ cls := "PlatesSing$Cracked", name := "kind", desc := "()I" } : Jvm.MethodName)) ∈ lw_all := lw_g (lw_at lw_m6 86 rfl) rfl
theorem q1395 : (Jvm.Cond.instanceMethod ({ cls := "PlatesSing$Cracked", name := "kind", desc := "()I" } : Jvm.MethodName)) ∈ lw_all := lw_g (lw_at lw_m6 87 rfl) rfl
theorem q1396 : (Jvm.Cond.code ({ cls := "PlatesSing$Cracked", name := "kind", desc := "()I" } : Jvm.MethodName) prog_4_method_2_code (1 : Nat) (Option.some Jvm.ClassFile.FieldType.int)) ∈ lw_all := lw_g (lw_at lw_m6 88 rfl) rfl
theorem q2238 : (Jvm.Cond.selects "PlatesSing$Cracked" ({ cls := "PlatesSing$Part", name := "begins", desc := "(I)V" } : Jvm.MethodName) ({ cls := "PlatesSing$Part", name := "begins", desc := "(I)V" } : Jvm.MethodName)) ∈ lw_all := lw_g (lw_at lw_m9 210 rfl) rfl
theorem q2243 : (Jvm.Cond.sameMethod "PlatesSing$Cracked" "PlatesSing$Cracked" "tells" "(I)I") ∈ lw_all := lw_g (lw_at lw_m9 215 rfl) rfl
theorem q2244 : (Jvm.Cond.sameMethod "PlatesSing$Cracked" "PlatesSing$Cracked" "isUnder" "(I)Z") ∈ lw_all := lw_g (lw_at lw_m9 216 rfl) rfl
theorem q2247 : (Jvm.Cond.castable "PlatesSing$Cracked" "PlatesSing$Part") ∈ lw_tbl := lw_at lw_m9 219 rfl
theorem q2261 : (Jvm.Cond.castable "PlatesSing$Cracked" "java/lang/Object") ∈ lw_tbl := lw_at lw_m9 233 rfl
theorem q2265 : (Jvm.Cond.castable "PlatesSing$Cracked" "PlatesSing$Piece") ∈ lw_tbl := lw_at lw_m9 237 rfl
theorem in_X10 : ∀ w ∈ wsX100, w ∈ lw_all := lw_in wsX100 [574, 575, 569, 570, 571, 572, 573, 567] (by decide +kernel) (by decide +kernel)

/-! PlatesSing$Bent -/
set_option maxRecDepth 100000
def RX11 : String := "PlatesSing$Bent"
def TX11 : u_T := fun k => match k with
  | 0 => ("PlatesSing$Part", "number", "I", true)
  | 1 => ("PlatesSing$Part", "this$0", "LPlatesSing;", true)
  | 2 => ("PlatesSing$Piece", "from", "I", false)
  | 3 => ("PlatesSing$Piece", "to", "I", false)
  | 4 => ("PlatesSing$Piece", "stiff", "I", false)
  | 5 => ("PlatesSing$Piece", "crack", "I", false)
  | 6 => ("PlatesSing$Piece", "this$0", "LPlatesSing;", true)
  | 7 => ("PlatesSing$Cracked", "this$0", "LPlatesSing;", true)
  | _ => ("PlatesSing$Bent", "this$0", "LPlatesSing;", true)
def tyX11 : Nat → FieldType := fun k => match k with
  | 0 => .int
  | 1 => .object "PlatesSing"
  | 2 => .int
  | 3 => .int
  | 4 => .int
  | 5 => .int
  | 6 => .object "PlatesSing"
  | 7 => .object "PlatesSing"
  | _ => .object "PlatesSing"
abbrev wsX110 : List Cond := u_ws RX11 TX11 9
-- two fields of one name: no nmX11
theorem tyX11_ok : ∀ k, k < 9 → parseFieldDescriptor (TX11 k).2.2.1 = some (tyX11 k) := by decide +kernel
abbrev cX11_init : ByteArray := prog_3_method_1_code
def yX11_init : MethodName := ⟨RX11, "<init>", "(LPlatesSing;I)V"⟩
def dkwX11_init_0 : List UInt8 := [42, 43, 181, 0, 1, 42, 43, 28, 183, 0, 7, 177]
abbrev dktX11_init_0 : List UInt8 := dkwX11_init_0 ++ []
theorem dksX11_init_0 : cX11_init.data.toList.drop 0 = dktX11_init_0 := by decide +kernel
theorem dX11_init_0 : decode cX11_init 0 = .ok (.aload_n 0, 1) := dk_42 (dk_at dksX11_init_0 0 rfl rfl)
theorem dX11_init_1 : decode cX11_init 1 = .ok (.aload_n 1, 1) := dk_43 (dk_at dksX11_init_0 1 rfl rfl)
theorem dX11_init_2 : decode cX11_init 2 = .ok (.putfield 1, 3) := dk_181 0 1 (dk_at dksX11_init_0 2 rfl rfl)
theorem dX11_init_5 : decode cX11_init 5 = .ok (.aload_n 0, 1) := dk_42 (dk_at dksX11_init_0 5 rfl rfl)
theorem dX11_init_6 : decode cX11_init 6 = .ok (.aload_n 1, 1) := dk_43 (dk_at dksX11_init_0 6 rfl rfl)
theorem dX11_init_7 : decode cX11_init 7 = .ok (.iload_n 2, 1) := dk_28 (dk_at dksX11_init_0 7 rfl rfl)
theorem dX11_init_8 : decode cX11_init 8 = .ok (.invokespecial 7, 3) := dk_183 0 7 (dk_at dksX11_init_0 8 rfl rfl)
theorem dX11_init_11 : decode cX11_init 11 = .ok (.return_, 1) := dk_177 (dk_at dksX11_init_0 11 rfl rfl)
abbrev cX11_sounds : ByteArray := prog_3_method_4_code
def yX11_sounds : MethodName := ⟨RX11, "sounds", "(I)I"⟩
def dkwX11_sounds_0 : List UInt8 := [42, 16, 60, 182, 0, 17, 42, 27, 183, 0, 21, 61, 28, 42, 4, 182, 0, 25, 96, 172]
abbrev dktX11_sounds_0 : List UInt8 := dkwX11_sounds_0 ++ []
theorem dksX11_sounds_0 : cX11_sounds.data.toList.drop 0 = dktX11_sounds_0 := by decide +kernel
theorem dX11_sounds_0 : decode cX11_sounds 0 = .ok (.aload_n 0, 1) := dk_42 (dk_at dksX11_sounds_0 0 rfl rfl)
theorem dX11_sounds_1 : decode cX11_sounds 1 = .ok (.bipush 60, 2) := dk_16 60 (dk_at dksX11_sounds_0 1 rfl rfl)
theorem dX11_sounds_3 : decode cX11_sounds 3 = .ok (.invokevirtual 17, 3) := dk_182 0 17 (dk_at dksX11_sounds_0 3 rfl rfl)
theorem dX11_sounds_6 : decode cX11_sounds 6 = .ok (.aload_n 0, 1) := dk_42 (dk_at dksX11_sounds_0 6 rfl rfl)
theorem dX11_sounds_7 : decode cX11_sounds 7 = .ok (.iload_n 1, 1) := dk_27 (dk_at dksX11_sounds_0 7 rfl rfl)
theorem dX11_sounds_8 : decode cX11_sounds 8 = .ok (.invokespecial 21, 3) := dk_183 0 21 (dk_at dksX11_sounds_0 8 rfl rfl)
theorem dX11_sounds_11 : decode cX11_sounds 11 = .ok (.istore_n 2, 1) := dk_61 (dk_at dksX11_sounds_0 11 rfl rfl)
theorem dX11_sounds_12 : decode cX11_sounds 12 = .ok (.iload_n 2, 1) := dk_28 (dk_at dksX11_sounds_0 12 rfl rfl)
theorem dX11_sounds_13 : decode cX11_sounds 13 = .ok (.aload_n 0, 1) := dk_42 (dk_at dksX11_sounds_0 13 rfl rfl)
theorem dX11_sounds_14 : decode cX11_sounds 14 = .ok (.iconst 1, 1) := dk_4 (dk_at dksX11_sounds_0 14 rfl rfl)
theorem dX11_sounds_15 : decode cX11_sounds 15 = .ok (.invokevirtual 25, 3) := dk_182 0 25 (dk_at dksX11_sounds_0 15 rfl rfl)
theorem dX11_sounds_18 : decode cX11_sounds 18 = .ok (.iadd, 1) := dk_96 (dk_at dksX11_sounds_0 18 rfl rfl)
theorem dX11_sounds_19 : decode cX11_sounds 19 = .ok (.ireturn, 1) := dk_172 (dk_at dksX11_sounds_0 19 rfl rfl)
abbrev cX11_tells : ByteArray := prog_3_method_5_code
def yX11_tells : MethodName := ⟨RX11, "tells", "(I)I"⟩
def dkwX11_tells_0 : List UInt8 := [42, 16, 61, 182, 0, 17, 42, 27, 183, 0, 28, 5, 104, 172]
abbrev dktX11_tells_0 : List UInt8 := dkwX11_tells_0 ++ []
theorem dksX11_tells_0 : cX11_tells.data.toList.drop 0 = dktX11_tells_0 := by decide +kernel
theorem dX11_tells_0 : decode cX11_tells 0 = .ok (.aload_n 0, 1) := dk_42 (dk_at dksX11_tells_0 0 rfl rfl)
theorem dX11_tells_1 : decode cX11_tells 1 = .ok (.bipush 61, 2) := dk_16 61 (dk_at dksX11_tells_0 1 rfl rfl)
theorem dX11_tells_3 : decode cX11_tells 3 = .ok (.invokevirtual 17, 3) := dk_182 0 17 (dk_at dksX11_tells_0 3 rfl rfl)
theorem dX11_tells_6 : decode cX11_tells 6 = .ok (.aload_n 0, 1) := dk_42 (dk_at dksX11_tells_0 6 rfl rfl)
theorem dX11_tells_7 : decode cX11_tells 7 = .ok (.iload_n 1, 1) := dk_27 (dk_at dksX11_tells_0 7 rfl rfl)
theorem dX11_tells_8 : decode cX11_tells 8 = .ok (.invokespecial 28, 3) := dk_183 0 28 (dk_at dksX11_tells_0 8 rfl rfl)
theorem dX11_tells_11 : decode cX11_tells 11 = .ok (.iconst 2, 1) := dk_5 (dk_at dksX11_tells_0 11 rfl rfl)
theorem dX11_tells_12 : decode cX11_tells 12 = .ok (.imul, 1) := dk_104 (dk_at dksX11_tells_0 12 rfl rfl)
theorem dX11_tells_13 : decode cX11_tells 13 = .ok (.ireturn, 1) := dk_172 (dk_at dksX11_tells_0 13 rfl rfl)
abbrev cX11_isUnder : ByteArray := prog_3_method_3_code
def yX11_isUnder : MethodName := ⟨RX11, "isUnder", "(I)Z"⟩
def dkwX11_isUnder_0 : List UInt8 := [27, 8, 159, 0, 11, 42, 27, 183, 0, 13, 153, 0, 7, 4, 167, 0, 4, 3, 172]
abbrev dktX11_isUnder_0 : List UInt8 := dkwX11_isUnder_0 ++ []
theorem dksX11_isUnder_0 : cX11_isUnder.data.toList.drop 0 = dktX11_isUnder_0 := by decide +kernel
theorem dX11_isUnder_0 : decode cX11_isUnder 0 = .ok (.iload_n 1, 1) := dk_27 (dk_at dksX11_isUnder_0 0 rfl rfl)
theorem dX11_isUnder_1 : decode cX11_isUnder 1 = .ok (.iconst 5, 1) := dk_8 (dk_at dksX11_isUnder_0 1 rfl rfl)
theorem dX11_isUnder_2 : decode cX11_isUnder 2 = .ok (.if_icmp .eq 11, 3) := dk_159 0 11 (dk_at dksX11_isUnder_0 2 rfl rfl)
theorem dX11_isUnder_5 : decode cX11_isUnder 5 = .ok (.aload_n 0, 1) := dk_42 (dk_at dksX11_isUnder_0 5 rfl rfl)
theorem dX11_isUnder_6 : decode cX11_isUnder 6 = .ok (.iload_n 1, 1) := dk_27 (dk_at dksX11_isUnder_0 6 rfl rfl)
theorem dX11_isUnder_7 : decode cX11_isUnder 7 = .ok (.invokespecial 13, 3) := dk_183 0 13 (dk_at dksX11_isUnder_0 7 rfl rfl)
theorem dX11_isUnder_10 : decode cX11_isUnder 10 = .ok (.ifCond .eq 7, 3) := dk_153 0 7 (dk_at dksX11_isUnder_0 10 rfl rfl)
theorem dX11_isUnder_13 : decode cX11_isUnder 13 = .ok (.iconst 1, 1) := dk_4 (dk_at dksX11_isUnder_0 13 rfl rfl)
theorem dX11_isUnder_14 : decode cX11_isUnder 14 = .ok (.goto 4, 3) := dk_167 0 4 (dk_at dksX11_isUnder_0 14 rfl rfl)
theorem dX11_isUnder_17 : decode cX11_isUnder 17 = .ok (.iconst 0, 1) := dk_3 (dk_at dksX11_isUnder_0 17 rfl rfl)
theorem dX11_isUnder_18 : decode cX11_isUnder 18 = .ok (.ireturn, 1) := dk_172 (dk_at dksX11_isUnder_0 18 rfl rfl)
abbrev cX11_kind : ByteArray := prog_3_method_2_code
def yX11_kind : MethodName := ⟨RX11, "kind", "()I"⟩
theorem dX11_kind_0 : decode cX11_kind 0 = .ok (.iconst 5, 1) := by decide +kernel
theorem dX11_kind_1 : decode cX11_kind 1 = .ok (.ireturn, 1) := by decide +kernel
theorem q126 : (Jvm.Cond.initialized "PlatesSing$Bent") ∈ lw_all := lw_g (lw_at lw_m1 18 rfl) rfl
theorem q578 : (Jvm.Cond.instantiable "PlatesSing$Bent" (9 : Nat)) ∈ lw_all := lw_g (lw_at lw_m2 230 rfl) rfl
theorem q580 : (Jvm.Cond.instanceMethod ({ cls := "PlatesSing$Bent", name := "<init>", desc := "(LPlatesSing;I)V" } : Jvm.MethodName)) ∈ lw_all := lw_g (lw_at lw_m2 232 rfl) rfl
theorem q581 : (Jvm.Cond.code ({ cls := "PlatesSing$Bent", name := "<init>", desc := "(LPlatesSing;I)V" } : Jvm.MethodName) prog_3_method_1_code (3 : Nat) (Option.none : Option Jvm.ClassFile.FieldType)) ∈ lw_all := lw_g (lw_at lw_m2 233 rfl) rfl
theorem q582 : (Jvm.Cond.methodLink "PlatesSing$Bent" (7 : Nat) ({ cls := "PlatesSing$Cracked", name := "<init>", desc := "(LPlatesSing;I)V" } : Jvm.MethodName)) ∈ lw_all := lw_g (lw_at lw_m2 234 rfl) rfl
theorem q583 : (Jvm.Cond.fieldLink "PlatesSing$Bent" (1 : Nat) "PlatesSing$Bent" "this$0" "LPlatesSing;") ∈ lw_all := lw_g (lw_at lw_m2 235 rfl) rfl
theorem q584 : (Jvm.Cond.laysFinal "PlatesSing$Bent" "PlatesSing$Bent" "this$0" "LPlatesSing;") ∈ lw_all := lw_g (lw_at lw_m2 236 rfl) rfl
theorem q585 : (Jvm.Cond.soleField "PlatesSing$Bent" "this$0") ∈ lw_all := lw_g (lw_at lw_m2 237 rfl) rfl
theorem q586 : (Jvm.Cond.laysFinal "PlatesSing$Bent" "PlatesSing$Cracked" "this$0" "LPlatesSing;") ∈ lw_all := lw_g (lw_at lw_m2 238 rfl) rfl
theorem q587 : (Jvm.Cond.lays "PlatesSing$Bent" "PlatesSing$Piece" "from" "I") ∈ lw_all := lw_g (lw_at lw_m2 239 rfl) rfl
theorem q588 : (Jvm.Cond.lays "PlatesSing$Bent" "PlatesSing$Piece" "to" "I") ∈ lw_all := lw_g (lw_at lw_m3 0 rfl) rfl
theorem q589 : (Jvm.Cond.lays "PlatesSing$Bent" "PlatesSing$Piece" "stiff" "I") ∈ lw_all := lw_g (lw_at lw_m3 1 rfl) rfl
theorem q590 : (Jvm.Cond.lays "PlatesSing$Bent" "PlatesSing$Piece" "crack" "I") ∈ lw_all := lw_g (lw_at lw_m3 2 rfl) rfl
theorem q591 : (Jvm.Cond.laysFinal "PlatesSing$Bent" "PlatesSing$Piece" "this$0" "LPlatesSing;") ∈ lw_all := lw_g (lw_at lw_m3 3 rfl) rfl
theorem q592 : (Jvm.Cond.laysFinal "PlatesSing$Bent" "PlatesSing$Part" "number" "I") ∈ lw_all := lw_g (lw_at lw_m3 4 rfl) rfl
theorem q593 : (Jvm.Cond.laysFinal "PlatesSing$Bent" "PlatesSing$Part" "this$0" "LPlatesSing;") ∈ lw_all := lw_g (lw_at lw_m3 5 rfl) rfl
theorem q594 : (Jvm.Cond.superclass "PlatesSing$Bent" "PlatesSing$Cracked") ∈ lw_all := lw_g (lw_at lw_m3 6 rfl) rfl
theorem q737 : (Jvm.Cond.selects "PlatesSing$Bent" ({ cls := "PlatesSing$Piece", name := "isAt", desc := "(I)Z" } : Jvm.MethodName) ({ cls := "PlatesSing$Piece", name := "isAt", desc := "(I)Z" } : Jvm.MethodName)) ∈ lw_all := lw_g (lw_at lw_m3 149 rfl) rfl
theorem q810 : (Jvm.Cond.selects "PlatesSing$Bent" ({ cls := "PlatesSing$Piece", name := "counts", desc := "()I" } : Jvm.MethodName) ({ cls := "PlatesSing$Piece", name := "counts", desc := "()I" } : Jvm.MethodName)) ∈ lw_all := lw_g (lw_at lw_m3 222 rfl) rfl
theorem q1125 : (Jvm.Cond.selects "PlatesSing$Bent" ({ cls := "PlatesSing$Stiffens", name := "stiffens", desc := "(I)I" } : Jvm.MethodName) ({ cls := "PlatesSing$Cracked", name := "stiffens", desc := "(I)I" } : Jvm.MethodName)) ∈ lw_all := lw_g (lw_at lw_m5 57 rfl) rfl
theorem q1131 : (Jvm.Cond.selects "PlatesSing$Bent" ({ cls := "PlatesSing$Cracked", name := "begins", desc := "(I)V" } : Jvm.MethodName) ({ cls := "PlatesSing$Part", name := "begins", desc := "(I)V" } : Jvm.MethodName)) ∈ lw_all := lw_g (lw_at lw_m5 63 rfl) rfl
theorem q1140 : (Jvm.Cond.selects "PlatesSing$Bent" ({ cls := "PlatesSing$Piece", name := "begins", desc := "(I)V" } : Jvm.MethodName) ({ cls := "PlatesSing$Part", name := "begins", desc := "(I)V" } : Jvm.MethodName)) ∈ lw_all := lw_g (lw_at lw_m5 72 rfl) rfl
theorem q1150 : (Jvm.Cond.castable "PlatesSing$Bent" "PlatesSing$Stiffens") ∈ lw_tbl := lw_at lw_m5 82 rfl
theorem q1151 : (Jvm.Cond.selects "PlatesSing$Bent" ({ cls := "PlatesSing$Stiffens", name := "begins", desc := "(I)V" } : Jvm.MethodName) ({ cls := "PlatesSing$Part", name := "begins", desc := "(I)V" } : Jvm.MethodName)) ∈ lw_all := lw_g (lw_at lw_m5 83 rfl) rfl
theorem q1152 : (Jvm.Cond.unhidden "PlatesSing$Bent" "begins" "(I)V") ∈ lw_tbl := lw_at lw_m5 84 rfl
theorem q1173 : (Jvm.Cond.selects "PlatesSing$Bent" ({ cls := "PlatesSing$Stiffens", name := "stiff", desc := "()I" } : Jvm.MethodName) ({ cls := "PlatesSing$Piece", name := "stiff", desc := "()I" } : Jvm.MethodName)) ∈ lw_all := lw_g (lw_at lw_m5 105 rfl) rfl
theorem q1174 : (Jvm.Cond.unhidden "PlatesSing$Bent" "stiff" "()I") ∈ lw_tbl := lw_at lw_m5 106 rfl
theorem q1201 : (Jvm.Cond.selects "PlatesSing$Bent" ({ cls := "PlatesSing$Part", name := "weighs", desc := "(I)I" } : Jvm.MethodName) ({ cls := "PlatesSing$Part", name := "weighs", desc := "(I)I" } : Jvm.MethodName)) ∈ lw_all := lw_g (lw_at lw_m5 133 rfl) rfl
theorem q1230 : (Jvm.Cond.selects "PlatesSing$Bent" ({ cls := "PlatesSing$Part", name := "sounds", desc := "(I)I" } : Jvm.MethodName) ({ cls := "PlatesSing$Bent", name := "sounds", desc := "(I)I" } : Jvm.MethodName)) ∈ lw_all := lw_g (lw_at lw_m5 162 rfl) rfl
theorem q1231 : (Jvm.Cond.instanceMethod ({ cls := "PlatesSing$Bent", name := "sounds", desc := "(I)I" } : Jvm.MethodName)) ∈ lw_all := lw_g (lw_at lw_m5 163 rfl) rfl
theorem q1232 : (Jvm.Cond.code ({ cls := "PlatesSing$Bent", name := "sounds", desc := "(I)I" } : Jvm.MethodName) prog_3_method_4_code (3 : Nat) (Option.some Jvm.ClassFile.FieldType.int)) ∈ lw_all := lw_g (lw_at lw_m5 164 rfl) rfl
theorem q1233 : (Jvm.Cond.methodLink "PlatesSing$Bent" (17 : Nat) ({ cls := "PlatesSing$Bent", name := "begins", desc := "(I)V" } : Jvm.MethodName)) ∈ lw_all := lw_g (lw_at lw_m5 165 rfl) rfl
theorem q1234 : (Jvm.Cond.sameMethod "PlatesSing$Bent" "PlatesSing$Part" "begins" "(I)V") ∈ lw_all := lw_g (lw_at lw_m5 166 rfl) rfl
theorem q1235 : (Jvm.Cond.selects "PlatesSing$Bent" ({ cls := "PlatesSing$Bent", name := "begins", desc := "(I)V" } : Jvm.MethodName) ({ cls := "PlatesSing$Part", name := "begins", desc := "(I)V" } : Jvm.MethodName)) ∈ lw_all := lw_g (lw_at lw_m5 167 rfl) rfl
theorem q1236 : (Jvm.Cond.methodLink "PlatesSing$Bent" (21 : Nat) ({ cls := "PlatesSing$Cracked", name := "sounds", desc := "(I)I" } : Jvm.MethodName)) ∈ lw_all := lw_g (lw_at lw_m5 168 rfl) rfl
theorem q1239 : (Jvm.Cond.methodLink "PlatesSing$Bent" (25 : Nat) ({ cls := "PlatesSing$Bent", name := "weighs", desc := "(I)I" } : Jvm.MethodName)) ∈ lw_all := lw_g (lw_at lw_m5 171 rfl) rfl
theorem q1240 : (Jvm.Cond.sameMethod "PlatesSing$Bent" "PlatesSing$Part" "weighs" "(I)I") ∈ lw_all := lw_g (lw_at lw_m5 172 rfl) rfl
theorem q1241 : (Jvm.Cond.selects "PlatesSing$Bent" ({ cls := "PlatesSing$Bent", name := "weighs", desc := "(I)I" } : Jvm.MethodName) ({ cls := "PlatesSing$Part", name := "weighs", desc := "(I)I" } : Jvm.MethodName)) ∈ lw_all := lw_g (lw_at lw_m5 173 rfl) rfl
theorem q1252 : (Jvm.Cond.selects "PlatesSing$Bent" ({ cls := "PlatesSing$Tells", name := "tells", desc := "(I)I" } : Jvm.MethodName) ({ cls := "PlatesSing$Bent", name := "tells", desc := "(I)I" } : Jvm.MethodName)) ∈ lw_all := lw_g (lw_at lw_m5 184 rfl) rfl
theorem q1253 : (Jvm.Cond.instanceMethod ({ cls := "PlatesSing$Bent", name := "tells", desc := "(I)I" } : Jvm.MethodName)) ∈ lw_all := lw_g (lw_at lw_m5 185 rfl) rfl
theorem q1254 : (Jvm.Cond.code ({ cls := "PlatesSing$Bent", name := "tells", desc := "(I)I" } : Jvm.MethodName) prog_3_method_5_code (2 : Nat) (Option.some Jvm.ClassFile.FieldType.int)) ∈ lw_all := lw_g (lw_at lw_m5 186 rfl) rfl
theorem q1255 : (Jvm.Cond.methodLink "PlatesSing$Bent" (28 : Nat) ({ cls := "PlatesSing$Cracked", name := "tells", desc := "(I)I" } : Jvm.MethodName)) ∈ lw_all := lw_g (lw_at lw_m5 187 rfl) rfl
theorem q1264 : (Jvm.Cond.castable "PlatesSing$Bent" "PlatesSing$Tells") ∈ lw_tbl := lw_at lw_m5 196 rfl
theorem q1265 : (Jvm.Cond.selects "PlatesSing$Bent" ({ cls := "PlatesSing$Tells", name := "begins", desc := "(I)V" } : Jvm.MethodName) ({ cls := "PlatesSing$Part", name := "begins", desc := "(I)V" } : Jvm.MethodName)) ∈ lw_all := lw_g (lw_at lw_m5 197 rfl) rfl
theorem q1280 : (Jvm.Cond.selects "PlatesSing$Bent" ({ cls := "PlatesSing$Tells", name := "weighs", desc := "(I)I" } : Jvm.MethodName) ({ cls := "PlatesSing$Part", name := "weighs", desc := "(I)I" } : Jvm.MethodName)) ∈ lw_all := lw_g (lw_at lw_m5 212 rfl) rfl
theorem q1281 : (Jvm.Cond.unhidden "PlatesSing$Bent" "weighs" "(I)I") ∈ lw_tbl := lw_at lw_m5 213 rfl
theorem q1299 : (Jvm.Cond.selects "PlatesSing$Bent" ({ cls := "PlatesSing$Tells", name := "sounds", desc := "(I)I" } : Jvm.MethodName) ({ cls := "PlatesSing$Bent", name := "sounds", desc := "(I)I" } : Jvm.MethodName)) ∈ lw_all := lw_g (lw_at lw_m5 231 rfl) rfl
theorem q1300 : (Jvm.Cond.unhidden "PlatesSing$Bent" "sounds" "(I)I") ∈ lw_tbl := lw_at lw_m5 232 rfl
theorem q1301 : (Jvm.Cond.publicMethod ({ cls := "PlatesSing$Bent", name := "sounds", desc := "(I)I" } : Jvm.MethodName)) ∈ lw_tbl := lw_at lw_m5 233 rfl
theorem q1366 : (Jvm.Cond.selects "PlatesSing$Bent" ({ cls := "PlatesSing$Part", name := "isUnder", desc := "(I)Z" } : Jvm.MethodName) ({ cls := "PlatesSing$Bent", name := "isUnder", desc := "(I)Z" } : Jvm.MethodName)) ∈ lw_all := lw_g (lw_at lw_m6 58 rfl) rfl
theorem q1367 : (Jvm.Cond.instanceMethod ({ cls := "PlatesSing$Bent", name := "isUnder", desc := "(I)Z" } : Jvm.MethodName)) ∈ lw_all := lw_g (lw_at lw_m6 59 rfl) rfl
theorem q1368 : (Jvm.Cond.code ({ cls := "PlatesSing$Bent", name := "isUnder", desc := "(I)Z" } : Jvm.MethodName) prog_3_method_3_code (2 : Nat) (Option.some Jvm.ClassFile.FieldType.boolean)) ∈ lw_all := lw_g (lw_at lw_m6 60 rfl) rfl
theorem q1369 : (Jvm.Cond.methodLink "PlatesSing$Bent" (13 : Nat) ({ cls := "PlatesSing$Cracked", name := "isUnder", desc := "(I)Z" } : Jvm.MethodName)) ∈ lw_all := lw_g (lw_at lw_m6 61 rfl) rfl
theorem q1391 : (Jvm.Cond.selects "PlatesSing$Bent" ({ cls := "PlatesSing$Part", name := "kind", desc := "()I" } : Jvm.MethodName) ({ cls := "PlatesSing$Bent", name := "kind", desc := "()I" } : Jvm.MethodName)) ∈ lw_all := lw_g (lw_at lw_m6 83 rfl) rfl
theorem q1392 : (Jvm.Cond.instanceMethod ({ cls := "PlatesSing$Bent", name := "kind", desc := "()I" } : Jvm.MethodName)) ∈ lw_all := lw_g (lw_at lw_m6 84 rfl) rfl
theorem q1393 : (Jvm.Cond.code ({ cls := "PlatesSing$Bent", name := "kind", desc := "()I" } : Jvm.MethodName) prog_3_method_2_code (1 : Nat) (Option.some Jvm.ClassFile.FieldType.int)) ∈ lw_all := lw_g (lw_at lw_m6 85 rfl) rfl
theorem q2237 : (Jvm.Cond.selects "PlatesSing$Bent" ({ cls := "PlatesSing$Part", name := "begins", desc := "(I)V" } : Jvm.MethodName) ({ cls := "PlatesSing$Part", name := "begins", desc := "(I)V" } : Jvm.MethodName)) ∈ lw_all := lw_g (lw_at lw_m9 209 rfl) rfl
theorem q2246 : (Jvm.Cond.castable "PlatesSing$Bent" "PlatesSing$Part") ∈ lw_tbl := lw_at lw_m9 218 rfl
theorem q2262 : (Jvm.Cond.castable "PlatesSing$Bent" "java/lang/Object") ∈ lw_tbl := lw_at lw_m9 234 rfl
theorem q2266 : (Jvm.Cond.castable "PlatesSing$Bent" "PlatesSing$Piece") ∈ lw_tbl := lw_at lw_m9 238 rfl
theorem in_X11 : ∀ w ∈ wsX110, w ∈ lw_all := lw_in wsX110 [592, 593, 587, 588, 589, 590, 591, 586, 584] (by decide +kernel) (by decide +kernel)

/-! PlatesSing$Stiffens -/
set_option maxRecDepth 100000
def RX12 : String := "PlatesSing$Stiffens"
abbrev cX12_stiffens : ByteArray := prog_11_method_3_code
def yX12_stiffens : MethodName := ⟨RX12, "stiffens", "(I)I"⟩
def dkwX12_stiffens_0 : List UInt8 := [42, 4, 185, 0, 1, 2, 0, 27, 42, 185, 0, 7, 1, 0, 96, 172]
abbrev dktX12_stiffens_0 : List UInt8 := dkwX12_stiffens_0 ++ []
theorem dksX12_stiffens_0 : cX12_stiffens.data.toList.drop 0 = dktX12_stiffens_0 := by decide +kernel
theorem dX12_stiffens_0 : decode cX12_stiffens 0 = .ok (.aload_n 0, 1) := dk_42 (dk_at dksX12_stiffens_0 0 rfl rfl)
theorem dX12_stiffens_1 : decode cX12_stiffens 1 = .ok (.iconst 1, 1) := dk_4 (dk_at dksX12_stiffens_0 1 rfl rfl)
theorem dX12_stiffens_2 : decode cX12_stiffens 2 = .ok (.invokeinterface 1 2, 5) := by decide +kernel
theorem dX12_stiffens_7 : decode cX12_stiffens 7 = .ok (.iload_n 1, 1) := dk_27 (dk_at dksX12_stiffens_0 7 rfl rfl)
theorem dX12_stiffens_8 : decode cX12_stiffens 8 = .ok (.aload_n 0, 1) := dk_42 (dk_at dksX12_stiffens_0 8 rfl rfl)
theorem dX12_stiffens_9 : decode cX12_stiffens 9 = .ok (.invokeinterface 7 1, 5) := by decide +kernel
theorem dX12_stiffens_14 : decode cX12_stiffens 14 = .ok (.iadd, 1) := dk_96 (dk_at dksX12_stiffens_0 14 rfl rfl)
theorem dX12_stiffens_15 : decode cX12_stiffens 15 = .ok (.ireturn, 1) := dk_172 (dk_at dksX12_stiffens_0 15 rfl rfl)
theorem q1124 : (Jvm.Cond.declares ({ cls := "PlatesSing$Stiffens", name := "stiffens", desc := "(I)I" } : Jvm.MethodName)) ∈ lw_tbl := lw_at lw_m5 56 rfl
theorem q1144 : (Jvm.Cond.instanceMethod ({ cls := "PlatesSing$Stiffens", name := "stiffens", desc := "(I)I" } : Jvm.MethodName)) ∈ lw_all := lw_g (lw_at lw_m5 76 rfl) rfl
theorem q1145 : (Jvm.Cond.code ({ cls := "PlatesSing$Stiffens", name := "stiffens", desc := "(I)I" } : Jvm.MethodName) prog_11_method_3_code (2 : Nat) (Option.some Jvm.ClassFile.FieldType.int)) ∈ lw_all := lw_g (lw_at lw_m5 77 rfl) rfl
theorem q1146 : (Jvm.Cond.interfaceEntry "PlatesSing$Stiffens" (1 : Nat)) ∈ lw_tbl := lw_at lw_m5 78 rfl
theorem q1147 : (Jvm.Cond.methodLink "PlatesSing$Stiffens" (1 : Nat) ({ cls := "PlatesSing$Stiffens", name := "begins", desc := "(I)V" } : Jvm.MethodName)) ∈ lw_all := lw_g (lw_at lw_m5 79 rfl) rfl
theorem q1148 : (Jvm.Cond.interfaceMethod "PlatesSing$Stiffens" "PlatesSing$Stiffens" "begins" "(I)V") ∈ lw_tbl := lw_at lw_m5 80 rfl
theorem q1149 : (Jvm.Cond.declares ({ cls := "PlatesSing$Stiffens", name := "begins", desc := "(I)V" } : Jvm.MethodName)) ∈ lw_tbl := lw_at lw_m5 81 rfl
theorem q1169 : (Jvm.Cond.interfaceEntry "PlatesSing$Stiffens" (7 : Nat)) ∈ lw_tbl := lw_at lw_m5 101 rfl
theorem q1170 : (Jvm.Cond.methodLink "PlatesSing$Stiffens" (7 : Nat) ({ cls := "PlatesSing$Stiffens", name := "stiff", desc := "()I" } : Jvm.MethodName)) ∈ lw_all := lw_g (lw_at lw_m5 102 rfl) rfl
theorem q1171 : (Jvm.Cond.interfaceMethod "PlatesSing$Stiffens" "PlatesSing$Stiffens" "stiff" "()I") ∈ lw_tbl := lw_at lw_m5 103 rfl
theorem q1172 : (Jvm.Cond.declares ({ cls := "PlatesSing$Stiffens", name := "stiff", desc := "()I" } : Jvm.MethodName)) ∈ lw_tbl := lw_at lw_m5 104 rfl
theorem q1196 : (Jvm.Cond.publicMethod ({ cls := "PlatesSing$Stiffens", name := "stiffens", desc := "(I)I" } : Jvm.MethodName)) ∈ lw_tbl := lw_at lw_m5 128 rfl

/-! PlatesSing$Tells -/
set_option maxRecDepth 100000
def RX13 : String := "PlatesSing$Tells"
abbrev cX13_tells : ByteArray := prog_12_method_4_code
def yX13_tells : MethodName := ⟨RX13, "tells", "(I)I"⟩
def dkwX13_tells_1 : List UInt8 := [172]
abbrev dktX13_tells_1 : List UInt8 := dkwX13_tells_1 ++ []
def dkwX13_tells_0 : List UInt8 := [42, 5, 185, 0, 1, 2, 0, 42, 27, 185, 0, 7, 2, 0, 61, 28, 42, 4, 185, 0, 11, 2, 0, 96]
abbrev dktX13_tells_0 : List UInt8 := dkwX13_tells_0 ++ dktX13_tells_1
theorem dksX13_tells_0 : cX13_tells.data.toList.drop 0 = dktX13_tells_0 := by decide +kernel
theorem dksX13_tells_1 : cX13_tells.data.toList.drop 24 = dktX13_tells_1 := dk_seg dksX13_tells_0 24 rfl rfl
theorem dX13_tells_0 : decode cX13_tells 0 = .ok (.aload_n 0, 1) := dk_42 (dk_at dksX13_tells_0 0 rfl rfl)
theorem dX13_tells_1 : decode cX13_tells 1 = .ok (.iconst 2, 1) := dk_5 (dk_at dksX13_tells_0 1 rfl rfl)
theorem dX13_tells_2 : decode cX13_tells 2 = .ok (.invokeinterface 1 2, 5) := by decide +kernel
theorem dX13_tells_7 : decode cX13_tells 7 = .ok (.aload_n 0, 1) := dk_42 (dk_at dksX13_tells_0 7 rfl rfl)
theorem dX13_tells_8 : decode cX13_tells 8 = .ok (.iload_n 1, 1) := dk_27 (dk_at dksX13_tells_0 8 rfl rfl)
theorem dX13_tells_9 : decode cX13_tells 9 = .ok (.invokeinterface 7 2, 5) := by decide +kernel
theorem dX13_tells_14 : decode cX13_tells 14 = .ok (.istore_n 2, 1) := dk_61 (dk_at dksX13_tells_0 14 rfl rfl)
theorem dX13_tells_15 : decode cX13_tells 15 = .ok (.iload_n 2, 1) := dk_28 (dk_at dksX13_tells_0 15 rfl rfl)
theorem dX13_tells_16 : decode cX13_tells 16 = .ok (.aload_n 0, 1) := dk_42 (dk_at dksX13_tells_0 16 rfl rfl)
theorem dX13_tells_17 : decode cX13_tells 17 = .ok (.iconst 1, 1) := dk_4 (dk_at dksX13_tells_0 17 rfl rfl)
theorem dX13_tells_18 : decode cX13_tells 18 = .ok (.invokeinterface 11 2, 5) := by decide +kernel
theorem dX13_tells_23 : decode cX13_tells 23 = .ok (.iadd, 1) := dk_96 (dk_at dksX13_tells_0 23 rfl rfl)
theorem dX13_tells_24 : decode cX13_tells 24 = .ok (.ireturn, 1) := dk_172 (dk_at dksX13_tells_1 0 rfl rfl)
theorem q1251 : (Jvm.Cond.declares ({ cls := "PlatesSing$Tells", name := "tells", desc := "(I)I" } : Jvm.MethodName)) ∈ lw_tbl := lw_at lw_m5 183 rfl
theorem q1258 : (Jvm.Cond.instanceMethod ({ cls := "PlatesSing$Tells", name := "tells", desc := "(I)I" } : Jvm.MethodName)) ∈ lw_all := lw_g (lw_at lw_m5 190 rfl) rfl
theorem q1259 : (Jvm.Cond.code ({ cls := "PlatesSing$Tells", name := "tells", desc := "(I)I" } : Jvm.MethodName) prog_12_method_4_code (3 : Nat) (Option.some Jvm.ClassFile.FieldType.int)) ∈ lw_all := lw_g (lw_at lw_m5 191 rfl) rfl
theorem q1260 : (Jvm.Cond.interfaceEntry "PlatesSing$Tells" (1 : Nat)) ∈ lw_tbl := lw_at lw_m5 192 rfl
theorem q1261 : (Jvm.Cond.methodLink "PlatesSing$Tells" (1 : Nat) ({ cls := "PlatesSing$Tells", name := "begins", desc := "(I)V" } : Jvm.MethodName)) ∈ lw_all := lw_g (lw_at lw_m5 193 rfl) rfl
theorem q1262 : (Jvm.Cond.interfaceMethod "PlatesSing$Tells" "PlatesSing$Tells" "begins" "(I)V") ∈ lw_tbl := lw_at lw_m5 194 rfl
theorem q1263 : (Jvm.Cond.declares ({ cls := "PlatesSing$Tells", name := "begins", desc := "(I)V" } : Jvm.MethodName)) ∈ lw_tbl := lw_at lw_m5 195 rfl
theorem q1276 : (Jvm.Cond.interfaceEntry "PlatesSing$Tells" (7 : Nat)) ∈ lw_tbl := lw_at lw_m5 208 rfl
theorem q1277 : (Jvm.Cond.methodLink "PlatesSing$Tells" (7 : Nat) ({ cls := "PlatesSing$Tells", name := "weighs", desc := "(I)I" } : Jvm.MethodName)) ∈ lw_all := lw_g (lw_at lw_m5 209 rfl) rfl
theorem q1278 : (Jvm.Cond.interfaceMethod "PlatesSing$Tells" "PlatesSing$Tells" "weighs" "(I)I") ∈ lw_tbl := lw_at lw_m5 210 rfl
theorem q1279 : (Jvm.Cond.declares ({ cls := "PlatesSing$Tells", name := "weighs", desc := "(I)I" } : Jvm.MethodName)) ∈ lw_tbl := lw_at lw_m5 211 rfl
theorem q1295 : (Jvm.Cond.interfaceEntry "PlatesSing$Tells" (11 : Nat)) ∈ lw_tbl := lw_at lw_m5 227 rfl
theorem q1296 : (Jvm.Cond.methodLink "PlatesSing$Tells" (11 : Nat) ({ cls := "PlatesSing$Tells", name := "sounds", desc := "(I)I" } : Jvm.MethodName)) ∈ lw_all := lw_g (lw_at lw_m5 228 rfl) rfl
theorem q1297 : (Jvm.Cond.interfaceMethod "PlatesSing$Tells" "PlatesSing$Tells" "sounds" "(I)I") ∈ lw_tbl := lw_at lw_m5 229 rfl
theorem q1298 : (Jvm.Cond.declares ({ cls := "PlatesSing$Tells", name := "sounds", desc := "(I)I" } : Jvm.MethodName)) ∈ lw_tbl := lw_at lw_m5 230 rfl
theorem q1319 : (Jvm.Cond.publicMethod ({ cls := "PlatesSing$Tells", name := "tells", desc := "(I)I" } : Jvm.MethodName)) ∈ lw_tbl := lw_at lw_m6 11 rfl

/-! PlatesSing$Fault -/
set_option maxRecDepth 100000
def RX2 : String := "PlatesSing$Fault"
def TX2 : u_T := fun k => match k with
  | 0 => ("java/lang/Throwable", "cause", "Ljava/lang/Throwable;", false)
  | 1 => ("java/lang/Throwable", "stackTrace", "[Ljava/lang/StackTraceElement;", false)
  | 2 => ("java/lang/Throwable", "suppressedExceptions", "Ljava/util/List;", false)
  | 3 => ("java/lang/Throwable", "detailMessage", "Ljava/lang/String;", false)
  | 4 => ("java/lang/Throwable", "backtrace", "Ljava/lang/Object;", false)
  | _ => ("java/lang/Throwable", "depth", "I", false)
def tyX2 : Nat → FieldType := fun k => match k with
  | 0 => .object "java/lang/Throwable"
  | 1 => .array (.object "java/lang/StackTraceElement")
  | 2 => .object "java/util/List"
  | 3 => .object "java/lang/String"
  | 4 => .object "java/lang/Object"
  | _ => .int
abbrev wsX20 : List Cond := u_ws RX2 TX2 6
theorem nmX2 : ∀ a, a < 6 → ∀ b, b < 6 → a ≠ b → (TX2 a).2.1 ≠ (TX2 b).2.1 := by decide +kernel
theorem tyX2_ok : ∀ k, k < 6 → parseFieldDescriptor (TX2 k).2.2.1 = some (tyX2 k) := by decide +kernel
abbrev cX2_init : ByteArray := prog_5_method_1_code
def yX2_init : MethodName := ⟨RX2, "<init>", "()V"⟩
def dkwX2_init_0 : List UInt8 := [42, 1, 1, 3, 3, 183, 0, 1, 177]
abbrev dktX2_init_0 : List UInt8 := dkwX2_init_0 ++ []
theorem dksX2_init_0 : cX2_init.data.toList.drop 0 = dktX2_init_0 := by decide +kernel
theorem dX2_init_0 : decode cX2_init 0 = .ok (.aload_n 0, 1) := dk_42 (dk_at dksX2_init_0 0 rfl rfl)
theorem dX2_init_1 : decode cX2_init 1 = .ok (.aconst_null, 1) := dk_1 (dk_at dksX2_init_0 1 rfl rfl)
theorem dX2_init_2 : decode cX2_init 2 = .ok (.aconst_null, 1) := dk_1 (dk_at dksX2_init_0 2 rfl rfl)
theorem dX2_init_3 : decode cX2_init 3 = .ok (.iconst 0, 1) := dk_3 (dk_at dksX2_init_0 3 rfl rfl)
theorem dX2_init_4 : decode cX2_init 4 = .ok (.iconst 0, 1) := dk_3 (dk_at dksX2_init_0 4 rfl rfl)
theorem dX2_init_5 : decode cX2_init 5 = .ok (.invokespecial 1, 3) := dk_183 0 1 (dk_at dksX2_init_0 5 rfl rfl)
theorem dX2_init_8 : decode cX2_init 8 = .ok (.return_, 1) := dk_177 (dk_at dksX2_init_0 8 rfl rfl)
theorem q114 : (Jvm.Cond.initialized "PlatesSing$Fault") ∈ lw_all := lw_g (lw_at lw_m1 6 rfl) rfl
theorem q146 : (Jvm.Cond.instantiable "PlatesSing$Fault" (6 : Nat)) ∈ lw_all := lw_g (lw_at lw_m1 38 rfl) rfl
theorem q147 : (Jvm.Cond.castable "PlatesSing$Fault" "PlatesSing$Fault") ∈ lw_tbl := lw_at lw_m1 39 rfl
theorem q154 : (Jvm.Cond.selects "PlatesSing$Fault" ({ cls := "java/lang/Throwable", name := "fillInStackTrace", desc := "(I)Ljava/lang/Throwable;" } : Jvm.MethodName) ({ cls := "java/lang/Throwable", name := "fillInStackTrace", desc := "(I)Ljava/lang/Throwable;" } : Jvm.MethodName)) ∈ lw_all := lw_g (lw_at lw_m1 46 rfl) rfl
theorem q155 : (Jvm.Cond.selects "PlatesSing$Fault" ({ cls := "java/lang/Throwable", name := "fillInStackTrace", desc := "()Ljava/lang/Throwable;" } : Jvm.MethodName) ({ cls := "java/lang/Throwable", name := "fillInStackTrace", desc := "()Ljava/lang/Throwable;" } : Jvm.MethodName)) ∈ lw_all := lw_g (lw_at lw_m1 47 rfl) rfl
theorem q156 : (Jvm.Cond.lays "PlatesSing$Fault" "java/lang/Throwable" "cause" "Ljava/lang/Throwable;") ∈ lw_all := lw_g (lw_at lw_m1 48 rfl) rfl
theorem q158 : (Jvm.Cond.lays "PlatesSing$Fault" "java/lang/Throwable" "stackTrace" "[Ljava/lang/StackTraceElement;") ∈ lw_all := lw_g (lw_at lw_m1 50 rfl) rfl
theorem q160 : (Jvm.Cond.lays "PlatesSing$Fault" "java/lang/Throwable" "suppressedExceptions" "Ljava/util/List;") ∈ lw_all := lw_g (lw_at lw_m1 52 rfl) rfl
theorem q162 : (Jvm.Cond.lays "PlatesSing$Fault" "java/lang/Throwable" "detailMessage" "Ljava/lang/String;") ∈ lw_all := lw_g (lw_at lw_m1 54 rfl) rfl
theorem q164 : (Jvm.Cond.lays "PlatesSing$Fault" "java/lang/Throwable" "backtrace" "Ljava/lang/Object;") ∈ lw_all := lw_g (lw_at lw_m1 56 rfl) rfl
theorem q185 : (Jvm.Cond.instanceMethod ({ cls := "PlatesSing$Fault", name := "<init>", desc := "()V" } : Jvm.MethodName)) ∈ lw_all := lw_g (lw_at lw_m1 77 rfl) rfl
theorem q186 : (Jvm.Cond.code ({ cls := "PlatesSing$Fault", name := "<init>", desc := "()V" } : Jvm.MethodName) prog_5_method_1_code (1 : Nat) (Option.none : Option Jvm.ClassFile.FieldType)) ∈ lw_all := lw_g (lw_at lw_m1 78 rfl) rfl
theorem q187 : (Jvm.Cond.methodLink "PlatesSing$Fault" (1 : Nat) ({ cls := "java/lang/RuntimeException", name := "<init>", desc := "(Ljava/lang/String;Ljava/lang/Throwable;ZZ)V" } : Jvm.MethodName)) ∈ lw_all := lw_g (lw_at lw_m1 79 rfl) rfl
theorem q205 : (Jvm.Cond.lays "PlatesSing$Fault" "java/lang/Throwable" "depth" "I") ∈ lw_all := lw_g (lw_at lw_m1 97 rfl) rfl
theorem q208 : (Jvm.Cond.superclass "PlatesSing$Fault" "java/lang/RuntimeException") ∈ lw_all := lw_g (lw_at lw_m1 100 rfl) rfl
theorem q2253 : (Jvm.Cond.castable "PlatesSing$Fault" "java/lang/Object") ∈ lw_tbl := lw_at lw_m9 225 rfl
theorem in_X2 : ∀ w ∈ wsX20, w ∈ lw_all := lw_in wsX20 [156, 158, 160, 162, 164, 205] (by decide +kernel) (by decide +kernel)

/-! PlatesSing$Act -/
set_option maxRecDepth 100000
def RX3 : String := "PlatesSing$Act"
def TX3 : u_T := fun k => match k with
  | 0 => ("PlatesSing$Act", "sort", "I", false)
  | 1 => ("PlatesSing$Act", "shape", "LPlatesSing$Shape;", false)
  | 2 => ("PlatesSing$Act", "corner", "I", false)
  | 3 => ("PlatesSing$Act", "piece", "LPlatesSing$Piece;", false)
  | 4 => ("PlatesSing$Act", "was", "I", false)
  | 5 => ("PlatesSing$Act", "wasCrack", "I", false)
  | 6 => ("PlatesSing$Act", "is", "I", false)
  | _ => ("PlatesSing$Act", "isCrack", "I", false)
def tyX3 : Nat → FieldType := fun k => match k with
  | 0 => .int
  | 1 => .object "PlatesSing$Shape"
  | 2 => .int
  | 3 => .object "PlatesSing$Piece"
  | 4 => .int
  | 5 => .int
  | 6 => .int
  | _ => .int
abbrev wsX30 : List Cond := u_ws RX3 TX3 8
theorem nmX3 : ∀ a, a < 8 → ∀ b, b < 8 → a ≠ b → (TX3 a).2.1 ≠ (TX3 b).2.1 := by decide +kernel
theorem tyX3_ok : ∀ k, k < 8 → parseFieldDescriptor (TX3 k).2.2.1 = some (tyX3 k) := by decide +kernel
abbrev cX3_init : ByteArray := prog_2_method_1_code
def yX3_init : MethodName := ⟨RX3, "<init>", "()V"⟩
theorem dX3_init_0 : decode cX3_init 0 = .ok (.aload_n 0, 1) := by decide +kernel
theorem dX3_init_1 : decode cX3_init 1 = .ok (.invokespecial 1, 3) := by decide +kernel
theorem dX3_init_4 : decode cX3_init 4 = .ok (.return_, 1) := by decide +kernel
theorem q115 : (Jvm.Cond.initialized "PlatesSing$Act") ∈ lw_all := lw_g (lw_at lw_m1 7 rfl) rfl
theorem q253 : (Jvm.Cond.instantiable "PlatesSing$Act" (8 : Nat)) ∈ lw_all := lw_g (lw_at lw_m1 145 rfl) rfl
theorem q255 : (Jvm.Cond.instanceMethod ({ cls := "PlatesSing$Act", name := "<init>", desc := "()V" } : Jvm.MethodName)) ∈ lw_all := lw_g (lw_at lw_m1 147 rfl) rfl
theorem q256 : (Jvm.Cond.code ({ cls := "PlatesSing$Act", name := "<init>", desc := "()V" } : Jvm.MethodName) prog_2_method_1_code (1 : Nat) (Option.none : Option Jvm.ClassFile.FieldType)) ∈ lw_all := lw_g (lw_at lw_m1 148 rfl) rfl
theorem q257 : (Jvm.Cond.methodLink "PlatesSing$Act" (1 : Nat) ({ cls := "java/lang/Object", name := "<init>", desc := "()V" } : Jvm.MethodName)) ∈ lw_all := lw_g (lw_at lw_m1 149 rfl) rfl
theorem q266 : (Jvm.Cond.lays "PlatesSing$Act" "PlatesSing$Act" "sort" "I") ∈ lw_all := lw_g (lw_at lw_m1 158 rfl) rfl
theorem q267 : (Jvm.Cond.soleField "PlatesSing$Act" "sort") ∈ lw_all := lw_g (lw_at lw_m1 159 rfl) rfl
theorem q268 : (Jvm.Cond.lays "PlatesSing$Act" "PlatesSing$Act" "shape" "LPlatesSing$Shape;") ∈ lw_all := lw_g (lw_at lw_m1 160 rfl) rfl
theorem q269 : (Jvm.Cond.soleField "PlatesSing$Act" "shape") ∈ lw_all := lw_g (lw_at lw_m1 161 rfl) rfl
theorem q270 : (Jvm.Cond.lays "PlatesSing$Act" "PlatesSing$Act" "corner" "I") ∈ lw_all := lw_g (lw_at lw_m1 162 rfl) rfl
theorem q271 : (Jvm.Cond.soleField "PlatesSing$Act" "corner") ∈ lw_all := lw_g (lw_at lw_m1 163 rfl) rfl
theorem q272 : (Jvm.Cond.lays "PlatesSing$Act" "PlatesSing$Act" "piece" "LPlatesSing$Piece;") ∈ lw_all := lw_g (lw_at lw_m1 164 rfl) rfl
theorem q273 : (Jvm.Cond.soleField "PlatesSing$Act" "piece") ∈ lw_all := lw_g (lw_at lw_m1 165 rfl) rfl
theorem q274 : (Jvm.Cond.lays "PlatesSing$Act" "PlatesSing$Act" "was" "I") ∈ lw_all := lw_g (lw_at lw_m1 166 rfl) rfl
theorem q275 : (Jvm.Cond.soleField "PlatesSing$Act" "was") ∈ lw_all := lw_g (lw_at lw_m1 167 rfl) rfl
theorem q276 : (Jvm.Cond.lays "PlatesSing$Act" "PlatesSing$Act" "wasCrack" "I") ∈ lw_all := lw_g (lw_at lw_m1 168 rfl) rfl
theorem q277 : (Jvm.Cond.soleField "PlatesSing$Act" "wasCrack") ∈ lw_all := lw_g (lw_at lw_m1 169 rfl) rfl
theorem q278 : (Jvm.Cond.lays "PlatesSing$Act" "PlatesSing$Act" "is" "I") ∈ lw_all := lw_g (lw_at lw_m1 170 rfl) rfl
theorem q279 : (Jvm.Cond.soleField "PlatesSing$Act" "is") ∈ lw_all := lw_g (lw_at lw_m1 171 rfl) rfl
theorem q280 : (Jvm.Cond.lays "PlatesSing$Act" "PlatesSing$Act" "isCrack" "I") ∈ lw_all := lw_g (lw_at lw_m1 172 rfl) rfl
theorem q281 : (Jvm.Cond.soleField "PlatesSing$Act" "isCrack") ∈ lw_all := lw_g (lw_at lw_m1 173 rfl) rfl
theorem q282 : (Jvm.Cond.superclass "PlatesSing$Act" "java/lang/Object") ∈ lw_all := lw_g (lw_at lw_m1 174 rfl) rfl
theorem q2254 : (Jvm.Cond.castable "PlatesSing$Act" "java/lang/Object") ∈ lw_tbl := lw_at lw_m9 226 rfl
theorem in_X3 : ∀ w ∈ wsX30, w ∈ lw_all := lw_in wsX30 [266, 268, 270, 272, 274, 276, 278, 280] (by decide +kernel) (by decide +kernel)

/-! PlatesSing$Shape -/
set_option maxRecDepth 100000
def RX5 : String := "PlatesSing$Shape"
def TX5 : u_T := fun k => match k with
  | 0 => ("PlatesSing$Shape", "corners", "I", true)
  | 1 => ("PlatesSing$Shape", "heavy", "[I", true)
  | 2 => ("PlatesSing$Shape", "pad", "[I", true)
  | 3 => ("PlatesSing$Shape", "weight", "[I", true)
  | 4 => ("PlatesSing$Shape", "isHeld", "[Z", true)
  | 5 => ("PlatesSing$Shape", "pieces", "[LPlatesSing$Piece;", true)
  | 6 => ("PlatesSing$Shape", "many", "I", false)
  | 7 => ("PlatesSing$Shape", "first", "LPlatesSing$Shape;", false)
  | 8 => ("PlatesSing$Shape", "second", "LPlatesSing$Shape;", false)
  | _ => ("PlatesSing$Shape", "this$0", "LPlatesSing;", true)
def tyX5 : Nat → FieldType := fun k => match k with
  | 0 => .int
  | 1 => .array .int
  | 2 => .array .int
  | 3 => .array .int
  | 4 => .array .boolean
  | 5 => .array (.object "PlatesSing$Piece")
  | 6 => .int
  | 7 => .object "PlatesSing$Shape"
  | 8 => .object "PlatesSing$Shape"
  | _ => .object "PlatesSing"
abbrev wsX50 : List Cond := u_ws RX5 TX5 10
theorem nmX5 : ∀ a, a < 10 → ∀ b, b < 10 → a ≠ b → (TX5 a).2.1 ≠ (TX5 b).2.1 := by decide +kernel
theorem tyX5_ok : ∀ k, k < 10 → parseFieldDescriptor (TX5 k).2.2.1 = some (tyX5 k) := by decide +kernel
abbrev cX5_init : ByteArray := prog_10_method_1_code
def yX5_init : MethodName := ⟨RX5, "<init>", "(LPlatesSing;I)V"⟩
def dkwX5_init_2 : List UInt8 := [189, 0, 29, 181, 0, 31, 42, 28, 181, 0, 35, 177]
abbrev dktX5_init_2 : List UInt8 := dkwX5_init_2 ++ []
def dkwX5_init_1 : List UInt8 := [181, 0, 19, 42, 16, 6, 188, 10, 181, 0, 22, 42, 16, 6, 188, 4, 181, 0, 25, 42, 16, 15]
abbrev dktX5_init_1 : List UInt8 := dkwX5_init_1 ++ dktX5_init_2
def dkwX5_init_0 : List UInt8 := [42, 43, 181, 0, 3, 42, 183, 0, 9, 42, 16, 6, 188, 10, 181, 0, 15, 42, 16, 6, 188, 10]
abbrev dktX5_init_0 : List UInt8 := dkwX5_init_0 ++ dktX5_init_1
theorem dksX5_init_0 : cX5_init.data.toList.drop 0 = dktX5_init_0 := by decide +kernel
theorem dksX5_init_1 : cX5_init.data.toList.drop 22 = dktX5_init_1 := dk_seg dksX5_init_0 22 rfl rfl
theorem dksX5_init_2 : cX5_init.data.toList.drop 44 = dktX5_init_2 := dk_seg dksX5_init_1 22 rfl rfl
theorem dX5_init_0 : decode cX5_init 0 = .ok (.aload_n 0, 1) := dk_42 (dk_at dksX5_init_0 0 rfl rfl)
theorem dX5_init_1 : decode cX5_init 1 = .ok (.aload_n 1, 1) := dk_43 (dk_at dksX5_init_0 1 rfl rfl)
theorem dX5_init_2 : decode cX5_init 2 = .ok (.putfield 3, 3) := dk_181 0 3 (dk_at dksX5_init_0 2 rfl rfl)
theorem dX5_init_5 : decode cX5_init 5 = .ok (.aload_n 0, 1) := dk_42 (dk_at dksX5_init_0 5 rfl rfl)
theorem dX5_init_6 : decode cX5_init 6 = .ok (.invokespecial 9, 3) := dk_183 0 9 (dk_at dksX5_init_0 6 rfl rfl)
theorem dX5_init_9 : decode cX5_init 9 = .ok (.aload_n 0, 1) := dk_42 (dk_at dksX5_init_0 9 rfl rfl)
theorem dX5_init_10 : decode cX5_init 10 = .ok (.bipush 6, 2) := dk_16 6 (dk_at dksX5_init_0 10 rfl rfl)
theorem dX5_init_12 : decode cX5_init 12 = .ok (.newarray .int, 2) := dk_188_10 (dk_at dksX5_init_0 12 rfl rfl)
theorem dX5_init_14 : decode cX5_init 14 = .ok (.putfield 15, 3) := dk_181 0 15 (dk_at dksX5_init_0 14 rfl rfl)
theorem dX5_init_17 : decode cX5_init 17 = .ok (.aload_n 0, 1) := dk_42 (dk_at dksX5_init_0 17 rfl rfl)
theorem dX5_init_18 : decode cX5_init 18 = .ok (.bipush 6, 2) := dk_16 6 (dk_at dksX5_init_0 18 rfl rfl)
theorem dX5_init_20 : decode cX5_init 20 = .ok (.newarray .int, 2) := dk_188_10 (dk_at dksX5_init_0 20 rfl rfl)
theorem dX5_init_22 : decode cX5_init 22 = .ok (.putfield 19, 3) := dk_181 0 19 (dk_at dksX5_init_1 0 rfl rfl)
theorem dX5_init_25 : decode cX5_init 25 = .ok (.aload_n 0, 1) := dk_42 (dk_at dksX5_init_1 3 rfl rfl)
theorem dX5_init_26 : decode cX5_init 26 = .ok (.bipush 6, 2) := dk_16 6 (dk_at dksX5_init_1 4 rfl rfl)
theorem dX5_init_28 : decode cX5_init 28 = .ok (.newarray .int, 2) := dk_188_10 (dk_at dksX5_init_1 6 rfl rfl)
theorem dX5_init_30 : decode cX5_init 30 = .ok (.putfield 22, 3) := dk_181 0 22 (dk_at dksX5_init_1 8 rfl rfl)
theorem dX5_init_33 : decode cX5_init 33 = .ok (.aload_n 0, 1) := dk_42 (dk_at dksX5_init_1 11 rfl rfl)
theorem dX5_init_34 : decode cX5_init 34 = .ok (.bipush 6, 2) := dk_16 6 (dk_at dksX5_init_1 12 rfl rfl)
theorem dX5_init_36 : decode cX5_init 36 = .ok (.newarray .boolean, 2) := dk_188_4 (dk_at dksX5_init_1 14 rfl rfl)
theorem dX5_init_38 : decode cX5_init 38 = .ok (.putfield 25, 3) := dk_181 0 25 (dk_at dksX5_init_1 16 rfl rfl)
theorem dX5_init_41 : decode cX5_init 41 = .ok (.aload_n 0, 1) := dk_42 (dk_at dksX5_init_1 19 rfl rfl)
theorem dX5_init_42 : decode cX5_init 42 = .ok (.bipush 15, 2) := dk_16 15 (dk_at dksX5_init_1 20 rfl rfl)
theorem dX5_init_44 : decode cX5_init 44 = .ok (.anewarray 29, 3) := dk_189 0 29 (dk_at dksX5_init_2 0 rfl rfl)
theorem dX5_init_47 : decode cX5_init 47 = .ok (.putfield 31, 3) := dk_181 0 31 (dk_at dksX5_init_2 3 rfl rfl)
theorem dX5_init_50 : decode cX5_init 50 = .ok (.aload_n 0, 1) := dk_42 (dk_at dksX5_init_2 6 rfl rfl)
theorem dX5_init_51 : decode cX5_init 51 = .ok (.iload_n 2, 1) := dk_28 (dk_at dksX5_init_2 7 rfl rfl)
theorem dX5_init_52 : decode cX5_init 52 = .ok (.putfield 35, 3) := dk_181 0 35 (dk_at dksX5_init_2 8 rfl rfl)
theorem dX5_init_55 : decode cX5_init 55 = .ok (.return_, 1) := dk_177 (dk_at dksX5_init_2 11 rfl rfl)
abbrev cX5_tones : ByteArray := prog_10_method_6_code
def yX5_tones : MethodName := ⟨RX5, "tones", "()I"⟩
def dkwX5_tones_1 : List UInt8 := [167, 0, 4, 3, 184, 0, 64, 96, 60, 132, 2, 1, 167, 255, 225, 27, 172]
abbrev dktX5_tones_1 : List UInt8 := dkwX5_tones_1 ++ []
def dkwX5_tones_0 : List UInt8 := [3, 60, 3, 61, 28, 42, 180, 0, 35, 162, 0, 29, 27, 42, 180, 0, 25, 28, 51, 154, 0, 7, 4]
abbrev dktX5_tones_0 : List UInt8 := dkwX5_tones_0 ++ dktX5_tones_1
theorem dksX5_tones_0 : cX5_tones.data.toList.drop 0 = dktX5_tones_0 := by decide +kernel
theorem dksX5_tones_1 : cX5_tones.data.toList.drop 23 = dktX5_tones_1 := dk_seg dksX5_tones_0 23 rfl rfl
theorem dX5_tones_0 : decode cX5_tones 0 = .ok (.iconst 0, 1) := dk_3 (dk_at dksX5_tones_0 0 rfl rfl)
theorem dX5_tones_1 : decode cX5_tones 1 = .ok (.istore_n 1, 1) := dk_60 (dk_at dksX5_tones_0 1 rfl rfl)
theorem dX5_tones_2 : decode cX5_tones 2 = .ok (.iconst 0, 1) := dk_3 (dk_at dksX5_tones_0 2 rfl rfl)
theorem dX5_tones_3 : decode cX5_tones 3 = .ok (.istore_n 2, 1) := dk_61 (dk_at dksX5_tones_0 3 rfl rfl)
theorem dX5_tones_4 : decode cX5_tones 4 = .ok (.iload_n 2, 1) := dk_28 (dk_at dksX5_tones_0 4 rfl rfl)
theorem dX5_tones_5 : decode cX5_tones 5 = .ok (.aload_n 0, 1) := dk_42 (dk_at dksX5_tones_0 5 rfl rfl)
theorem dX5_tones_6 : decode cX5_tones 6 = .ok (.getfield 35, 3) := dk_180 0 35 (dk_at dksX5_tones_0 6 rfl rfl)
theorem dX5_tones_9 : decode cX5_tones 9 = .ok (.if_icmp .ge 29, 3) := dk_162 0 29 (dk_at dksX5_tones_0 9 rfl rfl)
theorem dX5_tones_12 : decode cX5_tones 12 = .ok (.iload_n 1, 1) := dk_27 (dk_at dksX5_tones_0 12 rfl rfl)
theorem dX5_tones_13 : decode cX5_tones 13 = .ok (.aload_n 0, 1) := dk_42 (dk_at dksX5_tones_0 13 rfl rfl)
theorem dX5_tones_14 : decode cX5_tones 14 = .ok (.getfield 25, 3) := dk_180 0 25 (dk_at dksX5_tones_0 14 rfl rfl)
theorem dX5_tones_17 : decode cX5_tones 17 = .ok (.iload_n 2, 1) := dk_28 (dk_at dksX5_tones_0 17 rfl rfl)
theorem dX5_tones_18 : decode cX5_tones 18 = .ok (.baload, 1) := dk_51 (dk_at dksX5_tones_0 18 rfl rfl)
theorem dX5_tones_19 : decode cX5_tones 19 = .ok (.ifCond .ne 7, 3) := dk_154 0 7 (dk_at dksX5_tones_0 19 rfl rfl)
theorem dX5_tones_22 : decode cX5_tones 22 = .ok (.iconst 1, 1) := dk_4 (dk_at dksX5_tones_0 22 rfl rfl)
theorem dX5_tones_23 : decode cX5_tones 23 = .ok (.goto 4, 3) := dk_167 0 4 (dk_at dksX5_tones_1 0 rfl rfl)
theorem dX5_tones_26 : decode cX5_tones 26 = .ok (.iconst 0, 1) := dk_3 (dk_at dksX5_tones_1 3 rfl rfl)
theorem dX5_tones_27 : decode cX5_tones 27 = .ok (.invokestatic 64, 3) := dk_184 0 64 (dk_at dksX5_tones_1 4 rfl rfl)
theorem dX5_tones_30 : decode cX5_tones 30 = .ok (.iadd, 1) := dk_96 (dk_at dksX5_tones_1 7 rfl rfl)
theorem dX5_tones_31 : decode cX5_tones 31 = .ok (.istore_n 1, 1) := dk_60 (dk_at dksX5_tones_1 8 rfl rfl)
theorem dX5_tones_32 : decode cX5_tones 32 = .ok (.iinc 2 1, 3) := dk_132 2 1 (dk_at dksX5_tones_1 9 rfl rfl)
theorem dX5_tones_35 : decode cX5_tones 35 = .ok (.goto (-31), 3) := dk_167 255 225 (dk_at dksX5_tones_1 12 rfl rfl)
theorem dX5_tones_38 : decode cX5_tones 38 = .ok (.iload_n 1, 1) := dk_27 (dk_at dksX5_tones_1 15 rfl rfl)
theorem dX5_tones_39 : decode cX5_tones 39 = .ok (.ireturn, 1) := dk_172 (dk_at dksX5_tones_1 16 rfl rfl)
abbrev cX5_has : ByteArray := prog_10_method_2_code
def yX5_has : MethodName := ⟨RX5, "has", "(I)Z"⟩
def dkwX5_has_0 : List UInt8 := [27, 133, 9, 42, 180, 0, 35, 4, 100, 133, 184, 0, 39, 172]
abbrev dktX5_has_0 : List UInt8 := dkwX5_has_0 ++ []
theorem dksX5_has_0 : cX5_has.data.toList.drop 0 = dktX5_has_0 := by decide +kernel
theorem dX5_has_0 : decode cX5_has 0 = .ok (.iload_n 1, 1) := dk_27 (dk_at dksX5_has_0 0 rfl rfl)
theorem dX5_has_1 : decode cX5_has 1 = .ok (.i2l, 1) := dk_133 (dk_at dksX5_has_0 1 rfl rfl)
theorem dX5_has_2 : decode cX5_has 2 = .ok (.lconst 0, 1) := dk_9 (dk_at dksX5_has_0 2 rfl rfl)
theorem dX5_has_3 : decode cX5_has 3 = .ok (.aload_n 0, 1) := dk_42 (dk_at dksX5_has_0 3 rfl rfl)
theorem dX5_has_4 : decode cX5_has 4 = .ok (.getfield 35, 3) := dk_180 0 35 (dk_at dksX5_has_0 4 rfl rfl)
theorem dX5_has_7 : decode cX5_has 7 = .ok (.iconst 1, 1) := dk_4 (dk_at dksX5_has_0 7 rfl rfl)
theorem dX5_has_8 : decode cX5_has 8 = .ok (.isub, 1) := dk_100 (dk_at dksX5_has_0 8 rfl rfl)
theorem dX5_has_9 : decode cX5_has 9 = .ok (.i2l, 1) := dk_133 (dk_at dksX5_has_0 9 rfl rfl)
theorem dX5_has_10 : decode cX5_has 10 = .ok (.invokestatic 39, 3) := dk_184 0 39 (dk_at dksX5_has_0 10 rfl rfl)
theorem dX5_has_13 : decode cX5_has 13 = .ok (.ireturn, 1) := dk_172 (dk_at dksX5_has_0 13 rfl rfl)
abbrev cX5_between : ByteArray := prog_10_method_3_code
def yX5_between : MethodName := ⟨RX5, "between", "(II)LPlatesSing$Piece;"⟩
def dkwX5_between_2 : List UInt8 := [50, 176, 132, 3, 1, 167, 255, 207, 1, 176]
abbrev dktX5_between_2 : List UInt8 := dkwX5_between_2 ++ []
def dkwX5_between_1 : List UInt8 := [182, 0, 46, 153, 0, 23, 42, 180, 0, 31, 29, 50, 28, 182, 0, 46, 153, 0, 10, 42, 180, 0, 31, 29]
abbrev dktX5_between_1 : List UInt8 := dkwX5_between_1 ++ dktX5_between_2
def dkwX5_between_0 : List UInt8 := [3, 62, 29, 42, 180, 0, 43, 162, 0, 47, 27, 28, 159, 0, 36, 42, 180, 0, 31, 29, 50, 27]
abbrev dktX5_between_0 : List UInt8 := dkwX5_between_0 ++ dktX5_between_1
theorem dksX5_between_0 : cX5_between.data.toList.drop 0 = dktX5_between_0 := by decide +kernel
theorem dksX5_between_1 : cX5_between.data.toList.drop 22 = dktX5_between_1 := dk_seg dksX5_between_0 22 rfl rfl
theorem dksX5_between_2 : cX5_between.data.toList.drop 46 = dktX5_between_2 := dk_seg dksX5_between_1 24 rfl rfl
theorem dX5_between_0 : decode cX5_between 0 = .ok (.iconst 0, 1) := dk_3 (dk_at dksX5_between_0 0 rfl rfl)
theorem dX5_between_1 : decode cX5_between 1 = .ok (.istore_n 3, 1) := dk_62 (dk_at dksX5_between_0 1 rfl rfl)
theorem dX5_between_2 : decode cX5_between 2 = .ok (.iload_n 3, 1) := dk_29 (dk_at dksX5_between_0 2 rfl rfl)
theorem dX5_between_3 : decode cX5_between 3 = .ok (.aload_n 0, 1) := dk_42 (dk_at dksX5_between_0 3 rfl rfl)
theorem dX5_between_4 : decode cX5_between 4 = .ok (.getfield 43, 3) := dk_180 0 43 (dk_at dksX5_between_0 4 rfl rfl)
theorem dX5_between_7 : decode cX5_between 7 = .ok (.if_icmp .ge 47, 3) := dk_162 0 47 (dk_at dksX5_between_0 7 rfl rfl)
theorem dX5_between_10 : decode cX5_between 10 = .ok (.iload_n 1, 1) := dk_27 (dk_at dksX5_between_0 10 rfl rfl)
theorem dX5_between_11 : decode cX5_between 11 = .ok (.iload_n 2, 1) := dk_28 (dk_at dksX5_between_0 11 rfl rfl)
theorem dX5_between_12 : decode cX5_between 12 = .ok (.if_icmp .eq 36, 3) := dk_159 0 36 (dk_at dksX5_between_0 12 rfl rfl)
theorem dX5_between_15 : decode cX5_between 15 = .ok (.aload_n 0, 1) := dk_42 (dk_at dksX5_between_0 15 rfl rfl)
theorem dX5_between_16 : decode cX5_between 16 = .ok (.getfield 31, 3) := dk_180 0 31 (dk_at dksX5_between_0 16 rfl rfl)
theorem dX5_between_19 : decode cX5_between 19 = .ok (.iload_n 3, 1) := dk_29 (dk_at dksX5_between_0 19 rfl rfl)
theorem dX5_between_20 : decode cX5_between 20 = .ok (.aaload, 1) := dk_50 (dk_at dksX5_between_0 20 rfl rfl)
theorem dX5_between_21 : decode cX5_between 21 = .ok (.iload_n 1, 1) := dk_27 (dk_at dksX5_between_0 21 rfl rfl)
theorem dX5_between_22 : decode cX5_between 22 = .ok (.invokevirtual 46, 3) := dk_182 0 46 (dk_at dksX5_between_1 0 rfl rfl)
theorem dX5_between_25 : decode cX5_between 25 = .ok (.ifCond .eq 23, 3) := dk_153 0 23 (dk_at dksX5_between_1 3 rfl rfl)
theorem dX5_between_28 : decode cX5_between 28 = .ok (.aload_n 0, 1) := dk_42 (dk_at dksX5_between_1 6 rfl rfl)
theorem dX5_between_29 : decode cX5_between 29 = .ok (.getfield 31, 3) := dk_180 0 31 (dk_at dksX5_between_1 7 rfl rfl)
theorem dX5_between_32 : decode cX5_between 32 = .ok (.iload_n 3, 1) := dk_29 (dk_at dksX5_between_1 10 rfl rfl)
theorem dX5_between_33 : decode cX5_between 33 = .ok (.aaload, 1) := dk_50 (dk_at dksX5_between_1 11 rfl rfl)
theorem dX5_between_34 : decode cX5_between 34 = .ok (.iload_n 2, 1) := dk_28 (dk_at dksX5_between_1 12 rfl rfl)
theorem dX5_between_35 : decode cX5_between 35 = .ok (.invokevirtual 46, 3) := dk_182 0 46 (dk_at dksX5_between_1 13 rfl rfl)
theorem dX5_between_38 : decode cX5_between 38 = .ok (.ifCond .eq 10, 3) := dk_153 0 10 (dk_at dksX5_between_1 16 rfl rfl)
theorem dX5_between_41 : decode cX5_between 41 = .ok (.aload_n 0, 1) := dk_42 (dk_at dksX5_between_1 19 rfl rfl)
theorem dX5_between_42 : decode cX5_between 42 = .ok (.getfield 31, 3) := dk_180 0 31 (dk_at dksX5_between_1 20 rfl rfl)
theorem dX5_between_45 : decode cX5_between 45 = .ok (.iload_n 3, 1) := dk_29 (dk_at dksX5_between_1 23 rfl rfl)
theorem dX5_between_46 : decode cX5_between 46 = .ok (.aaload, 1) := dk_50 (dk_at dksX5_between_2 0 rfl rfl)
theorem dX5_between_47 : decode cX5_between 47 = .ok (.areturn, 1) := dk_176 (dk_at dksX5_between_2 1 rfl rfl)
theorem dX5_between_48 : decode cX5_between 48 = .ok (.iinc 3 1, 3) := dk_132 3 1 (dk_at dksX5_between_2 2 rfl rfl)
theorem dX5_between_51 : decode cX5_between 51 = .ok (.goto (-49), 3) := dk_167 255 207 (dk_at dksX5_between_2 5 rfl rfl)
theorem dX5_between_54 : decode cX5_between 54 = .ok (.aconst_null, 1) := dk_1 (dk_at dksX5_between_2 8 rfl rfl)
theorem dX5_between_55 : decode cX5_between 55 = .ok (.areturn, 1) := dk_176 (dk_at dksX5_between_2 9 rfl rfl)
abbrev cX5_mass : ByteArray := prog_10_method_5_code
def yX5_mass : MethodName := ⟨RX5, "mass", "(I)I"⟩
def dkwX5_mass_0 : List UInt8 := [16, 9, 42, 180, 0, 15, 27, 46, 42, 180, 0, 22, 27, 46, 96, 184, 0, 58, 172]
abbrev dktX5_mass_0 : List UInt8 := dkwX5_mass_0 ++ []
theorem dksX5_mass_0 : cX5_mass.data.toList.drop 0 = dktX5_mass_0 := by decide +kernel
theorem dX5_mass_0 : decode cX5_mass 0 = .ok (.bipush 9, 2) := dk_16 9 (dk_at dksX5_mass_0 0 rfl rfl)
theorem dX5_mass_2 : decode cX5_mass 2 = .ok (.aload_n 0, 1) := dk_42 (dk_at dksX5_mass_0 2 rfl rfl)
theorem dX5_mass_3 : decode cX5_mass 3 = .ok (.getfield 15, 3) := dk_180 0 15 (dk_at dksX5_mass_0 3 rfl rfl)
theorem dX5_mass_6 : decode cX5_mass 6 = .ok (.iload_n 1, 1) := dk_27 (dk_at dksX5_mass_0 6 rfl rfl)
theorem dX5_mass_7 : decode cX5_mass 7 = .ok (.iaload, 1) := dk_46 (dk_at dksX5_mass_0 7 rfl rfl)
theorem dX5_mass_8 : decode cX5_mass 8 = .ok (.aload_n 0, 1) := dk_42 (dk_at dksX5_mass_0 8 rfl rfl)
theorem dX5_mass_9 : decode cX5_mass 9 = .ok (.getfield 22, 3) := dk_180 0 22 (dk_at dksX5_mass_0 9 rfl rfl)
theorem dX5_mass_12 : decode cX5_mass 12 = .ok (.iload_n 1, 1) := dk_27 (dk_at dksX5_mass_0 12 rfl rfl)
theorem dX5_mass_13 : decode cX5_mass 13 = .ok (.iaload, 1) := dk_46 (dk_at dksX5_mass_0 13 rfl rfl)
theorem dX5_mass_14 : decode cX5_mass 14 = .ok (.iadd, 1) := dk_96 (dk_at dksX5_mass_0 14 rfl rfl)
theorem dX5_mass_15 : decode cX5_mass 15 = .ok (.invokestatic 58, 3) := dk_184 0 58 (dk_at dksX5_mass_0 15 rfl rfl)
theorem dX5_mass_18 : decode cX5_mass 18 = .ok (.ireturn, 1) := dk_172 (dk_at dksX5_mass_0 18 rfl rfl)
abbrev cX5_counted : ByteArray := prog_10_method_4_code
def yX5_counted : MethodName := ⟨RX5, "counted", "(II)I"⟩
def dkwX5_counted_0 : List UInt8 := [42, 27, 28, 182, 0, 50, 78, 45, 199, 0, 7, 3, 167, 0, 7, 45, 182, 0, 54, 172]
abbrev dktX5_counted_0 : List UInt8 := dkwX5_counted_0 ++ []
theorem dksX5_counted_0 : cX5_counted.data.toList.drop 0 = dktX5_counted_0 := by decide +kernel
theorem dX5_counted_0 : decode cX5_counted 0 = .ok (.aload_n 0, 1) := dk_42 (dk_at dksX5_counted_0 0 rfl rfl)
theorem dX5_counted_1 : decode cX5_counted 1 = .ok (.iload_n 1, 1) := dk_27 (dk_at dksX5_counted_0 1 rfl rfl)
theorem dX5_counted_2 : decode cX5_counted 2 = .ok (.iload_n 2, 1) := dk_28 (dk_at dksX5_counted_0 2 rfl rfl)
theorem dX5_counted_3 : decode cX5_counted 3 = .ok (.invokevirtual 50, 3) := dk_182 0 50 (dk_at dksX5_counted_0 3 rfl rfl)
theorem dX5_counted_6 : decode cX5_counted 6 = .ok (.astore_n 3, 1) := dk_78 (dk_at dksX5_counted_0 6 rfl rfl)
theorem dX5_counted_7 : decode cX5_counted 7 = .ok (.aload_n 3, 1) := dk_45 (dk_at dksX5_counted_0 7 rfl rfl)
theorem dX5_counted_8 : decode cX5_counted 8 = .ok (.ifnonnull 7, 3) := dk_199 0 7 (dk_at dksX5_counted_0 8 rfl rfl)
theorem dX5_counted_11 : decode cX5_counted 11 = .ok (.iconst 0, 1) := dk_3 (dk_at dksX5_counted_0 11 rfl rfl)
theorem dX5_counted_12 : decode cX5_counted 12 = .ok (.goto 7, 3) := dk_167 0 7 (dk_at dksX5_counted_0 12 rfl rfl)
theorem dX5_counted_15 : decode cX5_counted 15 = .ok (.aload_n 3, 1) := dk_45 (dk_at dksX5_counted_0 15 rfl rfl)
theorem dX5_counted_16 : decode cX5_counted 16 = .ok (.invokevirtual 54, 3) := dk_182 0 54 (dk_at dksX5_counted_0 16 rfl rfl)
theorem dX5_counted_19 : decode cX5_counted 19 = .ok (.ireturn, 1) := dk_172 (dk_at dksX5_counted_0 19 rfl rfl)
theorem q117 : (Jvm.Cond.initialized "PlatesSing$Shape") ∈ lw_all := lw_g (lw_at lw_m1 9 rfl) rfl
theorem q637 : (Jvm.Cond.instantiable "PlatesSing$Shape" (10 : Nat)) ∈ lw_all := lw_g (lw_at lw_m3 49 rfl) rfl
theorem q639 : (Jvm.Cond.instanceMethod ({ cls := "PlatesSing$Shape", name := "<init>", desc := "(LPlatesSing;I)V" } : Jvm.MethodName)) ∈ lw_all := lw_g (lw_at lw_m3 51 rfl) rfl
theorem q640 : (Jvm.Cond.code ({ cls := "PlatesSing$Shape", name := "<init>", desc := "(LPlatesSing;I)V" } : Jvm.MethodName) prog_10_method_1_code (3 : Nat) (Option.none : Option Jvm.ClassFile.FieldType)) ∈ lw_all := lw_g (lw_at lw_m3 52 rfl) rfl
theorem q641 : (Jvm.Cond.methodLink "PlatesSing$Shape" (9 : Nat) ({ cls := "java/lang/Object", name := "<init>", desc := "()V" } : Jvm.MethodName)) ∈ lw_all := lw_g (lw_at lw_m3 53 rfl) rfl
theorem q642 : (Jvm.Cond.classLink "PlatesSing$Shape" (29 : Nat) "PlatesSing$Piece") ∈ lw_all := lw_g (lw_at lw_m3 54 rfl) rfl
theorem q644 : (Jvm.Cond.fieldLink "PlatesSing$Shape" (35 : Nat) "PlatesSing$Shape" "corners" "I") ∈ lw_all := lw_g (lw_at lw_m3 56 rfl) rfl
theorem q646 : (Jvm.Cond.fieldLink "PlatesSing$Shape" (15 : Nat) "PlatesSing$Shape" "heavy" "[I") ∈ lw_all := lw_g (lw_at lw_m3 58 rfl) rfl
theorem q649 : (Jvm.Cond.fieldLink "PlatesSing$Shape" (19 : Nat) "PlatesSing$Shape" "pad" "[I") ∈ lw_all := lw_g (lw_at lw_m3 61 rfl) rfl
theorem q652 : (Jvm.Cond.fieldLink "PlatesSing$Shape" (22 : Nat) "PlatesSing$Shape" "weight" "[I") ∈ lw_all := lw_g (lw_at lw_m3 64 rfl) rfl
theorem q655 : (Jvm.Cond.fieldLink "PlatesSing$Shape" (25 : Nat) "PlatesSing$Shape" "isHeld" "[Z") ∈ lw_all := lw_g (lw_at lw_m3 67 rfl) rfl
theorem q658 : (Jvm.Cond.fieldLink "PlatesSing$Shape" (31 : Nat) "PlatesSing$Shape" "pieces" "[LPlatesSing$Piece;") ∈ lw_all := lw_g (lw_at lw_m3 70 rfl) rfl
theorem q661 : (Jvm.Cond.fieldLink "PlatesSing$Shape" (43 : Nat) "PlatesSing$Shape" "many" "I") ∈ lw_all := lw_g (lw_at lw_m3 73 rfl) rfl
theorem q666 : (Jvm.Cond.fieldLink "PlatesSing$Shape" (3 : Nat) "PlatesSing$Shape" "this$0" "LPlatesSing;") ∈ lw_all := lw_g (lw_at lw_m3 78 rfl) rfl
theorem q667 : (Jvm.Cond.laysFinal "PlatesSing$Shape" "PlatesSing$Shape" "corners" "I") ∈ lw_all := lw_g (lw_at lw_m3 79 rfl) rfl
theorem q668 : (Jvm.Cond.soleField "PlatesSing$Shape" "corners") ∈ lw_all := lw_g (lw_at lw_m3 80 rfl) rfl
theorem q669 : (Jvm.Cond.laysFinal "PlatesSing$Shape" "PlatesSing$Shape" "heavy" "[I") ∈ lw_all := lw_g (lw_at lw_m3 81 rfl) rfl
theorem q670 : (Jvm.Cond.soleField "PlatesSing$Shape" "heavy") ∈ lw_all := lw_g (lw_at lw_m3 82 rfl) rfl
theorem q671 : (Jvm.Cond.laysFinal "PlatesSing$Shape" "PlatesSing$Shape" "pad" "[I") ∈ lw_all := lw_g (lw_at lw_m3 83 rfl) rfl
theorem q672 : (Jvm.Cond.soleField "PlatesSing$Shape" "pad") ∈ lw_all := lw_g (lw_at lw_m3 84 rfl) rfl
theorem q673 : (Jvm.Cond.laysFinal "PlatesSing$Shape" "PlatesSing$Shape" "weight" "[I") ∈ lw_all := lw_g (lw_at lw_m3 85 rfl) rfl
theorem q674 : (Jvm.Cond.soleField "PlatesSing$Shape" "weight") ∈ lw_all := lw_g (lw_at lw_m3 86 rfl) rfl
theorem q675 : (Jvm.Cond.laysFinal "PlatesSing$Shape" "PlatesSing$Shape" "isHeld" "[Z") ∈ lw_all := lw_g (lw_at lw_m3 87 rfl) rfl
theorem q676 : (Jvm.Cond.soleField "PlatesSing$Shape" "isHeld") ∈ lw_all := lw_g (lw_at lw_m3 88 rfl) rfl
theorem q677 : (Jvm.Cond.laysFinal "PlatesSing$Shape" "PlatesSing$Shape" "pieces" "[LPlatesSing$Piece;") ∈ lw_all := lw_g (lw_at lw_m3 89 rfl) rfl
theorem q678 : (Jvm.Cond.soleField "PlatesSing$Shape" "pieces") ∈ lw_all := lw_g (lw_at lw_m3 90 rfl) rfl
theorem q679 : (Jvm.Cond.lays "PlatesSing$Shape" "PlatesSing$Shape" "many" "I") ∈ lw_all := lw_g (lw_at lw_m3 91 rfl) rfl
theorem q680 : (Jvm.Cond.soleField "PlatesSing$Shape" "many") ∈ lw_all := lw_g (lw_at lw_m3 92 rfl) rfl
theorem q681 : (Jvm.Cond.lays "PlatesSing$Shape" "PlatesSing$Shape" "first" "LPlatesSing$Shape;") ∈ lw_all := lw_g (lw_at lw_m3 93 rfl) rfl
theorem q682 : (Jvm.Cond.soleField "PlatesSing$Shape" "first") ∈ lw_all := lw_g (lw_at lw_m3 94 rfl) rfl
theorem q683 : (Jvm.Cond.lays "PlatesSing$Shape" "PlatesSing$Shape" "second" "LPlatesSing$Shape;") ∈ lw_all := lw_g (lw_at lw_m3 95 rfl) rfl
theorem q684 : (Jvm.Cond.soleField "PlatesSing$Shape" "second") ∈ lw_all := lw_g (lw_at lw_m3 96 rfl) rfl
theorem q685 : (Jvm.Cond.laysFinal "PlatesSing$Shape" "PlatesSing$Shape" "this$0" "LPlatesSing;") ∈ lw_all := lw_g (lw_at lw_m3 97 rfl) rfl
theorem q686 : (Jvm.Cond.soleField "PlatesSing$Shape" "this$0") ∈ lw_all := lw_g (lw_at lw_m3 98 rfl) rfl
theorem q687 : (Jvm.Cond.superclass "PlatesSing$Shape" "java/lang/Object") ∈ lw_all := lw_g (lw_at lw_m3 99 rfl) rfl
theorem q708 : (Jvm.Cond.instanceMethod ({ cls := "PlatesSing$Shape", name := "tones", desc := "()I" } : Jvm.MethodName)) ∈ lw_all := lw_g (lw_at lw_m3 120 rfl) rfl
theorem q709 : (Jvm.Cond.selects "PlatesSing$Shape" ({ cls := "PlatesSing$Shape", name := "tones", desc := "()I" } : Jvm.MethodName) ({ cls := "PlatesSing$Shape", name := "tones", desc := "()I" } : Jvm.MethodName)) ∈ lw_all := lw_g (lw_at lw_m3 121 rfl) rfl
theorem q710 : (Jvm.Cond.code ({ cls := "PlatesSing$Shape", name := "tones", desc := "()I" } : Jvm.MethodName) prog_10_method_6_code (3 : Nat) (Option.some Jvm.ClassFile.FieldType.int)) ∈ lw_all := lw_g (lw_at lw_m3 122 rfl) rfl
theorem q711 : (Jvm.Cond.methodLinkNest "PlatesSing$Shape" (64 : Nat) ({ cls := "PlatesSing", name := "bit", desc := "(Z)I" } : Jvm.MethodName) "PlatesSing") ∈ lw_tbl := lw_at lw_m3 123 rfl
theorem q715 : (Jvm.Cond.instanceMethod ({ cls := "PlatesSing$Shape", name := "has", desc := "(I)Z" } : Jvm.MethodName)) ∈ lw_all := lw_g (lw_at lw_m3 127 rfl) rfl
theorem q716 : (Jvm.Cond.selects "PlatesSing$Shape" ({ cls := "PlatesSing$Shape", name := "has", desc := "(I)Z" } : Jvm.MethodName) ({ cls := "PlatesSing$Shape", name := "has", desc := "(I)Z" } : Jvm.MethodName)) ∈ lw_all := lw_g (lw_at lw_m3 128 rfl) rfl
theorem q717 : (Jvm.Cond.code ({ cls := "PlatesSing$Shape", name := "has", desc := "(I)Z" } : Jvm.MethodName) prog_10_method_2_code (2 : Nat) (Option.some Jvm.ClassFile.FieldType.boolean)) ∈ lw_all := lw_g (lw_at lw_m3 129 rfl) rfl
theorem q718 : (Jvm.Cond.methodLinkNest "PlatesSing$Shape" (39 : Nat) ({ cls := "PlatesSing", name := "within", desc := "(JJJ)Z" } : Jvm.MethodName) "PlatesSing") ∈ lw_tbl := lw_at lw_m3 130 rfl
theorem q730 : (Jvm.Cond.instanceMethod ({ cls := "PlatesSing$Shape", name := "between", desc := "(II)LPlatesSing$Piece;" } : Jvm.MethodName)) ∈ lw_all := lw_g (lw_at lw_m3 142 rfl) rfl
theorem q731 : (Jvm.Cond.selects "PlatesSing$Shape" ({ cls := "PlatesSing$Shape", name := "between", desc := "(II)LPlatesSing$Piece;" } : Jvm.MethodName) ({ cls := "PlatesSing$Shape", name := "between", desc := "(II)LPlatesSing$Piece;" } : Jvm.MethodName)) ∈ lw_all := lw_g (lw_at lw_m3 143 rfl) rfl
theorem q732 : (Jvm.Cond.code ({ cls := "PlatesSing$Shape", name := "between", desc := "(II)LPlatesSing$Piece;" } : Jvm.MethodName) prog_10_method_3_code (4 : Nat) (Option.some (Jvm.ClassFile.FieldType.object "PlatesSing$Piece"))) ∈ lw_all := lw_g (lw_at lw_m3 144 rfl) rfl
theorem q733 : (Jvm.Cond.methodLink "PlatesSing$Shape" (46 : Nat) ({ cls := "PlatesSing$Piece", name := "isAt", desc := "(I)Z" } : Jvm.MethodName)) ∈ lw_all := lw_g (lw_at lw_m3 145 rfl) rfl
theorem q815 : (Jvm.Cond.instanceMethod ({ cls := "PlatesSing$Shape", name := "mass", desc := "(I)I" } : Jvm.MethodName)) ∈ lw_all := lw_g (lw_at lw_m3 227 rfl) rfl
theorem q816 : (Jvm.Cond.selects "PlatesSing$Shape" ({ cls := "PlatesSing$Shape", name := "mass", desc := "(I)I" } : Jvm.MethodName) ({ cls := "PlatesSing$Shape", name := "mass", desc := "(I)I" } : Jvm.MethodName)) ∈ lw_all := lw_g (lw_at lw_m3 228 rfl) rfl
theorem q817 : (Jvm.Cond.code ({ cls := "PlatesSing$Shape", name := "mass", desc := "(I)I" } : Jvm.MethodName) prog_10_method_5_code (2 : Nat) (Option.some Jvm.ClassFile.FieldType.int)) ∈ lw_all := lw_g (lw_at lw_m3 229 rfl) rfl
theorem q818 : (Jvm.Cond.methodLink "PlatesSing$Shape" (58 : Nat) ({ cls := "java/lang/Math", name := "min", desc := "(II)I" } : Jvm.MethodName)) ∈ lw_all := lw_g (lw_at lw_m3 230 rfl) rfl
theorem q820 : (Jvm.Cond.instanceMethod ({ cls := "PlatesSing$Shape", name := "counted", desc := "(II)I" } : Jvm.MethodName)) ∈ lw_all := lw_g (lw_at lw_m3 232 rfl) rfl
theorem q821 : (Jvm.Cond.selects "PlatesSing$Shape" ({ cls := "PlatesSing$Shape", name := "counted", desc := "(II)I" } : Jvm.MethodName) ({ cls := "PlatesSing$Shape", name := "counted", desc := "(II)I" } : Jvm.MethodName)) ∈ lw_all := lw_g (lw_at lw_m3 233 rfl) rfl
theorem q822 : (Jvm.Cond.code ({ cls := "PlatesSing$Shape", name := "counted", desc := "(II)I" } : Jvm.MethodName) prog_10_method_4_code (4 : Nat) (Option.some Jvm.ClassFile.FieldType.int)) ∈ lw_all := lw_g (lw_at lw_m3 234 rfl) rfl
theorem q823 : (Jvm.Cond.methodLink "PlatesSing$Shape" (50 : Nat) ({ cls := "PlatesSing$Shape", name := "between", desc := "(II)LPlatesSing$Piece;" } : Jvm.MethodName)) ∈ lw_all := lw_g (lw_at lw_m3 235 rfl) rfl
theorem q824 : (Jvm.Cond.methodLink "PlatesSing$Shape" (54 : Nat) ({ cls := "PlatesSing$Piece", name := "counts", desc := "()I" } : Jvm.MethodName)) ∈ lw_all := lw_g (lw_at lw_m3 236 rfl) rfl
theorem q2256 : (Jvm.Cond.castable "PlatesSing$Shape" "java/lang/Object") ∈ lw_tbl := lw_at lw_m9 228 rfl
theorem in_X5 : ∀ w ∈ wsX50, w ∈ lw_all := lw_in wsX50 [667, 669, 671, 673, 675, 677, 679, 681, 683, 685] (by decide +kernel) (by decide +kernel)

/-! PlatesSing$Part -/
set_option maxRecDepth 100000
def RX6 : String := "PlatesSing$Part"
def TX6 : u_T := fun k => match k with
  | 0 => ("PlatesSing$Part", "number", "I", true)
  | _ => ("PlatesSing$Part", "this$0", "LPlatesSing;", true)
def tyX6 : Nat → FieldType := fun k => match k with
  | 0 => .int
  | _ => .object "PlatesSing"
abbrev wsX60 : List Cond := u_ws RX6 TX6 2
theorem nmX6 : ∀ a, a < 2 → ∀ b, b < 2 → a ≠ b → (TX6 a).2.1 ≠ (TX6 b).2.1 := by decide +kernel
theorem tyX6_ok : ∀ k, k < 2 → parseFieldDescriptor (TX6 k).2.2.1 = some (tyX6 k) := by decide +kernel
abbrev cX6_init : ByteArray := prog_7_method_1_code
def yX6_init : MethodName := ⟨RX6, "<init>", "(LPlatesSing;I)V"⟩
def dkwX6_init_0 : List UInt8 := [42, 43, 181, 0, 3, 42, 183, 0, 9, 42, 28, 181, 0, 15, 177]
abbrev dktX6_init_0 : List UInt8 := dkwX6_init_0 ++ []
theorem dksX6_init_0 : cX6_init.data.toList.drop 0 = dktX6_init_0 := by decide +kernel
theorem dX6_init_0 : decode cX6_init 0 = .ok (.aload_n 0, 1) := dk_42 (dk_at dksX6_init_0 0 rfl rfl)
theorem dX6_init_1 : decode cX6_init 1 = .ok (.aload_n 1, 1) := dk_43 (dk_at dksX6_init_0 1 rfl rfl)
theorem dX6_init_2 : decode cX6_init 2 = .ok (.putfield 3, 3) := dk_181 0 3 (dk_at dksX6_init_0 2 rfl rfl)
theorem dX6_init_5 : decode cX6_init 5 = .ok (.aload_n 0, 1) := dk_42 (dk_at dksX6_init_0 5 rfl rfl)
theorem dX6_init_6 : decode cX6_init 6 = .ok (.invokespecial 9, 3) := dk_183 0 9 (dk_at dksX6_init_0 6 rfl rfl)
theorem dX6_init_9 : decode cX6_init 9 = .ok (.aload_n 0, 1) := dk_42 (dk_at dksX6_init_0 9 rfl rfl)
theorem dX6_init_10 : decode cX6_init 10 = .ok (.iload_n 2, 1) := dk_28 (dk_at dksX6_init_0 10 rfl rfl)
theorem dX6_init_11 : decode cX6_init 11 = .ok (.putfield 15, 3) := dk_181 0 15 (dk_at dksX6_init_0 11 rfl rfl)
theorem dX6_init_14 : decode cX6_init 14 = .ok (.return_, 1) := dk_177 (dk_at dksX6_init_0 14 rfl rfl)
abbrev cX6_begins : ByteArray := prog_7_method_5_code
def yX6_begins : MethodName := ⟨RX6, "begins", "(I)V"⟩
def dkwX6_begins_1 : List UInt8 := [180, 0, 19, 27, 79, 42, 180, 0, 3, 89, 180, 0, 19, 4, 96, 181, 0, 19, 177]
abbrev dktX6_begins_1 : List UInt8 := dkwX6_begins_1 ++ []
def dkwX6_begins_0 : List UInt8 := [42, 180, 0, 3, 180, 0, 19, 16, 24, 162, 0, 19, 42, 180, 0, 3, 180, 0, 22, 42, 180, 0, 3]
abbrev dktX6_begins_0 : List UInt8 := dkwX6_begins_0 ++ dktX6_begins_1
theorem dksX6_begins_0 : cX6_begins.data.toList.drop 0 = dktX6_begins_0 := by decide +kernel
theorem dksX6_begins_1 : cX6_begins.data.toList.drop 23 = dktX6_begins_1 := dk_seg dksX6_begins_0 23 rfl rfl
theorem dX6_begins_0 : decode cX6_begins 0 = .ok (.aload_n 0, 1) := dk_42 (dk_at dksX6_begins_0 0 rfl rfl)
theorem dX6_begins_1 : decode cX6_begins 1 = .ok (.getfield 3, 3) := dk_180 0 3 (dk_at dksX6_begins_0 1 rfl rfl)
theorem dX6_begins_4 : decode cX6_begins 4 = .ok (.getfield 19, 3) := dk_180 0 19 (dk_at dksX6_begins_0 4 rfl rfl)
theorem dX6_begins_7 : decode cX6_begins 7 = .ok (.bipush 24, 2) := dk_16 24 (dk_at dksX6_begins_0 7 rfl rfl)
theorem dX6_begins_9 : decode cX6_begins 9 = .ok (.if_icmp .ge 19, 3) := dk_162 0 19 (dk_at dksX6_begins_0 9 rfl rfl)
theorem dX6_begins_12 : decode cX6_begins 12 = .ok (.aload_n 0, 1) := dk_42 (dk_at dksX6_begins_0 12 rfl rfl)
theorem dX6_begins_13 : decode cX6_begins 13 = .ok (.getfield 3, 3) := dk_180 0 3 (dk_at dksX6_begins_0 13 rfl rfl)
theorem dX6_begins_16 : decode cX6_begins 16 = .ok (.getfield 22, 3) := dk_180 0 22 (dk_at dksX6_begins_0 16 rfl rfl)
theorem dX6_begins_19 : decode cX6_begins 19 = .ok (.aload_n 0, 1) := dk_42 (dk_at dksX6_begins_0 19 rfl rfl)
theorem dX6_begins_20 : decode cX6_begins 20 = .ok (.getfield 3, 3) := dk_180 0 3 (dk_at dksX6_begins_0 20 rfl rfl)
theorem dX6_begins_23 : decode cX6_begins 23 = .ok (.getfield 19, 3) := dk_180 0 19 (dk_at dksX6_begins_1 0 rfl rfl)
theorem dX6_begins_26 : decode cX6_begins 26 = .ok (.iload_n 1, 1) := dk_27 (dk_at dksX6_begins_1 3 rfl rfl)
theorem dX6_begins_27 : decode cX6_begins 27 = .ok (.iastore, 1) := dk_79 (dk_at dksX6_begins_1 4 rfl rfl)
theorem dX6_begins_28 : decode cX6_begins 28 = .ok (.aload_n 0, 1) := dk_42 (dk_at dksX6_begins_1 5 rfl rfl)
theorem dX6_begins_29 : decode cX6_begins 29 = .ok (.getfield 3, 3) := dk_180 0 3 (dk_at dksX6_begins_1 6 rfl rfl)
theorem dX6_begins_32 : decode cX6_begins 32 = .ok (.dup, 1) := dk_89 (dk_at dksX6_begins_1 9 rfl rfl)
theorem dX6_begins_33 : decode cX6_begins 33 = .ok (.getfield 19, 3) := dk_180 0 19 (dk_at dksX6_begins_1 10 rfl rfl)
theorem dX6_begins_36 : decode cX6_begins 36 = .ok (.iconst 1, 1) := dk_4 (dk_at dksX6_begins_1 13 rfl rfl)
theorem dX6_begins_37 : decode cX6_begins 37 = .ok (.iadd, 1) := dk_96 (dk_at dksX6_begins_1 14 rfl rfl)
theorem dX6_begins_38 : decode cX6_begins 38 = .ok (.putfield 19, 3) := dk_181 0 19 (dk_at dksX6_begins_1 15 rfl rfl)
theorem dX6_begins_41 : decode cX6_begins 41 = .ok (.return_, 1) := dk_177 (dk_at dksX6_begins_1 18 rfl rfl)
abbrev cX6_stiff : ByteArray := prog_7_method_4_code
def yX6_stiff : MethodName := ⟨RX6, "stiff", "()I"⟩
theorem dX6_stiff_0 : decode cX6_stiff 0 = .ok (.iconst 0, 1) := by decide +kernel
theorem dX6_stiff_1 : decode cX6_stiff 1 = .ok (.ireturn, 1) := by decide +kernel
abbrev cX6_weighs : ByteArray := prog_7_method_6_code
def yX6_weighs : MethodName := ⟨RX6, "weighs", "(I)I"⟩
def dkwX6_weighs_0 : List UInt8 := [42, 16, 10, 182, 0, 26, 42, 27, 182, 0, 30, 5, 104, 172]
abbrev dktX6_weighs_0 : List UInt8 := dkwX6_weighs_0 ++ []
theorem dksX6_weighs_0 : cX6_weighs.data.toList.drop 0 = dktX6_weighs_0 := by decide +kernel
theorem dX6_weighs_0 : decode cX6_weighs 0 = .ok (.aload_n 0, 1) := dk_42 (dk_at dksX6_weighs_0 0 rfl rfl)
theorem dX6_weighs_1 : decode cX6_weighs 1 = .ok (.bipush 10, 2) := dk_16 10 (dk_at dksX6_weighs_0 1 rfl rfl)
theorem dX6_weighs_3 : decode cX6_weighs 3 = .ok (.invokevirtual 26, 3) := dk_182 0 26 (dk_at dksX6_weighs_0 3 rfl rfl)
theorem dX6_weighs_6 : decode cX6_weighs 6 = .ok (.aload_n 0, 1) := dk_42 (dk_at dksX6_weighs_0 6 rfl rfl)
theorem dX6_weighs_7 : decode cX6_weighs 7 = .ok (.iload_n 1, 1) := dk_27 (dk_at dksX6_weighs_0 7 rfl rfl)
theorem dX6_weighs_8 : decode cX6_weighs 8 = .ok (.invokevirtual 30, 3) := dk_182 0 30 (dk_at dksX6_weighs_0 8 rfl rfl)
theorem dX6_weighs_11 : decode cX6_weighs 11 = .ok (.iconst 2, 1) := dk_5 (dk_at dksX6_weighs_0 11 rfl rfl)
theorem dX6_weighs_12 : decode cX6_weighs 12 = .ok (.imul, 1) := dk_104 (dk_at dksX6_weighs_0 12 rfl rfl)
theorem dX6_weighs_13 : decode cX6_weighs 13 = .ok (.ireturn, 1) := dk_172 (dk_at dksX6_weighs_0 13 rfl rfl)
abbrev cX6_sounds : ByteArray := prog_7_method_7_code
def yX6_sounds : MethodName := ⟨RX6, "sounds", "(I)I"⟩
def dkwX6_sounds_0 : List UInt8 := [42, 16, 11, 182, 0, 26, 27, 42, 180, 0, 15, 130, 172]
abbrev dktX6_sounds_0 : List UInt8 := dkwX6_sounds_0 ++ []
theorem dksX6_sounds_0 : cX6_sounds.data.toList.drop 0 = dktX6_sounds_0 := by decide +kernel
theorem dX6_sounds_0 : decode cX6_sounds 0 = .ok (.aload_n 0, 1) := dk_42 (dk_at dksX6_sounds_0 0 rfl rfl)
theorem dX6_sounds_1 : decode cX6_sounds 1 = .ok (.bipush 11, 2) := dk_16 11 (dk_at dksX6_sounds_0 1 rfl rfl)
theorem dX6_sounds_3 : decode cX6_sounds 3 = .ok (.invokevirtual 26, 3) := dk_182 0 26 (dk_at dksX6_sounds_0 3 rfl rfl)
theorem dX6_sounds_6 : decode cX6_sounds 6 = .ok (.iload_n 1, 1) := dk_27 (dk_at dksX6_sounds_0 6 rfl rfl)
theorem dX6_sounds_7 : decode cX6_sounds 7 = .ok (.aload_n 0, 1) := dk_42 (dk_at dksX6_sounds_0 7 rfl rfl)
theorem dX6_sounds_8 : decode cX6_sounds 8 = .ok (.getfield 15, 3) := dk_180 0 15 (dk_at dksX6_sounds_0 8 rfl rfl)
theorem dX6_sounds_11 : decode cX6_sounds 11 = .ok (.ixor, 1) := dk_130 (dk_at dksX6_sounds_0 11 rfl rfl)
theorem dX6_sounds_12 : decode cX6_sounds 12 = .ok (.ireturn, 1) := dk_172 (dk_at dksX6_sounds_0 12 rfl rfl)
abbrev cX6_isUnder : ByteArray := prog_7_method_3_code
def yX6_isUnder : MethodName := ⟨RX6, "isUnder", "(I)Z"⟩
def dkwX6_isUnder_0 : List UInt8 := [27, 154, 0, 7, 4, 167, 0, 4, 3, 172]
abbrev dktX6_isUnder_0 : List UInt8 := dkwX6_isUnder_0 ++ []
theorem dksX6_isUnder_0 : cX6_isUnder.data.toList.drop 0 = dktX6_isUnder_0 := by decide +kernel
theorem dX6_isUnder_0 : decode cX6_isUnder 0 = .ok (.iload_n 1, 1) := dk_27 (dk_at dksX6_isUnder_0 0 rfl rfl)
theorem dX6_isUnder_1 : decode cX6_isUnder 1 = .ok (.ifCond .ne 7, 3) := dk_154 0 7 (dk_at dksX6_isUnder_0 1 rfl rfl)
theorem dX6_isUnder_4 : decode cX6_isUnder 4 = .ok (.iconst 1, 1) := dk_4 (dk_at dksX6_isUnder_0 4 rfl rfl)
theorem dX6_isUnder_5 : decode cX6_isUnder 5 = .ok (.goto 4, 3) := dk_167 0 4 (dk_at dksX6_isUnder_0 5 rfl rfl)
theorem dX6_isUnder_8 : decode cX6_isUnder 8 = .ok (.iconst 0, 1) := dk_3 (dk_at dksX6_isUnder_0 8 rfl rfl)
theorem dX6_isUnder_9 : decode cX6_isUnder 9 = .ok (.ireturn, 1) := dk_172 (dk_at dksX6_isUnder_0 9 rfl rfl)
abbrev cX6_kind : ByteArray := prog_7_method_2_code
def yX6_kind : MethodName := ⟨RX6, "kind", "()I"⟩
theorem dX6_kind_0 : decode cX6_kind 0 = .ok (.iconst 0, 1) := by decide +kernel
theorem dX6_kind_1 : decode cX6_kind 1 = .ok (.ireturn, 1) := by decide +kernel
theorem q118 : (Jvm.Cond.initialized "PlatesSing$Part") ∈ lw_all := lw_g (lw_at lw_m1 10 rfl) rfl
theorem q287 : (Jvm.Cond.fieldLinkNest "PlatesSing$Part" (22 : Nat) "PlatesSing" "trace" "[I" "PlatesSing") ∈ lw_tbl := lw_at lw_m1 179 rfl
theorem q288 : (Jvm.Cond.fieldLinkNest "PlatesSing$Part" (19 : Nat) "PlatesSing" "ran" "I" "PlatesSing") ∈ lw_tbl := lw_at lw_m1 180 rfl
theorem q490 : (Jvm.Cond.instantiable "PlatesSing$Part" (2 : Nat)) ∈ lw_all := lw_g (lw_at lw_m2 142 rfl) rfl
theorem q492 : (Jvm.Cond.instanceMethod ({ cls := "PlatesSing$Part", name := "<init>", desc := "(LPlatesSing;I)V" } : Jvm.MethodName)) ∈ lw_all := lw_g (lw_at lw_m2 144 rfl) rfl
theorem q493 : (Jvm.Cond.code ({ cls := "PlatesSing$Part", name := "<init>", desc := "(LPlatesSing;I)V" } : Jvm.MethodName) prog_7_method_1_code (3 : Nat) (Option.none : Option Jvm.ClassFile.FieldType)) ∈ lw_all := lw_g (lw_at lw_m2 145 rfl) rfl
theorem q494 : (Jvm.Cond.methodLink "PlatesSing$Part" (9 : Nat) ({ cls := "java/lang/Object", name := "<init>", desc := "()V" } : Jvm.MethodName)) ∈ lw_all := lw_g (lw_at lw_m2 146 rfl) rfl
theorem q495 : (Jvm.Cond.fieldLink "PlatesSing$Part" (15 : Nat) "PlatesSing$Part" "number" "I") ∈ lw_all := lw_g (lw_at lw_m2 147 rfl) rfl
theorem q497 : (Jvm.Cond.fieldLink "PlatesSing$Part" (3 : Nat) "PlatesSing$Part" "this$0" "LPlatesSing;") ∈ lw_all := lw_g (lw_at lw_m2 149 rfl) rfl
theorem q498 : (Jvm.Cond.laysFinal "PlatesSing$Part" "PlatesSing$Part" "number" "I") ∈ lw_all := lw_g (lw_at lw_m2 150 rfl) rfl
theorem q499 : (Jvm.Cond.soleField "PlatesSing$Part" "number") ∈ lw_all := lw_g (lw_at lw_m2 151 rfl) rfl
theorem q500 : (Jvm.Cond.laysFinal "PlatesSing$Part" "PlatesSing$Part" "this$0" "LPlatesSing;") ∈ lw_all := lw_g (lw_at lw_m2 152 rfl) rfl
theorem q501 : (Jvm.Cond.soleField "PlatesSing$Part" "this$0") ∈ lw_all := lw_g (lw_at lw_m2 153 rfl) rfl
theorem q502 : (Jvm.Cond.superclass "PlatesSing$Part" "java/lang/Object") ∈ lw_all := lw_g (lw_at lw_m2 154 rfl) rfl
theorem q1130 : (Jvm.Cond.declares ({ cls := "PlatesSing$Part", name := "begins", desc := "(I)V" } : Jvm.MethodName)) ∈ lw_tbl := lw_at lw_m5 62 rfl
theorem q1133 : (Jvm.Cond.instanceMethod ({ cls := "PlatesSing$Part", name := "begins", desc := "(I)V" } : Jvm.MethodName)) ∈ lw_all := lw_g (lw_at lw_m5 65 rfl) rfl
theorem q1134 : (Jvm.Cond.code ({ cls := "PlatesSing$Part", name := "begins", desc := "(I)V" } : Jvm.MethodName) prog_7_method_5_code (2 : Nat) (Option.none : Option Jvm.ClassFile.FieldType)) ∈ lw_all := lw_g (lw_at lw_m5 66 rfl) rfl
theorem q1153 : (Jvm.Cond.publicMethod ({ cls := "PlatesSing$Part", name := "begins", desc := "(I)V" } : Jvm.MethodName)) ∈ lw_tbl := lw_at lw_m5 85 rfl
theorem q1160 : (Jvm.Cond.castable "PlatesSing$Part" "PlatesSing$Stiffens") ∈ lw_tbl := lw_at lw_m5 92 rfl
theorem q1161 : (Jvm.Cond.selects "PlatesSing$Part" ({ cls := "PlatesSing$Stiffens", name := "begins", desc := "(I)V" } : Jvm.MethodName) ({ cls := "PlatesSing$Part", name := "begins", desc := "(I)V" } : Jvm.MethodName)) ∈ lw_all := lw_g (lw_at lw_m5 93 rfl) rfl
theorem q1162 : (Jvm.Cond.unhidden "PlatesSing$Part" "begins" "(I)V") ∈ lw_tbl := lw_at lw_m5 94 rfl
theorem q1182 : (Jvm.Cond.selects "PlatesSing$Part" ({ cls := "PlatesSing$Stiffens", name := "stiff", desc := "()I" } : Jvm.MethodName) ({ cls := "PlatesSing$Part", name := "stiff", desc := "()I" } : Jvm.MethodName)) ∈ lw_all := lw_g (lw_at lw_m5 114 rfl) rfl
theorem q1183 : (Jvm.Cond.unhidden "PlatesSing$Part" "stiff" "()I") ∈ lw_tbl := lw_at lw_m5 115 rfl
theorem q1184 : (Jvm.Cond.instanceMethod ({ cls := "PlatesSing$Part", name := "stiff", desc := "()I" } : Jvm.MethodName)) ∈ lw_all := lw_g (lw_at lw_m5 116 rfl) rfl
theorem q1185 : (Jvm.Cond.publicMethod ({ cls := "PlatesSing$Part", name := "stiff", desc := "()I" } : Jvm.MethodName)) ∈ lw_tbl := lw_at lw_m5 117 rfl
theorem q1186 : (Jvm.Cond.code ({ cls := "PlatesSing$Part", name := "stiff", desc := "()I" } : Jvm.MethodName) prog_7_method_4_code (1 : Nat) (Option.some Jvm.ClassFile.FieldType.int)) ∈ lw_all := lw_g (lw_at lw_m5 118 rfl) rfl
theorem q1193 : (Jvm.Cond.unhidden "PlatesSing$Part" "stiffens" "(I)I") ∈ lw_tbl := lw_at lw_m5 125 rfl
theorem q1198 : (Jvm.Cond.instanceMethod ({ cls := "PlatesSing$Part", name := "weighs", desc := "(I)I" } : Jvm.MethodName)) ∈ lw_all := lw_g (lw_at lw_m5 130 rfl) rfl
theorem q1199 : (Jvm.Cond.selects "PlatesSing$Part" ({ cls := "PlatesSing$Part", name := "weighs", desc := "(I)I" } : Jvm.MethodName) ({ cls := "PlatesSing$Part", name := "weighs", desc := "(I)I" } : Jvm.MethodName)) ∈ lw_all := lw_g (lw_at lw_m5 131 rfl) rfl
theorem q1200 : (Jvm.Cond.sameMethod "PlatesSing$Part" "PlatesSing$Part" "weighs" "(I)I") ∈ lw_all := lw_g (lw_at lw_m5 132 rfl) rfl
theorem q1211 : (Jvm.Cond.declares ({ cls := "PlatesSing$Part", name := "weighs", desc := "(I)I" } : Jvm.MethodName)) ∈ lw_tbl := lw_at lw_m5 143 rfl
theorem q1224 : (Jvm.Cond.code ({ cls := "PlatesSing$Part", name := "weighs", desc := "(I)I" } : Jvm.MethodName) prog_7_method_6_code (2 : Nat) (Option.some Jvm.ClassFile.FieldType.int)) ∈ lw_all := lw_g (lw_at lw_m5 156 rfl) rfl
theorem q1225 : (Jvm.Cond.methodLink "PlatesSing$Part" (26 : Nat) ({ cls := "PlatesSing$Part", name := "begins", desc := "(I)V" } : Jvm.MethodName)) ∈ lw_all := lw_g (lw_at lw_m5 157 rfl) rfl
theorem q1227 : (Jvm.Cond.instanceMethod ({ cls := "PlatesSing$Part", name := "sounds", desc := "(I)I" } : Jvm.MethodName)) ∈ lw_all := lw_g (lw_at lw_m5 159 rfl) rfl
theorem q1228 : (Jvm.Cond.selects "PlatesSing$Part" ({ cls := "PlatesSing$Part", name := "sounds", desc := "(I)I" } : Jvm.MethodName) ({ cls := "PlatesSing$Part", name := "sounds", desc := "(I)I" } : Jvm.MethodName)) ∈ lw_all := lw_g (lw_at lw_m5 160 rfl) rfl
theorem q1229 : (Jvm.Cond.sameMethod "PlatesSing$Part" "PlatesSing$Part" "sounds" "(I)I") ∈ lw_all := lw_g (lw_at lw_m5 161 rfl) rfl
theorem q1238 : (Jvm.Cond.declares ({ cls := "PlatesSing$Part", name := "sounds", desc := "(I)I" } : Jvm.MethodName)) ∈ lw_tbl := lw_at lw_m5 170 rfl
theorem q1250 : (Jvm.Cond.code ({ cls := "PlatesSing$Part", name := "sounds", desc := "(I)I" } : Jvm.MethodName) prog_7_method_7_code (2 : Nat) (Option.some Jvm.ClassFile.FieldType.int)) ∈ lw_all := lw_g (lw_at lw_m5 182 rfl) rfl
theorem q1270 : (Jvm.Cond.castable "PlatesSing$Part" "PlatesSing$Tells") ∈ lw_tbl := lw_at lw_m5 202 rfl
theorem q1271 : (Jvm.Cond.selects "PlatesSing$Part" ({ cls := "PlatesSing$Tells", name := "begins", desc := "(I)V" } : Jvm.MethodName) ({ cls := "PlatesSing$Part", name := "begins", desc := "(I)V" } : Jvm.MethodName)) ∈ lw_all := lw_g (lw_at lw_m5 203 rfl) rfl
theorem q1282 : (Jvm.Cond.publicMethod ({ cls := "PlatesSing$Part", name := "weighs", desc := "(I)I" } : Jvm.MethodName)) ∈ lw_tbl := lw_at lw_m5 214 rfl
theorem q1288 : (Jvm.Cond.selects "PlatesSing$Part" ({ cls := "PlatesSing$Tells", name := "weighs", desc := "(I)I" } : Jvm.MethodName) ({ cls := "PlatesSing$Part", name := "weighs", desc := "(I)I" } : Jvm.MethodName)) ∈ lw_all := lw_g (lw_at lw_m5 220 rfl) rfl
theorem q1289 : (Jvm.Cond.unhidden "PlatesSing$Part" "weighs" "(I)I") ∈ lw_tbl := lw_at lw_m5 221 rfl
theorem q1304 : (Jvm.Cond.publicMethod ({ cls := "PlatesSing$Part", name := "sounds", desc := "(I)I" } : Jvm.MethodName)) ∈ lw_tbl := lw_at lw_m5 236 rfl
theorem q1308 : (Jvm.Cond.selects "PlatesSing$Part" ({ cls := "PlatesSing$Tells", name := "sounds", desc := "(I)I" } : Jvm.MethodName) ({ cls := "PlatesSing$Part", name := "sounds", desc := "(I)I" } : Jvm.MethodName)) ∈ lw_all := lw_g (lw_at lw_m6 0 rfl) rfl
theorem q1309 : (Jvm.Cond.unhidden "PlatesSing$Part" "sounds" "(I)I") ∈ lw_tbl := lw_at lw_m6 1 rfl
theorem q1316 : (Jvm.Cond.unhidden "PlatesSing$Part" "tells" "(I)I") ∈ lw_tbl := lw_at lw_m6 8 rfl
theorem q1363 : (Jvm.Cond.instanceMethod ({ cls := "PlatesSing$Part", name := "isUnder", desc := "(I)Z" } : Jvm.MethodName)) ∈ lw_all := lw_g (lw_at lw_m6 55 rfl) rfl
theorem q1364 : (Jvm.Cond.selects "PlatesSing$Part" ({ cls := "PlatesSing$Part", name := "isUnder", desc := "(I)Z" } : Jvm.MethodName) ({ cls := "PlatesSing$Part", name := "isUnder", desc := "(I)Z" } : Jvm.MethodName)) ∈ lw_all := lw_g (lw_at lw_m6 56 rfl) rfl
theorem q1365 : (Jvm.Cond.sameMethod "PlatesSing$Part" "PlatesSing$Part" "isUnder" "(I)Z") ∈ lw_all := lw_g (lw_at lw_m6 57 rfl) rfl
theorem q1386 : (Jvm.Cond.code ({ cls := "PlatesSing$Part", name := "isUnder", desc := "(I)Z" } : Jvm.MethodName) prog_7_method_3_code (2 : Nat) (Option.some Jvm.ClassFile.FieldType.boolean)) ∈ lw_all := lw_g (lw_at lw_m6 78 rfl) rfl
theorem q1388 : (Jvm.Cond.instanceMethod ({ cls := "PlatesSing$Part", name := "kind", desc := "()I" } : Jvm.MethodName)) ∈ lw_all := lw_g (lw_at lw_m6 80 rfl) rfl
theorem q1389 : (Jvm.Cond.selects "PlatesSing$Part" ({ cls := "PlatesSing$Part", name := "kind", desc := "()I" } : Jvm.MethodName) ({ cls := "PlatesSing$Part", name := "kind", desc := "()I" } : Jvm.MethodName)) ∈ lw_all := lw_g (lw_at lw_m6 81 rfl) rfl
theorem q1390 : (Jvm.Cond.sameMethod "PlatesSing$Part" "PlatesSing$Part" "kind" "()I") ∈ lw_all := lw_g (lw_at lw_m6 82 rfl) rfl
theorem q1406 : (Jvm.Cond.code ({ cls := "PlatesSing$Part", name := "kind", desc := "()I" } : Jvm.MethodName) prog_7_method_2_code (1 : Nat) (Option.some Jvm.ClassFile.FieldType.int)) ∈ lw_all := lw_g (lw_at lw_m6 98 rfl) rfl
theorem q2236 : (Jvm.Cond.sameMethod "PlatesSing$Part" "PlatesSing$Part" "begins" "(I)V") ∈ lw_all := lw_g (lw_at lw_m9 208 rfl) rfl
theorem q2240 : (Jvm.Cond.selects "PlatesSing$Part" ({ cls := "PlatesSing$Part", name := "begins", desc := "(I)V" } : Jvm.MethodName) ({ cls := "PlatesSing$Part", name := "begins", desc := "(I)V" } : Jvm.MethodName)) ∈ lw_all := lw_g (lw_at lw_m9 212 rfl) rfl
theorem q2258 : (Jvm.Cond.castable "PlatesSing$Part" "java/lang/Object") ∈ lw_tbl := lw_at lw_m9 230 rfl
theorem in_X6 : ∀ w ∈ wsX60, w ∈ lw_all := lw_in wsX60 [498, 500] (by decide +kernel) (by decide +kernel)

/-! PlatesSing$Piece -/
set_option maxRecDepth 100000
def RX7 : String := "PlatesSing$Piece"
def TX7 : u_T := fun k => match k with
  | 0 => ("PlatesSing$Part", "number", "I", true)
  | 1 => ("PlatesSing$Part", "this$0", "LPlatesSing;", true)
  | 2 => ("PlatesSing$Piece", "from", "I", false)
  | 3 => ("PlatesSing$Piece", "to", "I", false)
  | 4 => ("PlatesSing$Piece", "stiff", "I", false)
  | 5 => ("PlatesSing$Piece", "crack", "I", false)
  | _ => ("PlatesSing$Piece", "this$0", "LPlatesSing;", true)
def tyX7 : Nat → FieldType := fun k => match k with
  | 0 => .int
  | 1 => .object "PlatesSing"
  | 2 => .int
  | 3 => .int
  | 4 => .int
  | 5 => .int
  | _ => .object "PlatesSing"
abbrev wsX70 : List Cond := u_ws RX7 TX7 7
-- two fields of one name: no nmX7
theorem tyX7_ok : ∀ k, k < 7 → parseFieldDescriptor (TX7 k).2.2.1 = some (tyX7 k) := by decide +kernel
abbrev cX7_init : ByteArray := prog_8_method_1_code
def yX7_init : MethodName := ⟨RX7, "<init>", "(LPlatesSing;I)V"⟩
def dkwX7_init_0 : List UInt8 := [42, 43, 181, 0, 1, 42, 43, 28, 183, 0, 7, 177]
abbrev dktX7_init_0 : List UInt8 := dkwX7_init_0 ++ []
theorem dksX7_init_0 : cX7_init.data.toList.drop 0 = dktX7_init_0 := by decide +kernel
theorem dX7_init_0 : decode cX7_init 0 = .ok (.aload_n 0, 1) := dk_42 (dk_at dksX7_init_0 0 rfl rfl)
theorem dX7_init_1 : decode cX7_init 1 = .ok (.aload_n 1, 1) := dk_43 (dk_at dksX7_init_0 1 rfl rfl)
theorem dX7_init_2 : decode cX7_init 2 = .ok (.putfield 1, 3) := dk_181 0 1 (dk_at dksX7_init_0 2 rfl rfl)
theorem dX7_init_5 : decode cX7_init 5 = .ok (.aload_n 0, 1) := dk_42 (dk_at dksX7_init_0 5 rfl rfl)
theorem dX7_init_6 : decode cX7_init 6 = .ok (.aload_n 1, 1) := dk_43 (dk_at dksX7_init_0 6 rfl rfl)
theorem dX7_init_7 : decode cX7_init 7 = .ok (.iload_n 2, 1) := dk_28 (dk_at dksX7_init_0 7 rfl rfl)
theorem dX7_init_8 : decode cX7_init 8 = .ok (.invokespecial 7, 3) := dk_183 0 7 (dk_at dksX7_init_0 8 rfl rfl)
theorem dX7_init_11 : decode cX7_init 11 = .ok (.return_, 1) := dk_177 (dk_at dksX7_init_0 11 rfl rfl)
abbrev cX7_isAt : ByteArray := prog_8_method_7_code
def yX7_isAt : MethodName := ⟨RX7, "isAt", "(I)Z"⟩
def dkwX7_isAt_0 : List UInt8 := [42, 180, 0, 32, 27, 159, 0, 11, 42, 180, 0, 35, 27, 160, 0, 7, 4, 167, 0, 4, 3, 172]
abbrev dktX7_isAt_0 : List UInt8 := dkwX7_isAt_0 ++ []
theorem dksX7_isAt_0 : cX7_isAt.data.toList.drop 0 = dktX7_isAt_0 := by decide +kernel
theorem dX7_isAt_0 : decode cX7_isAt 0 = .ok (.aload_n 0, 1) := dk_42 (dk_at dksX7_isAt_0 0 rfl rfl)
theorem dX7_isAt_1 : decode cX7_isAt 1 = .ok (.getfield 32, 3) := dk_180 0 32 (dk_at dksX7_isAt_0 1 rfl rfl)
theorem dX7_isAt_4 : decode cX7_isAt 4 = .ok (.iload_n 1, 1) := dk_27 (dk_at dksX7_isAt_0 4 rfl rfl)
theorem dX7_isAt_5 : decode cX7_isAt 5 = .ok (.if_icmp .eq 11, 3) := dk_159 0 11 (dk_at dksX7_isAt_0 5 rfl rfl)
theorem dX7_isAt_8 : decode cX7_isAt 8 = .ok (.aload_n 0, 1) := dk_42 (dk_at dksX7_isAt_0 8 rfl rfl)
theorem dX7_isAt_9 : decode cX7_isAt 9 = .ok (.getfield 35, 3) := dk_180 0 35 (dk_at dksX7_isAt_0 9 rfl rfl)
theorem dX7_isAt_12 : decode cX7_isAt 12 = .ok (.iload_n 1, 1) := dk_27 (dk_at dksX7_isAt_0 12 rfl rfl)
theorem dX7_isAt_13 : decode cX7_isAt 13 = .ok (.if_icmp .ne 7, 3) := dk_160 0 7 (dk_at dksX7_isAt_0 13 rfl rfl)
theorem dX7_isAt_16 : decode cX7_isAt 16 = .ok (.iconst 1, 1) := dk_4 (dk_at dksX7_isAt_0 16 rfl rfl)
theorem dX7_isAt_17 : decode cX7_isAt 17 = .ok (.goto 4, 3) := dk_167 0 4 (dk_at dksX7_isAt_0 17 rfl rfl)
theorem dX7_isAt_20 : decode cX7_isAt 20 = .ok (.iconst 0, 1) := dk_3 (dk_at dksX7_isAt_0 20 rfl rfl)
theorem dX7_isAt_21 : decode cX7_isAt 21 = .ok (.ireturn, 1) := dk_172 (dk_at dksX7_isAt_0 21 rfl rfl)
abbrev cX7_counts : ByteArray := prog_8_method_6_code
def yX7_counts : MethodName := ⟨RX7, "counts", "()I"⟩
def dkwX7_counts_0 : List UInt8 := [42, 180, 0, 17, 42, 180, 0, 29, 100, 172]
abbrev dktX7_counts_0 : List UInt8 := dkwX7_counts_0 ++ []
theorem dksX7_counts_0 : cX7_counts.data.toList.drop 0 = dktX7_counts_0 := by decide +kernel
theorem dX7_counts_0 : decode cX7_counts 0 = .ok (.aload_n 0, 1) := dk_42 (dk_at dksX7_counts_0 0 rfl rfl)
theorem dX7_counts_1 : decode cX7_counts 1 = .ok (.getfield 17, 3) := dk_180 0 17 (dk_at dksX7_counts_0 1 rfl rfl)
theorem dX7_counts_4 : decode cX7_counts 4 = .ok (.aload_n 0, 1) := dk_42 (dk_at dksX7_counts_0 4 rfl rfl)
theorem dX7_counts_5 : decode cX7_counts 5 = .ok (.getfield 29, 3) := dk_180 0 29 (dk_at dksX7_counts_0 5 rfl rfl)
theorem dX7_counts_8 : decode cX7_counts 8 = .ok (.isub, 1) := dk_100 (dk_at dksX7_counts_0 8 rfl rfl)
theorem dX7_counts_9 : decode cX7_counts 9 = .ok (.ireturn, 1) := dk_172 (dk_at dksX7_counts_0 9 rfl rfl)
abbrev cX7_stiffens : ByteArray := prog_8_method_5_code
def yX7_stiffens : MethodName := ⟨RX7, "stiffens", "(I)I"⟩
def dkwX7_stiffens_0 : List UInt8 := [42, 16, 20, 182, 0, 21, 42, 27, 183, 0, 25, 4, 100, 172]
abbrev dktX7_stiffens_0 : List UInt8 := dkwX7_stiffens_0 ++ []
theorem dksX7_stiffens_0 : cX7_stiffens.data.toList.drop 0 = dktX7_stiffens_0 := by decide +kernel
theorem dX7_stiffens_0 : decode cX7_stiffens 0 = .ok (.aload_n 0, 1) := dk_42 (dk_at dksX7_stiffens_0 0 rfl rfl)
theorem dX7_stiffens_1 : decode cX7_stiffens 1 = .ok (.bipush 20, 2) := dk_16 20 (dk_at dksX7_stiffens_0 1 rfl rfl)
theorem dX7_stiffens_3 : decode cX7_stiffens 3 = .ok (.invokevirtual 21, 3) := dk_182 0 21 (dk_at dksX7_stiffens_0 3 rfl rfl)
theorem dX7_stiffens_6 : decode cX7_stiffens 6 = .ok (.aload_n 0, 1) := dk_42 (dk_at dksX7_stiffens_0 6 rfl rfl)
theorem dX7_stiffens_7 : decode cX7_stiffens 7 = .ok (.iload_n 1, 1) := dk_27 (dk_at dksX7_stiffens_0 7 rfl rfl)
theorem dX7_stiffens_8 : decode cX7_stiffens 8 = .ok (.invokespecial 25, 3) := dk_183 0 25 (dk_at dksX7_stiffens_0 8 rfl rfl)
theorem dX7_stiffens_11 : decode cX7_stiffens 11 = .ok (.iconst 1, 1) := dk_4 (dk_at dksX7_stiffens_0 11 rfl rfl)
theorem dX7_stiffens_12 : decode cX7_stiffens 12 = .ok (.isub, 1) := dk_100 (dk_at dksX7_stiffens_0 12 rfl rfl)
theorem dX7_stiffens_13 : decode cX7_stiffens 13 = .ok (.ireturn, 1) := dk_172 (dk_at dksX7_stiffens_0 13 rfl rfl)
abbrev cX7_stiff : ByteArray := prog_8_method_4_code
def yX7_stiff : MethodName := ⟨RX7, "stiff", "()I"⟩
theorem dX7_stiff_0 : decode cX7_stiff 0 = .ok (.aload_n 0, 1) := by decide +kernel
theorem dX7_stiff_1 : decode cX7_stiff 1 = .ok (.getfield 17, 3) := by decide +kernel
theorem dX7_stiff_4 : decode cX7_stiff 4 = .ok (.ireturn, 1) := by decide +kernel
abbrev cX7_isUnder : ByteArray := prog_8_method_3_code
def yX7_isUnder : MethodName := ⟨RX7, "isUnder", "(I)Z"⟩
def dkwX7_isUnder_0 : List UInt8 := [27, 4, 159, 0, 11, 42, 27, 183, 0, 13, 153, 0, 7, 4, 167, 0, 4, 3, 172]
abbrev dktX7_isUnder_0 : List UInt8 := dkwX7_isUnder_0 ++ []
theorem dksX7_isUnder_0 : cX7_isUnder.data.toList.drop 0 = dktX7_isUnder_0 := by decide +kernel
theorem dX7_isUnder_0 : decode cX7_isUnder 0 = .ok (.iload_n 1, 1) := dk_27 (dk_at dksX7_isUnder_0 0 rfl rfl)
theorem dX7_isUnder_1 : decode cX7_isUnder 1 = .ok (.iconst 1, 1) := dk_4 (dk_at dksX7_isUnder_0 1 rfl rfl)
theorem dX7_isUnder_2 : decode cX7_isUnder 2 = .ok (.if_icmp .eq 11, 3) := dk_159 0 11 (dk_at dksX7_isUnder_0 2 rfl rfl)
theorem dX7_isUnder_5 : decode cX7_isUnder 5 = .ok (.aload_n 0, 1) := dk_42 (dk_at dksX7_isUnder_0 5 rfl rfl)
theorem dX7_isUnder_6 : decode cX7_isUnder 6 = .ok (.iload_n 1, 1) := dk_27 (dk_at dksX7_isUnder_0 6 rfl rfl)
theorem dX7_isUnder_7 : decode cX7_isUnder 7 = .ok (.invokespecial 13, 3) := dk_183 0 13 (dk_at dksX7_isUnder_0 7 rfl rfl)
theorem dX7_isUnder_10 : decode cX7_isUnder 10 = .ok (.ifCond .eq 7, 3) := dk_153 0 7 (dk_at dksX7_isUnder_0 10 rfl rfl)
theorem dX7_isUnder_13 : decode cX7_isUnder 13 = .ok (.iconst 1, 1) := dk_4 (dk_at dksX7_isUnder_0 13 rfl rfl)
theorem dX7_isUnder_14 : decode cX7_isUnder 14 = .ok (.goto 4, 3) := dk_167 0 4 (dk_at dksX7_isUnder_0 14 rfl rfl)
theorem dX7_isUnder_17 : decode cX7_isUnder 17 = .ok (.iconst 0, 1) := dk_3 (dk_at dksX7_isUnder_0 17 rfl rfl)
theorem dX7_isUnder_18 : decode cX7_isUnder 18 = .ok (.ireturn, 1) := dk_172 (dk_at dksX7_isUnder_0 18 rfl rfl)
abbrev cX7_kind : ByteArray := prog_8_method_2_code
def yX7_kind : MethodName := ⟨RX7, "kind", "()I"⟩
theorem dX7_kind_0 : decode cX7_kind 0 = .ok (.iconst 1, 1) := by decide +kernel
theorem dX7_kind_1 : decode cX7_kind 1 = .ok (.ireturn, 1) := by decide +kernel
theorem q119 : (Jvm.Cond.initialized "PlatesSing$Piece") ∈ lw_all := lw_g (lw_at lw_m1 11 rfl) rfl
theorem q504 : (Jvm.Cond.instantiable "PlatesSing$Piece" (7 : Nat)) ∈ lw_all := lw_g (lw_at lw_m2 156 rfl) rfl
theorem q506 : (Jvm.Cond.instanceMethod ({ cls := "PlatesSing$Piece", name := "<init>", desc := "(LPlatesSing;I)V" } : Jvm.MethodName)) ∈ lw_all := lw_g (lw_at lw_m2 158 rfl) rfl
theorem q507 : (Jvm.Cond.code ({ cls := "PlatesSing$Piece", name := "<init>", desc := "(LPlatesSing;I)V" } : Jvm.MethodName) prog_8_method_1_code (3 : Nat) (Option.none : Option Jvm.ClassFile.FieldType)) ∈ lw_all := lw_g (lw_at lw_m2 159 rfl) rfl
theorem q508 : (Jvm.Cond.methodLink "PlatesSing$Piece" (7 : Nat) ({ cls := "PlatesSing$Part", name := "<init>", desc := "(LPlatesSing;I)V" } : Jvm.MethodName)) ∈ lw_all := lw_g (lw_at lw_m2 160 rfl) rfl
theorem q509 : (Jvm.Cond.fieldLink "PlatesSing$Piece" (32 : Nat) "PlatesSing$Piece" "from" "I") ∈ lw_all := lw_g (lw_at lw_m2 161 rfl) rfl
theorem q511 : (Jvm.Cond.fieldLink "PlatesSing$Piece" (35 : Nat) "PlatesSing$Piece" "to" "I") ∈ lw_all := lw_g (lw_at lw_m2 163 rfl) rfl
theorem q513 : (Jvm.Cond.fieldLink "PlatesSing$Piece" (17 : Nat) "PlatesSing$Piece" "stiff" "I") ∈ lw_all := lw_g (lw_at lw_m2 165 rfl) rfl
theorem q515 : (Jvm.Cond.fieldLink "PlatesSing$Piece" (29 : Nat) "PlatesSing$Piece" "crack" "I") ∈ lw_all := lw_g (lw_at lw_m2 167 rfl) rfl
theorem q517 : (Jvm.Cond.fieldLink "PlatesSing$Piece" (1 : Nat) "PlatesSing$Piece" "this$0" "LPlatesSing;") ∈ lw_all := lw_g (lw_at lw_m2 169 rfl) rfl
theorem q518 : (Jvm.Cond.lays "PlatesSing$Piece" "PlatesSing$Piece" "from" "I") ∈ lw_all := lw_g (lw_at lw_m2 170 rfl) rfl
theorem q519 : (Jvm.Cond.soleField "PlatesSing$Piece" "from") ∈ lw_all := lw_g (lw_at lw_m2 171 rfl) rfl
theorem q520 : (Jvm.Cond.lays "PlatesSing$Piece" "PlatesSing$Piece" "to" "I") ∈ lw_all := lw_g (lw_at lw_m2 172 rfl) rfl
theorem q521 : (Jvm.Cond.soleField "PlatesSing$Piece" "to") ∈ lw_all := lw_g (lw_at lw_m2 173 rfl) rfl
theorem q522 : (Jvm.Cond.lays "PlatesSing$Piece" "PlatesSing$Piece" "stiff" "I") ∈ lw_all := lw_g (lw_at lw_m2 174 rfl) rfl
theorem q523 : (Jvm.Cond.soleField "PlatesSing$Piece" "stiff") ∈ lw_all := lw_g (lw_at lw_m2 175 rfl) rfl
theorem q524 : (Jvm.Cond.lays "PlatesSing$Piece" "PlatesSing$Piece" "crack" "I") ∈ lw_all := lw_g (lw_at lw_m2 176 rfl) rfl
theorem q525 : (Jvm.Cond.soleField "PlatesSing$Piece" "crack") ∈ lw_all := lw_g (lw_at lw_m2 177 rfl) rfl
theorem q526 : (Jvm.Cond.laysFinal "PlatesSing$Piece" "PlatesSing$Piece" "this$0" "LPlatesSing;") ∈ lw_all := lw_g (lw_at lw_m2 178 rfl) rfl
theorem q527 : (Jvm.Cond.soleField "PlatesSing$Piece" "this$0") ∈ lw_all := lw_g (lw_at lw_m2 179 rfl) rfl
theorem q528 : (Jvm.Cond.laysFinal "PlatesSing$Piece" "PlatesSing$Part" "number" "I") ∈ lw_all := lw_g (lw_at lw_m2 180 rfl) rfl
theorem q529 : (Jvm.Cond.laysFinal "PlatesSing$Piece" "PlatesSing$Part" "this$0" "LPlatesSing;") ∈ lw_all := lw_g (lw_at lw_m2 181 rfl) rfl
theorem q530 : (Jvm.Cond.superclass "PlatesSing$Piece" "PlatesSing$Part") ∈ lw_all := lw_g (lw_at lw_m2 182 rfl) rfl
theorem q734 : (Jvm.Cond.instanceMethod ({ cls := "PlatesSing$Piece", name := "isAt", desc := "(I)Z" } : Jvm.MethodName)) ∈ lw_all := lw_g (lw_at lw_m3 146 rfl) rfl
theorem q735 : (Jvm.Cond.selects "PlatesSing$Piece" ({ cls := "PlatesSing$Piece", name := "isAt", desc := "(I)Z" } : Jvm.MethodName) ({ cls := "PlatesSing$Piece", name := "isAt", desc := "(I)Z" } : Jvm.MethodName)) ∈ lw_all := lw_g (lw_at lw_m3 147 rfl) rfl
theorem q736 : (Jvm.Cond.sameMethod "PlatesSing$Piece" "PlatesSing$Piece" "isAt" "(I)Z") ∈ lw_all := lw_g (lw_at lw_m3 148 rfl) rfl
theorem q740 : (Jvm.Cond.code ({ cls := "PlatesSing$Piece", name := "isAt", desc := "(I)Z" } : Jvm.MethodName) prog_8_method_7_code (2 : Nat) (Option.some Jvm.ClassFile.FieldType.boolean)) ∈ lw_all := lw_g (lw_at lw_m3 152 rfl) rfl
theorem q807 : (Jvm.Cond.instanceMethod ({ cls := "PlatesSing$Piece", name := "counts", desc := "()I" } : Jvm.MethodName)) ∈ lw_all := lw_g (lw_at lw_m3 219 rfl) rfl
theorem q808 : (Jvm.Cond.selects "PlatesSing$Piece" ({ cls := "PlatesSing$Piece", name := "counts", desc := "()I" } : Jvm.MethodName) ({ cls := "PlatesSing$Piece", name := "counts", desc := "()I" } : Jvm.MethodName)) ∈ lw_all := lw_g (lw_at lw_m3 220 rfl) rfl
theorem q809 : (Jvm.Cond.sameMethod "PlatesSing$Piece" "PlatesSing$Piece" "counts" "()I") ∈ lw_all := lw_g (lw_at lw_m3 221 rfl) rfl
theorem q813 : (Jvm.Cond.code ({ cls := "PlatesSing$Piece", name := "counts", desc := "()I" } : Jvm.MethodName) prog_8_method_6_code (1 : Nat) (Option.some Jvm.ClassFile.FieldType.int)) ∈ lw_all := lw_g (lw_at lw_m3 225 rfl) rfl
theorem q1136 : (Jvm.Cond.instanceMethod ({ cls := "PlatesSing$Piece", name := "stiffens", desc := "(I)I" } : Jvm.MethodName)) ∈ lw_all := lw_g (lw_at lw_m5 68 rfl) rfl
theorem q1137 : (Jvm.Cond.code ({ cls := "PlatesSing$Piece", name := "stiffens", desc := "(I)I" } : Jvm.MethodName) prog_8_method_5_code (2 : Nat) (Option.some Jvm.ClassFile.FieldType.int)) ∈ lw_all := lw_g (lw_at lw_m5 69 rfl) rfl
theorem q1138 : (Jvm.Cond.methodLink "PlatesSing$Piece" (21 : Nat) ({ cls := "PlatesSing$Piece", name := "begins", desc := "(I)V" } : Jvm.MethodName)) ∈ lw_all := lw_g (lw_at lw_m5 70 rfl) rfl
theorem q1139 : (Jvm.Cond.sameMethod "PlatesSing$Piece" "PlatesSing$Part" "begins" "(I)V") ∈ lw_all := lw_g (lw_at lw_m5 71 rfl) rfl
theorem q1143 : (Jvm.Cond.selects "PlatesSing$Piece" ({ cls := "PlatesSing$Piece", name := "begins", desc := "(I)V" } : Jvm.MethodName) ({ cls := "PlatesSing$Part", name := "begins", desc := "(I)V" } : Jvm.MethodName)) ∈ lw_all := lw_g (lw_at lw_m5 75 rfl) rfl
theorem q1163 : (Jvm.Cond.castable "PlatesSing$Piece" "PlatesSing$Stiffens") ∈ lw_tbl := lw_at lw_m5 95 rfl
theorem q1164 : (Jvm.Cond.selects "PlatesSing$Piece" ({ cls := "PlatesSing$Stiffens", name := "begins", desc := "(I)V" } : Jvm.MethodName) ({ cls := "PlatesSing$Part", name := "begins", desc := "(I)V" } : Jvm.MethodName)) ∈ lw_all := lw_g (lw_at lw_m5 96 rfl) rfl
theorem q1165 : (Jvm.Cond.unhidden "PlatesSing$Piece" "begins" "(I)V") ∈ lw_tbl := lw_at lw_m5 97 rfl
theorem q1175 : (Jvm.Cond.instanceMethod ({ cls := "PlatesSing$Piece", name := "stiff", desc := "()I" } : Jvm.MethodName)) ∈ lw_all := lw_g (lw_at lw_m5 107 rfl) rfl
theorem q1176 : (Jvm.Cond.publicMethod ({ cls := "PlatesSing$Piece", name := "stiff", desc := "()I" } : Jvm.MethodName)) ∈ lw_tbl := lw_at lw_m5 108 rfl
theorem q1177 : (Jvm.Cond.code ({ cls := "PlatesSing$Piece", name := "stiff", desc := "()I" } : Jvm.MethodName) prog_8_method_4_code (1 : Nat) (Option.some Jvm.ClassFile.FieldType.int)) ∈ lw_all := lw_g (lw_at lw_m5 109 rfl) rfl
theorem q1187 : (Jvm.Cond.selects "PlatesSing$Piece" ({ cls := "PlatesSing$Stiffens", name := "stiff", desc := "()I" } : Jvm.MethodName) ({ cls := "PlatesSing$Piece", name := "stiff", desc := "()I" } : Jvm.MethodName)) ∈ lw_all := lw_g (lw_at lw_m5 119 rfl) rfl
theorem q1188 : (Jvm.Cond.unhidden "PlatesSing$Piece" "stiff" "()I") ∈ lw_tbl := lw_at lw_m5 120 rfl
theorem q1194 : (Jvm.Cond.selects "PlatesSing$Piece" ({ cls := "PlatesSing$Stiffens", name := "stiffens", desc := "(I)I" } : Jvm.MethodName) ({ cls := "PlatesSing$Piece", name := "stiffens", desc := "(I)I" } : Jvm.MethodName)) ∈ lw_all := lw_g (lw_at lw_m5 126 rfl) rfl
theorem q1210 : (Jvm.Cond.sameMethod "PlatesSing$Piece" "PlatesSing$Part" "weighs" "(I)I") ∈ lw_all := lw_g (lw_at lw_m5 142 rfl) rfl
theorem q1214 : (Jvm.Cond.declares ({ cls := "PlatesSing$Piece", name := "stiffens", desc := "(I)I" } : Jvm.MethodName)) ∈ lw_tbl := lw_at lw_m5 146 rfl
theorem q1216 : (Jvm.Cond.selects "PlatesSing$Piece" ({ cls := "PlatesSing$Part", name := "weighs", desc := "(I)I" } : Jvm.MethodName) ({ cls := "PlatesSing$Part", name := "weighs", desc := "(I)I" } : Jvm.MethodName)) ∈ lw_all := lw_g (lw_at lw_m5 148 rfl) rfl
theorem q1247 : (Jvm.Cond.sameMethod "PlatesSing$Piece" "PlatesSing$Part" "sounds" "(I)I") ∈ lw_all := lw_g (lw_at lw_m5 179 rfl) rfl
theorem q1248 : (Jvm.Cond.selects "PlatesSing$Piece" ({ cls := "PlatesSing$Part", name := "sounds", desc := "(I)I" } : Jvm.MethodName) ({ cls := "PlatesSing$Part", name := "sounds", desc := "(I)I" } : Jvm.MethodName)) ∈ lw_all := lw_g (lw_at lw_m5 180 rfl) rfl
theorem q1272 : (Jvm.Cond.castable "PlatesSing$Piece" "PlatesSing$Tells") ∈ lw_tbl := lw_at lw_m5 204 rfl
theorem q1273 : (Jvm.Cond.selects "PlatesSing$Piece" ({ cls := "PlatesSing$Tells", name := "begins", desc := "(I)V" } : Jvm.MethodName) ({ cls := "PlatesSing$Part", name := "begins", desc := "(I)V" } : Jvm.MethodName)) ∈ lw_all := lw_g (lw_at lw_m5 205 rfl) rfl
theorem q1290 : (Jvm.Cond.selects "PlatesSing$Piece" ({ cls := "PlatesSing$Tells", name := "weighs", desc := "(I)I" } : Jvm.MethodName) ({ cls := "PlatesSing$Part", name := "weighs", desc := "(I)I" } : Jvm.MethodName)) ∈ lw_all := lw_g (lw_at lw_m5 222 rfl) rfl
theorem q1291 : (Jvm.Cond.unhidden "PlatesSing$Piece" "weighs" "(I)I") ∈ lw_tbl := lw_at lw_m5 223 rfl
theorem q1310 : (Jvm.Cond.selects "PlatesSing$Piece" ({ cls := "PlatesSing$Tells", name := "sounds", desc := "(I)I" } : Jvm.MethodName) ({ cls := "PlatesSing$Part", name := "sounds", desc := "(I)I" } : Jvm.MethodName)) ∈ lw_all := lw_g (lw_at lw_m6 2 rfl) rfl
theorem q1311 : (Jvm.Cond.unhidden "PlatesSing$Piece" "sounds" "(I)I") ∈ lw_tbl := lw_at lw_m6 3 rfl
theorem q1317 : (Jvm.Cond.unhidden "PlatesSing$Piece" "tells" "(I)I") ∈ lw_tbl := lw_at lw_m6 9 rfl
theorem q1373 : (Jvm.Cond.instanceMethod ({ cls := "PlatesSing$Piece", name := "isUnder", desc := "(I)Z" } : Jvm.MethodName)) ∈ lw_all := lw_g (lw_at lw_m6 65 rfl) rfl
theorem q1374 : (Jvm.Cond.code ({ cls := "PlatesSing$Piece", name := "isUnder", desc := "(I)Z" } : Jvm.MethodName) prog_8_method_3_code (2 : Nat) (Option.some Jvm.ClassFile.FieldType.boolean)) ∈ lw_all := lw_g (lw_at lw_m6 66 rfl) rfl
theorem q1375 : (Jvm.Cond.methodLink "PlatesSing$Piece" (13 : Nat) ({ cls := "PlatesSing$Part", name := "isUnder", desc := "(I)Z" } : Jvm.MethodName)) ∈ lw_all := lw_g (lw_at lw_m6 67 rfl) rfl
theorem q1381 : (Jvm.Cond.selects "PlatesSing$Piece" ({ cls := "PlatesSing$Part", name := "isUnder", desc := "(I)Z" } : Jvm.MethodName) ({ cls := "PlatesSing$Piece", name := "isUnder", desc := "(I)Z" } : Jvm.MethodName)) ∈ lw_all := lw_g (lw_at lw_m6 73 rfl) rfl
theorem q1400 : (Jvm.Cond.selects "PlatesSing$Piece" ({ cls := "PlatesSing$Part", name := "kind", desc := "()I" } : Jvm.MethodName) ({ cls := "PlatesSing$Piece", name := "kind", desc := "()I" } : Jvm.MethodName)) ∈ lw_all := lw_g (lw_at lw_m6 92 rfl) rfl
theorem q1401 : (Jvm.Cond.instanceMethod ({ cls := "PlatesSing$Piece", name := "kind", desc := "()I" } : Jvm.MethodName)) ∈ lw_all := lw_g (lw_at lw_m6 93 rfl) rfl
theorem q1402 : (Jvm.Cond.code ({ cls := "PlatesSing$Piece", name := "kind", desc := "()I" } : Jvm.MethodName) prog_8_method_2_code (1 : Nat) (Option.some Jvm.ClassFile.FieldType.int)) ∈ lw_all := lw_g (lw_at lw_m6 94 rfl) rfl
theorem q2235 : (Jvm.Cond.sameMethod "PlatesSing$Piece" "PlatesSing$Piece" "stiffens" "(I)I") ∈ lw_all := lw_g (lw_at lw_m9 207 rfl) rfl
theorem q2241 : (Jvm.Cond.selects "PlatesSing$Piece" ({ cls := "PlatesSing$Part", name := "begins", desc := "(I)V" } : Jvm.MethodName) ({ cls := "PlatesSing$Part", name := "begins", desc := "(I)V" } : Jvm.MethodName)) ∈ lw_all := lw_g (lw_at lw_m9 213 rfl) rfl
theorem q2245 : (Jvm.Cond.sameMethod "PlatesSing$Piece" "PlatesSing$Piece" "isUnder" "(I)Z") ∈ lw_all := lw_g (lw_at lw_m9 217 rfl) rfl
theorem q2249 : (Jvm.Cond.castable "PlatesSing$Piece" "PlatesSing$Part") ∈ lw_tbl := lw_at lw_m9 221 rfl
theorem q2257 : (Jvm.Cond.castable "PlatesSing$Piece" "java/lang/Object") ∈ lw_tbl := lw_at lw_m9 229 rfl
theorem in_X7 : ∀ w ∈ wsX70, w ∈ lw_all := lw_in wsX70 [528, 529, 518, 520, 522, 524, 526] (by decide +kernel) (by decide +kernel)

/-! PlatesSing$Held -/
set_option maxRecDepth 100000
def RX8 : String := "PlatesSing$Held"
def TX8 : u_T := fun k => match k with
  | 0 => ("PlatesSing$Part", "number", "I", true)
  | 1 => ("PlatesSing$Part", "this$0", "LPlatesSing;", true)
  | 2 => ("PlatesSing$Piece", "from", "I", false)
  | 3 => ("PlatesSing$Piece", "to", "I", false)
  | 4 => ("PlatesSing$Piece", "stiff", "I", false)
  | 5 => ("PlatesSing$Piece", "crack", "I", false)
  | 6 => ("PlatesSing$Piece", "this$0", "LPlatesSing;", true)
  | _ => ("PlatesSing$Held", "this$0", "LPlatesSing;", true)
def tyX8 : Nat → FieldType := fun k => match k with
  | 0 => .int
  | 1 => .object "PlatesSing"
  | 2 => .int
  | 3 => .int
  | 4 => .int
  | 5 => .int
  | 6 => .object "PlatesSing"
  | _ => .object "PlatesSing"
abbrev wsX80 : List Cond := u_ws RX8 TX8 8
-- two fields of one name: no nmX8
theorem tyX8_ok : ∀ k, k < 8 → parseFieldDescriptor (TX8 k).2.2.1 = some (tyX8 k) := by decide +kernel
abbrev cX8_init : ByteArray := prog_6_method_1_code
def yX8_init : MethodName := ⟨RX8, "<init>", "(LPlatesSing;I)V"⟩
def dkwX8_init_0 : List UInt8 := [42, 43, 181, 0, 1, 42, 43, 28, 183, 0, 7, 177]
abbrev dktX8_init_0 : List UInt8 := dkwX8_init_0 ++ []
theorem dksX8_init_0 : cX8_init.data.toList.drop 0 = dktX8_init_0 := by decide +kernel
theorem dX8_init_0 : decode cX8_init 0 = .ok (.aload_n 0, 1) := dk_42 (dk_at dksX8_init_0 0 rfl rfl)
theorem dX8_init_1 : decode cX8_init 1 = .ok (.aload_n 1, 1) := dk_43 (dk_at dksX8_init_0 1 rfl rfl)
theorem dX8_init_2 : decode cX8_init 2 = .ok (.putfield 1, 3) := dk_181 0 1 (dk_at dksX8_init_0 2 rfl rfl)
theorem dX8_init_5 : decode cX8_init 5 = .ok (.aload_n 0, 1) := dk_42 (dk_at dksX8_init_0 5 rfl rfl)
theorem dX8_init_6 : decode cX8_init 6 = .ok (.aload_n 1, 1) := dk_43 (dk_at dksX8_init_0 6 rfl rfl)
theorem dX8_init_7 : decode cX8_init 7 = .ok (.iload_n 2, 1) := dk_28 (dk_at dksX8_init_0 7 rfl rfl)
theorem dX8_init_8 : decode cX8_init 8 = .ok (.invokespecial 7, 3) := dk_183 0 7 (dk_at dksX8_init_0 8 rfl rfl)
theorem dX8_init_11 : decode cX8_init 11 = .ok (.return_, 1) := dk_177 (dk_at dksX8_init_0 11 rfl rfl)
abbrev cX8_weighs : ByteArray := prog_6_method_5_code
def yX8_weighs : MethodName := ⟨RX8, "weighs", "(I)I"⟩
def dkwX8_weighs_0 : List UInt8 := [42, 16, 31, 182, 0, 17, 42, 27, 183, 0, 25, 61, 28, 42, 5, 182, 0, 28, 96, 172]
abbrev dktX8_weighs_0 : List UInt8 := dkwX8_weighs_0 ++ []
theorem dksX8_weighs_0 : cX8_weighs.data.toList.drop 0 = dktX8_weighs_0 := by decide +kernel
theorem dX8_weighs_0 : decode cX8_weighs 0 = .ok (.aload_n 0, 1) := dk_42 (dk_at dksX8_weighs_0 0 rfl rfl)
theorem dX8_weighs_1 : decode cX8_weighs 1 = .ok (.bipush 31, 2) := dk_16 31 (dk_at dksX8_weighs_0 1 rfl rfl)
theorem dX8_weighs_3 : decode cX8_weighs 3 = .ok (.invokevirtual 17, 3) := dk_182 0 17 (dk_at dksX8_weighs_0 3 rfl rfl)
theorem dX8_weighs_6 : decode cX8_weighs 6 = .ok (.aload_n 0, 1) := dk_42 (dk_at dksX8_weighs_0 6 rfl rfl)
theorem dX8_weighs_7 : decode cX8_weighs 7 = .ok (.iload_n 1, 1) := dk_27 (dk_at dksX8_weighs_0 7 rfl rfl)
theorem dX8_weighs_8 : decode cX8_weighs 8 = .ok (.invokespecial 25, 3) := dk_183 0 25 (dk_at dksX8_weighs_0 8 rfl rfl)
theorem dX8_weighs_11 : decode cX8_weighs 11 = .ok (.istore_n 2, 1) := dk_61 (dk_at dksX8_weighs_0 11 rfl rfl)
theorem dX8_weighs_12 : decode cX8_weighs 12 = .ok (.iload_n 2, 1) := dk_28 (dk_at dksX8_weighs_0 12 rfl rfl)
theorem dX8_weighs_13 : decode cX8_weighs 13 = .ok (.aload_n 0, 1) := dk_42 (dk_at dksX8_weighs_0 13 rfl rfl)
theorem dX8_weighs_14 : decode cX8_weighs 14 = .ok (.iconst 2, 1) := dk_5 (dk_at dksX8_weighs_0 14 rfl rfl)
theorem dX8_weighs_15 : decode cX8_weighs 15 = .ok (.invokevirtual 28, 3) := dk_182 0 28 (dk_at dksX8_weighs_0 15 rfl rfl)
theorem dX8_weighs_18 : decode cX8_weighs 18 = .ok (.iadd, 1) := dk_96 (dk_at dksX8_weighs_0 18 rfl rfl)
theorem dX8_weighs_19 : decode cX8_weighs 19 = .ok (.ireturn, 1) := dk_172 (dk_at dksX8_weighs_0 19 rfl rfl)
abbrev cX8_sounds : ByteArray := prog_6_method_4_code
def yX8_sounds : MethodName := ⟨RX8, "sounds", "(I)I"⟩
def dkwX8_sounds_0 : List UInt8 := [42, 16, 30, 182, 0, 17, 42, 27, 183, 0, 21, 8, 104, 172]
abbrev dktX8_sounds_0 : List UInt8 := dkwX8_sounds_0 ++ []
theorem dksX8_sounds_0 : cX8_sounds.data.toList.drop 0 = dktX8_sounds_0 := by decide +kernel
theorem dX8_sounds_0 : decode cX8_sounds 0 = .ok (.aload_n 0, 1) := dk_42 (dk_at dksX8_sounds_0 0 rfl rfl)
theorem dX8_sounds_1 : decode cX8_sounds 1 = .ok (.bipush 30, 2) := dk_16 30 (dk_at dksX8_sounds_0 1 rfl rfl)
theorem dX8_sounds_3 : decode cX8_sounds 3 = .ok (.invokevirtual 17, 3) := dk_182 0 17 (dk_at dksX8_sounds_0 3 rfl rfl)
theorem dX8_sounds_6 : decode cX8_sounds 6 = .ok (.aload_n 0, 1) := dk_42 (dk_at dksX8_sounds_0 6 rfl rfl)
theorem dX8_sounds_7 : decode cX8_sounds 7 = .ok (.iload_n 1, 1) := dk_27 (dk_at dksX8_sounds_0 7 rfl rfl)
theorem dX8_sounds_8 : decode cX8_sounds 8 = .ok (.invokespecial 21, 3) := dk_183 0 21 (dk_at dksX8_sounds_0 8 rfl rfl)
theorem dX8_sounds_11 : decode cX8_sounds 11 = .ok (.iconst 5, 1) := dk_8 (dk_at dksX8_sounds_0 11 rfl rfl)
theorem dX8_sounds_12 : decode cX8_sounds 12 = .ok (.imul, 1) := dk_104 (dk_at dksX8_sounds_0 12 rfl rfl)
theorem dX8_sounds_13 : decode cX8_sounds 13 = .ok (.ireturn, 1) := dk_172 (dk_at dksX8_sounds_0 13 rfl rfl)
abbrev cX8_isUnder : ByteArray := prog_6_method_3_code
def yX8_isUnder : MethodName := ⟨RX8, "isUnder", "(I)Z"⟩
def dkwX8_isUnder_0 : List UInt8 := [27, 5, 159, 0, 11, 42, 27, 183, 0, 13, 153, 0, 7, 4, 167, 0, 4, 3, 172]
abbrev dktX8_isUnder_0 : List UInt8 := dkwX8_isUnder_0 ++ []
theorem dksX8_isUnder_0 : cX8_isUnder.data.toList.drop 0 = dktX8_isUnder_0 := by decide +kernel
theorem dX8_isUnder_0 : decode cX8_isUnder 0 = .ok (.iload_n 1, 1) := dk_27 (dk_at dksX8_isUnder_0 0 rfl rfl)
theorem dX8_isUnder_1 : decode cX8_isUnder 1 = .ok (.iconst 2, 1) := dk_5 (dk_at dksX8_isUnder_0 1 rfl rfl)
theorem dX8_isUnder_2 : decode cX8_isUnder 2 = .ok (.if_icmp .eq 11, 3) := dk_159 0 11 (dk_at dksX8_isUnder_0 2 rfl rfl)
theorem dX8_isUnder_5 : decode cX8_isUnder 5 = .ok (.aload_n 0, 1) := dk_42 (dk_at dksX8_isUnder_0 5 rfl rfl)
theorem dX8_isUnder_6 : decode cX8_isUnder 6 = .ok (.iload_n 1, 1) := dk_27 (dk_at dksX8_isUnder_0 6 rfl rfl)
theorem dX8_isUnder_7 : decode cX8_isUnder 7 = .ok (.invokespecial 13, 3) := dk_183 0 13 (dk_at dksX8_isUnder_0 7 rfl rfl)
theorem dX8_isUnder_10 : decode cX8_isUnder 10 = .ok (.ifCond .eq 7, 3) := dk_153 0 7 (dk_at dksX8_isUnder_0 10 rfl rfl)
theorem dX8_isUnder_13 : decode cX8_isUnder 13 = .ok (.iconst 1, 1) := dk_4 (dk_at dksX8_isUnder_0 13 rfl rfl)
theorem dX8_isUnder_14 : decode cX8_isUnder 14 = .ok (.goto 4, 3) := dk_167 0 4 (dk_at dksX8_isUnder_0 14 rfl rfl)
theorem dX8_isUnder_17 : decode cX8_isUnder 17 = .ok (.iconst 0, 1) := dk_3 (dk_at dksX8_isUnder_0 17 rfl rfl)
theorem dX8_isUnder_18 : decode cX8_isUnder 18 = .ok (.ireturn, 1) := dk_172 (dk_at dksX8_isUnder_0 18 rfl rfl)
abbrev cX8_kind : ByteArray := prog_6_method_2_code
def yX8_kind : MethodName := ⟨RX8, "kind", "()I"⟩
theorem dX8_kind_0 : decode cX8_kind 0 = .ok (.iconst 2, 1) := by decide +kernel
theorem dX8_kind_1 : decode cX8_kind 1 = .ok (.ireturn, 1) := by decide +kernel
theorem q123 : (Jvm.Cond.initialized "PlatesSing$Held") ∈ lw_all := lw_g (lw_at lw_m1 15 rfl) rfl
theorem q532 : (Jvm.Cond.instantiable "PlatesSing$Held" (8 : Nat)) ∈ lw_all := lw_g (lw_at lw_m2 184 rfl) rfl
theorem q534 : (Jvm.Cond.instanceMethod ({ cls := "PlatesSing$Held", name := "<init>", desc := "(LPlatesSing;I)V" } : Jvm.MethodName)) ∈ lw_all := lw_g (lw_at lw_m2 186 rfl) rfl
theorem q535 : (Jvm.Cond.code ({ cls := "PlatesSing$Held", name := "<init>", desc := "(LPlatesSing;I)V" } : Jvm.MethodName) prog_6_method_1_code (3 : Nat) (Option.none : Option Jvm.ClassFile.FieldType)) ∈ lw_all := lw_g (lw_at lw_m2 187 rfl) rfl
theorem q536 : (Jvm.Cond.methodLink "PlatesSing$Held" (7 : Nat) ({ cls := "PlatesSing$Piece", name := "<init>", desc := "(LPlatesSing;I)V" } : Jvm.MethodName)) ∈ lw_all := lw_g (lw_at lw_m2 188 rfl) rfl
theorem q537 : (Jvm.Cond.fieldLink "PlatesSing$Held" (1 : Nat) "PlatesSing$Held" "this$0" "LPlatesSing;") ∈ lw_all := lw_g (lw_at lw_m2 189 rfl) rfl
theorem q538 : (Jvm.Cond.laysFinal "PlatesSing$Held" "PlatesSing$Held" "this$0" "LPlatesSing;") ∈ lw_all := lw_g (lw_at lw_m2 190 rfl) rfl
theorem q539 : (Jvm.Cond.soleField "PlatesSing$Held" "this$0") ∈ lw_all := lw_g (lw_at lw_m2 191 rfl) rfl
theorem q540 : (Jvm.Cond.lays "PlatesSing$Held" "PlatesSing$Piece" "from" "I") ∈ lw_all := lw_g (lw_at lw_m2 192 rfl) rfl
theorem q541 : (Jvm.Cond.lays "PlatesSing$Held" "PlatesSing$Piece" "to" "I") ∈ lw_all := lw_g (lw_at lw_m2 193 rfl) rfl
theorem q542 : (Jvm.Cond.lays "PlatesSing$Held" "PlatesSing$Piece" "stiff" "I") ∈ lw_all := lw_g (lw_at lw_m2 194 rfl) rfl
theorem q543 : (Jvm.Cond.lays "PlatesSing$Held" "PlatesSing$Piece" "crack" "I") ∈ lw_all := lw_g (lw_at lw_m2 195 rfl) rfl
theorem q544 : (Jvm.Cond.laysFinal "PlatesSing$Held" "PlatesSing$Piece" "this$0" "LPlatesSing;") ∈ lw_all := lw_g (lw_at lw_m2 196 rfl) rfl
theorem q545 : (Jvm.Cond.laysFinal "PlatesSing$Held" "PlatesSing$Part" "number" "I") ∈ lw_all := lw_g (lw_at lw_m2 197 rfl) rfl
theorem q546 : (Jvm.Cond.laysFinal "PlatesSing$Held" "PlatesSing$Part" "this$0" "LPlatesSing;") ∈ lw_all := lw_g (lw_at lw_m2 198 rfl) rfl
theorem q547 : (Jvm.Cond.superclass "PlatesSing$Held" "PlatesSing$Piece") ∈ lw_all := lw_g (lw_at lw_m2 199 rfl) rfl
theorem q739 : (Jvm.Cond.selects "PlatesSing$Held" ({ cls := "PlatesSing$Piece", name := "isAt", desc := "(I)Z" } : Jvm.MethodName) ({ cls := "PlatesSing$Piece", name := "isAt", desc := "(I)Z" } : Jvm.MethodName)) ∈ lw_all := lw_g (lw_at lw_m3 151 rfl) rfl
theorem q812 : (Jvm.Cond.selects "PlatesSing$Held" ({ cls := "PlatesSing$Piece", name := "counts", desc := "()I" } : Jvm.MethodName) ({ cls := "PlatesSing$Piece", name := "counts", desc := "()I" } : Jvm.MethodName)) ∈ lw_all := lw_g (lw_at lw_m3 224 rfl) rfl
theorem q1142 : (Jvm.Cond.selects "PlatesSing$Held" ({ cls := "PlatesSing$Piece", name := "begins", desc := "(I)V" } : Jvm.MethodName) ({ cls := "PlatesSing$Part", name := "begins", desc := "(I)V" } : Jvm.MethodName)) ∈ lw_all := lw_g (lw_at lw_m5 74 rfl) rfl
theorem q1157 : (Jvm.Cond.castable "PlatesSing$Held" "PlatesSing$Stiffens") ∈ lw_tbl := lw_at lw_m5 89 rfl
theorem q1158 : (Jvm.Cond.selects "PlatesSing$Held" ({ cls := "PlatesSing$Stiffens", name := "begins", desc := "(I)V" } : Jvm.MethodName) ({ cls := "PlatesSing$Part", name := "begins", desc := "(I)V" } : Jvm.MethodName)) ∈ lw_all := lw_g (lw_at lw_m5 90 rfl) rfl
theorem q1159 : (Jvm.Cond.unhidden "PlatesSing$Held" "begins" "(I)V") ∈ lw_tbl := lw_at lw_m5 91 rfl
theorem q1180 : (Jvm.Cond.selects "PlatesSing$Held" ({ cls := "PlatesSing$Stiffens", name := "stiff", desc := "()I" } : Jvm.MethodName) ({ cls := "PlatesSing$Piece", name := "stiff", desc := "()I" } : Jvm.MethodName)) ∈ lw_all := lw_g (lw_at lw_m5 112 rfl) rfl
theorem q1181 : (Jvm.Cond.unhidden "PlatesSing$Held" "stiff" "()I") ∈ lw_tbl := lw_at lw_m5 113 rfl
theorem q1192 : (Jvm.Cond.selects "PlatesSing$Held" ({ cls := "PlatesSing$Stiffens", name := "stiffens", desc := "(I)I" } : Jvm.MethodName) ({ cls := "PlatesSing$Piece", name := "stiffens", desc := "(I)I" } : Jvm.MethodName)) ∈ lw_all := lw_g (lw_at lw_m5 124 rfl) rfl
theorem q1203 : (Jvm.Cond.selects "PlatesSing$Held" ({ cls := "PlatesSing$Part", name := "weighs", desc := "(I)I" } : Jvm.MethodName) ({ cls := "PlatesSing$Held", name := "weighs", desc := "(I)I" } : Jvm.MethodName)) ∈ lw_all := lw_g (lw_at lw_m5 135 rfl) rfl
theorem q1204 : (Jvm.Cond.instanceMethod ({ cls := "PlatesSing$Held", name := "weighs", desc := "(I)I" } : Jvm.MethodName)) ∈ lw_all := lw_g (lw_at lw_m5 136 rfl) rfl
theorem q1205 : (Jvm.Cond.code ({ cls := "PlatesSing$Held", name := "weighs", desc := "(I)I" } : Jvm.MethodName) prog_6_method_5_code (3 : Nat) (Option.some Jvm.ClassFile.FieldType.int)) ∈ lw_all := lw_g (lw_at lw_m5 137 rfl) rfl
theorem q1206 : (Jvm.Cond.methodLink "PlatesSing$Held" (17 : Nat) ({ cls := "PlatesSing$Held", name := "begins", desc := "(I)V" } : Jvm.MethodName)) ∈ lw_all := lw_g (lw_at lw_m5 138 rfl) rfl
theorem q1207 : (Jvm.Cond.sameMethod "PlatesSing$Held" "PlatesSing$Part" "begins" "(I)V") ∈ lw_all := lw_g (lw_at lw_m5 139 rfl) rfl
theorem q1208 : (Jvm.Cond.selects "PlatesSing$Held" ({ cls := "PlatesSing$Held", name := "begins", desc := "(I)V" } : Jvm.MethodName) ({ cls := "PlatesSing$Part", name := "begins", desc := "(I)V" } : Jvm.MethodName)) ∈ lw_all := lw_g (lw_at lw_m5 140 rfl) rfl
theorem q1209 : (Jvm.Cond.methodLink "PlatesSing$Held" (25 : Nat) ({ cls := "PlatesSing$Piece", name := "weighs", desc := "(I)I" } : Jvm.MethodName)) ∈ lw_all := lw_g (lw_at lw_m5 141 rfl) rfl
theorem q1212 : (Jvm.Cond.methodLink "PlatesSing$Held" (28 : Nat) ({ cls := "PlatesSing$Held", name := "stiffens", desc := "(I)I" } : Jvm.MethodName)) ∈ lw_all := lw_g (lw_at lw_m5 144 rfl) rfl
theorem q1213 : (Jvm.Cond.sameMethod "PlatesSing$Held" "PlatesSing$Piece" "stiffens" "(I)I") ∈ lw_all := lw_g (lw_at lw_m5 145 rfl) rfl
theorem q1215 : (Jvm.Cond.selects "PlatesSing$Held" ({ cls := "PlatesSing$Held", name := "stiffens", desc := "(I)I" } : Jvm.MethodName) ({ cls := "PlatesSing$Piece", name := "stiffens", desc := "(I)I" } : Jvm.MethodName)) ∈ lw_all := lw_g (lw_at lw_m5 147 rfl) rfl
theorem q1243 : (Jvm.Cond.selects "PlatesSing$Held" ({ cls := "PlatesSing$Part", name := "sounds", desc := "(I)I" } : Jvm.MethodName) ({ cls := "PlatesSing$Held", name := "sounds", desc := "(I)I" } : Jvm.MethodName)) ∈ lw_all := lw_g (lw_at lw_m5 175 rfl) rfl
theorem q1244 : (Jvm.Cond.instanceMethod ({ cls := "PlatesSing$Held", name := "sounds", desc := "(I)I" } : Jvm.MethodName)) ∈ lw_all := lw_g (lw_at lw_m5 176 rfl) rfl
theorem q1245 : (Jvm.Cond.code ({ cls := "PlatesSing$Held", name := "sounds", desc := "(I)I" } : Jvm.MethodName) prog_6_method_4_code (2 : Nat) (Option.some Jvm.ClassFile.FieldType.int)) ∈ lw_all := lw_g (lw_at lw_m5 177 rfl) rfl
theorem q1246 : (Jvm.Cond.methodLink "PlatesSing$Held" (21 : Nat) ({ cls := "PlatesSing$Piece", name := "sounds", desc := "(I)I" } : Jvm.MethodName)) ∈ lw_all := lw_g (lw_at lw_m5 178 rfl) rfl
theorem q1268 : (Jvm.Cond.castable "PlatesSing$Held" "PlatesSing$Tells") ∈ lw_tbl := lw_at lw_m5 200 rfl
theorem q1269 : (Jvm.Cond.selects "PlatesSing$Held" ({ cls := "PlatesSing$Tells", name := "begins", desc := "(I)V" } : Jvm.MethodName) ({ cls := "PlatesSing$Part", name := "begins", desc := "(I)V" } : Jvm.MethodName)) ∈ lw_all := lw_g (lw_at lw_m5 201 rfl) rfl
theorem q1285 : (Jvm.Cond.selects "PlatesSing$Held" ({ cls := "PlatesSing$Tells", name := "weighs", desc := "(I)I" } : Jvm.MethodName) ({ cls := "PlatesSing$Held", name := "weighs", desc := "(I)I" } : Jvm.MethodName)) ∈ lw_all := lw_g (lw_at lw_m5 217 rfl) rfl
theorem q1286 : (Jvm.Cond.unhidden "PlatesSing$Held" "weighs" "(I)I") ∈ lw_tbl := lw_at lw_m5 218 rfl
theorem q1287 : (Jvm.Cond.publicMethod ({ cls := "PlatesSing$Held", name := "weighs", desc := "(I)I" } : Jvm.MethodName)) ∈ lw_tbl := lw_at lw_m5 219 rfl
theorem q1305 : (Jvm.Cond.selects "PlatesSing$Held" ({ cls := "PlatesSing$Tells", name := "sounds", desc := "(I)I" } : Jvm.MethodName) ({ cls := "PlatesSing$Held", name := "sounds", desc := "(I)I" } : Jvm.MethodName)) ∈ lw_all := lw_g (lw_at lw_m5 237 rfl) rfl
theorem q1306 : (Jvm.Cond.unhidden "PlatesSing$Held" "sounds" "(I)I") ∈ lw_tbl := lw_at lw_m5 238 rfl
theorem q1307 : (Jvm.Cond.publicMethod ({ cls := "PlatesSing$Held", name := "sounds", desc := "(I)I" } : Jvm.MethodName)) ∈ lw_tbl := lw_at lw_m5 239 rfl
theorem q1315 : (Jvm.Cond.unhidden "PlatesSing$Held" "tells" "(I)I") ∈ lw_tbl := lw_at lw_m6 7 rfl
theorem q1377 : (Jvm.Cond.selects "PlatesSing$Held" ({ cls := "PlatesSing$Part", name := "isUnder", desc := "(I)Z" } : Jvm.MethodName) ({ cls := "PlatesSing$Held", name := "isUnder", desc := "(I)Z" } : Jvm.MethodName)) ∈ lw_all := lw_g (lw_at lw_m6 69 rfl) rfl
theorem q1378 : (Jvm.Cond.instanceMethod ({ cls := "PlatesSing$Held", name := "isUnder", desc := "(I)Z" } : Jvm.MethodName)) ∈ lw_all := lw_g (lw_at lw_m6 70 rfl) rfl
theorem q1379 : (Jvm.Cond.code ({ cls := "PlatesSing$Held", name := "isUnder", desc := "(I)Z" } : Jvm.MethodName) prog_6_method_3_code (2 : Nat) (Option.some Jvm.ClassFile.FieldType.boolean)) ∈ lw_all := lw_g (lw_at lw_m6 71 rfl) rfl
theorem q1380 : (Jvm.Cond.methodLink "PlatesSing$Held" (13 : Nat) ({ cls := "PlatesSing$Piece", name := "isUnder", desc := "(I)Z" } : Jvm.MethodName)) ∈ lw_all := lw_g (lw_at lw_m6 72 rfl) rfl
theorem q1397 : (Jvm.Cond.selects "PlatesSing$Held" ({ cls := "PlatesSing$Part", name := "kind", desc := "()I" } : Jvm.MethodName) ({ cls := "PlatesSing$Held", name := "kind", desc := "()I" } : Jvm.MethodName)) ∈ lw_all := lw_g (lw_at lw_m6 89 rfl) rfl
theorem q1398 : (Jvm.Cond.instanceMethod ({ cls := "PlatesSing$Held", name := "kind", desc := "()I" } : Jvm.MethodName)) ∈ lw_all := lw_g (lw_at lw_m6 90 rfl) rfl
theorem q1399 : (Jvm.Cond.code ({ cls := "PlatesSing$Held", name := "kind", desc := "()I" } : Jvm.MethodName) prog_6_method_2_code (1 : Nat) (Option.some Jvm.ClassFile.FieldType.int)) ∈ lw_all := lw_g (lw_at lw_m6 91 rfl) rfl
theorem q2239 : (Jvm.Cond.selects "PlatesSing$Held" ({ cls := "PlatesSing$Part", name := "begins", desc := "(I)V" } : Jvm.MethodName) ({ cls := "PlatesSing$Part", name := "begins", desc := "(I)V" } : Jvm.MethodName)) ∈ lw_all := lw_g (lw_at lw_m9 211 rfl) rfl
theorem q2248 : (Jvm.Cond.castable "PlatesSing$Held" "PlatesSing$Part") ∈ lw_tbl := lw_at lw_m9 220 rfl
theorem q2259 : (Jvm.Cond.castable "PlatesSing$Held" "java/lang/Object") ∈ lw_tbl := lw_at lw_m9 231 rfl
theorem q2264 : (Jvm.Cond.castable "PlatesSing$Held" "PlatesSing$Piece") ∈ lw_tbl := lw_at lw_m9 236 rfl
theorem in_X8 : ∀ w ∈ wsX80, w ∈ lw_all := lw_in wsX80 [545, 546, 540, 541, 542, 543, 544, 538] (by decide +kernel) (by decide +kernel)

/-! PlatesSing$Weighted -/
set_option maxRecDepth 100000
def RX9 : String := "PlatesSing$Weighted"
def TX9 : u_T := fun k => match k with
  | 0 => ("PlatesSing$Part", "number", "I", true)
  | 1 => ("PlatesSing$Part", "this$0", "LPlatesSing;", true)
  | _ => ("PlatesSing$Weighted", "this$0", "LPlatesSing;", true)
def tyX9 : Nat → FieldType := fun k => match k with
  | 0 => .int
  | 1 => .object "PlatesSing"
  | _ => .object "PlatesSing"
abbrev wsX90 : List Cond := u_ws RX9 TX9 3
-- two fields of one name: no nmX9
theorem tyX9_ok : ∀ k, k < 3 → parseFieldDescriptor (TX9 k).2.2.1 = some (tyX9 k) := by decide +kernel
abbrev cX9_init : ByteArray := prog_13_method_1_code
def yX9_init : MethodName := ⟨RX9, "<init>", "(LPlatesSing;I)V"⟩
def dkwX9_init_0 : List UInt8 := [42, 43, 181, 0, 1, 42, 43, 28, 183, 0, 7, 177]
abbrev dktX9_init_0 : List UInt8 := dkwX9_init_0 ++ []
theorem dksX9_init_0 : cX9_init.data.toList.drop 0 = dktX9_init_0 := by decide +kernel
theorem dX9_init_0 : decode cX9_init 0 = .ok (.aload_n 0, 1) := dk_42 (dk_at dksX9_init_0 0 rfl rfl)
theorem dX9_init_1 : decode cX9_init 1 = .ok (.aload_n 1, 1) := dk_43 (dk_at dksX9_init_0 1 rfl rfl)
theorem dX9_init_2 : decode cX9_init 2 = .ok (.putfield 1, 3) := dk_181 0 1 (dk_at dksX9_init_0 2 rfl rfl)
theorem dX9_init_5 : decode cX9_init 5 = .ok (.aload_n 0, 1) := dk_42 (dk_at dksX9_init_0 5 rfl rfl)
theorem dX9_init_6 : decode cX9_init 6 = .ok (.aload_n 1, 1) := dk_43 (dk_at dksX9_init_0 6 rfl rfl)
theorem dX9_init_7 : decode cX9_init 7 = .ok (.iload_n 2, 1) := dk_28 (dk_at dksX9_init_0 7 rfl rfl)
theorem dX9_init_8 : decode cX9_init 8 = .ok (.invokespecial 7, 3) := dk_183 0 7 (dk_at dksX9_init_0 8 rfl rfl)
theorem dX9_init_11 : decode cX9_init 11 = .ok (.return_, 1) := dk_177 (dk_at dksX9_init_0 11 rfl rfl)
abbrev cX9_weighs : ByteArray := prog_13_method_4_code
def yX9_weighs : MethodName := ⟨RX9, "weighs", "(I)I"⟩
def dkwX9_weighs_0 : List UInt8 := [42, 16, 40, 182, 0, 17, 42, 27, 183, 0, 21, 116, 172]
abbrev dktX9_weighs_0 : List UInt8 := dkwX9_weighs_0 ++ []
theorem dksX9_weighs_0 : cX9_weighs.data.toList.drop 0 = dktX9_weighs_0 := by decide +kernel
theorem dX9_weighs_0 : decode cX9_weighs 0 = .ok (.aload_n 0, 1) := dk_42 (dk_at dksX9_weighs_0 0 rfl rfl)
theorem dX9_weighs_1 : decode cX9_weighs 1 = .ok (.bipush 40, 2) := dk_16 40 (dk_at dksX9_weighs_0 1 rfl rfl)
theorem dX9_weighs_3 : decode cX9_weighs 3 = .ok (.invokevirtual 17, 3) := dk_182 0 17 (dk_at dksX9_weighs_0 3 rfl rfl)
theorem dX9_weighs_6 : decode cX9_weighs 6 = .ok (.aload_n 0, 1) := dk_42 (dk_at dksX9_weighs_0 6 rfl rfl)
theorem dX9_weighs_7 : decode cX9_weighs 7 = .ok (.iload_n 1, 1) := dk_27 (dk_at dksX9_weighs_0 7 rfl rfl)
theorem dX9_weighs_8 : decode cX9_weighs 8 = .ok (.invokespecial 21, 3) := dk_183 0 21 (dk_at dksX9_weighs_0 8 rfl rfl)
theorem dX9_weighs_11 : decode cX9_weighs 11 = .ok (.ineg, 1) := dk_116 (dk_at dksX9_weighs_0 11 rfl rfl)
theorem dX9_weighs_12 : decode cX9_weighs 12 = .ok (.ireturn, 1) := dk_172 (dk_at dksX9_weighs_0 12 rfl rfl)
abbrev cX9_isUnder : ByteArray := prog_13_method_3_code
def yX9_isUnder : MethodName := ⟨RX9, "isUnder", "(I)Z"⟩
def dkwX9_isUnder_0 : List UInt8 := [27, 6, 159, 0, 11, 42, 27, 183, 0, 13, 153, 0, 7, 4, 167, 0, 4, 3, 172]
abbrev dktX9_isUnder_0 : List UInt8 := dkwX9_isUnder_0 ++ []
theorem dksX9_isUnder_0 : cX9_isUnder.data.toList.drop 0 = dktX9_isUnder_0 := by decide +kernel
theorem dX9_isUnder_0 : decode cX9_isUnder 0 = .ok (.iload_n 1, 1) := dk_27 (dk_at dksX9_isUnder_0 0 rfl rfl)
theorem dX9_isUnder_1 : decode cX9_isUnder 1 = .ok (.iconst 3, 1) := dk_6 (dk_at dksX9_isUnder_0 1 rfl rfl)
theorem dX9_isUnder_2 : decode cX9_isUnder 2 = .ok (.if_icmp .eq 11, 3) := dk_159 0 11 (dk_at dksX9_isUnder_0 2 rfl rfl)
theorem dX9_isUnder_5 : decode cX9_isUnder 5 = .ok (.aload_n 0, 1) := dk_42 (dk_at dksX9_isUnder_0 5 rfl rfl)
theorem dX9_isUnder_6 : decode cX9_isUnder 6 = .ok (.iload_n 1, 1) := dk_27 (dk_at dksX9_isUnder_0 6 rfl rfl)
theorem dX9_isUnder_7 : decode cX9_isUnder 7 = .ok (.invokespecial 13, 3) := dk_183 0 13 (dk_at dksX9_isUnder_0 7 rfl rfl)
theorem dX9_isUnder_10 : decode cX9_isUnder 10 = .ok (.ifCond .eq 7, 3) := dk_153 0 7 (dk_at dksX9_isUnder_0 10 rfl rfl)
theorem dX9_isUnder_13 : decode cX9_isUnder 13 = .ok (.iconst 1, 1) := dk_4 (dk_at dksX9_isUnder_0 13 rfl rfl)
theorem dX9_isUnder_14 : decode cX9_isUnder 14 = .ok (.goto 4, 3) := dk_167 0 4 (dk_at dksX9_isUnder_0 14 rfl rfl)
theorem dX9_isUnder_17 : decode cX9_isUnder 17 = .ok (.iconst 0, 1) := dk_3 (dk_at dksX9_isUnder_0 17 rfl rfl)
theorem dX9_isUnder_18 : decode cX9_isUnder 18 = .ok (.ireturn, 1) := dk_172 (dk_at dksX9_isUnder_0 18 rfl rfl)
abbrev cX9_kind : ByteArray := prog_13_method_2_code
def yX9_kind : MethodName := ⟨RX9, "kind", "()I"⟩
theorem dX9_kind_0 : decode cX9_kind 0 = .ok (.iconst 3, 1) := by decide +kernel
theorem dX9_kind_1 : decode cX9_kind 1 = .ok (.ireturn, 1) := by decide +kernel
theorem q124 : (Jvm.Cond.initialized "PlatesSing$Weighted") ∈ lw_all := lw_g (lw_at lw_m1 16 rfl) rfl
theorem q549 : (Jvm.Cond.instantiable "PlatesSing$Weighted" (3 : Nat)) ∈ lw_all := lw_g (lw_at lw_m2 201 rfl) rfl
theorem q551 : (Jvm.Cond.instanceMethod ({ cls := "PlatesSing$Weighted", name := "<init>", desc := "(LPlatesSing;I)V" } : Jvm.MethodName)) ∈ lw_all := lw_g (lw_at lw_m2 203 rfl) rfl
theorem q552 : (Jvm.Cond.code ({ cls := "PlatesSing$Weighted", name := "<init>", desc := "(LPlatesSing;I)V" } : Jvm.MethodName) prog_13_method_1_code (3 : Nat) (Option.none : Option Jvm.ClassFile.FieldType)) ∈ lw_all := lw_g (lw_at lw_m2 204 rfl) rfl
theorem q553 : (Jvm.Cond.methodLink "PlatesSing$Weighted" (7 : Nat) ({ cls := "PlatesSing$Part", name := "<init>", desc := "(LPlatesSing;I)V" } : Jvm.MethodName)) ∈ lw_all := lw_g (lw_at lw_m2 205 rfl) rfl
theorem q554 : (Jvm.Cond.fieldLink "PlatesSing$Weighted" (1 : Nat) "PlatesSing$Weighted" "this$0" "LPlatesSing;") ∈ lw_all := lw_g (lw_at lw_m2 206 rfl) rfl
theorem q555 : (Jvm.Cond.laysFinal "PlatesSing$Weighted" "PlatesSing$Weighted" "this$0" "LPlatesSing;") ∈ lw_all := lw_g (lw_at lw_m2 207 rfl) rfl
theorem q556 : (Jvm.Cond.soleField "PlatesSing$Weighted" "this$0") ∈ lw_all := lw_g (lw_at lw_m2 208 rfl) rfl
theorem q557 : (Jvm.Cond.laysFinal "PlatesSing$Weighted" "PlatesSing$Part" "number" "I") ∈ lw_all := lw_g (lw_at lw_m2 209 rfl) rfl
theorem q558 : (Jvm.Cond.laysFinal "PlatesSing$Weighted" "PlatesSing$Part" "this$0" "LPlatesSing;") ∈ lw_all := lw_g (lw_at lw_m2 210 rfl) rfl
theorem q559 : (Jvm.Cond.superclass "PlatesSing$Weighted" "PlatesSing$Part") ∈ lw_all := lw_g (lw_at lw_m2 211 rfl) rfl
theorem q1166 : (Jvm.Cond.castable "PlatesSing$Weighted" "PlatesSing$Stiffens") ∈ lw_tbl := lw_at lw_m5 98 rfl
theorem q1167 : (Jvm.Cond.selects "PlatesSing$Weighted" ({ cls := "PlatesSing$Stiffens", name := "begins", desc := "(I)V" } : Jvm.MethodName) ({ cls := "PlatesSing$Part", name := "begins", desc := "(I)V" } : Jvm.MethodName)) ∈ lw_all := lw_g (lw_at lw_m5 99 rfl) rfl
theorem q1168 : (Jvm.Cond.unhidden "PlatesSing$Weighted" "begins" "(I)V") ∈ lw_tbl := lw_at lw_m5 100 rfl
theorem q1189 : (Jvm.Cond.selects "PlatesSing$Weighted" ({ cls := "PlatesSing$Stiffens", name := "stiff", desc := "()I" } : Jvm.MethodName) ({ cls := "PlatesSing$Part", name := "stiff", desc := "()I" } : Jvm.MethodName)) ∈ lw_all := lw_g (lw_at lw_m5 121 rfl) rfl
theorem q1190 : (Jvm.Cond.unhidden "PlatesSing$Weighted" "stiff" "()I") ∈ lw_tbl := lw_at lw_m5 122 rfl
theorem q1195 : (Jvm.Cond.unhidden "PlatesSing$Weighted" "stiffens" "(I)I") ∈ lw_tbl := lw_at lw_m5 127 rfl
theorem q1217 : (Jvm.Cond.selects "PlatesSing$Weighted" ({ cls := "PlatesSing$Part", name := "weighs", desc := "(I)I" } : Jvm.MethodName) ({ cls := "PlatesSing$Weighted", name := "weighs", desc := "(I)I" } : Jvm.MethodName)) ∈ lw_all := lw_g (lw_at lw_m5 149 rfl) rfl
theorem q1218 : (Jvm.Cond.instanceMethod ({ cls := "PlatesSing$Weighted", name := "weighs", desc := "(I)I" } : Jvm.MethodName)) ∈ lw_all := lw_g (lw_at lw_m5 150 rfl) rfl
theorem q1219 : (Jvm.Cond.code ({ cls := "PlatesSing$Weighted", name := "weighs", desc := "(I)I" } : Jvm.MethodName) prog_13_method_4_code (2 : Nat) (Option.some Jvm.ClassFile.FieldType.int)) ∈ lw_all := lw_g (lw_at lw_m5 151 rfl) rfl
theorem q1220 : (Jvm.Cond.methodLink "PlatesSing$Weighted" (17 : Nat) ({ cls := "PlatesSing$Weighted", name := "begins", desc := "(I)V" } : Jvm.MethodName)) ∈ lw_all := lw_g (lw_at lw_m5 152 rfl) rfl
theorem q1221 : (Jvm.Cond.sameMethod "PlatesSing$Weighted" "PlatesSing$Part" "begins" "(I)V") ∈ lw_all := lw_g (lw_at lw_m5 153 rfl) rfl
theorem q1222 : (Jvm.Cond.selects "PlatesSing$Weighted" ({ cls := "PlatesSing$Weighted", name := "begins", desc := "(I)V" } : Jvm.MethodName) ({ cls := "PlatesSing$Part", name := "begins", desc := "(I)V" } : Jvm.MethodName)) ∈ lw_all := lw_g (lw_at lw_m5 154 rfl) rfl
theorem q1223 : (Jvm.Cond.methodLink "PlatesSing$Weighted" (21 : Nat) ({ cls := "PlatesSing$Part", name := "weighs", desc := "(I)I" } : Jvm.MethodName)) ∈ lw_all := lw_g (lw_at lw_m5 155 rfl) rfl
theorem q1249 : (Jvm.Cond.selects "PlatesSing$Weighted" ({ cls := "PlatesSing$Part", name := "sounds", desc := "(I)I" } : Jvm.MethodName) ({ cls := "PlatesSing$Part", name := "sounds", desc := "(I)I" } : Jvm.MethodName)) ∈ lw_all := lw_g (lw_at lw_m5 181 rfl) rfl
theorem q1274 : (Jvm.Cond.castable "PlatesSing$Weighted" "PlatesSing$Tells") ∈ lw_tbl := lw_at lw_m5 206 rfl
theorem q1275 : (Jvm.Cond.selects "PlatesSing$Weighted" ({ cls := "PlatesSing$Tells", name := "begins", desc := "(I)V" } : Jvm.MethodName) ({ cls := "PlatesSing$Part", name := "begins", desc := "(I)V" } : Jvm.MethodName)) ∈ lw_all := lw_g (lw_at lw_m5 207 rfl) rfl
theorem q1292 : (Jvm.Cond.selects "PlatesSing$Weighted" ({ cls := "PlatesSing$Tells", name := "weighs", desc := "(I)I" } : Jvm.MethodName) ({ cls := "PlatesSing$Weighted", name := "weighs", desc := "(I)I" } : Jvm.MethodName)) ∈ lw_all := lw_g (lw_at lw_m5 224 rfl) rfl
theorem q1293 : (Jvm.Cond.unhidden "PlatesSing$Weighted" "weighs" "(I)I") ∈ lw_tbl := lw_at lw_m5 225 rfl
theorem q1294 : (Jvm.Cond.publicMethod ({ cls := "PlatesSing$Weighted", name := "weighs", desc := "(I)I" } : Jvm.MethodName)) ∈ lw_tbl := lw_at lw_m5 226 rfl
theorem q1312 : (Jvm.Cond.selects "PlatesSing$Weighted" ({ cls := "PlatesSing$Tells", name := "sounds", desc := "(I)I" } : Jvm.MethodName) ({ cls := "PlatesSing$Part", name := "sounds", desc := "(I)I" } : Jvm.MethodName)) ∈ lw_all := lw_g (lw_at lw_m6 4 rfl) rfl
theorem q1313 : (Jvm.Cond.unhidden "PlatesSing$Weighted" "sounds" "(I)I") ∈ lw_tbl := lw_at lw_m6 5 rfl
theorem q1318 : (Jvm.Cond.unhidden "PlatesSing$Weighted" "tells" "(I)I") ∈ lw_tbl := lw_at lw_m6 10 rfl
theorem q1382 : (Jvm.Cond.selects "PlatesSing$Weighted" ({ cls := "PlatesSing$Part", name := "isUnder", desc := "(I)Z" } : Jvm.MethodName) ({ cls := "PlatesSing$Weighted", name := "isUnder", desc := "(I)Z" } : Jvm.MethodName)) ∈ lw_all := lw_g (lw_at lw_m6 74 rfl) rfl
theorem q1383 : (Jvm.Cond.instanceMethod ({ cls := "PlatesSing$Weighted", name := "isUnder", desc := "(I)Z" } : Jvm.MethodName)) ∈ lw_all := lw_g (lw_at lw_m6 75 rfl) rfl
theorem q1384 : (Jvm.Cond.code ({ cls := "PlatesSing$Weighted", name := "isUnder", desc := "(I)Z" } : Jvm.MethodName) prog_13_method_3_code (2 : Nat) (Option.some Jvm.ClassFile.FieldType.boolean)) ∈ lw_all := lw_g (lw_at lw_m6 76 rfl) rfl
theorem q1385 : (Jvm.Cond.methodLink "PlatesSing$Weighted" (13 : Nat) ({ cls := "PlatesSing$Part", name := "isUnder", desc := "(I)Z" } : Jvm.MethodName)) ∈ lw_all := lw_g (lw_at lw_m6 77 rfl) rfl
theorem q1403 : (Jvm.Cond.selects "PlatesSing$Weighted" ({ cls := "PlatesSing$Part", name := "kind", desc := "()I" } : Jvm.MethodName) ({ cls := "PlatesSing$Weighted", name := "kind", desc := "()I" } : Jvm.MethodName)) ∈ lw_all := lw_g (lw_at lw_m6 95 rfl) rfl
theorem q1404 : (Jvm.Cond.instanceMethod ({ cls := "PlatesSing$Weighted", name := "kind", desc := "()I" } : Jvm.MethodName)) ∈ lw_all := lw_g (lw_at lw_m6 96 rfl) rfl
theorem q1405 : (Jvm.Cond.code ({ cls := "PlatesSing$Weighted", name := "kind", desc := "()I" } : Jvm.MethodName) prog_13_method_2_code (1 : Nat) (Option.some Jvm.ClassFile.FieldType.int)) ∈ lw_all := lw_g (lw_at lw_m6 97 rfl) rfl
theorem q2242 : (Jvm.Cond.selects "PlatesSing$Weighted" ({ cls := "PlatesSing$Part", name := "begins", desc := "(I)V" } : Jvm.MethodName) ({ cls := "PlatesSing$Part", name := "begins", desc := "(I)V" } : Jvm.MethodName)) ∈ lw_all := lw_g (lw_at lw_m9 214 rfl) rfl
theorem q2250 : (Jvm.Cond.castable "PlatesSing$Weighted" "PlatesSing$Part") ∈ lw_tbl := lw_at lw_m9 222 rfl
theorem q2260 : (Jvm.Cond.castable "PlatesSing$Weighted" "java/lang/Object") ∈ lw_tbl := lw_at lw_m9 232 rfl
theorem in_X9 : ∀ w ∈ wsX90, w ∈ lw_all := lw_in wsX90 [557, 558, 555] (by decide +kernel) (by decide +kernel)

theorem q108 : (Jvm.Cond.initialized "PlatesSingLaw") ∈ lw_all := lw_g (lw_at lw_m1 0 rfl) rfl
set_option maxRecDepth 100000
theorem q127 : (Jvm.Cond.classLink "PlatesSingLaw" (7 : Nat) "PlatesSing") ∈ lw_all := lw_g (lw_at lw_m1 19 rfl) rfl
theorem q129 : (Jvm.Cond.methodLink "PlatesSingLaw" (9 : Nat) ({ cls := "PlatesSing", name := "<init>", desc := "()V" } : Jvm.MethodName)) ∈ lw_all := lw_g (lw_at lw_m1 21 rfl) rfl
theorem q478 : (Jvm.Cond.methodLink "PlatesSingLaw" (200 : Nat) ({ cls := "PlatesSing", name := "body", desc := "(I)I" } : Jvm.MethodName)) ∈ lw_all := lw_g (lw_at lw_m2 130 rfl) rfl
theorem q595 : (Jvm.Cond.methodLink "PlatesSingLaw" (13 : Nat) ({ cls := "PlatesSing", name := "feed", desc := "(II)I" } : Jvm.MethodName)) ∈ lw_all := lw_g (lw_at lw_m3 7 rfl) rfl
theorem q600 : (Jvm.Cond.methodLink "PlatesSingLaw" (18 : Nat) ({ cls := "PlatesSing", name := "shape", desc := "()I" } : Jvm.MethodName)) ∈ lw_all := lw_g (lw_at lw_m3 12 rfl) rfl
theorem q698 : (Jvm.Cond.methodLink "PlatesSingLaw" (23 : Nat) ({ cls := "PlatesSing", name := "of", desc := "(II)I" } : Jvm.MethodName)) ∈ lw_all := lw_g (lw_at lw_m3 110 rfl) rfl
theorem q720 : (Jvm.Cond.methodLink "PlatesSingLaw" (27 : Nat) ({ cls := "PlatesSing", name := "piece", desc := "(IIII)I" } : Jvm.MethodName)) ∈ lw_all := lw_g (lw_at lw_m3 132 rfl) rfl
theorem q744 : (Jvm.Cond.methodLink "PlatesSingLaw" (32 : Nat) ({ cls := "PlatesSing", name := "put", desc := "(IIII)I" } : Jvm.MethodName)) ∈ lw_all := lw_g (lw_at lw_m3 156 rfl) rfl
theorem q761 : (Jvm.Cond.methodLink "PlatesSingLaw" (36 : Nat) ({ cls := "PlatesSing", name := "crack", desc := "(IIII)I" } : Jvm.MethodName)) ∈ lw_all := lw_g (lw_at lw_m3 173 rfl) rfl
theorem q769 : (Jvm.Cond.methodLink "PlatesSingLaw" (40 : Nat) ({ cls := "PlatesSing", name := "stroke", desc := "(III)I" } : Jvm.MethodName)) ∈ lw_all := lw_g (lw_at lw_m3 181 rfl) rfl
theorem q773 : (Jvm.Cond.methodLink "PlatesSingLaw" (188 : Nat) ({ cls := "PlatesSing", name := "undo", desc := "()I" } : Jvm.MethodName)) ∈ lw_all := lw_g (lw_at lw_m3 185 rfl) rfl
theorem q777 : (Jvm.Cond.methodLink "PlatesSingLaw" (192 : Nat) ({ cls := "PlatesSing", name := "redo", desc := "()I" } : Jvm.MethodName)) ∈ lw_all := lw_g (lw_at lw_m3 189 rfl) rfl
theorem q781 : (Jvm.Cond.methodLink "PlatesSingLaw" (196 : Nat) ({ cls := "PlatesSing", name := "digest", desc := "()I" } : Jvm.MethodName)) ∈ lw_all := lw_g (lw_at lw_m3 193 rfl) rfl
theorem q785 : (Jvm.Cond.methodLink "PlatesSingLaw" (45 : Nat) ({ cls := "PlatesSing", name := "below", desc := "(III)I" } : Jvm.MethodName)) ∈ lw_all := lw_g (lw_at lw_m3 197 rfl) rfl
theorem q843 : (Jvm.Cond.methodLink "PlatesSingLaw" (49 : Nat) ({ cls := "PlatesSing", name := "sums", desc := "(III)J" } : Jvm.MethodName)) ∈ lw_all := lw_g (lw_at lw_m4 15 rfl) rfl
theorem q848 : (Jvm.Cond.methodLink "PlatesSingLaw" (54 : Nat) ({ cls := "PlatesSing", name := "shut", desc := "(III)I" } : Jvm.MethodName)) ∈ lw_all := lw_g (lw_at lw_m4 20 rfl) rfl
theorem q862 : (Jvm.Cond.methodLink "PlatesSingLaw" (58 : Nat) ({ cls := "PlatesSing", name := "still", desc := "(III)I" } : Jvm.MethodName)) ∈ lw_all := lw_g (lw_at lw_m4 34 rfl) rfl
theorem q866 : (Jvm.Cond.methodLink "PlatesSingLaw" (62 : Nat) ({ cls := "PlatesSing", name := "split", desc := "(IIII)I" } : Jvm.MethodName)) ∈ lw_all := lw_g (lw_at lw_m4 38 rfl) rfl
theorem q870 : (Jvm.Cond.methodLink "PlatesSingLaw" (66 : Nat) ({ cls := "PlatesSing", name := "bounds", desc := "(IIIII)I" } : Jvm.MethodName)) ∈ lw_all := lw_g (lw_at lw_m4 42 rfl) rfl
theorem q886 : (Jvm.Cond.methodLink "PlatesSingLaw" (71 : Nat) ({ cls := "PlatesSing", name := "led", desc := "(IIII)I" } : Jvm.MethodName)) ∈ lw_all := lw_g (lw_at lw_m4 58 rfl) rfl
theorem q890 : (Jvm.Cond.methodLink "PlatesSingLaw" (75 : Nat) ({ cls := "PlatesSing", name := "turnsOf", desc := "(I)I" } : Jvm.MethodName)) ∈ lw_all := lw_g (lw_at lw_m4 62 rfl) rfl
theorem q909 : (Jvm.Cond.methodLink "PlatesSingLaw" (80 : Nat) ({ cls := "PlatesSing", name := "orbit", desc := "(II)I" } : Jvm.MethodName)) ∈ lw_all := lw_g (lw_at lw_m4 81 rfl) rfl
theorem q913 : (Jvm.Cond.methodLink "PlatesSingLaw" (84 : Nat) ({ cls := "PlatesSing", name := "table", desc := "(II)I" } : Jvm.MethodName)) ∈ lw_all := lw_g (lw_at lw_m4 85 rfl) rfl
theorem q917 : (Jvm.Cond.methodLink "PlatesSingLaw" (88 : Nat) ({ cls := "PlatesSing", name := "alike", desc := "(III)I" } : Jvm.MethodName)) ∈ lw_all := lw_g (lw_at lw_m4 89 rfl) rfl
theorem q928 : (Jvm.Cond.methodLink "PlatesSingLaw" (92 : Nat) ({ cls := "PlatesSing", name := "plan", desc := "(IIII)I" } : Jvm.MethodName)) ∈ lw_all := lw_g (lw_at lw_m4 100 rfl) rfl
theorem q933 : (Jvm.Cond.methodLink "PlatesSingLaw" (96 : Nat) ({ cls := "PlatesSing", name := "wish", desc := "(III)I" } : Jvm.MethodName)) ∈ lw_all := lw_g (lw_at lw_m4 105 rfl) rfl
theorem q937 : (Jvm.Cond.methodLink "PlatesSingLaw" (100 : Nat) ({ cls := "PlatesSing", name := "moved", desc := "(III)I" } : Jvm.MethodName)) ∈ lw_all := lw_g (lw_at lw_m4 109 rfl) rfl
theorem q945 : (Jvm.Cond.methodLink "PlatesSingLaw" (104 : Nat) ({ cls := "PlatesSing", name := "tune", desc := "(I)I" } : Jvm.MethodName)) ∈ lw_all := lw_g (lw_at lw_m4 117 rfl) rfl
theorem q960 : (Jvm.Cond.methodLink "PlatesSingLaw" (108 : Nat) ({ cls := "PlatesSing", name := "forget", desc := "()I" } : Jvm.MethodName)) ∈ lw_all := lw_g (lw_at lw_m4 132 rfl) rfl
theorem q964 : (Jvm.Cond.methodLink "PlatesSingLaw" (112 : Nat) ({ cls := "PlatesSing", name := "hear", desc := "(I)I" } : Jvm.MethodName)) ∈ lw_all := lw_g (lw_at lw_m4 136 rfl) rfl
theorem q968 : (Jvm.Cond.methodLink "PlatesSingLaw" (124 : Nat) ({ cls := "PlatesSing", name := "unhear", desc := "()I" } : Jvm.MethodName)) ∈ lw_all := lw_g (lw_at lw_m4 140 rfl) rfl
theorem q972 : (Jvm.Cond.methodLink "PlatesSingLaw" (116 : Nat) ({ cls := "PlatesSing", name := "fits", desc := "(III)I" } : Jvm.MethodName)) ∈ lw_all := lw_g (lw_at lw_m4 144 rfl) rfl
theorem q984 : (Jvm.Cond.methodLink "PlatesSingLaw" (120 : Nat) ({ cls := "PlatesSing", name := "next", desc := "(II)I" } : Jvm.MethodName)) ∈ lw_all := lw_g (lw_at lw_m4 156 rfl) rfl
theorem q988 : (Jvm.Cond.methodLink "PlatesSingLaw" (128 : Nat) ({ cls := "PlatesSing", name := "damp", desc := "(I)I" } : Jvm.MethodName)) ∈ lw_all := lw_g (lw_at lw_m4 160 rfl) rfl
theorem q993 : (Jvm.Cond.methodLink "PlatesSingLaw" (132 : Nat) ({ cls := "PlatesSing", name := "ear", desc := "(II)I" } : Jvm.MethodName)) ∈ lw_all := lw_g (lw_at lw_m4 165 rfl) rfl
theorem q998 : (Jvm.Cond.methodLink "PlatesSingLaw" (136 : Nat) ({ cls := "PlatesSing", name := "blow", desc := "(IIII)I" } : Jvm.MethodName)) ∈ lw_all := lw_g (lw_at lw_m4 170 rfl) rfl
theorem q1012 : (Jvm.Cond.methodLink "PlatesSingLaw" (140 : Nat) ({ cls := "PlatesSing", name := "roll", desc := "(III)I" } : Jvm.MethodName)) ∈ lw_all := lw_g (lw_at lw_m4 184 rfl) rfl
theorem q1016 : (Jvm.Cond.methodLink "PlatesSingLaw" (144 : Nat) ({ cls := "PlatesSing", name := "rolled", desc := "(II)I" } : Jvm.MethodName)) ∈ lw_all := lw_g (lw_at lw_m4 188 rfl) rfl
theorem q1020 : (Jvm.Cond.methodLink "PlatesSingLaw" (148 : Nat) ({ cls := "PlatesSing", name := "heard", desc := "(II)I" } : Jvm.MethodName)) ∈ lw_all := lw_g (lw_at lw_m4 192 rfl) rfl
theorem q1028 : (Jvm.Cond.methodLink "PlatesSingLaw" (152 : Nat) ({ cls := "PlatesSing", name := "loud", desc := "(II)I" } : Jvm.MethodName)) ∈ lw_all := lw_g (lw_at lw_m4 200 rfl) rfl
theorem q1032 : (Jvm.Cond.methodLink "PlatesSingLaw" (156 : Nat) ({ cls := "PlatesSing", name := "write", desc := "(IIII)I" } : Jvm.MethodName)) ∈ lw_all := lw_g (lw_at lw_m4 204 rfl) rfl
theorem q1048 : (Jvm.Cond.methodLink "PlatesSingLaw" (160 : Nat) ({ cls := "PlatesSing", name := "loudness", desc := "(II)I" } : Jvm.MethodName)) ∈ lw_all := lw_g (lw_at lw_m4 220 rfl) rfl
theorem q1076 : (Jvm.Cond.methodLink "PlatesSingLaw" (164 : Nat) ({ cls := "PlatesSing", name := "strongest", desc := "(I)I" } : Jvm.MethodName)) ∈ lw_all := lw_g (lw_at lw_m5 8 rfl) rfl
theorem q1080 : (Jvm.Cond.methodLink "PlatesSingLaw" (168 : Nat) ({ cls := "PlatesSing", name := "ratio", desc := "(II)I" } : Jvm.MethodName)) ∈ lw_all := lw_g (lw_at lw_m5 12 rfl) rfl
theorem q1084 : (Jvm.Cond.methodLink "PlatesSingLaw" (176 : Nat) ({ cls := "PlatesSing", name := "unratio", desc := "()I" } : Jvm.MethodName)) ∈ lw_all := lw_g (lw_at lw_m5 16 rfl) rfl
theorem q1088 : (Jvm.Cond.methodLink "PlatesSingLaw" (172 : Nat) ({ cls := "PlatesSing", name := "agree", desc := "(IIII)I" } : Jvm.MethodName)) ∈ lw_all := lw_g (lw_at lw_m5 20 rfl) rfl
theorem q1102 : (Jvm.Cond.methodLink "PlatesSingLaw" (180 : Nat) ({ cls := "PlatesSing", name := "join", desc := "(IIII)I" } : Jvm.MethodName)) ∈ lw_all := lw_g (lw_at lw_m5 34 rfl) rfl
theorem q1112 : (Jvm.Cond.methodLink "PlatesSingLaw" (184 : Nat) ({ cls := "PlatesSing", name := "law", desc := "(II)I" } : Jvm.MethodName)) ∈ lw_all := lw_g (lw_at lw_m5 44 rfl) rfl
theorem q1116 : (Jvm.Cond.methodLink "PlatesSingLaw" (204 : Nat) ({ cls := "PlatesSing", name := "act", desc := "(III)I" } : Jvm.MethodName)) ∈ lw_all := lw_g (lw_at lw_m5 48 rfl) rfl
theorem q1320 : (Jvm.Cond.methodLink "PlatesSingLaw" (208 : Nat) ({ cls := "PlatesSing", name := "trace", desc := "(I)I" } : Jvm.MethodName)) ∈ lw_all := lw_g (lw_at lw_m6 12 rfl) rfl
theorem q1324 : (Jvm.Cond.methodLink "PlatesSingLaw" (212 : Nat) ({ cls := "PlatesSing", name := "keep", desc := "(II)I" } : Jvm.MethodName)) ∈ lw_all := lw_g (lw_at lw_m6 16 rfl) rfl
theorem q1328 : (Jvm.Cond.methodLink "PlatesSingLaw" (216 : Nat) ({ cls := "PlatesSing", name := "row", desc := "(III)I" } : Jvm.MethodName)) ∈ lw_all := lw_g (lw_at lw_m6 20 rfl) rfl
theorem q1334 : (Jvm.Cond.methodLink "PlatesSingLaw" (222 : Nat) ({ cls := "PlatesSing", name := "place", desc := "(IIJ)I" } : Jvm.MethodName)) ∈ lw_all := lw_g (lw_at lw_m6 26 rfl) rfl
theorem q1350 : (Jvm.Cond.methodLink "PlatesSingLaw" (227 : Nat) ({ cls := "PlatesSing", name := "element", desc := "(II)J" } : Jvm.MethodName)) ∈ lw_all := lw_g (lw_at lw_m6 42 rfl) rfl
theorem q1354 : (Jvm.Cond.methodLink "PlatesSingLaw" (232 : Nat) ({ cls := "PlatesSing", name := "shift", desc := "(IIIII)I" } : Jvm.MethodName)) ∈ lw_all := lw_g (lw_at lw_m6 46 rfl) rfl
theorem q1358 : (Jvm.Cond.methodLink "PlatesSingLaw" (236 : Nat) ({ cls := "PlatesSing", name := "taken", desc := "(II)I" } : Jvm.MethodName)) ∈ lw_all := lw_g (lw_at lw_m6 50 rfl) rfl
theorem q1407 : (Jvm.Cond.methodLink "PlatesSingLaw" (240 : Nat) ({ cls := "PlatesSing", name := "count", desc := "(I)I" } : Jvm.MethodName)) ∈ lw_all := lw_g (lw_at lw_m6 99 rfl) rfl
theorem q1411 : (Jvm.Cond.classLink "PlatesSingLaw" (10 : Nat) "PlatesSingModel") ∈ lw_all := lw_g (lw_at lw_m6 103 rfl) rfl
theorem q1413 : (Jvm.Cond.methodLink "PlatesSingLaw" (12 : Nat) ({ cls := "PlatesSingModel", name := "<init>", desc := "()V" } : Jvm.MethodName)) ∈ lw_all := lw_g (lw_at lw_m6 105 rfl) rfl
theorem q1699 : (Jvm.Cond.methodLink "PlatesSingLaw" (17 : Nat) ({ cls := "PlatesSingModel", name := "feed", desc := "(II)I" } : Jvm.MethodName)) ∈ lw_all := lw_g (lw_at lw_m7 151 rfl) rfl
theorem q1706 : (Jvm.Cond.methodLink "PlatesSingLaw" (22 : Nat) ({ cls := "PlatesSingModel", name := "shape", desc := "()I" } : Jvm.MethodName)) ∈ lw_all := lw_g (lw_at lw_m7 158 rfl) rfl
theorem q1765 : (Jvm.Cond.methodLink "PlatesSingLaw" (26 : Nat) ({ cls := "PlatesSingModel", name := "of", desc := "(II)I" } : Jvm.MethodName)) ∈ lw_all := lw_g (lw_at lw_m7 217 rfl) rfl
theorem q1782 : (Jvm.Cond.methodLink "PlatesSingLaw" (31 : Nat) ({ cls := "PlatesSingModel", name := "piece", desc := "(IIII)I" } : Jvm.MethodName)) ∈ lw_all := lw_g (lw_at lw_m7 234 rfl) rfl
theorem q1786 : (Jvm.Cond.methodLink "PlatesSingLaw" (35 : Nat) ({ cls := "PlatesSingModel", name := "put", desc := "(IIII)I" } : Jvm.MethodName)) ∈ lw_all := lw_g (lw_at lw_m7 238 rfl) rfl
theorem q1802 : (Jvm.Cond.methodLink "PlatesSingLaw" (39 : Nat) ({ cls := "PlatesSingModel", name := "crack", desc := "(IIII)I" } : Jvm.MethodName)) ∈ lw_all := lw_g (lw_at lw_m8 14 rfl) rfl
theorem q1806 : (Jvm.Cond.methodLink "PlatesSingLaw" (44 : Nat) ({ cls := "PlatesSingModel", name := "stroke", desc := "(III)I" } : Jvm.MethodName)) ∈ lw_all := lw_g (lw_at lw_m8 18 rfl) rfl
theorem q1813 : (Jvm.Cond.methodLink "PlatesSingLaw" (191 : Nat) ({ cls := "PlatesSingModel", name := "undo", desc := "()I" } : Jvm.MethodName)) ∈ lw_all := lw_g (lw_at lw_m8 25 rfl) rfl
theorem q1817 : (Jvm.Cond.methodLink "PlatesSingLaw" (195 : Nat) ({ cls := "PlatesSingModel", name := "redo", desc := "()I" } : Jvm.MethodName)) ∈ lw_all := lw_g (lw_at lw_m8 29 rfl) rfl
theorem q1821 : (Jvm.Cond.methodLink "PlatesSingLaw" (199 : Nat) ({ cls := "PlatesSingModel", name := "digest", desc := "()I" } : Jvm.MethodName)) ∈ lw_all := lw_g (lw_at lw_m8 33 rfl) rfl
theorem q1828 : (Jvm.Cond.methodLink "PlatesSingLaw" (48 : Nat) ({ cls := "PlatesSingModel", name := "below", desc := "(III)I" } : Jvm.MethodName)) ∈ lw_all := lw_g (lw_at lw_m8 40 rfl) rfl
theorem q1865 : (Jvm.Cond.methodLink "PlatesSingLaw" (53 : Nat) ({ cls := "PlatesSingModel", name := "sums", desc := "(III)J" } : Jvm.MethodName)) ∈ lw_all := lw_g (lw_at lw_m8 77 rfl) rfl
theorem q1870 : (Jvm.Cond.methodLink "PlatesSingLaw" (57 : Nat) ({ cls := "PlatesSingModel", name := "shut", desc := "(III)I" } : Jvm.MethodName)) ∈ lw_all := lw_g (lw_at lw_m8 82 rfl) rfl
theorem q1886 : (Jvm.Cond.methodLink "PlatesSingLaw" (61 : Nat) ({ cls := "PlatesSingModel", name := "still", desc := "(III)I" } : Jvm.MethodName)) ∈ lw_all := lw_g (lw_at lw_m8 98 rfl) rfl
theorem q1890 : (Jvm.Cond.methodLink "PlatesSingLaw" (65 : Nat) ({ cls := "PlatesSingModel", name := "split", desc := "(IIII)I" } : Jvm.MethodName)) ∈ lw_all := lw_g (lw_at lw_m8 102 rfl) rfl
theorem q1894 : (Jvm.Cond.methodLink "PlatesSingLaw" (70 : Nat) ({ cls := "PlatesSingModel", name := "bounds", desc := "(IIIII)I" } : Jvm.MethodName)) ∈ lw_all := lw_g (lw_at lw_m8 106 rfl) rfl
theorem q1898 : (Jvm.Cond.methodLink "PlatesSingLaw" (74 : Nat) ({ cls := "PlatesSingModel", name := "led", desc := "(IIII)I" } : Jvm.MethodName)) ∈ lw_all := lw_g (lw_at lw_m8 110 rfl) rfl
theorem q1906 : (Jvm.Cond.methodLink "PlatesSingLaw" (79 : Nat) ({ cls := "PlatesSingModel", name := "turnsOf", desc := "(I)I" } : Jvm.MethodName)) ∈ lw_all := lw_g (lw_at lw_m8 118 rfl) rfl
theorem q1926 : (Jvm.Cond.methodLink "PlatesSingLaw" (83 : Nat) ({ cls := "PlatesSingModel", name := "orbit", desc := "(II)I" } : Jvm.MethodName)) ∈ lw_all := lw_g (lw_at lw_m8 138 rfl) rfl
theorem q1930 : (Jvm.Cond.methodLink "PlatesSingLaw" (87 : Nat) ({ cls := "PlatesSingModel", name := "table", desc := "(II)I" } : Jvm.MethodName)) ∈ lw_all := lw_g (lw_at lw_m8 142 rfl) rfl
theorem q1938 : (Jvm.Cond.methodLink "PlatesSingLaw" (91 : Nat) ({ cls := "PlatesSingModel", name := "alike", desc := "(III)I" } : Jvm.MethodName)) ∈ lw_all := lw_g (lw_at lw_m8 150 rfl) rfl
theorem q1954 : (Jvm.Cond.methodLink "PlatesSingLaw" (95 : Nat) ({ cls := "PlatesSingModel", name := "plan", desc := "(IIII)I" } : Jvm.MethodName)) ∈ lw_all := lw_g (lw_at lw_m8 166 rfl) rfl
theorem q1958 : (Jvm.Cond.methodLink "PlatesSingLaw" (99 : Nat) ({ cls := "PlatesSingModel", name := "wish", desc := "(III)I" } : Jvm.MethodName)) ∈ lw_all := lw_g (lw_at lw_m8 170 rfl) rfl
theorem q1962 : (Jvm.Cond.methodLink "PlatesSingLaw" (103 : Nat) ({ cls := "PlatesSingModel", name := "moved", desc := "(III)I" } : Jvm.MethodName)) ∈ lw_all := lw_g (lw_at lw_m8 174 rfl) rfl
theorem q1970 : (Jvm.Cond.methodLink "PlatesSingLaw" (107 : Nat) ({ cls := "PlatesSingModel", name := "tune", desc := "(I)I" } : Jvm.MethodName)) ∈ lw_all := lw_g (lw_at lw_m8 182 rfl) rfl
theorem q1989 : (Jvm.Cond.methodLink "PlatesSingLaw" (111 : Nat) ({ cls := "PlatesSingModel", name := "forget", desc := "()I" } : Jvm.MethodName)) ∈ lw_all := lw_g (lw_at lw_m8 201 rfl) rfl
theorem q1993 : (Jvm.Cond.methodLink "PlatesSingLaw" (115 : Nat) ({ cls := "PlatesSingModel", name := "hear", desc := "(I)I" } : Jvm.MethodName)) ∈ lw_all := lw_g (lw_at lw_m8 205 rfl) rfl
theorem q1997 : (Jvm.Cond.methodLink "PlatesSingLaw" (127 : Nat) ({ cls := "PlatesSingModel", name := "unhear", desc := "()I" } : Jvm.MethodName)) ∈ lw_all := lw_g (lw_at lw_m8 209 rfl) rfl
theorem q2001 : (Jvm.Cond.methodLink "PlatesSingLaw" (119 : Nat) ({ cls := "PlatesSingModel", name := "fits", desc := "(III)I" } : Jvm.MethodName)) ∈ lw_all := lw_g (lw_at lw_m8 213 rfl) rfl
theorem q2013 : (Jvm.Cond.methodLink "PlatesSingLaw" (123 : Nat) ({ cls := "PlatesSingModel", name := "next", desc := "(II)I" } : Jvm.MethodName)) ∈ lw_all := lw_g (lw_at lw_m8 225 rfl) rfl
theorem q2017 : (Jvm.Cond.methodLink "PlatesSingLaw" (131 : Nat) ({ cls := "PlatesSingModel", name := "damp", desc := "(I)I" } : Jvm.MethodName)) ∈ lw_all := lw_g (lw_at lw_m8 229 rfl) rfl
theorem q2021 : (Jvm.Cond.methodLink "PlatesSingLaw" (135 : Nat) ({ cls := "PlatesSingModel", name := "ear", desc := "(II)I" } : Jvm.MethodName)) ∈ lw_all := lw_g (lw_at lw_m8 233 rfl) rfl
theorem q2028 : (Jvm.Cond.methodLink "PlatesSingLaw" (139 : Nat) ({ cls := "PlatesSingModel", name := "blow", desc := "(IIII)I" } : Jvm.MethodName)) ∈ lw_all := lw_g (lw_at lw_m9 0 rfl) rfl
theorem q2040 : (Jvm.Cond.methodLink "PlatesSingLaw" (143 : Nat) ({ cls := "PlatesSingModel", name := "roll", desc := "(III)I" } : Jvm.MethodName)) ∈ lw_all := lw_g (lw_at lw_m9 12 rfl) rfl
theorem q2044 : (Jvm.Cond.methodLink "PlatesSingLaw" (147 : Nat) ({ cls := "PlatesSingModel", name := "rolled", desc := "(II)I" } : Jvm.MethodName)) ∈ lw_all := lw_g (lw_at lw_m9 16 rfl) rfl
theorem q2048 : (Jvm.Cond.methodLink "PlatesSingLaw" (151 : Nat) ({ cls := "PlatesSingModel", name := "heard", desc := "(II)I" } : Jvm.MethodName)) ∈ lw_all := lw_g (lw_at lw_m9 20 rfl) rfl
theorem q2052 : (Jvm.Cond.methodLink "PlatesSingLaw" (155 : Nat) ({ cls := "PlatesSingModel", name := "loud", desc := "(II)I" } : Jvm.MethodName)) ∈ lw_all := lw_g (lw_at lw_m9 24 rfl) rfl
theorem q2056 : (Jvm.Cond.methodLink "PlatesSingLaw" (159 : Nat) ({ cls := "PlatesSingModel", name := "write", desc := "(IIII)I" } : Jvm.MethodName)) ∈ lw_all := lw_g (lw_at lw_m9 28 rfl) rfl
theorem q2071 : (Jvm.Cond.methodLink "PlatesSingLaw" (163 : Nat) ({ cls := "PlatesSingModel", name := "loudness", desc := "(II)I" } : Jvm.MethodName)) ∈ lw_all := lw_g (lw_at lw_m9 43 rfl) rfl
theorem q2094 : (Jvm.Cond.methodLink "PlatesSingLaw" (167 : Nat) ({ cls := "PlatesSingModel", name := "strongest", desc := "(I)I" } : Jvm.MethodName)) ∈ lw_all := lw_g (lw_at lw_m9 66 rfl) rfl
theorem q2098 : (Jvm.Cond.methodLink "PlatesSingLaw" (171 : Nat) ({ cls := "PlatesSingModel", name := "ratio", desc := "(II)I" } : Jvm.MethodName)) ∈ lw_all := lw_g (lw_at lw_m9 70 rfl) rfl
theorem q2102 : (Jvm.Cond.methodLink "PlatesSingLaw" (179 : Nat) ({ cls := "PlatesSingModel", name := "unratio", desc := "()I" } : Jvm.MethodName)) ∈ lw_all := lw_g (lw_at lw_m9 74 rfl) rfl
theorem q2106 : (Jvm.Cond.methodLink "PlatesSingLaw" (175 : Nat) ({ cls := "PlatesSingModel", name := "agree", desc := "(IIII)I" } : Jvm.MethodName)) ∈ lw_all := lw_g (lw_at lw_m9 78 rfl) rfl
theorem q2118 : (Jvm.Cond.methodLink "PlatesSingLaw" (183 : Nat) ({ cls := "PlatesSingModel", name := "join", desc := "(IIII)I" } : Jvm.MethodName)) ∈ lw_all := lw_g (lw_at lw_m9 90 rfl) rfl
theorem q2130 : (Jvm.Cond.methodLink "PlatesSingLaw" (187 : Nat) ({ cls := "PlatesSingModel", name := "law", desc := "(II)I" } : Jvm.MethodName)) ∈ lw_all := lw_g (lw_at lw_m9 102 rfl) rfl
theorem q2138 : (Jvm.Cond.methodLink "PlatesSingLaw" (203 : Nat) ({ cls := "PlatesSingModel", name := "body", desc := "(I)I" } : Jvm.MethodName)) ∈ lw_all := lw_g (lw_at lw_m9 110 rfl) rfl
theorem q2142 : (Jvm.Cond.methodLink "PlatesSingLaw" (207 : Nat) ({ cls := "PlatesSingModel", name := "act", desc := "(III)I" } : Jvm.MethodName)) ∈ lw_all := lw_g (lw_at lw_m9 114 rfl) rfl
theorem q2197 : (Jvm.Cond.methodLink "PlatesSingLaw" (211 : Nat) ({ cls := "PlatesSingModel", name := "trace", desc := "(I)I" } : Jvm.MethodName)) ∈ lw_all := lw_g (lw_at lw_m9 169 rfl) rfl
theorem q2201 : (Jvm.Cond.methodLink "PlatesSingLaw" (243 : Nat) ({ cls := "PlatesSingModel", name := "count", desc := "(I)I" } : Jvm.MethodName)) ∈ lw_all := lw_g (lw_at lw_m9 173 rfl) rfl
theorem q2205 : (Jvm.Cond.methodLink "PlatesSingLaw" (215 : Nat) ({ cls := "PlatesSingModel", name := "keep", desc := "(II)I" } : Jvm.MethodName)) ∈ lw_all := lw_g (lw_at lw_m9 177 rfl) rfl
theorem q2209 : (Jvm.Cond.methodLink "PlatesSingLaw" (219 : Nat) ({ cls := "PlatesSingModel", name := "row", desc := "(III)I" } : Jvm.MethodName)) ∈ lw_all := lw_g (lw_at lw_m9 181 rfl) rfl
theorem q2213 : (Jvm.Cond.methodLink "PlatesSingLaw" (226 : Nat) ({ cls := "PlatesSingModel", name := "place", desc := "(IIJ)I" } : Jvm.MethodName)) ∈ lw_all := lw_g (lw_at lw_m9 185 rfl) rfl
theorem q2221 : (Jvm.Cond.methodLink "PlatesSingLaw" (231 : Nat) ({ cls := "PlatesSingModel", name := "element", desc := "(II)J" } : Jvm.MethodName)) ∈ lw_all := lw_g (lw_at lw_m9 193 rfl) rfl
theorem q2225 : (Jvm.Cond.methodLink "PlatesSingLaw" (235 : Nat) ({ cls := "PlatesSingModel", name := "shift", desc := "(IIIII)I" } : Jvm.MethodName)) ∈ lw_all := lw_g (lw_at lw_m9 197 rfl) rfl
theorem q2229 : (Jvm.Cond.methodLink "PlatesSingLaw" (239 : Nat) ({ cls := "PlatesSingModel", name := "taken", desc := "(II)I" } : Jvm.MethodName)) ∈ lw_all := lw_g (lw_at lw_m9 201 rfl) rfl
theorem q2233 : (Jvm.Cond.constantLong "PlatesSingLaw" (220 : Nat) (4294967295 : Int64)) ∈ lw_all := lw_g (lw_at lw_m9 205 rfl) rfl

theorem q2275 : (Jvm.Cond.castable "[B" "java/lang/Object") ∈ lw_tbl := lw_at lw_m10 7 rfl
set_option maxRecDepth 100000

theorem q2269 : (Jvm.Cond.castable "[I" "java/lang/Object") ∈ lw_tbl := lw_at lw_m10 1 rfl
set_option maxRecDepth 100000

theorem q2273 : (Jvm.Cond.castable "[J" "java/lang/Object") ∈ lw_tbl := lw_at lw_m10 5 rfl
set_option maxRecDepth 100000

theorem q2271 : (Jvm.Cond.castable "[LPlatesSing$Act;" "java/lang/Object") ∈ lw_tbl := lw_at lw_m10 3 rfl
set_option maxRecDepth 100000

theorem q2267 : (Jvm.Cond.castable "[LPlatesSing$Part;" "java/lang/Object") ∈ lw_tbl := lw_at lw_m9 239 rfl
set_option maxRecDepth 100000

theorem q2274 : (Jvm.Cond.castable "[LPlatesSing$Piece;" "java/lang/Object") ∈ lw_tbl := lw_at lw_m10 6 rfl
set_option maxRecDepth 100000

theorem q2268 : (Jvm.Cond.castable "[LPlatesSing$Shape;" "java/lang/Object") ∈ lw_tbl := lw_at lw_m10 0 rfl
set_option maxRecDepth 100000

theorem q2272 : (Jvm.Cond.castable "[Ljava/lang/Object;" "java/lang/Object") ∈ lw_tbl := lw_at lw_m10 4 rfl
set_option maxRecDepth 100000

theorem q2276 : (Jvm.Cond.castable "[S" "java/lang/Object") ∈ lw_tbl := lw_at lw_m10 8 rfl
set_option maxRecDepth 100000

theorem q2270 : (Jvm.Cond.castable "[Z" "java/lang/Object") ∈ lw_tbl := lw_at lw_m10 2 rfl
set_option maxRecDepth 100000

theorem q122 : (Jvm.Cond.initialized "java/lang/System") ∈ lw_all := lw_g (lw_at lw_m1 14 rfl) rfl
set_option maxRecDepth 100000
theorem q903 : (Jvm.Cond.static ({ cls := "java/lang/System", name := "arraycopy", desc := "(Ljava/lang/Object;ILjava/lang/Object;II)V" } : Jvm.MethodName)) ∈ lw_all := lw_g (lw_at lw_m4 75 rfl) rfl
theorem q904 : (Jvm.Cond.native ({ cls := "java/lang/System", name := "arraycopy", desc := "(Ljava/lang/Object;ILjava/lang/Object;II)V" } : Jvm.MethodName)) ∈ lw_all := lw_g (lw_at lw_m4 76 rfl) rfl

theorem q136 : (Jvm.Cond.arrayOver (Jvm.ClassFile.FieldType.object "PlatesSing$Part")) ∈ lw_tbl := lw_at lw_m1 28 rfl
set_option maxRecDepth 100000
theorem q138 : (Jvm.Cond.arrayOver (Jvm.ClassFile.FieldType.object "PlatesSing$Shape")) ∈ lw_tbl := lw_at lw_m1 30 rfl
theorem q209 : (Jvm.Cond.arrayClass Jvm.ClassFile.FieldType.int) ∈ lw_all := lw_g (lw_at lw_m1 101 rfl) rfl
theorem q248 : (Jvm.Cond.arrayClass Jvm.ClassFile.FieldType.boolean) ∈ lw_all := lw_g (lw_at lw_m1 140 rfl) rfl
theorem q250 : (Jvm.Cond.arrayOver (Jvm.ClassFile.FieldType.object "PlatesSing$Act")) ∈ lw_tbl := lw_at lw_m1 142 rfl
theorem q252 : (Jvm.Cond.arrayOver (Jvm.ClassFile.FieldType.object "java/lang/Object")) ∈ lw_tbl := lw_at lw_m1 144 rfl
theorem q283 : (Jvm.Cond.arrayClass Jvm.ClassFile.FieldType.long) ∈ lw_all := lw_g (lw_at lw_m1 175 rfl) rfl
theorem q643 : (Jvm.Cond.arrayOver (Jvm.ClassFile.FieldType.object "PlatesSing$Piece")) ∈ lw_tbl := lw_at lw_m3 55 rfl
theorem q1332 : (Jvm.Cond.arrayClass Jvm.ClassFile.FieldType.byte) ∈ lw_all := lw_g (lw_at lw_m6 24 rfl) rfl
theorem q1333 : (Jvm.Cond.arrayClass Jvm.ClassFile.FieldType.short) ∈ lw_all := lw_g (lw_at lw_m6 25 rfl) rfl
