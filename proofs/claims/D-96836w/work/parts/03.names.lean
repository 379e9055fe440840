set_option maxRecDepth 100000
/-! java/lang/Throwable -/
set_option maxRecDepth 100000
def RJ0 : String := "java/lang/Throwable"
def TJ0 : u_T := fun k => match k with
  | 0 => ("java/lang/Throwable", "cause", "Ljava/lang/Throwable;", false)
  | 1 => ("java/lang/Throwable", "stackTrace", "[Ljava/lang/StackTraceElement;", false)
  | 2 => ("java/lang/Throwable", "suppressedExceptions", "Ljava/util/List;", false)
  | 3 => ("java/lang/Throwable", "detailMessage", "Ljava/lang/String;", false)
  | _ => ("java/lang/Throwable", "backtrace", "Ljava/lang/Object;", false)
def tyJ0 : Nat → FieldType := fun k => match k with
  | 0 => .object "java/lang/Throwable"
  | 1 => .array (.object "java/lang/StackTraceElement")
  | 2 => .object "java/util/List"
  | 3 => .object "java/lang/String"
  | _ => .object "java/lang/Object"
abbrev wsJ00 : List Cond := u_ws RJ0 TJ0 5
theorem nmJ0 : ∀ a, a < 5 → ∀ b, b < 5 → a ≠ b → (TJ0 a).2.1 ≠ (TJ0 b).2.1 := by decide +kernel
theorem tyJ0_ok : ∀ k, k < 5 → parseFieldDescriptor (TJ0 k).2.2.1 = some (tyJ0 k) := by decide +kernel
abbrev cJ0_init : ByteArray := prog_40_method_1_code
def yJ0_init : MethodName := ⟨RJ0, "<init>", "()V"⟩
def dkwJ0_init_1 : List UInt8 := [182, 0, 27, 87, 177]
abbrev dktJ0_init_1 : List UInt8 := dkwJ0_init_1 ++ []
def dkwJ0_init_0 : List UInt8 := [42, 183, 0, 1, 42, 42, 181, 0, 7, 42, 178, 0, 13, 181, 0, 17, 42, 178, 0, 20, 181, 0, 24, 42]
abbrev dktJ0_init_0 : List UInt8 := dkwJ0_init_0 ++ dktJ0_init_1
theorem dksJ0_init_0 : cJ0_init.data.toList.drop 0 = dktJ0_init_0 := by decide +kernel
theorem dksJ0_init_1 : cJ0_init.data.toList.drop 24 = dktJ0_init_1 := dk_seg dksJ0_init_0 24 rfl rfl
theorem dJ0_init_0 : decode cJ0_init 0 = .ok (.aload_n 0, 1) := dk_42 (dk_at dksJ0_init_0 0 rfl rfl)
theorem dJ0_init_1 : decode cJ0_init 1 = .ok (.invokespecial 1, 3) := dk_183 0 1 (dk_at dksJ0_init_0 1 rfl rfl)
theorem dJ0_init_4 : decode cJ0_init 4 = .ok (.aload_n 0, 1) := dk_42 (dk_at dksJ0_init_0 4 rfl rfl)
theorem dJ0_init_5 : decode cJ0_init 5 = .ok (.aload_n 0, 1) := dk_42 (dk_at dksJ0_init_0 5 rfl rfl)
theorem dJ0_init_6 : decode cJ0_init 6 = .ok (.putfield 7, 3) := dk_181 0 7 (dk_at dksJ0_init_0 6 rfl rfl)
theorem dJ0_init_9 : decode cJ0_init 9 = .ok (.aload_n 0, 1) := dk_42 (dk_at dksJ0_init_0 9 rfl rfl)
theorem dJ0_init_10 : decode cJ0_init 10 = .ok (.getstatic 13, 3) := dk_178 0 13 (dk_at dksJ0_init_0 10 rfl rfl)
theorem dJ0_init_13 : decode cJ0_init 13 = .ok (.putfield 17, 3) := dk_181 0 17 (dk_at dksJ0_init_0 13 rfl rfl)
theorem dJ0_init_16 : decode cJ0_init 16 = .ok (.aload_n 0, 1) := dk_42 (dk_at dksJ0_init_0 16 rfl rfl)
theorem dJ0_init_17 : decode cJ0_init 17 = .ok (.getstatic 20, 3) := dk_178 0 20 (dk_at dksJ0_init_0 17 rfl rfl)
theorem dJ0_init_20 : decode cJ0_init 20 = .ok (.putfield 24, 3) := dk_181 0 24 (dk_at dksJ0_init_0 20 rfl rfl)
theorem dJ0_init_23 : decode cJ0_init 23 = .ok (.aload_n 0, 1) := dk_42 (dk_at dksJ0_init_0 23 rfl rfl)
theorem dJ0_init_24 : decode cJ0_init 24 = .ok (.invokevirtual 27, 3) := dk_182 0 27 (dk_at dksJ0_init_1 0 rfl rfl)
theorem dJ0_init_27 : decode cJ0_init 27 = .ok (.pop, 1) := dk_87 (dk_at dksJ0_init_1 3 rfl rfl)
theorem dJ0_init_28 : decode cJ0_init 28 = .ok (.return_, 1) := dk_177 (dk_at dksJ0_init_1 4 rfl rfl)
abbrev cJ0_init_2 : ByteArray := prog_40_method_5_code
def yJ0_init_2 : MethodName := ⟨RJ0, "<init>", "(Ljava/lang/String;Ljava/lang/Throwable;ZZ)V"⟩
def dkwJ0_init_2_2 : List UInt8 := [44, 181, 0, 7, 29, 154, 0, 8, 42, 1, 181, 0, 24, 177]
abbrev dktJ0_init_2_2 : List UInt8 := dkwJ0_init_2_2 ++ []
def dkwJ0_init_2_1 : List UInt8 := [21, 4, 153, 0, 11, 42, 182, 0, 27, 87, 167, 0, 8, 42, 1, 181, 0, 17, 42, 43, 181, 0, 31, 42]
abbrev dktJ0_init_2_1 : List UInt8 := dkwJ0_init_2_1 ++ dktJ0_init_2_2
def dkwJ0_init_2_0 : List UInt8 := [42, 183, 0, 1, 42, 42, 181, 0, 7, 42, 178, 0, 13, 181, 0, 17, 42, 178, 0, 20, 181, 0, 24]
abbrev dktJ0_init_2_0 : List UInt8 := dkwJ0_init_2_0 ++ dktJ0_init_2_1
theorem dksJ0_init_2_0 : cJ0_init_2.data.toList.drop 0 = dktJ0_init_2_0 := by decide +kernel
theorem dksJ0_init_2_1 : cJ0_init_2.data.toList.drop 23 = dktJ0_init_2_1 := dk_seg dksJ0_init_2_0 23 rfl rfl
theorem dksJ0_init_2_2 : cJ0_init_2.data.toList.drop 47 = dktJ0_init_2_2 := dk_seg dksJ0_init_2_1 24 rfl rfl
theorem dJ0_init_2_0 : decode cJ0_init_2 0 = .ok (.aload_n 0, 1) := dk_42 (dk_at dksJ0_init_2_0 0 rfl rfl)
theorem dJ0_init_2_1 : decode cJ0_init_2 1 = .ok (.invokespecial 1, 3) := dk_183 0 1 (dk_at dksJ0_init_2_0 1 rfl rfl)
theorem dJ0_init_2_4 : decode cJ0_init_2 4 = .ok (.aload_n 0, 1) := dk_42 (dk_at dksJ0_init_2_0 4 rfl rfl)
theorem dJ0_init_2_5 : decode cJ0_init_2 5 = .ok (.aload_n 0, 1) := dk_42 (dk_at dksJ0_init_2_0 5 rfl rfl)
theorem dJ0_init_2_6 : decode cJ0_init_2 6 = .ok (.putfield 7, 3) := dk_181 0 7 (dk_at dksJ0_init_2_0 6 rfl rfl)
theorem dJ0_init_2_9 : decode cJ0_init_2 9 = .ok (.aload_n 0, 1) := dk_42 (dk_at dksJ0_init_2_0 9 rfl rfl)
theorem dJ0_init_2_10 : decode cJ0_init_2 10 = .ok (.getstatic 13, 3) := dk_178 0 13 (dk_at dksJ0_init_2_0 10 rfl rfl)
theorem dJ0_init_2_13 : decode cJ0_init_2 13 = .ok (.putfield 17, 3) := dk_181 0 17 (dk_at dksJ0_init_2_0 13 rfl rfl)
theorem dJ0_init_2_16 : decode cJ0_init_2 16 = .ok (.aload_n 0, 1) := dk_42 (dk_at dksJ0_init_2_0 16 rfl rfl)
theorem dJ0_init_2_17 : decode cJ0_init_2 17 = .ok (.getstatic 20, 3) := dk_178 0 20 (dk_at dksJ0_init_2_0 17 rfl rfl)
theorem dJ0_init_2_20 : decode cJ0_init_2 20 = .ok (.putfield 24, 3) := dk_181 0 24 (dk_at dksJ0_init_2_0 20 rfl rfl)
theorem dJ0_init_2_23 : decode cJ0_init_2 23 = .ok (.iload 4, 2) := dk_21 4 (dk_at dksJ0_init_2_1 0 rfl rfl)
theorem dJ0_init_2_25 : decode cJ0_init_2 25 = .ok (.ifCond .eq 11, 3) := dk_153 0 11 (dk_at dksJ0_init_2_1 2 rfl rfl)
theorem dJ0_init_2_28 : decode cJ0_init_2 28 = .ok (.aload_n 0, 1) := dk_42 (dk_at dksJ0_init_2_1 5 rfl rfl)
theorem dJ0_init_2_29 : decode cJ0_init_2 29 = .ok (.invokevirtual 27, 3) := dk_182 0 27 (dk_at dksJ0_init_2_1 6 rfl rfl)
theorem dJ0_init_2_32 : decode cJ0_init_2 32 = .ok (.pop, 1) := dk_87 (dk_at dksJ0_init_2_1 9 rfl rfl)
theorem dJ0_init_2_33 : decode cJ0_init_2 33 = .ok (.goto 8, 3) := dk_167 0 8 (dk_at dksJ0_init_2_1 10 rfl rfl)
theorem dJ0_init_2_36 : decode cJ0_init_2 36 = .ok (.aload_n 0, 1) := dk_42 (dk_at dksJ0_init_2_1 13 rfl rfl)
theorem dJ0_init_2_37 : decode cJ0_init_2 37 = .ok (.aconst_null, 1) := dk_1 (dk_at dksJ0_init_2_1 14 rfl rfl)
theorem dJ0_init_2_38 : decode cJ0_init_2 38 = .ok (.putfield 17, 3) := dk_181 0 17 (dk_at dksJ0_init_2_1 15 rfl rfl)
theorem dJ0_init_2_41 : decode cJ0_init_2 41 = .ok (.aload_n 0, 1) := dk_42 (dk_at dksJ0_init_2_1 18 rfl rfl)
theorem dJ0_init_2_42 : decode cJ0_init_2 42 = .ok (.aload_n 1, 1) := dk_43 (dk_at dksJ0_init_2_1 19 rfl rfl)
theorem dJ0_init_2_43 : decode cJ0_init_2 43 = .ok (.putfield 31, 3) := dk_181 0 31 (dk_at dksJ0_init_2_1 20 rfl rfl)
theorem dJ0_init_2_46 : decode cJ0_init_2 46 = .ok (.aload_n 0, 1) := dk_42 (dk_at dksJ0_init_2_1 23 rfl rfl)
theorem dJ0_init_2_47 : decode cJ0_init_2 47 = .ok (.aload_n 2, 1) := dk_44 (dk_at dksJ0_init_2_2 0 rfl rfl)
theorem dJ0_init_2_48 : decode cJ0_init_2 48 = .ok (.putfield 7, 3) := dk_181 0 7 (dk_at dksJ0_init_2_2 1 rfl rfl)
theorem dJ0_init_2_51 : decode cJ0_init_2 51 = .ok (.iload_n 3, 1) := dk_29 (dk_at dksJ0_init_2_2 4 rfl rfl)
theorem dJ0_init_2_52 : decode cJ0_init_2 52 = .ok (.ifCond .ne 8, 3) := dk_154 0 8 (dk_at dksJ0_init_2_2 5 rfl rfl)
theorem dJ0_init_2_55 : decode cJ0_init_2 55 = .ok (.aload_n 0, 1) := dk_42 (dk_at dksJ0_init_2_2 8 rfl rfl)
theorem dJ0_init_2_56 : decode cJ0_init_2 56 = .ok (.aconst_null, 1) := dk_1 (dk_at dksJ0_init_2_2 9 rfl rfl)
theorem dJ0_init_2_57 : decode cJ0_init_2 57 = .ok (.putfield 24, 3) := dk_181 0 24 (dk_at dksJ0_init_2_2 10 rfl rfl)
theorem dJ0_init_2_60 : decode cJ0_init_2 60 = .ok (.return_, 1) := dk_177 (dk_at dksJ0_init_2_2 13 rfl rfl)
theorem q75 : (Jvm.Cond.initialized "java/lang/Throwable") ∈ lw_all := lw_g (lw_at lw_m1 2 rfl) rfl
theorem q125 : (Jvm.Cond.declares ({ cls := "java/lang/Throwable", name := "<init>", desc := "()V" } : Jvm.MethodName)) ∈ lw_tbl := lw_at lw_m1 52 rfl
theorem q126 : (Jvm.Cond.declares ({ cls := "java/lang/Throwable", name := "<init>", desc := "(Ljava/lang/String;)V" } : Jvm.MethodName)) ∈ lw_tbl := lw_at lw_m1 53 rfl
theorem q130 : (Jvm.Cond.lays "java/lang/Throwable" "java/lang/Throwable" "cause" "Ljava/lang/Throwable;") ∈ lw_all := lw_g (lw_at lw_m1 57 rfl) rfl
theorem q132 : (Jvm.Cond.lays "java/lang/Throwable" "java/lang/Throwable" "stackTrace" "[Ljava/lang/StackTraceElement;") ∈ lw_all := lw_g (lw_at lw_m1 59 rfl) rfl
theorem q134 : (Jvm.Cond.lays "java/lang/Throwable" "java/lang/Throwable" "suppressedExceptions" "Ljava/util/List;") ∈ lw_all := lw_g (lw_at lw_m1 61 rfl) rfl
theorem q136 : (Jvm.Cond.lays "java/lang/Throwable" "java/lang/Throwable" "detailMessage" "Ljava/lang/String;") ∈ lw_all := lw_g (lw_at lw_m1 63 rfl) rfl
theorem q138 : (Jvm.Cond.lays "java/lang/Throwable" "java/lang/Throwable" "backtrace" "Ljava/lang/Object;") ∈ lw_all := lw_g (lw_at lw_m1 65 rfl) rfl
theorem q139 : (Jvm.Cond.fieldLink "java/lang/Throwable" (198 : Nat) "java/lang/Throwable" "backtrace" "Ljava/lang/Object;") ∈ lw_all := lw_g (lw_at lw_m1 66 rfl) rfl
theorem q140 : (Jvm.Cond.superclass "java/lang/Throwable" "java/lang/Object") ∈ lw_all := lw_g (lw_at lw_m1 67 rfl) rfl
theorem q141 : (Jvm.Cond.instanceMethod ({ cls := "java/lang/Throwable", name := "<init>", desc := "()V" } : Jvm.MethodName)) ∈ lw_all := lw_g (lw_at lw_m1 68 rfl) rfl
theorem q142 : (Jvm.Cond.code ({ cls := "java/lang/Throwable", name := "<init>", desc := "()V" } : Jvm.MethodName) prog_40_method_1_code (1 : Nat) (Option.none : Option Jvm.ClassFile.FieldType)) ∈ lw_all := lw_g (lw_at lw_m1 69 rfl) rfl
theorem q143 : (Jvm.Cond.methodLink "java/lang/Throwable" (1 : Nat) ({ cls := "java/lang/Object", name := "<init>", desc := "()V" } : Jvm.MethodName)) ∈ lw_all := lw_g (lw_at lw_m1 70 rfl) rfl
theorem q144 : (Jvm.Cond.fieldLink "java/lang/Throwable" (13 : Nat) "java/lang/Throwable" "UNASSIGNED_STACK" "[Ljava/lang/StackTraceElement;") ∈ lw_all := lw_g (lw_at lw_m1 71 rfl) rfl
theorem q145 : (Jvm.Cond.laysStatic "java/lang/Throwable" "UNASSIGNED_STACK" "[Ljava/lang/StackTraceElement;") ∈ lw_tbl := lw_at lw_m1 72 rfl
theorem q146 : (Jvm.Cond.fieldLink "java/lang/Throwable" (20 : Nat) "java/lang/Throwable" "SUPPRESSED_SENTINEL" "Ljava/util/List;") ∈ lw_all := lw_g (lw_at lw_m1 73 rfl) rfl
theorem q147 : (Jvm.Cond.laysStatic "java/lang/Throwable" "SUPPRESSED_SENTINEL" "Ljava/util/List;") ∈ lw_tbl := lw_at lw_m1 74 rfl
theorem q148 : (Jvm.Cond.methodLink "java/lang/Throwable" (27 : Nat) ({ cls := "java/lang/Throwable", name := "fillInStackTrace", desc := "()Ljava/lang/Throwable;" } : Jvm.MethodName)) ∈ lw_all := lw_g (lw_at lw_m1 75 rfl) rfl
theorem q149 : (Jvm.Cond.instanceMethod ({ cls := "java/lang/Throwable", name := "fillInStackTrace", desc := "()Ljava/lang/Throwable;" } : Jvm.MethodName)) ∈ lw_all := lw_g (lw_at lw_m1 76 rfl) rfl
theorem q150 : (Jvm.Cond.sameMethod "java/lang/Throwable" "java/lang/Throwable" "fillInStackTrace" "()Ljava/lang/Throwable;") ∈ lw_all := lw_g (lw_at lw_m1 77 rfl) rfl
theorem q152 : (Jvm.Cond.codeSync ({ cls := "java/lang/Throwable", name := "fillInStackTrace", desc := "()Ljava/lang/Throwable;" } : Jvm.MethodName) prog_40_method_18_code (1 : Nat) (Option.some (Jvm.ClassFile.FieldType.object "java/lang/Throwable"))) ∈ lw_all := lw_g (lw_at lw_m1 79 rfl) rfl
theorem q153 : (Jvm.Cond.methodLink "java/lang/Throwable" (202 : Nat) ({ cls := "java/lang/Throwable", name := "fillInStackTrace", desc := "(I)Ljava/lang/Throwable;" } : Jvm.MethodName)) ∈ lw_all := lw_g (lw_at lw_m1 80 rfl) rfl
theorem q154 : (Jvm.Cond.privateMethod ({ cls := "java/lang/Throwable", name := "fillInStackTrace", desc := "(I)Ljava/lang/Throwable;" } : Jvm.MethodName)) ∈ lw_tbl := lw_at lw_m1 81 rfl
theorem q155 : (Jvm.Cond.instanceMethod ({ cls := "java/lang/Throwable", name := "fillInStackTrace", desc := "(I)Ljava/lang/Throwable;" } : Jvm.MethodName)) ∈ lw_all := lw_g (lw_at lw_m1 82 rfl) rfl
theorem q156 : (Jvm.Cond.instantiable "java/lang/Throwable" (6 : Nat)) ∈ lw_all := lw_g (lw_at lw_m1 83 rfl) rfl
theorem q157 : (Jvm.Cond.native ({ cls := "java/lang/Throwable", name := "fillInStackTrace", desc := "(I)Ljava/lang/Throwable;" } : Jvm.MethodName)) ∈ lw_all := lw_g (lw_at lw_m1 84 rfl) rfl
theorem q168 : (Jvm.Cond.instanceMethod ({ cls := "java/lang/Throwable", name := "<init>", desc := "(Ljava/lang/String;Ljava/lang/Throwable;ZZ)V" } : Jvm.MethodName)) ∈ lw_all := lw_g (lw_at lw_m1 95 rfl) rfl
theorem q169 : (Jvm.Cond.code ({ cls := "java/lang/Throwable", name := "<init>", desc := "(Ljava/lang/String;Ljava/lang/Throwable;ZZ)V" } : Jvm.MethodName) prog_40_method_5_code (5 : Nat) (Option.none : Option Jvm.ClassFile.FieldType)) ∈ lw_all := lw_g (lw_at lw_m1 96 rfl) rfl
theorem q172 : (Jvm.Cond.fieldLink "java/lang/Throwable" (198 : Nat) "java/lang/Throwable" "backtrace" "Ljava/lang/Object;") ∈ lw_all := lw_g (lw_at lw_m1 99 rfl) rfl
theorem q173 : (Jvm.Cond.fieldLink "java/lang/Throwable" (31 : Nat) "java/lang/Throwable" "detailMessage" "Ljava/lang/String;") ∈ lw_all := lw_g (lw_at lw_m1 100 rfl) rfl
theorem q174 : (Jvm.Cond.fieldLink "java/lang/Throwable" (7 : Nat) "java/lang/Throwable" "cause" "Ljava/lang/Throwable;") ∈ lw_all := lw_g (lw_at lw_m1 101 rfl) rfl
theorem q175 : (Jvm.Cond.fieldLink "java/lang/Throwable" (17 : Nat) "java/lang/Throwable" "stackTrace" "[Ljava/lang/StackTraceElement;") ∈ lw_all := lw_g (lw_at lw_m1 102 rfl) rfl
theorem q176 : (Jvm.Cond.fieldLink "java/lang/Throwable" (24 : Nat) "java/lang/Throwable" "suppressedExceptions" "Ljava/util/List;") ∈ lw_all := lw_g (lw_at lw_m1 103 rfl) rfl
theorem q179 : (Jvm.Cond.soleField "java/lang/Throwable" "backtrace") ∈ lw_all := lw_g (lw_at lw_m1 106 rfl) rfl
theorem q180 : (Jvm.Cond.soleField "java/lang/Throwable" "detailMessage") ∈ lw_all := lw_g (lw_at lw_m1 107 rfl) rfl
theorem q181 : (Jvm.Cond.soleField "java/lang/Throwable" "cause") ∈ lw_all := lw_g (lw_at lw_m1 108 rfl) rfl
theorem q182 : (Jvm.Cond.soleField "java/lang/Throwable" "stackTrace") ∈ lw_all := lw_g (lw_at lw_m1 109 rfl) rfl
theorem q184 : (Jvm.Cond.soleField "java/lang/Throwable" "depth") ∈ lw_all := lw_g (lw_at lw_m1 111 rfl) rfl
theorem q185 : (Jvm.Cond.soleField "java/lang/Throwable" "suppressedExceptions") ∈ lw_all := lw_g (lw_at lw_m1 112 rfl) rfl
theorem q1875 : (Jvm.Cond.sameMethod "java/lang/Throwable" "java/lang/Throwable" "fillInStackTrace" "(I)Ljava/lang/Throwable;") ∈ lw_all := lw_g (lw_at lw_m8 122 rfl) rfl
theorem in_J0 : ∀ w ∈ wsJ00, w ∈ lw_all := lw_in wsJ00 [130, 132, 134, 136, 138] (by decide +kernel) (by decide +kernel)
/-! java/lang/Exception -/
set_option maxRecDepth 100000
def RJ1 : String := "java/lang/Exception"
abbrev cJ1_init : ByteArray := prog_32_method_5_code
def yJ1_init : MethodName := ⟨RJ1, "<init>", "(Ljava/lang/String;Ljava/lang/Throwable;ZZ)V"⟩
def dkwJ1_init_0 : List UInt8 := [42, 43, 44, 29, 21, 4, 183, 0, 16, 177]
abbrev dktJ1_init_0 : List UInt8 := dkwJ1_init_0 ++ []
theorem dksJ1_init_0 : cJ1_init.data.toList.drop 0 = dktJ1_init_0 := by decide +kernel
theorem dJ1_init_0 : decode cJ1_init 0 = .ok (.aload_n 0, 1) := dk_42 (dk_at dksJ1_init_0 0 rfl rfl)
theorem dJ1_init_1 : decode cJ1_init 1 = .ok (.aload_n 1, 1) := dk_43 (dk_at dksJ1_init_0 1 rfl rfl)
theorem dJ1_init_2 : decode cJ1_init 2 = .ok (.aload_n 2, 1) := dk_44 (dk_at dksJ1_init_0 2 rfl rfl)
theorem dJ1_init_3 : decode cJ1_init 3 = .ok (.iload_n 3, 1) := dk_29 (dk_at dksJ1_init_0 3 rfl rfl)
theorem dJ1_init_4 : decode cJ1_init 4 = .ok (.iload 4, 2) := dk_21 4 (dk_at dksJ1_init_0 4 rfl rfl)
theorem dJ1_init_6 : decode cJ1_init 6 = .ok (.invokespecial 16, 3) := dk_183 0 16 (dk_at dksJ1_init_0 6 rfl rfl)
theorem dJ1_init_9 : decode cJ1_init 9 = .ok (.return_, 1) := dk_177 (dk_at dksJ1_init_0 9 rfl rfl)
theorem q76 : (Jvm.Cond.initialized "java/lang/Exception") ∈ lw_all := lw_g (lw_at lw_m1 3 rfl) rfl
theorem q123 : (Jvm.Cond.declares ({ cls := "java/lang/Exception", name := "<init>", desc := "()V" } : Jvm.MethodName)) ∈ lw_tbl := lw_at lw_m1 50 rfl
theorem q124 : (Jvm.Cond.declares ({ cls := "java/lang/Exception", name := "<init>", desc := "(Ljava/lang/String;)V" } : Jvm.MethodName)) ∈ lw_tbl := lw_at lw_m1 51 rfl
theorem q165 : (Jvm.Cond.instanceMethod ({ cls := "java/lang/Exception", name := "<init>", desc := "(Ljava/lang/String;Ljava/lang/Throwable;ZZ)V" } : Jvm.MethodName)) ∈ lw_all := lw_g (lw_at lw_m1 92 rfl) rfl
theorem q166 : (Jvm.Cond.code ({ cls := "java/lang/Exception", name := "<init>", desc := "(Ljava/lang/String;Ljava/lang/Throwable;ZZ)V" } : Jvm.MethodName) prog_32_method_5_code (5 : Nat) (Option.none : Option Jvm.ClassFile.FieldType)) ∈ lw_all := lw_g (lw_at lw_m1 93 rfl) rfl
theorem q167 : (Jvm.Cond.methodLink "java/lang/Exception" (16 : Nat) ({ cls := "java/lang/Throwable", name := "<init>", desc := "(Ljava/lang/String;Ljava/lang/Throwable;ZZ)V" } : Jvm.MethodName)) ∈ lw_all := lw_g (lw_at lw_m1 94 rfl) rfl
/-! java/lang/RuntimeException -/
set_option maxRecDepth 100000
def RJ2 : String := "java/lang/RuntimeException"
abbrev cJ2_init : ByteArray := prog_35_method_5_code
def yJ2_init : MethodName := ⟨RJ2, "<init>", "(Ljava/lang/String;Ljava/lang/Throwable;ZZ)V"⟩
def dkwJ2_init_0 : List UInt8 := [42, 43, 44, 29, 21, 4, 183, 0, 16, 177]
abbrev dktJ2_init_0 : List UInt8 := dkwJ2_init_0 ++ []
theorem dksJ2_init_0 : cJ2_init.data.toList.drop 0 = dktJ2_init_0 := by decide +kernel
theorem dJ2_init_0 : decode cJ2_init 0 = .ok (.aload_n 0, 1) := dk_42 (dk_at dksJ2_init_0 0 rfl rfl)
theorem dJ2_init_1 : decode cJ2_init 1 = .ok (.aload_n 1, 1) := dk_43 (dk_at dksJ2_init_0 1 rfl rfl)
theorem dJ2_init_2 : decode cJ2_init 2 = .ok (.aload_n 2, 1) := dk_44 (dk_at dksJ2_init_0 2 rfl rfl)
theorem dJ2_init_3 : decode cJ2_init 3 = .ok (.iload_n 3, 1) := dk_29 (dk_at dksJ2_init_0 3 rfl rfl)
theorem dJ2_init_4 : decode cJ2_init 4 = .ok (.iload 4, 2) := dk_21 4 (dk_at dksJ2_init_0 4 rfl rfl)
theorem dJ2_init_6 : decode cJ2_init 6 = .ok (.invokespecial 16, 3) := dk_183 0 16 (dk_at dksJ2_init_0 6 rfl rfl)
theorem dJ2_init_9 : decode cJ2_init 9 = .ok (.return_, 1) := dk_177 (dk_at dksJ2_init_0 9 rfl rfl)
theorem q77 : (Jvm.Cond.initialized "java/lang/RuntimeException") ∈ lw_all := lw_g (lw_at lw_m1 4 rfl) rfl
theorem q121 : (Jvm.Cond.declares ({ cls := "java/lang/RuntimeException", name := "<init>", desc := "()V" } : Jvm.MethodName)) ∈ lw_tbl := lw_at lw_m1 48 rfl
theorem q122 : (Jvm.Cond.declares ({ cls := "java/lang/RuntimeException", name := "<init>", desc := "(Ljava/lang/String;)V" } : Jvm.MethodName)) ∈ lw_tbl := lw_at lw_m1 49 rfl
theorem q162 : (Jvm.Cond.instanceMethod ({ cls := "java/lang/RuntimeException", name := "<init>", desc := "(Ljava/lang/String;Ljava/lang/Throwable;ZZ)V" } : Jvm.MethodName)) ∈ lw_all := lw_g (lw_at lw_m1 89 rfl) rfl
theorem q163 : (Jvm.Cond.code ({ cls := "java/lang/RuntimeException", name := "<init>", desc := "(Ljava/lang/String;Ljava/lang/Throwable;ZZ)V" } : Jvm.MethodName) prog_35_method_5_code (5 : Nat) (Option.none : Option Jvm.ClassFile.FieldType)) ∈ lw_all := lw_g (lw_at lw_m1 90 rfl) rfl
theorem q164 : (Jvm.Cond.methodLink "java/lang/RuntimeException" (16 : Nat) ({ cls := "java/lang/Exception", name := "<init>", desc := "(Ljava/lang/String;Ljava/lang/Throwable;ZZ)V" } : Jvm.MethodName)) ∈ lw_all := lw_g (lw_at lw_m1 91 rfl) rfl
/-! OldLight$Finding -/
set_option maxRecDepth 100000
def RX1 : String := "OldLight$Finding"
def TX1 : u_T := fun k => match k with
  | 0 => ("java/lang/Throwable", "cause", "Ljava/lang/Throwable;", false)
  | 1 => ("java/lang/Throwable", "stackTrace", "[Ljava/lang/StackTraceElement;", false)
  | 2 => ("java/lang/Throwable", "suppressedExceptions", "Ljava/util/List;", false)
  | 3 => ("java/lang/Throwable", "detailMessage", "Ljava/lang/String;", false)
  | 4 => ("java/lang/Throwable", "backtrace", "Ljava/lang/Object;", false)
  | 5 => ("java/lang/Throwable", "depth", "I", false)
  | _ => ("OldLight$Finding", "code", "I", false)
def tyX1 : Nat → FieldType := fun k => match k with
  | 0 => .object "java/lang/Throwable"
  | 1 => .array (.object "java/lang/StackTraceElement")
  | 2 => .object "java/util/List"
  | 3 => .object "java/lang/String"
  | 4 => .object "java/lang/Object"
  | 5 => .int
  | _ => .int
abbrev wsX10 : List Cond := u_ws RX1 TX1 7
theorem nmX1 : ∀ a, a < 7 → ∀ b, b < 7 → a ≠ b → (TX1 a).2.1 ≠ (TX1 b).2.1 := by decide +kernel
theorem tyX1_ok : ∀ k, k < 7 → parseFieldDescriptor (TX1 k).2.2.1 = some (tyX1 k) := by decide +kernel
abbrev cX1_init : ByteArray := prog_9_method_1_code
def yX1_init : MethodName := ⟨RX1, "<init>", "()V"⟩
def dkwX1_init_0 : List UInt8 := [42, 1, 1, 3, 3, 183, 0, 1, 177]
abbrev dktX1_init_0 : List UInt8 := dkwX1_init_0 ++ []
theorem dksX1_init_0 : cX1_init.data.toList.drop 0 = dktX1_init_0 := by decide +kernel
theorem dX1_init_0 : decode cX1_init 0 = .ok (.aload_n 0, 1) := dk_42 (dk_at dksX1_init_0 0 rfl rfl)
theorem dX1_init_1 : decode cX1_init 1 = .ok (.aconst_null, 1) := dk_1 (dk_at dksX1_init_0 1 rfl rfl)
theorem dX1_init_2 : decode cX1_init 2 = .ok (.aconst_null, 1) := dk_1 (dk_at dksX1_init_0 2 rfl rfl)
theorem dX1_init_3 : decode cX1_init 3 = .ok (.iconst 0, 1) := dk_3 (dk_at dksX1_init_0 3 rfl rfl)
theorem dX1_init_4 : decode cX1_init 4 = .ok (.iconst 0, 1) := dk_3 (dk_at dksX1_init_0 4 rfl rfl)
theorem dX1_init_5 : decode cX1_init 5 = .ok (.invokespecial 1, 3) := dk_183 0 1 (dk_at dksX1_init_0 5 rfl rfl)
theorem dX1_init_8 : decode cX1_init 8 = .ok (.return_, 1) := dk_177 (dk_at dksX1_init_0 8 rfl rfl)
abbrev cX1_of : ByteArray := prog_9_method_2_code
def yX1_of : MethodName := ⟨RX1, "of", "(I)LOldLight$Finding;"⟩
def dkwX1_of_0 : List UInt8 := [42, 27, 181, 0, 7, 42, 176]
abbrev dktX1_of_0 : List UInt8 := dkwX1_of_0 ++ []
theorem dksX1_of_0 : cX1_of.data.toList.drop 0 = dktX1_of_0 := by decide +kernel
theorem dX1_of_0 : decode cX1_of 0 = .ok (.aload_n 0, 1) := dk_42 (dk_at dksX1_of_0 0 rfl rfl)
theorem dX1_of_1 : decode cX1_of 1 = .ok (.iload_n 1, 1) := dk_27 (dk_at dksX1_of_0 1 rfl rfl)
theorem dX1_of_2 : decode cX1_of 2 = .ok (.putfield 7, 3) := dk_181 0 7 (dk_at dksX1_of_0 2 rfl rfl)
theorem dX1_of_5 : decode cX1_of 5 = .ok (.aload_n 0, 1) := dk_42 (dk_at dksX1_of_0 5 rfl rfl)
theorem dX1_of_6 : decode cX1_of 6 = .ok (.areturn, 1) := dk_176 (dk_at dksX1_of_0 6 rfl rfl)
theorem q78 : (Jvm.Cond.initialized "OldLight$Finding") ∈ lw_all := lw_g (lw_at lw_m1 5 rfl) rfl
theorem q119 : (Jvm.Cond.instantiable "OldLight$Finding" (7 : Nat)) ∈ lw_all := lw_g (lw_at lw_m1 46 rfl) rfl
theorem q120 : (Jvm.Cond.castable "OldLight$Finding" "OldLight$Finding") ∈ lw_tbl := lw_at lw_m1 47 rfl
theorem q127 : (Jvm.Cond.selects "OldLight$Finding" ({ cls := "java/lang/Throwable", name := "fillInStackTrace", desc := "(I)Ljava/lang/Throwable;" } : Jvm.MethodName) ({ cls := "java/lang/Throwable", name := "fillInStackTrace", desc := "(I)Ljava/lang/Throwable;" } : Jvm.MethodName)) ∈ lw_all := lw_g (lw_at lw_m1 54 rfl) rfl
theorem q128 : (Jvm.Cond.selects "OldLight$Finding" ({ cls := "java/lang/Throwable", name := "fillInStackTrace", desc := "()Ljava/lang/Throwable;" } : Jvm.MethodName) ({ cls := "java/lang/Throwable", name := "fillInStackTrace", desc := "()Ljava/lang/Throwable;" } : Jvm.MethodName)) ∈ lw_all := lw_g (lw_at lw_m1 55 rfl) rfl
theorem q129 : (Jvm.Cond.lays "OldLight$Finding" "java/lang/Throwable" "cause" "Ljava/lang/Throwable;") ∈ lw_all := lw_g (lw_at lw_m1 56 rfl) rfl
theorem q131 : (Jvm.Cond.lays "OldLight$Finding" "java/lang/Throwable" "stackTrace" "[Ljava/lang/StackTraceElement;") ∈ lw_all := lw_g (lw_at lw_m1 58 rfl) rfl
theorem q133 : (Jvm.Cond.lays "OldLight$Finding" "java/lang/Throwable" "suppressedExceptions" "Ljava/util/List;") ∈ lw_all := lw_g (lw_at lw_m1 60 rfl) rfl
theorem q135 : (Jvm.Cond.lays "OldLight$Finding" "java/lang/Throwable" "detailMessage" "Ljava/lang/String;") ∈ lw_all := lw_g (lw_at lw_m1 62 rfl) rfl
theorem q137 : (Jvm.Cond.lays "OldLight$Finding" "java/lang/Throwable" "backtrace" "Ljava/lang/Object;") ∈ lw_all := lw_g (lw_at lw_m1 64 rfl) rfl
theorem q159 : (Jvm.Cond.instanceMethod ({ cls := "OldLight$Finding", name := "<init>", desc := "()V" } : Jvm.MethodName)) ∈ lw_all := lw_g (lw_at lw_m1 86 rfl) rfl
theorem q160 : (Jvm.Cond.code ({ cls := "OldLight$Finding", name := "<init>", desc := "()V" } : Jvm.MethodName) prog_9_method_1_code (1 : Nat) (Option.none : Option Jvm.ClassFile.FieldType)) ∈ lw_all := lw_g (lw_at lw_m1 87 rfl) rfl
theorem q161 : (Jvm.Cond.methodLink "OldLight$Finding" (1 : Nat) ({ cls := "java/lang/RuntimeException", name := "<init>", desc := "(Ljava/lang/String;Ljava/lang/Throwable;ZZ)V" } : Jvm.MethodName)) ∈ lw_all := lw_g (lw_at lw_m1 88 rfl) rfl
theorem q170 : (Jvm.Cond.fieldLink "OldLight$Finding" (7 : Nat) "OldLight$Finding" "code" "I") ∈ lw_all := lw_g (lw_at lw_m1 97 rfl) rfl
theorem q177 : (Jvm.Cond.lays "OldLight$Finding" "OldLight$Finding" "code" "I") ∈ lw_all := lw_g (lw_at lw_m1 104 rfl) rfl
theorem q178 : (Jvm.Cond.soleField "OldLight$Finding" "code") ∈ lw_all := lw_g (lw_at lw_m1 105 rfl) rfl
theorem q183 : (Jvm.Cond.lays "OldLight$Finding" "java/lang/Throwable" "depth" "I") ∈ lw_all := lw_g (lw_at lw_m1 110 rfl) rfl
theorem q186 : (Jvm.Cond.superclass "OldLight$Finding" "java/lang/RuntimeException") ∈ lw_all := lw_g (lw_at lw_m1 113 rfl) rfl
theorem q356 : (Jvm.Cond.instanceMethod ({ cls := "OldLight$Finding", name := "of", desc := "(I)LOldLight$Finding;" } : Jvm.MethodName)) ∈ lw_all := lw_g (lw_at lw_m2 43 rfl) rfl
theorem q357 : (Jvm.Cond.selects "OldLight$Finding" ({ cls := "OldLight$Finding", name := "of", desc := "(I)LOldLight$Finding;" } : Jvm.MethodName) ({ cls := "OldLight$Finding", name := "of", desc := "(I)LOldLight$Finding;" } : Jvm.MethodName)) ∈ lw_all := lw_g (lw_at lw_m2 44 rfl) rfl
theorem q358 : (Jvm.Cond.code ({ cls := "OldLight$Finding", name := "of", desc := "(I)LOldLight$Finding;" } : Jvm.MethodName) prog_9_method_2_code (2 : Nat) (Option.some (Jvm.ClassFile.FieldType.object "OldLight$Finding"))) ∈ lw_all := lw_g (lw_at lw_m2 45 rfl) rfl
theorem in_X1 : ∀ w ∈ wsX10, w ∈ lw_all := lw_in wsX10 [129, 131, 133, 135, 137, 183, 177] (by decide +kernel) (by decide +kernel)
/-! OldLight$Facts -/
set_option maxRecDepth 100000
def RX3 : String := "OldLight$Facts"
def TX3 : u_T := fun k => match k with
  | _ => ("OldLight$Facts", "named", "[I", true)
def tyX3 : Nat → FieldType := fun k => match k with
  | _ => .array .int
abbrev wsX30 : List Cond := u_ws RX3 TX3 1
theorem nmX3 : ∀ a, a < 1 → ∀ b, b < 1 → a ≠ b → (TX3 a).2.1 ≠ (TX3 b).2.1 := by decide +kernel
theorem tyX3_ok : ∀ k, k < 1 → parseFieldDescriptor (TX3 k).2.2.1 = some (tyX3 k) := by decide +kernel
abbrev cX3_init : ByteArray := prog_6_method_1_code
def yX3_init : MethodName := ⟨RX3, "<init>", "()V"⟩
def dkwX3_init_0 : List UInt8 := [42, 183, 0, 1, 42, 17, 0, 128, 188, 10, 181, 0, 7, 177]
abbrev dktX3_init_0 : List UInt8 := dkwX3_init_0 ++ []
theorem dksX3_init_0 : cX3_init.data.toList.drop 0 = dktX3_init_0 := by decide +kernel
theorem dX3_init_0 : decode cX3_init 0 = .ok (.aload_n 0, 1) := dk_42 (dk_at dksX3_init_0 0 rfl rfl)
theorem dX3_init_1 : decode cX3_init 1 = .ok (.invokespecial 1, 3) := dk_183 0 1 (dk_at dksX3_init_0 1 rfl rfl)
theorem dX3_init_4 : decode cX3_init 4 = .ok (.aload_n 0, 1) := dk_42 (dk_at dksX3_init_0 4 rfl rfl)
theorem dX3_init_5 : decode cX3_init 5 = .ok (.sipush 128, 3) := dk_17 0 128 (dk_at dksX3_init_0 5 rfl rfl)
theorem dX3_init_8 : decode cX3_init 8 = .ok (.newarray .int, 2) := dk_188_10 (dk_at dksX3_init_0 8 rfl rfl)
theorem dX3_init_10 : decode cX3_init 10 = .ok (.putfield 7, 3) := dk_181 0 7 (dk_at dksX3_init_0 10 rfl rfl)
theorem dX3_init_13 : decode cX3_init 13 = .ok (.return_, 1) := dk_177 (dk_at dksX3_init_0 13 rfl rfl)
abbrev cX3_with : ByteArray := prog_6_method_2_code
def yX3_with : MethodName := ⟨RX3, "with", "(CI)LOldLight$Facts;"⟩
def dkwX3_with_0 : List UInt8 := [42, 180, 0, 7, 27, 28, 79, 42, 176]
abbrev dktX3_with_0 : List UInt8 := dkwX3_with_0 ++ []
theorem dksX3_with_0 : cX3_with.data.toList.drop 0 = dktX3_with_0 := by decide +kernel
theorem dX3_with_0 : decode cX3_with 0 = .ok (.aload_n 0, 1) := dk_42 (dk_at dksX3_with_0 0 rfl rfl)
theorem dX3_with_1 : decode cX3_with 1 = .ok (.getfield 7, 3) := dk_180 0 7 (dk_at dksX3_with_0 1 rfl rfl)
theorem dX3_with_4 : decode cX3_with 4 = .ok (.iload_n 1, 1) := dk_27 (dk_at dksX3_with_0 4 rfl rfl)
theorem dX3_with_5 : decode cX3_with 5 = .ok (.iload_n 2, 1) := dk_28 (dk_at dksX3_with_0 5 rfl rfl)
theorem dX3_with_6 : decode cX3_with 6 = .ok (.iastore, 1) := dk_79 (dk_at dksX3_with_0 6 rfl rfl)
theorem dX3_with_7 : decode cX3_with 7 = .ok (.aload_n 0, 1) := dk_42 (dk_at dksX3_with_0 7 rfl rfl)
theorem dX3_with_8 : decode cX3_with 8 = .ok (.areturn, 1) := dk_176 (dk_at dksX3_with_0 8 rfl rfl)
theorem q80 : (Jvm.Cond.initialized "OldLight$Facts") ∈ lw_all := lw_g (lw_at lw_m1 7 rfl) rfl
theorem q198 : (Jvm.Cond.instantiable "OldLight$Facts" (1 : Nat)) ∈ lw_all := lw_g (lw_at lw_m1 125 rfl) rfl
theorem q200 : (Jvm.Cond.instanceMethod ({ cls := "OldLight$Facts", name := "<init>", desc := "()V" } : Jvm.MethodName)) ∈ lw_all := lw_g (lw_at lw_m1 127 rfl) rfl
theorem q201 : (Jvm.Cond.code ({ cls := "OldLight$Facts", name := "<init>", desc := "()V" } : Jvm.MethodName) prog_6_method_1_code (1 : Nat) (Option.none : Option Jvm.ClassFile.FieldType)) ∈ lw_all := lw_g (lw_at lw_m1 128 rfl) rfl
theorem q202 : (Jvm.Cond.methodLink "OldLight$Facts" (1 : Nat) ({ cls := "java/lang/Object", name := "<init>", desc := "()V" } : Jvm.MethodName)) ∈ lw_all := lw_g (lw_at lw_m1 129 rfl) rfl
theorem q203 : (Jvm.Cond.fieldLink "OldLight$Facts" (7 : Nat) "OldLight$Facts" "named" "[I") ∈ lw_all := lw_g (lw_at lw_m1 130 rfl) rfl
theorem q205 : (Jvm.Cond.laysFinal "OldLight$Facts" "OldLight$Facts" "named" "[I") ∈ lw_all := lw_g (lw_at lw_m1 132 rfl) rfl
theorem q206 : (Jvm.Cond.soleField "OldLight$Facts" "named") ∈ lw_all := lw_g (lw_at lw_m1 133 rfl) rfl
theorem q207 : (Jvm.Cond.superclass "OldLight$Facts" "java/lang/Object") ∈ lw_all := lw_g (lw_at lw_m1 134 rfl) rfl
theorem q396 : (Jvm.Cond.instanceMethod ({ cls := "OldLight$Facts", name := "with", desc := "(CI)LOldLight$Facts;" } : Jvm.MethodName)) ∈ lw_all := lw_g (lw_at lw_m2 83 rfl) rfl
theorem q397 : (Jvm.Cond.selects "OldLight$Facts" ({ cls := "OldLight$Facts", name := "with", desc := "(CI)LOldLight$Facts;" } : Jvm.MethodName) ({ cls := "OldLight$Facts", name := "with", desc := "(CI)LOldLight$Facts;" } : Jvm.MethodName)) ∈ lw_all := lw_g (lw_at lw_m2 84 rfl) rfl
theorem q398 : (Jvm.Cond.code ({ cls := "OldLight$Facts", name := "with", desc := "(CI)LOldLight$Facts;" } : Jvm.MethodName) prog_6_method_2_code (3 : Nat) (Option.some (Jvm.ClassFile.FieldType.object "OldLight$Facts"))) ∈ lw_all := lw_g (lw_at lw_m2 85 rfl) rfl
theorem in_X3 : ∀ w ∈ wsX30, w ∈ lw_all := lw_in wsX30 [205] (by decide +kernel) (by decide +kernel)
/-! OldLight$Trace -/
set_option maxRecDepth 100000
def RX4 : String := "OldLight$Trace"
def TX4 : u_T := fun k => match k with
  | 0 => ("OldLight$Trace", "ran", "[I", true)
  | _ => ("OldLight$Trace", "many", "I", false)
def tyX4 : Nat → FieldType := fun k => match k with
  | 0 => .array .int
  | _ => .int
abbrev wsX40 : List Cond := u_ws RX4 TX4 2
theorem nmX4 : ∀ a, a < 2 → ∀ b, b < 2 → a ≠ b → (TX4 a).2.1 ≠ (TX4 b).2.1 := by decide +kernel
theorem tyX4_ok : ∀ k, k < 2 → parseFieldDescriptor (TX4 k).2.2.1 = some (tyX4 k) := by decide +kernel
abbrev cX4_init : ByteArray := prog_26_method_1_code
def yX4_init : MethodName := ⟨RX4, "<init>", "()V"⟩
def dkwX4_init_0 : List UInt8 := [42, 183, 0, 3, 42, 16, 40, 188, 10, 181, 0, 9, 177]
abbrev dktX4_init_0 : List UInt8 := dkwX4_init_0 ++ []
theorem dksX4_init_0 : cX4_init.data.toList.drop 0 = dktX4_init_0 := by decide +kernel
theorem dX4_init_0 : decode cX4_init 0 = .ok (.aload_n 0, 1) := dk_42 (dk_at dksX4_init_0 0 rfl rfl)
theorem dX4_init_1 : decode cX4_init 1 = .ok (.invokespecial 3, 3) := dk_183 0 3 (dk_at dksX4_init_0 1 rfl rfl)
theorem dX4_init_4 : decode cX4_init 4 = .ok (.aload_n 0, 1) := dk_42 (dk_at dksX4_init_0 4 rfl rfl)
theorem dX4_init_5 : decode cX4_init 5 = .ok (.bipush 40, 2) := dk_16 40 (dk_at dksX4_init_0 5 rfl rfl)
theorem dX4_init_7 : decode cX4_init 7 = .ok (.newarray .int, 2) := dk_188_10 (dk_at dksX4_init_0 7 rfl rfl)
theorem dX4_init_9 : decode cX4_init 9 = .ok (.putfield 9, 3) := dk_181 0 9 (dk_at dksX4_init_0 9 rfl rfl)
theorem dX4_init_12 : decode cX4_init 12 = .ok (.return_, 1) := dk_177 (dk_at dksX4_init_0 12 rfl rfl)
abbrev cX4_begins : ByteArray := prog_26_method_2_code
def yX4_begins : MethodName := ⟨RX4, "begins", "(I)V"⟩
def dkwX4_begins_1 : List UInt8 := [4, 96, 181, 0, 15, 177]
abbrev dktX4_begins_1 : List UInt8 := dkwX4_begins_1 ++ []
def dkwX4_begins_0 : List UInt8 := [42, 180, 0, 15, 16, 40, 162, 0, 23, 42, 180, 0, 9, 42, 180, 0, 15, 27, 79, 42, 89, 180, 0, 15]
abbrev dktX4_begins_0 : List UInt8 := dkwX4_begins_0 ++ dktX4_begins_1
theorem dksX4_begins_0 : cX4_begins.data.toList.drop 0 = dktX4_begins_0 := by decide +kernel
theorem dksX4_begins_1 : cX4_begins.data.toList.drop 24 = dktX4_begins_1 := dk_seg dksX4_begins_0 24 rfl rfl
theorem dX4_begins_0 : decode cX4_begins 0 = .ok (.aload_n 0, 1) := dk_42 (dk_at dksX4_begins_0 0 rfl rfl)
theorem dX4_begins_1 : decode cX4_begins 1 = .ok (.getfield 15, 3) := dk_180 0 15 (dk_at dksX4_begins_0 1 rfl rfl)
theorem dX4_begins_4 : decode cX4_begins 4 = .ok (.bipush 40, 2) := dk_16 40 (dk_at dksX4_begins_0 4 rfl rfl)
theorem dX4_begins_6 : decode cX4_begins 6 = .ok (.if_icmp .ge 23, 3) := dk_162 0 23 (dk_at dksX4_begins_0 6 rfl rfl)
theorem dX4_begins_9 : decode cX4_begins 9 = .ok (.aload_n 0, 1) := dk_42 (dk_at dksX4_begins_0 9 rfl rfl)
theorem dX4_begins_10 : decode cX4_begins 10 = .ok (.getfield 9, 3) := dk_180 0 9 (dk_at dksX4_begins_0 10 rfl rfl)
theorem dX4_begins_13 : decode cX4_begins 13 = .ok (.aload_n 0, 1) := dk_42 (dk_at dksX4_begins_0 13 rfl rfl)
theorem dX4_begins_14 : decode cX4_begins 14 = .ok (.getfield 15, 3) := dk_180 0 15 (dk_at dksX4_begins_0 14 rfl rfl)
theorem dX4_begins_17 : decode cX4_begins 17 = .ok (.iload_n 1, 1) := dk_27 (dk_at dksX4_begins_0 17 rfl rfl)
theorem dX4_begins_18 : decode cX4_begins 18 = .ok (.iastore, 1) := dk_79 (dk_at dksX4_begins_0 18 rfl rfl)
theorem dX4_begins_19 : decode cX4_begins 19 = .ok (.aload_n 0, 1) := dk_42 (dk_at dksX4_begins_0 19 rfl rfl)
theorem dX4_begins_20 : decode cX4_begins 20 = .ok (.dup, 1) := dk_89 (dk_at dksX4_begins_0 20 rfl rfl)
theorem dX4_begins_21 : decode cX4_begins 21 = .ok (.getfield 15, 3) := dk_180 0 15 (dk_at dksX4_begins_0 21 rfl rfl)
theorem dX4_begins_24 : decode cX4_begins 24 = .ok (.iconst 1, 1) := dk_4 (dk_at dksX4_begins_1 0 rfl rfl)
theorem dX4_begins_25 : decode cX4_begins 25 = .ok (.iadd, 1) := dk_96 (dk_at dksX4_begins_1 1 rfl rfl)
theorem dX4_begins_26 : decode cX4_begins 26 = .ok (.putfield 15, 3) := dk_181 0 15 (dk_at dksX4_begins_1 2 rfl rfl)
theorem dX4_begins_29 : decode cX4_begins 29 = .ok (.return_, 1) := dk_177 (dk_at dksX4_begins_1 5 rfl rfl)
theorem q81 : (Jvm.Cond.initialized "OldLight$Trace") ∈ lw_all := lw_g (lw_at lw_m1 8 rfl) rfl
theorem q294 : (Jvm.Cond.instantiable "OldLight$Trace" (2 : Nat)) ∈ lw_all := lw_g (lw_at lw_m1 221 rfl) rfl
theorem q296 : (Jvm.Cond.instanceMethod ({ cls := "OldLight$Trace", name := "<init>", desc := "()V" } : Jvm.MethodName)) ∈ lw_all := lw_g (lw_at lw_m1 223 rfl) rfl
theorem q297 : (Jvm.Cond.code ({ cls := "OldLight$Trace", name := "<init>", desc := "()V" } : Jvm.MethodName) prog_26_method_1_code (1 : Nat) (Option.none : Option Jvm.ClassFile.FieldType)) ∈ lw_all := lw_g (lw_at lw_m1 224 rfl) rfl
theorem q298 : (Jvm.Cond.methodLink "OldLight$Trace" (3 : Nat) ({ cls := "java/lang/Object", name := "<init>", desc := "()V" } : Jvm.MethodName)) ∈ lw_all := lw_g (lw_at lw_m1 225 rfl) rfl
theorem q299 : (Jvm.Cond.fieldLink "OldLight$Trace" (9 : Nat) "OldLight$Trace" "ran" "[I") ∈ lw_all := lw_g (lw_at lw_m1 226 rfl) rfl
theorem q301 : (Jvm.Cond.fieldLink "OldLight$Trace" (15 : Nat) "OldLight$Trace" "many" "I") ∈ lw_all := lw_g (lw_at lw_m1 228 rfl) rfl
theorem q303 : (Jvm.Cond.laysFinal "OldLight$Trace" "OldLight$Trace" "ran" "[I") ∈ lw_all := lw_g (lw_at lw_m1 230 rfl) rfl
theorem q304 : (Jvm.Cond.soleField "OldLight$Trace" "ran") ∈ lw_all := lw_g (lw_at lw_m1 231 rfl) rfl
theorem q305 : (Jvm.Cond.lays "OldLight$Trace" "OldLight$Trace" "many" "I") ∈ lw_all := lw_g (lw_at lw_m1 232 rfl) rfl
theorem q306 : (Jvm.Cond.soleField "OldLight$Trace" "many") ∈ lw_all := lw_g (lw_at lw_m1 233 rfl) rfl
theorem q307 : (Jvm.Cond.superclass "OldLight$Trace" "java/lang/Object") ∈ lw_all := lw_g (lw_at lw_m1 234 rfl) rfl
theorem q1103 : (Jvm.Cond.instanceMethod ({ cls := "OldLight$Trace", name := "begins", desc := "(I)V" } : Jvm.MethodName)) ∈ lw_all := lw_g (lw_at lw_m5 70 rfl) rfl
theorem q1104 : (Jvm.Cond.selects "OldLight$Trace" ({ cls := "OldLight$Trace", name := "begins", desc := "(I)V" } : Jvm.MethodName) ({ cls := "OldLight$Trace", name := "begins", desc := "(I)V" } : Jvm.MethodName)) ∈ lw_all := lw_g (lw_at lw_m5 71 rfl) rfl
theorem q1105 : (Jvm.Cond.code ({ cls := "OldLight$Trace", name := "begins", desc := "(I)V" } : Jvm.MethodName) prog_26_method_2_code (2 : Nat) (Option.none : Option Jvm.ClassFile.FieldType)) ∈ lw_all := lw_g (lw_at lw_m5 72 rfl) rfl
theorem in_X4 : ∀ w ∈ wsX40, w ∈ lw_all := lw_in wsX40 [303, 305] (by decide +kernel) (by decide +kernel)
/-! OldLight$Shelf -/
set_option maxRecDepth 100000
def RX5 : String := "OldLight$Shelf"
def TX5 : u_T := fun k => match k with
  | _ => ("OldLight$Shelf", "held", "Ljava/lang/Object;", false)
def tyX5 : Nat → FieldType := fun k => match k with
  | _ => .object "java/lang/Object"
abbrev wsX50 : List Cond := u_ws RX5 TX5 1
theorem nmX5 : ∀ a, a < 1 → ∀ b, b < 1 → a ≠ b → (TX5 a).2.1 ≠ (TX5 b).2.1 := by decide +kernel
theorem tyX5_ok : ∀ k, k < 1 → parseFieldDescriptor (TX5 k).2.2.1 = some (tyX5 k) := by decide +kernel
abbrev cX5_init : ByteArray := prog_18_method_1_code
def yX5_init : MethodName := ⟨RX5, "<init>", "()V"⟩
theorem dX5_init_0 : decode cX5_init 0 = .ok (.aload_n 0, 1) := by decide +kernel
theorem dX5_init_1 : decode cX5_init 1 = .ok (.invokespecial 1, 3) := by decide +kernel
theorem dX5_init_4 : decode cX5_init 4 = .ok (.return_, 1) := by decide +kernel
theorem q82 : (Jvm.Cond.initialized "OldLight$Shelf") ∈ lw_all := lw_g (lw_at lw_m1 9 rfl) rfl
theorem q310 : (Jvm.Cond.instantiable "OldLight$Shelf" (1 : Nat)) ∈ lw_all := lw_g (lw_at lw_m1 237 rfl) rfl
theorem q312 : (Jvm.Cond.instanceMethod ({ cls := "OldLight$Shelf", name := "<init>", desc := "()V" } : Jvm.MethodName)) ∈ lw_all := lw_g (lw_at lw_m1 239 rfl) rfl
theorem q313 : (Jvm.Cond.code ({ cls := "OldLight$Shelf", name := "<init>", desc := "()V" } : Jvm.MethodName) prog_18_method_1_code (1 : Nat) (Option.none : Option Jvm.ClassFile.FieldType)) ∈ lw_all := lw_g (lw_at lw_m2 0 rfl) rfl
theorem q314 : (Jvm.Cond.methodLink "OldLight$Shelf" (1 : Nat) ({ cls := "java/lang/Object", name := "<init>", desc := "()V" } : Jvm.MethodName)) ∈ lw_all := lw_g (lw_at lw_m2 1 rfl) rfl
theorem q316 : (Jvm.Cond.lays "OldLight$Shelf" "OldLight$Shelf" "held" "Ljava/lang/Object;") ∈ lw_all := lw_g (lw_at lw_m2 3 rfl) rfl
theorem q317 : (Jvm.Cond.soleField "OldLight$Shelf" "held") ∈ lw_all := lw_g (lw_at lw_m2 4 rfl) rfl
theorem q318 : (Jvm.Cond.superclass "OldLight$Shelf" "java/lang/Object") ∈ lw_all := lw_g (lw_at lw_m2 5 rfl) rfl
theorem in_X5 : ∀ w ∈ wsX50, w ∈ lw_all := lw_in wsX50 [316] (by decide +kernel) (by decide +kernel)
/-! java/lang/Math -/
set_option maxRecDepth 100000
def RJ3 : String := "java/lang/Math"
abbrev cJ3_max : ByteArray := prog_34_method_65_code
def yJ3_max : MethodName := ⟨RJ3, "max", "(II)I"⟩
def dkwJ3_max_0 : List UInt8 := [26, 27, 161, 0, 7, 26, 167, 0, 4, 27, 172]
abbrev dktJ3_max_0 : List UInt8 := dkwJ3_max_0 ++ []
theorem dksJ3_max_0 : cJ3_max.data.toList.drop 0 = dktJ3_max_0 := by decide +kernel
theorem dJ3_max_0 : decode cJ3_max 0 = .ok (.iload_n 0, 1) := dk_26 (dk_at dksJ3_max_0 0 rfl rfl)
theorem dJ3_max_1 : decode cJ3_max 1 = .ok (.iload_n 1, 1) := dk_27 (dk_at dksJ3_max_0 1 rfl rfl)
theorem dJ3_max_2 : decode cJ3_max 2 = .ok (.if_icmp .lt 7, 3) := dk_161 0 7 (dk_at dksJ3_max_0 2 rfl rfl)
theorem dJ3_max_5 : decode cJ3_max 5 = .ok (.iload_n 0, 1) := dk_26 (dk_at dksJ3_max_0 5 rfl rfl)
theorem dJ3_max_6 : decode cJ3_max 6 = .ok (.goto 4, 3) := dk_167 0 4 (dk_at dksJ3_max_0 6 rfl rfl)
theorem dJ3_max_9 : decode cJ3_max 9 = .ok (.iload_n 1, 1) := dk_27 (dk_at dksJ3_max_0 9 rfl rfl)
theorem dJ3_max_10 : decode cJ3_max 10 = .ok (.ireturn, 1) := dk_172 (dk_at dksJ3_max_0 10 rfl rfl)
abbrev cJ3_min : ByteArray := prog_34_method_69_code
def yJ3_min : MethodName := ⟨RJ3, "min", "(II)I"⟩
def dkwJ3_min_0 : List UInt8 := [26, 27, 163, 0, 7, 26, 167, 0, 4, 27, 172]
abbrev dktJ3_min_0 : List UInt8 := dkwJ3_min_0 ++ []
theorem dksJ3_min_0 : cJ3_min.data.toList.drop 0 = dktJ3_min_0 := by decide +kernel
theorem dJ3_min_0 : decode cJ3_min 0 = .ok (.iload_n 0, 1) := dk_26 (dk_at dksJ3_min_0 0 rfl rfl)
theorem dJ3_min_1 : decode cJ3_min 1 = .ok (.iload_n 1, 1) := dk_27 (dk_at dksJ3_min_0 1 rfl rfl)
theorem dJ3_min_2 : decode cJ3_min 2 = .ok (.if_icmp .gt 7, 3) := dk_163 0 7 (dk_at dksJ3_min_0 2 rfl rfl)
theorem dJ3_min_5 : decode cJ3_min 5 = .ok (.iload_n 0, 1) := dk_26 (dk_at dksJ3_min_0 5 rfl rfl)
theorem dJ3_min_6 : decode cJ3_min 6 = .ok (.goto 4, 3) := dk_167 0 4 (dk_at dksJ3_min_0 6 rfl rfl)
theorem dJ3_min_9 : decode cJ3_min 9 = .ok (.iload_n 1, 1) := dk_27 (dk_at dksJ3_min_0 9 rfl rfl)
theorem dJ3_min_10 : decode cJ3_min 10 = .ok (.ireturn, 1) := dk_172 (dk_at dksJ3_min_0 10 rfl rfl)
theorem q84 : (Jvm.Cond.initialized "java/lang/Math") ∈ lw_all := lw_g (lw_at lw_m1 11 rfl) rfl
theorem q389 : (Jvm.Cond.static ({ cls := "java/lang/Math", name := "max", desc := "(II)I" } : Jvm.MethodName)) ∈ lw_all := lw_g (lw_at lw_m2 76 rfl) rfl
theorem q390 : (Jvm.Cond.code ({ cls := "java/lang/Math", name := "max", desc := "(II)I" } : Jvm.MethodName) prog_34_method_65_code (2 : Nat) (Option.some Jvm.ClassFile.FieldType.int)) ∈ lw_all := lw_g (lw_at lw_m2 77 rfl) rfl
theorem q423 : (Jvm.Cond.static ({ cls := "java/lang/Math", name := "min", desc := "(II)I" } : Jvm.MethodName)) ∈ lw_all := lw_g (lw_at lw_m2 110 rfl) rfl
theorem q424 : (Jvm.Cond.code ({ cls := "java/lang/Math", name := "min", desc := "(II)I" } : Jvm.MethodName) prog_34_method_69_code (2 : Nat) (Option.some Jvm.ClassFile.FieldType.int)) ∈ lw_all := lw_g (lw_at lw_m2 111 rfl) rfl
/-! OldLight$Term -/
set_option maxRecDepth 100000
def RX7 : String := "OldLight$Term"
abbrev cX7_init : ByteArray := prog_25_method_1_code
def yX7_init : MethodName := ⟨RX7, "<init>", "()V"⟩
theorem dX7_init_0 : decode cX7_init 0 = .ok (.aload_n 0, 1) := by decide +kernel
theorem dX7_init_1 : decode cX7_init 1 = .ok (.invokespecial 1, 3) := by decide +kernel
theorem dX7_init_4 : decode cX7_init 4 = .ok (.return_, 1) := by decide +kernel
theorem q85 : (Jvm.Cond.initialized "OldLight$Term") ∈ lw_all := lw_g (lw_at lw_m1 12 rfl) rfl
theorem q400 : (Jvm.Cond.declares ({ cls := "OldLight$Term", name := "value", desc := "(LOldLight$Facts;)I" } : Jvm.MethodName)) ∈ lw_tbl := lw_at lw_m2 87 rfl
theorem q401 : (Jvm.Cond.sameMethod "OldLight$Term" "OldLight$Term" "value" "(LOldLight$Facts;)I") ∈ lw_all := lw_g (lw_at lw_m2 88 rfl) rfl
theorem q827 : (Jvm.Cond.instanceMethod ({ cls := "OldLight$Term", name := "<init>", desc := "()V" } : Jvm.MethodName)) ∈ lw_all := lw_g (lw_at lw_m4 34 rfl) rfl
theorem q828 : (Jvm.Cond.code ({ cls := "OldLight$Term", name := "<init>", desc := "()V" } : Jvm.MethodName) prog_25_method_1_code (1 : Nat) (Option.none : Option Jvm.ClassFile.FieldType)) ∈ lw_all := lw_g (lw_at lw_m4 35 rfl) rfl
theorem q829 : (Jvm.Cond.methodLink "OldLight$Term" (1 : Nat) ({ cls := "java/lang/Object", name := "<init>", desc := "()V" } : Jvm.MethodName)) ∈ lw_all := lw_g (lw_at lw_m4 36 rfl) rfl
/-! OldLight$Two -/
set_option maxRecDepth 100000
def RX8 : String := "OldLight$Two"
def TX8 : u_T := fun k => match k with
  | 0 => ("OldLight$Two", "sign", "I", true)
  | 1 => ("OldLight$Two", "a", "LOldLight$Term;", true)
  | _ => ("OldLight$Two", "b", "LOldLight$Term;", true)
def tyX8 : Nat → FieldType := fun k => match k with
  | 0 => .int
  | 1 => .object "OldLight$Term"
  | _ => .object "OldLight$Term"
abbrev wsX80 : List Cond := u_ws RX8 TX8 3
theorem nmX8 : ∀ a, a < 3 → ∀ b, b < 3 → a ≠ b → (TX8 a).2.1 ≠ (TX8 b).2.1 := by decide +kernel
theorem tyX8_ok : ∀ k, k < 3 → parseFieldDescriptor (TX8 k).2.2.1 = some (tyX8 k) := by decide +kernel
abbrev cX8_value : ByteArray := prog_28_method_3_code
def yX8_value : MethodName := ⟨RX8, "value", "(LOldLight$Facts;)I"⟩
def dkwX8_value_6 : List UInt8 := [172, 28, 154, 0, 7, 29, 153, 0, 7, 4, 167, 0, 4, 3, 184, 0, 24, 172]
abbrev dktX8_value_6 : List UInt8 := dkwX8_value_6 ++ []
def dkwX8_value_5 : List UInt8 := [167, 0, 4, 3, 184, 0, 24, 172, 28, 153, 0, 11, 29, 153, 0, 7, 4, 167, 0, 4, 3, 184, 0, 24]
abbrev dktX8_value_5 : List UInt8 := dkwX8_value_5 ++ dktX8_value_6
def dkwX8_value_4 : List UInt8 := [184, 0, 24, 172, 28, 29, 160, 0, 7, 4, 167, 0, 4, 3, 184, 0, 24, 172, 28, 29, 164, 0, 7, 4]
abbrev dktX8_value_4 : List UInt8 := dkwX8_value_4 ++ dktX8_value_5
def dkwX8_value_3 : List UInt8 := [29, 154, 0, 7, 3, 167, 0, 6, 28, 29, 112, 172, 28, 29, 162, 0, 7, 4, 167, 0, 4, 3]
abbrev dktX8_value_3 : List UInt8 := dkwX8_value_3 ++ dktX8_value_4
def dkwX8_value_2 : List UInt8 := [28, 29, 96, 172, 28, 29, 100, 172, 28, 29, 104, 172, 29, 154, 0, 7, 3, 167, 0, 6, 28, 29, 108, 172]
abbrev dktX8_value_2 : List UInt8 := dkwX8_value_2 ++ dktX8_value_3
def dkwX8_value_1 : List UInt8 := [170, 0, 0, 0, 0, 213, 0, 0, 0, 37, 0, 0, 0, 62, 0, 0, 0, 142, 0, 0, 0, 196, 0, 0, 0, 213, 0, 0, 0, 213, 0, 0, 0, 213, 0, 0, 0, 126, 0, 0, 0, 118, 0, 0, 0, 213, 0, 0, 0, 122, 0, 0, 0, 213, 0, 0, 0, 130, 0, 0, 0, 213, 0, 0, 0, 213, 0, 0, 0, 213, 0, 0, 0, 213, 0, 0, 0, 213, 0, 0, 0, 213, 0, 0, 0, 213, 0, 0, 0, 213, 0, 0, 0, 213, 0, 0, 0, 213, 0, 0, 0, 213, 0, 0, 0, 213, 0, 0, 0, 154, 0, 0, 0, 168, 0, 0, 0, 182]
abbrev dktX8_value_1 : List UInt8 := dkwX8_value_1 ++ dktX8_value_2
def dkwX8_value_0 : List UInt8 := [42, 180, 0, 13, 43, 182, 0, 20, 61, 42, 180, 0, 17, 43, 182, 0, 20, 62, 42, 180, 0, 7]
abbrev dktX8_value_0 : List UInt8 := dkwX8_value_0 ++ dktX8_value_1
theorem dksX8_value_0 : cX8_value.data.toList.drop 0 = dktX8_value_0 := by decide +kernel
theorem dksX8_value_1 : cX8_value.data.toList.drop 22 = dktX8_value_1 := dk_seg dksX8_value_0 22 rfl rfl
theorem dksX8_value_2 : cX8_value.data.toList.drop 140 = dktX8_value_2 := dk_seg dksX8_value_1 118 rfl rfl
theorem dksX8_value_3 : cX8_value.data.toList.drop 164 = dktX8_value_3 := dk_seg dksX8_value_2 24 rfl rfl
theorem dksX8_value_4 : cX8_value.data.toList.drop 186 = dktX8_value_4 := dk_seg dksX8_value_3 22 rfl rfl
theorem dksX8_value_5 : cX8_value.data.toList.drop 210 = dktX8_value_5 := dk_seg dksX8_value_4 24 rfl rfl
theorem dksX8_value_6 : cX8_value.data.toList.drop 234 = dktX8_value_6 := dk_seg dksX8_value_5 24 rfl rfl
theorem dX8_value_0 : decode cX8_value 0 = .ok (.aload_n 0, 1) := dk_42 (dk_at dksX8_value_0 0 rfl rfl)
theorem dX8_value_1 : decode cX8_value 1 = .ok (.getfield 13, 3) := dk_180 0 13 (dk_at dksX8_value_0 1 rfl rfl)
theorem dX8_value_4 : decode cX8_value 4 = .ok (.aload_n 1, 1) := dk_43 (dk_at dksX8_value_0 4 rfl rfl)
theorem dX8_value_5 : decode cX8_value 5 = .ok (.invokevirtual 20, 3) := dk_182 0 20 (dk_at dksX8_value_0 5 rfl rfl)
theorem dX8_value_8 : decode cX8_value 8 = .ok (.istore_n 2, 1) := dk_61 (dk_at dksX8_value_0 8 rfl rfl)
theorem dX8_value_9 : decode cX8_value 9 = .ok (.aload_n 0, 1) := dk_42 (dk_at dksX8_value_0 9 rfl rfl)
theorem dX8_value_10 : decode cX8_value 10 = .ok (.getfield 17, 3) := dk_180 0 17 (dk_at dksX8_value_0 10 rfl rfl)
theorem dX8_value_13 : decode cX8_value 13 = .ok (.aload_n 1, 1) := dk_43 (dk_at dksX8_value_0 13 rfl rfl)
theorem dX8_value_14 : decode cX8_value 14 = .ok (.invokevirtual 20, 3) := dk_182 0 20 (dk_at dksX8_value_0 14 rfl rfl)
theorem dX8_value_17 : decode cX8_value 17 = .ok (.istore_n 3, 1) := dk_62 (dk_at dksX8_value_0 17 rfl rfl)
theorem dX8_value_18 : decode cX8_value 18 = .ok (.aload_n 0, 1) := dk_42 (dk_at dksX8_value_0 18 rfl rfl)
theorem dX8_value_19 : decode cX8_value 19 = .ok (.getfield 7, 3) := dk_180 0 7 (dk_at dksX8_value_0 19 rfl rfl)
theorem dX8_value_22 : decode cX8_value 22 = .ok (.tableswitch 213 37 62 #[142, 196, 213, 213, 213, 126, 118, 213, 122, 213, 130, 213, 213, 213, 213, 213, 213, 213, 213, 213, 213, 213, 213, 154, 168, 182], 118) := by decide +kernel
theorem dX8_value_140 : decode cX8_value 140 = .ok (.iload_n 2, 1) := dk_28 (dk_at dksX8_value_2 0 rfl rfl)
theorem dX8_value_141 : decode cX8_value 141 = .ok (.iload_n 3, 1) := dk_29 (dk_at dksX8_value_2 1 rfl rfl)
theorem dX8_value_142 : decode cX8_value 142 = .ok (.iadd, 1) := dk_96 (dk_at dksX8_value_2 2 rfl rfl)
theorem dX8_value_143 : decode cX8_value 143 = .ok (.ireturn, 1) := dk_172 (dk_at dksX8_value_2 3 rfl rfl)
theorem dX8_value_144 : decode cX8_value 144 = .ok (.iload_n 2, 1) := dk_28 (dk_at dksX8_value_2 4 rfl rfl)
theorem dX8_value_145 : decode cX8_value 145 = .ok (.iload_n 3, 1) := dk_29 (dk_at dksX8_value_2 5 rfl rfl)
theorem dX8_value_146 : decode cX8_value 146 = .ok (.isub, 1) := dk_100 (dk_at dksX8_value_2 6 rfl rfl)
theorem dX8_value_147 : decode cX8_value 147 = .ok (.ireturn, 1) := dk_172 (dk_at dksX8_value_2 7 rfl rfl)
theorem dX8_value_148 : decode cX8_value 148 = .ok (.iload_n 2, 1) := dk_28 (dk_at dksX8_value_2 8 rfl rfl)
theorem dX8_value_149 : decode cX8_value 149 = .ok (.iload_n 3, 1) := dk_29 (dk_at dksX8_value_2 9 rfl rfl)
theorem dX8_value_150 : decode cX8_value 150 = .ok (.imul, 1) := dk_104 (dk_at dksX8_value_2 10 rfl rfl)
theorem dX8_value_151 : decode cX8_value 151 = .ok (.ireturn, 1) := dk_172 (dk_at dksX8_value_2 11 rfl rfl)
theorem dX8_value_152 : decode cX8_value 152 = .ok (.iload_n 3, 1) := dk_29 (dk_at dksX8_value_2 12 rfl rfl)
theorem dX8_value_153 : decode cX8_value 153 = .ok (.ifCond .ne 7, 3) := dk_154 0 7 (dk_at dksX8_value_2 13 rfl rfl)
theorem dX8_value_156 : decode cX8_value 156 = .ok (.iconst 0, 1) := dk_3 (dk_at dksX8_value_2 16 rfl rfl)
theorem dX8_value_157 : decode cX8_value 157 = .ok (.goto 6, 3) := dk_167 0 6 (dk_at dksX8_value_2 17 rfl rfl)
theorem dX8_value_160 : decode cX8_value 160 = .ok (.iload_n 2, 1) := dk_28 (dk_at dksX8_value_2 20 rfl rfl)
theorem dX8_value_161 : decode cX8_value 161 = .ok (.iload_n 3, 1) := dk_29 (dk_at dksX8_value_2 21 rfl rfl)
theorem dX8_value_162 : decode cX8_value 162 = .ok (.idiv, 1) := dk_108 (dk_at dksX8_value_2 22 rfl rfl)
theorem dX8_value_163 : decode cX8_value 163 = .ok (.ireturn, 1) := dk_172 (dk_at dksX8_value_2 23 rfl rfl)
theorem dX8_value_164 : decode cX8_value 164 = .ok (.iload_n 3, 1) := dk_29 (dk_at dksX8_value_3 0 rfl rfl)
theorem dX8_value_165 : decode cX8_value 165 = .ok (.ifCond .ne 7, 3) := dk_154 0 7 (dk_at dksX8_value_3 1 rfl rfl)
theorem dX8_value_168 : decode cX8_value 168 = .ok (.iconst 0, 1) := dk_3 (dk_at dksX8_value_3 4 rfl rfl)
theorem dX8_value_169 : decode cX8_value 169 = .ok (.goto 6, 3) := dk_167 0 6 (dk_at dksX8_value_3 5 rfl rfl)
theorem dX8_value_172 : decode cX8_value 172 = .ok (.iload_n 2, 1) := dk_28 (dk_at dksX8_value_3 8 rfl rfl)
theorem dX8_value_173 : decode cX8_value 173 = .ok (.iload_n 3, 1) := dk_29 (dk_at dksX8_value_3 9 rfl rfl)
theorem dX8_value_174 : decode cX8_value 174 = .ok (.irem, 1) := dk_112 (dk_at dksX8_value_3 10 rfl rfl)
theorem dX8_value_175 : decode cX8_value 175 = .ok (.ireturn, 1) := dk_172 (dk_at dksX8_value_3 11 rfl rfl)
theorem dX8_value_176 : decode cX8_value 176 = .ok (.iload_n 2, 1) := dk_28 (dk_at dksX8_value_3 12 rfl rfl)
theorem dX8_value_177 : decode cX8_value 177 = .ok (.iload_n 3, 1) := dk_29 (dk_at dksX8_value_3 13 rfl rfl)
theorem dX8_value_178 : decode cX8_value 178 = .ok (.if_icmp .ge 7, 3) := dk_162 0 7 (dk_at dksX8_value_3 14 rfl rfl)
theorem dX8_value_181 : decode cX8_value 181 = .ok (.iconst 1, 1) := dk_4 (dk_at dksX8_value_3 17 rfl rfl)
theorem dX8_value_182 : decode cX8_value 182 = .ok (.goto 4, 3) := dk_167 0 4 (dk_at dksX8_value_3 18 rfl rfl)
theorem dX8_value_185 : decode cX8_value 185 = .ok (.iconst 0, 1) := dk_3 (dk_at dksX8_value_3 21 rfl rfl)
theorem dX8_value_186 : decode cX8_value 186 = .ok (.invokestatic 24, 3) := dk_184 0 24 (dk_at dksX8_value_4 0 rfl rfl)
theorem dX8_value_189 : decode cX8_value 189 = .ok (.ireturn, 1) := dk_172 (dk_at dksX8_value_4 3 rfl rfl)
theorem dX8_value_190 : decode cX8_value 190 = .ok (.iload_n 2, 1) := dk_28 (dk_at dksX8_value_4 4 rfl rfl)
theorem dX8_value_191 : decode cX8_value 191 = .ok (.iload_n 3, 1) := dk_29 (dk_at dksX8_value_4 5 rfl rfl)
theorem dX8_value_192 : decode cX8_value 192 = .ok (.if_icmp .ne 7, 3) := dk_160 0 7 (dk_at dksX8_value_4 6 rfl rfl)
theorem dX8_value_195 : decode cX8_value 195 = .ok (.iconst 1, 1) := dk_4 (dk_at dksX8_value_4 9 rfl rfl)
theorem dX8_value_196 : decode cX8_value 196 = .ok (.goto 4, 3) := dk_167 0 4 (dk_at dksX8_value_4 10 rfl rfl)
theorem dX8_value_199 : decode cX8_value 199 = .ok (.iconst 0, 1) := dk_3 (dk_at dksX8_value_4 13 rfl rfl)
theorem dX8_value_200 : decode cX8_value 200 = .ok (.invokestatic 24, 3) := dk_184 0 24 (dk_at dksX8_value_4 14 rfl rfl)
theorem dX8_value_203 : decode cX8_value 203 = .ok (.ireturn, 1) := dk_172 (dk_at dksX8_value_4 17 rfl rfl)
theorem dX8_value_204 : decode cX8_value 204 = .ok (.iload_n 2, 1) := dk_28 (dk_at dksX8_value_4 18 rfl rfl)
theorem dX8_value_205 : decode cX8_value 205 = .ok (.iload_n 3, 1) := dk_29 (dk_at dksX8_value_4 19 rfl rfl)
theorem dX8_value_206 : decode cX8_value 206 = .ok (.if_icmp .le 7, 3) := dk_164 0 7 (dk_at dksX8_value_4 20 rfl rfl)
theorem dX8_value_209 : decode cX8_value 209 = .ok (.iconst 1, 1) := dk_4 (dk_at dksX8_value_4 23 rfl rfl)
theorem dX8_value_210 : decode cX8_value 210 = .ok (.goto 4, 3) := dk_167 0 4 (dk_at dksX8_value_5 0 rfl rfl)
theorem dX8_value_213 : decode cX8_value 213 = .ok (.iconst 0, 1) := dk_3 (dk_at dksX8_value_5 3 rfl rfl)
theorem dX8_value_214 : decode cX8_value 214 = .ok (.invokestatic 24, 3) := dk_184 0 24 (dk_at dksX8_value_5 4 rfl rfl)
theorem dX8_value_217 : decode cX8_value 217 = .ok (.ireturn, 1) := dk_172 (dk_at dksX8_value_5 7 rfl rfl)
theorem dX8_value_218 : decode cX8_value 218 = .ok (.iload_n 2, 1) := dk_28 (dk_at dksX8_value_5 8 rfl rfl)
theorem dX8_value_219 : decode cX8_value 219 = .ok (.ifCond .eq 11, 3) := dk_153 0 11 (dk_at dksX8_value_5 9 rfl rfl)
theorem dX8_value_222 : decode cX8_value 222 = .ok (.iload_n 3, 1) := dk_29 (dk_at dksX8_value_5 12 rfl rfl)
theorem dX8_value_223 : decode cX8_value 223 = .ok (.ifCond .eq 7, 3) := dk_153 0 7 (dk_at dksX8_value_5 13 rfl rfl)
theorem dX8_value_226 : decode cX8_value 226 = .ok (.iconst 1, 1) := dk_4 (dk_at dksX8_value_5 16 rfl rfl)
theorem dX8_value_227 : decode cX8_value 227 = .ok (.goto 4, 3) := dk_167 0 4 (dk_at dksX8_value_5 17 rfl rfl)
theorem dX8_value_230 : decode cX8_value 230 = .ok (.iconst 0, 1) := dk_3 (dk_at dksX8_value_5 20 rfl rfl)
theorem dX8_value_231 : decode cX8_value 231 = .ok (.invokestatic 24, 3) := dk_184 0 24 (dk_at dksX8_value_5 21 rfl rfl)
theorem dX8_value_234 : decode cX8_value 234 = .ok (.ireturn, 1) := dk_172 (dk_at dksX8_value_6 0 rfl rfl)
theorem dX8_value_235 : decode cX8_value 235 = .ok (.iload_n 2, 1) := dk_28 (dk_at dksX8_value_6 1 rfl rfl)
theorem dX8_value_236 : decode cX8_value 236 = .ok (.ifCond .ne 7, 3) := dk_154 0 7 (dk_at dksX8_value_6 2 rfl rfl)
theorem dX8_value_239 : decode cX8_value 239 = .ok (.iload_n 3, 1) := dk_29 (dk_at dksX8_value_6 5 rfl rfl)
theorem dX8_value_240 : decode cX8_value 240 = .ok (.ifCond .eq 7, 3) := dk_153 0 7 (dk_at dksX8_value_6 6 rfl rfl)
theorem dX8_value_243 : decode cX8_value 243 = .ok (.iconst 1, 1) := dk_4 (dk_at dksX8_value_6 9 rfl rfl)
theorem dX8_value_244 : decode cX8_value 244 = .ok (.goto 4, 3) := dk_167 0 4 (dk_at dksX8_value_6 10 rfl rfl)
theorem dX8_value_247 : decode cX8_value 247 = .ok (.iconst 0, 1) := dk_3 (dk_at dksX8_value_6 13 rfl rfl)
theorem dX8_value_248 : decode cX8_value 248 = .ok (.invokestatic 24, 3) := dk_184 0 24 (dk_at dksX8_value_6 14 rfl rfl)
theorem dX8_value_251 : decode cX8_value 251 = .ok (.ireturn, 1) := dk_172 (dk_at dksX8_value_6 17 rfl rfl)
abbrev cX8_is : ByteArray := prog_28_method_2_code
def yX8_is : MethodName := ⟨RX8, "is", "(Z)I"⟩
def dkwX8_is_0 : List UInt8 := [26, 153, 0, 7, 4, 167, 0, 4, 3, 172]
abbrev dktX8_is_0 : List UInt8 := dkwX8_is_0 ++ []
theorem dksX8_is_0 : cX8_is.data.toList.drop 0 = dktX8_is_0 := by decide +kernel
theorem dX8_is_0 : decode cX8_is 0 = .ok (.iload_n 0, 1) := dk_26 (dk_at dksX8_is_0 0 rfl rfl)
theorem dX8_is_1 : decode cX8_is 1 = .ok (.ifCond .eq 7, 3) := dk_153 0 7 (dk_at dksX8_is_0 1 rfl rfl)
theorem dX8_is_4 : decode cX8_is 4 = .ok (.iconst 1, 1) := dk_4 (dk_at dksX8_is_0 4 rfl rfl)
theorem dX8_is_5 : decode cX8_is 5 = .ok (.goto 4, 3) := dk_167 0 4 (dk_at dksX8_is_0 5 rfl rfl)
theorem dX8_is_8 : decode cX8_is 8 = .ok (.iconst 0, 1) := dk_3 (dk_at dksX8_is_0 8 rfl rfl)
theorem dX8_is_9 : decode cX8_is 9 = .ok (.ireturn, 1) := dk_172 (dk_at dksX8_is_0 9 rfl rfl)
abbrev cX8_init : ByteArray := prog_28_method_1_code
def yX8_init : MethodName := ⟨RX8, "<init>", "(ILOldLight$Term;LOldLight$Term;)V"⟩
def dkwX8_init_0 : List UInt8 := [42, 183, 0, 1, 42, 27, 181, 0, 7, 42, 44, 181, 0, 13, 42, 45, 181, 0, 17, 177]
abbrev dktX8_init_0 : List UInt8 := dkwX8_init_0 ++ []
theorem dksX8_init_0 : cX8_init.data.toList.drop 0 = dktX8_init_0 := by decide +kernel
theorem dX8_init_0 : decode cX8_init 0 = .ok (.aload_n 0, 1) := dk_42 (dk_at dksX8_init_0 0 rfl rfl)
theorem dX8_init_1 : decode cX8_init 1 = .ok (.invokespecial 1, 3) := dk_183 0 1 (dk_at dksX8_init_0 1 rfl rfl)
theorem dX8_init_4 : decode cX8_init 4 = .ok (.aload_n 0, 1) := dk_42 (dk_at dksX8_init_0 4 rfl rfl)
theorem dX8_init_5 : decode cX8_init 5 = .ok (.iload_n 1, 1) := dk_27 (dk_at dksX8_init_0 5 rfl rfl)
theorem dX8_init_6 : decode cX8_init 6 = .ok (.putfield 7, 3) := dk_181 0 7 (dk_at dksX8_init_0 6 rfl rfl)
theorem dX8_init_9 : decode cX8_init 9 = .ok (.aload_n 0, 1) := dk_42 (dk_at dksX8_init_0 9 rfl rfl)
theorem dX8_init_10 : decode cX8_init 10 = .ok (.aload_n 2, 1) := dk_44 (dk_at dksX8_init_0 10 rfl rfl)
theorem dX8_init_11 : decode cX8_init 11 = .ok (.putfield 13, 3) := dk_181 0 13 (dk_at dksX8_init_0 11 rfl rfl)
theorem dX8_init_14 : decode cX8_init 14 = .ok (.aload_n 0, 1) := dk_42 (dk_at dksX8_init_0 14 rfl rfl)
theorem dX8_init_15 : decode cX8_init 15 = .ok (.aload_n 3, 1) := dk_45 (dk_at dksX8_init_0 15 rfl rfl)
theorem dX8_init_16 : decode cX8_init 16 = .ok (.putfield 17, 3) := dk_181 0 17 (dk_at dksX8_init_0 16 rfl rfl)
theorem dX8_init_19 : decode cX8_init 19 = .ok (.return_, 1) := dk_177 (dk_at dksX8_init_0 19 rfl rfl)
theorem q86 : (Jvm.Cond.initialized "OldLight$Two") ∈ lw_all := lw_g (lw_at lw_m1 13 rfl) rfl
theorem q412 : (Jvm.Cond.instanceMethod ({ cls := "OldLight$Two", name := "value", desc := "(LOldLight$Facts;)I" } : Jvm.MethodName)) ∈ lw_all := lw_g (lw_at lw_m2 99 rfl) rfl
theorem q413 : (Jvm.Cond.code ({ cls := "OldLight$Two", name := "value", desc := "(LOldLight$Facts;)I" } : Jvm.MethodName) prog_28_method_3_code (4 : Nat) (Option.some Jvm.ClassFile.FieldType.int)) ∈ lw_all := lw_g (lw_at lw_m2 100 rfl) rfl
theorem q414 : (Jvm.Cond.methodLink "OldLight$Two" (20 : Nat) ({ cls := "OldLight$Term", name := "value", desc := "(LOldLight$Facts;)I" } : Jvm.MethodName)) ∈ lw_all := lw_g (lw_at lw_m2 101 rfl) rfl
theorem q415 : (Jvm.Cond.methodLink "OldLight$Two" (24 : Nat) ({ cls := "OldLight$Two", name := "is", desc := "(Z)I" } : Jvm.MethodName)) ∈ lw_all := lw_g (lw_at lw_m2 102 rfl) rfl
theorem q416 : (Jvm.Cond.static ({ cls := "OldLight$Two", name := "is", desc := "(Z)I" } : Jvm.MethodName)) ∈ lw_all := lw_g (lw_at lw_m2 103 rfl) rfl
theorem q417 : (Jvm.Cond.code ({ cls := "OldLight$Two", name := "is", desc := "(Z)I" } : Jvm.MethodName) prog_28_method_2_code (1 : Nat) (Option.some Jvm.ClassFile.FieldType.int)) ∈ lw_all := lw_g (lw_at lw_m2 104 rfl) rfl
theorem q418 : (Jvm.Cond.selects "OldLight$Two" ({ cls := "OldLight$Term", name := "value", desc := "(LOldLight$Facts;)I" } : Jvm.MethodName) ({ cls := "OldLight$Two", name := "value", desc := "(LOldLight$Facts;)I" } : Jvm.MethodName)) ∈ lw_all := lw_g (lw_at lw_m2 105 rfl) rfl
theorem q886 : (Jvm.Cond.instantiable "OldLight$Two" (3 : Nat)) ∈ lw_all := lw_g (lw_at lw_m4 93 rfl) rfl
theorem q888 : (Jvm.Cond.instanceMethod ({ cls := "OldLight$Two", name := "<init>", desc := "(ILOldLight$Term;LOldLight$Term;)V" } : Jvm.MethodName)) ∈ lw_all := lw_g (lw_at lw_m4 95 rfl) rfl
theorem q889 : (Jvm.Cond.code ({ cls := "OldLight$Two", name := "<init>", desc := "(ILOldLight$Term;LOldLight$Term;)V" } : Jvm.MethodName) prog_28_method_1_code (4 : Nat) (Option.none : Option Jvm.ClassFile.FieldType)) ∈ lw_all := lw_g (lw_at lw_m4 96 rfl) rfl
theorem q890 : (Jvm.Cond.methodLinkNest "OldLight$Two" (1 : Nat) ({ cls := "OldLight$Term", name := "<init>", desc := "()V" } : Jvm.MethodName) "OldLight") ∈ lw_tbl := lw_at lw_m4 97 rfl
theorem q891 : (Jvm.Cond.fieldLink "OldLight$Two" (7 : Nat) "OldLight$Two" "sign" "I") ∈ lw_all := lw_g (lw_at lw_m4 98 rfl) rfl
theorem q892 : (Jvm.Cond.fieldLink "OldLight$Two" (13 : Nat) "OldLight$Two" "a" "LOldLight$Term;") ∈ lw_all := lw_g (lw_at lw_m4 99 rfl) rfl
theorem q893 : (Jvm.Cond.fieldLink "OldLight$Two" (17 : Nat) "OldLight$Two" "b" "LOldLight$Term;") ∈ lw_all := lw_g (lw_at lw_m4 100 rfl) rfl
theorem q894 : (Jvm.Cond.laysFinal "OldLight$Two" "OldLight$Two" "sign" "I") ∈ lw_all := lw_g (lw_at lw_m4 101 rfl) rfl
theorem q895 : (Jvm.Cond.soleField "OldLight$Two" "sign") ∈ lw_all := lw_g (lw_at lw_m4 102 rfl) rfl
theorem q896 : (Jvm.Cond.laysFinal "OldLight$Two" "OldLight$Two" "a" "LOldLight$Term;") ∈ lw_all := lw_g (lw_at lw_m4 103 rfl) rfl
theorem q897 : (Jvm.Cond.soleField "OldLight$Two" "a") ∈ lw_all := lw_g (lw_at lw_m4 104 rfl) rfl
theorem q898 : (Jvm.Cond.laysFinal "OldLight$Two" "OldLight$Two" "b" "LOldLight$Term;") ∈ lw_all := lw_g (lw_at lw_m4 105 rfl) rfl
theorem q899 : (Jvm.Cond.soleField "OldLight$Two" "b") ∈ lw_all := lw_g (lw_at lw_m4 106 rfl) rfl
theorem q900 : (Jvm.Cond.superclass "OldLight$Two" "OldLight$Term") ∈ lw_all := lw_g (lw_at lw_m4 107 rfl) rfl
theorem q1919 : (Jvm.Cond.castable "OldLight$Two" "OldLight$Term") ∈ lw_tbl := lw_at lw_m8 166 rfl
theorem in_X8 : ∀ w ∈ wsX80, w ∈ lw_all := lw_in wsX80 [894, 896, 898] (by decide +kernel) (by decide +kernel)
/-! OldLight$Ship -/
set_option maxRecDepth 100000
def RX9 : String := "OldLight$Ship"
def TX9 : u_T := fun k => match k with
  | 0 => ("OldLight$Ship", "trace", "LOldLight$Trace;", true)
  | 1 => ("OldLight$Ship", "number", "I", true)
  | _ => ("OldLight$Ship", "m", "I", true)
def tyX9 : Nat → FieldType := fun k => match k with
  | 0 => .object "OldLight$Trace"
  | 1 => .int
  | _ => .int
abbrev wsX90 : List Cond := u_ws RX9 TX9 3
theorem nmX9 : ∀ a, a < 3 → ∀ b, b < 3 → a ≠ b → (TX9 a).2.1 ≠ (TX9 b).2.1 := by decide +kernel
theorem tyX9_ok : ∀ k, k < 3 → parseFieldDescriptor (TX9 k).2.2.1 = some (tyX9 k) := by decide +kernel
abbrev cX9_init : ByteArray := prog_19_method_1_code
def yX9_init : MethodName := ⟨RX9, "<init>", "(LOldLight$Trace;II)V"⟩
def dkwX9_init_0 : List UInt8 := [42, 183, 0, 3, 42, 43, 181, 0, 9, 42, 28, 181, 0, 15, 42, 29, 181, 0, 19, 177]
abbrev dktX9_init_0 : List UInt8 := dkwX9_init_0 ++ []
theorem dksX9_init_0 : cX9_init.data.toList.drop 0 = dktX9_init_0 := by decide +kernel
theorem dX9_init_0 : decode cX9_init 0 = .ok (.aload_n 0, 1) := dk_42 (dk_at dksX9_init_0 0 rfl rfl)
theorem dX9_init_1 : decode cX9_init 1 = .ok (.invokespecial 3, 3) := dk_183 0 3 (dk_at dksX9_init_0 1 rfl rfl)
theorem dX9_init_4 : decode cX9_init 4 = .ok (.aload_n 0, 1) := dk_42 (dk_at dksX9_init_0 4 rfl rfl)
theorem dX9_init_5 : decode cX9_init 5 = .ok (.aload_n 1, 1) := dk_43 (dk_at dksX9_init_0 5 rfl rfl)
theorem dX9_init_6 : decode cX9_init 6 = .ok (.putfield 9, 3) := dk_181 0 9 (dk_at dksX9_init_0 6 rfl rfl)
theorem dX9_init_9 : decode cX9_init 9 = .ok (.aload_n 0, 1) := dk_42 (dk_at dksX9_init_0 9 rfl rfl)
theorem dX9_init_10 : decode cX9_init 10 = .ok (.iload_n 2, 1) := dk_28 (dk_at dksX9_init_0 10 rfl rfl)
theorem dX9_init_11 : decode cX9_init 11 = .ok (.putfield 15, 3) := dk_181 0 15 (dk_at dksX9_init_0 11 rfl rfl)
theorem dX9_init_14 : decode cX9_init 14 = .ok (.aload_n 0, 1) := dk_42 (dk_at dksX9_init_0 14 rfl rfl)
theorem dX9_init_15 : decode cX9_init 15 = .ok (.iload_n 3, 1) := dk_29 (dk_at dksX9_init_0 15 rfl rfl)
theorem dX9_init_16 : decode cX9_init 16 = .ok (.putfield 19, 3) := dk_181 0 19 (dk_at dksX9_init_0 16 rfl rfl)
theorem dX9_init_19 : decode cX9_init 19 = .ok (.return_, 1) := dk_177 (dk_at dksX9_init_0 19 rfl rfl)
abbrev cX9_kind : ByteArray := prog_19_method_2_code
def yX9_kind : MethodName := ⟨RX9, "kind", "()I"⟩
theorem dX9_kind_0 : decode cX9_kind 0 = .ok (.iconst 0, 1) := by decide +kernel
theorem dX9_kind_1 : decode cX9_kind 1 = .ok (.ireturn, 1) := by decide +kernel
abbrev cX9_believes : ByteArray := prog_19_method_4_code
def yX9_believes : MethodName := ⟨RX9, "believes", "(LOldLight$Bay;I)I"⟩
def dkwX9_believes_0 : List UInt8 := [43, 28, 43, 180, 0, 22, 182, 0, 27, 172]
abbrev dktX9_believes_0 : List UInt8 := dkwX9_believes_0 ++ []
theorem dksX9_believes_0 : cX9_believes.data.toList.drop 0 = dktX9_believes_0 := by decide +kernel
theorem dX9_believes_0 : decode cX9_believes 0 = .ok (.aload_n 1, 1) := dk_43 (dk_at dksX9_believes_0 0 rfl rfl)
theorem dX9_believes_1 : decode cX9_believes 1 = .ok (.iload_n 2, 1) := dk_28 (dk_at dksX9_believes_0 1 rfl rfl)
theorem dX9_believes_2 : decode cX9_believes 2 = .ok (.aload_n 1, 1) := dk_43 (dk_at dksX9_believes_0 2 rfl rfl)
theorem dX9_believes_3 : decode cX9_believes 3 = .ok (.getfield 22, 3) := dk_180 0 22 (dk_at dksX9_believes_0 3 rfl rfl)
theorem dX9_believes_6 : decode cX9_believes 6 = .ok (.invokevirtual 27, 3) := dk_182 0 27 (dk_at dksX9_believes_0 6 rfl rfl)
theorem dX9_believes_9 : decode cX9_believes 9 = .ok (.ireturn, 1) := dk_172 (dk_at dksX9_believes_0 9 rfl rfl)
abbrev cX9_isOf : ByteArray := prog_19_method_3_code
def yX9_isOf : MethodName := ⟨RX9, "isOf", "(I)Z"⟩
def dkwX9_isOf_0 : List UInt8 := [27, 154, 0, 7, 4, 167, 0, 4, 3, 172]
abbrev dktX9_isOf_0 : List UInt8 := dkwX9_isOf_0 ++ []
theorem dksX9_isOf_0 : cX9_isOf.data.toList.drop 0 = dktX9_isOf_0 := by decide +kernel
theorem dX9_isOf_0 : decode cX9_isOf 0 = .ok (.iload_n 1, 1) := dk_27 (dk_at dksX9_isOf_0 0 rfl rfl)
theorem dX9_isOf_1 : decode cX9_isOf 1 = .ok (.ifCond .ne 7, 3) := dk_154 0 7 (dk_at dksX9_isOf_0 1 rfl rfl)
theorem dX9_isOf_4 : decode cX9_isOf 4 = .ok (.iconst 1, 1) := dk_4 (dk_at dksX9_isOf_0 4 rfl rfl)
theorem dX9_isOf_5 : decode cX9_isOf 5 = .ok (.goto 4, 3) := dk_167 0 4 (dk_at dksX9_isOf_0 5 rfl rfl)
theorem dX9_isOf_8 : decode cX9_isOf 8 = .ok (.iconst 0, 1) := dk_3 (dk_at dksX9_isOf_0 8 rfl rfl)
theorem dX9_isOf_9 : decode cX9_isOf 9 = .ok (.ireturn, 1) := dk_172 (dk_at dksX9_isOf_0 9 rfl rfl)
abbrev cX9_sails : ByteArray := prog_19_method_5_code
def yX9_sails : MethodName := ⟨RX9, "sails", "(I)I"⟩
def dkwX9_sails_0 : List UInt8 := [42, 180, 0, 9, 16, 10, 182, 0, 31, 27, 42, 180, 0, 15, 96, 172]
abbrev dktX9_sails_0 : List UInt8 := dkwX9_sails_0 ++ []
theorem dksX9_sails_0 : cX9_sails.data.toList.drop 0 = dktX9_sails_0 := by decide +kernel
theorem dX9_sails_0 : decode cX9_sails 0 = .ok (.aload_n 0, 1) := dk_42 (dk_at dksX9_sails_0 0 rfl rfl)
theorem dX9_sails_1 : decode cX9_sails 1 = .ok (.getfield 9, 3) := dk_180 0 9 (dk_at dksX9_sails_0 1 rfl rfl)
theorem dX9_sails_4 : decode cX9_sails 4 = .ok (.bipush 10, 2) := dk_16 10 (dk_at dksX9_sails_0 4 rfl rfl)
theorem dX9_sails_6 : decode cX9_sails 6 = .ok (.invokevirtual 31, 3) := dk_182 0 31 (dk_at dksX9_sails_0 6 rfl rfl)
theorem dX9_sails_9 : decode cX9_sails 9 = .ok (.iload_n 1, 1) := dk_27 (dk_at dksX9_sails_0 9 rfl rfl)
theorem dX9_sails_10 : decode cX9_sails 10 = .ok (.aload_n 0, 1) := dk_42 (dk_at dksX9_sails_0 10 rfl rfl)
theorem dX9_sails_11 : decode cX9_sails 11 = .ok (.getfield 15, 3) := dk_180 0 15 (dk_at dksX9_sails_0 11 rfl rfl)
theorem dX9_sails_14 : decode cX9_sails 14 = .ok (.iadd, 1) := dk_96 (dk_at dksX9_sails_0 14 rfl rfl)
theorem dX9_sails_15 : decode cX9_sails 15 = .ok (.ireturn, 1) := dk_172 (dk_at dksX9_sails_0 15 rfl rfl)
abbrev cX9_steers : ByteArray := prog_19_method_6_code
def yX9_steers : MethodName := ⟨RX9, "steers", "(I)I"⟩
def dkwX9_steers_0 : List UInt8 := [42, 180, 0, 9, 16, 11, 182, 0, 31, 42, 27, 182, 0, 37, 5, 104, 172]
abbrev dktX9_steers_0 : List UInt8 := dkwX9_steers_0 ++ []
theorem dksX9_steers_0 : cX9_steers.data.toList.drop 0 = dktX9_steers_0 := by decide +kernel
theorem dX9_steers_0 : decode cX9_steers 0 = .ok (.aload_n 0, 1) := dk_42 (dk_at dksX9_steers_0 0 rfl rfl)
theorem dX9_steers_1 : decode cX9_steers 1 = .ok (.getfield 9, 3) := dk_180 0 9 (dk_at dksX9_steers_0 1 rfl rfl)
theorem dX9_steers_4 : decode cX9_steers 4 = .ok (.bipush 11, 2) := dk_16 11 (dk_at dksX9_steers_0 4 rfl rfl)
theorem dX9_steers_6 : decode cX9_steers 6 = .ok (.invokevirtual 31, 3) := dk_182 0 31 (dk_at dksX9_steers_0 6 rfl rfl)
theorem dX9_steers_9 : decode cX9_steers 9 = .ok (.aload_n 0, 1) := dk_42 (dk_at dksX9_steers_0 9 rfl rfl)
theorem dX9_steers_10 : decode cX9_steers 10 = .ok (.iload_n 1, 1) := dk_27 (dk_at dksX9_steers_0 10 rfl rfl)
theorem dX9_steers_11 : decode cX9_steers 11 = .ok (.invokevirtual 37, 3) := dk_182 0 37 (dk_at dksX9_steers_0 11 rfl rfl)
theorem dX9_steers_14 : decode cX9_steers 14 = .ok (.iconst 2, 1) := dk_5 (dk_at dksX9_steers_0 14 rfl rfl)
theorem dX9_steers_15 : decode cX9_steers 15 = .ok (.imul, 1) := dk_104 (dk_at dksX9_steers_0 15 rfl rfl)
theorem dX9_steers_16 : decode cX9_steers 16 = .ok (.ireturn, 1) := dk_172 (dk_at dksX9_steers_0 16 rfl rfl)
abbrev cX9_sounds : ByteArray := prog_19_method_7_code
def yX9_sounds : MethodName := ⟨RX9, "sounds", "(I)I"⟩
def dkwX9_sounds_0 : List UInt8 := [42, 180, 0, 9, 16, 12, 182, 0, 31, 27, 42, 180, 0, 19, 100, 172]
abbrev dktX9_sounds_0 : List UInt8 := dkwX9_sounds_0 ++ []
theorem dksX9_sounds_0 : cX9_sounds.data.toList.drop 0 = dktX9_sounds_0 := by decide +kernel
theorem dX9_sounds_0 : decode cX9_sounds 0 = .ok (.aload_n 0, 1) := dk_42 (dk_at dksX9_sounds_0 0 rfl rfl)
theorem dX9_sounds_1 : decode cX9_sounds 1 = .ok (.getfield 9, 3) := dk_180 0 9 (dk_at dksX9_sounds_0 1 rfl rfl)
theorem dX9_sounds_4 : decode cX9_sounds 4 = .ok (.bipush 12, 2) := dk_16 12 (dk_at dksX9_sounds_0 4 rfl rfl)
theorem dX9_sounds_6 : decode cX9_sounds 6 = .ok (.invokevirtual 31, 3) := dk_182 0 31 (dk_at dksX9_sounds_0 6 rfl rfl)
theorem dX9_sounds_9 : decode cX9_sounds 9 = .ok (.iload_n 1, 1) := dk_27 (dk_at dksX9_sounds_0 9 rfl rfl)
theorem dX9_sounds_10 : decode cX9_sounds 10 = .ok (.aload_n 0, 1) := dk_42 (dk_at dksX9_sounds_0 10 rfl rfl)
theorem dX9_sounds_11 : decode cX9_sounds 11 = .ok (.getfield 19, 3) := dk_180 0 19 (dk_at dksX9_sounds_0 11 rfl rfl)
theorem dX9_sounds_14 : decode cX9_sounds 14 = .ok (.isub, 1) := dk_100 (dk_at dksX9_sounds_0 14 rfl rfl)
theorem dX9_sounds_15 : decode cX9_sounds 15 = .ok (.ireturn, 1) := dk_172 (dk_at dksX9_sounds_0 15 rfl rfl)
abbrev cX9_logs : ByteArray := prog_19_method_8_code
def yX9_logs : MethodName := ⟨RX9, "logs", "(I)I"⟩
def dkwX9_logs_0 : List UInt8 := [42, 180, 0, 9, 16, 13, 182, 0, 31, 42, 27, 182, 0, 41, 61, 28, 42, 27, 182, 0, 44, 130, 172]
abbrev dktX9_logs_0 : List UInt8 := dkwX9_logs_0 ++ []
theorem dksX9_logs_0 : cX9_logs.data.toList.drop 0 = dktX9_logs_0 := by decide +kernel
theorem dX9_logs_0 : decode cX9_logs 0 = .ok (.aload_n 0, 1) := dk_42 (dk_at dksX9_logs_0 0 rfl rfl)
theorem dX9_logs_1 : decode cX9_logs 1 = .ok (.getfield 9, 3) := dk_180 0 9 (dk_at dksX9_logs_0 1 rfl rfl)
theorem dX9_logs_4 : decode cX9_logs 4 = .ok (.bipush 13, 2) := dk_16 13 (dk_at dksX9_logs_0 4 rfl rfl)
theorem dX9_logs_6 : decode cX9_logs 6 = .ok (.invokevirtual 31, 3) := dk_182 0 31 (dk_at dksX9_logs_0 6 rfl rfl)
theorem dX9_logs_9 : decode cX9_logs 9 = .ok (.aload_n 0, 1) := dk_42 (dk_at dksX9_logs_0 9 rfl rfl)
theorem dX9_logs_10 : decode cX9_logs 10 = .ok (.iload_n 1, 1) := dk_27 (dk_at dksX9_logs_0 10 rfl rfl)
theorem dX9_logs_11 : decode cX9_logs 11 = .ok (.invokevirtual 41, 3) := dk_182 0 41 (dk_at dksX9_logs_0 11 rfl rfl)
theorem dX9_logs_14 : decode cX9_logs 14 = .ok (.istore_n 2, 1) := dk_61 (dk_at dksX9_logs_0 14 rfl rfl)
theorem dX9_logs_15 : decode cX9_logs 15 = .ok (.iload_n 2, 1) := dk_28 (dk_at dksX9_logs_0 15 rfl rfl)
theorem dX9_logs_16 : decode cX9_logs 16 = .ok (.aload_n 0, 1) := dk_42 (dk_at dksX9_logs_0 16 rfl rfl)
theorem dX9_logs_17 : decode cX9_logs 17 = .ok (.iload_n 1, 1) := dk_27 (dk_at dksX9_logs_0 17 rfl rfl)
theorem dX9_logs_18 : decode cX9_logs 18 = .ok (.invokevirtual 44, 3) := dk_182 0 44 (dk_at dksX9_logs_0 18 rfl rfl)
theorem dX9_logs_21 : decode cX9_logs 21 = .ok (.ixor, 1) := dk_130 (dk_at dksX9_logs_0 21 rfl rfl)
theorem dX9_logs_22 : decode cX9_logs 22 = .ok (.ireturn, 1) := dk_172 (dk_at dksX9_logs_0 22 rfl rfl)
theorem q87 : (Jvm.Cond.initialized "OldLight$Ship") ∈ lw_all := lw_g (lw_at lw_m1 14 rfl) rfl
theorem q221 : (Jvm.Cond.fieldLinkNest "OldLight$Ship" (22 : Nat) "OldLight$Bay" "back" "I" "OldLight") ∈ lw_tbl := lw_at lw_m1 148 rfl
theorem q462 : (Jvm.Cond.instanceMethod ({ cls := "OldLight$Ship", name := "<init>", desc := "(LOldLight$Trace;II)V" } : Jvm.MethodName)) ∈ lw_all := lw_g (lw_at lw_m2 149 rfl) rfl
theorem q463 : (Jvm.Cond.code ({ cls := "OldLight$Ship", name := "<init>", desc := "(LOldLight$Trace;II)V" } : Jvm.MethodName) prog_19_method_1_code (4 : Nat) (Option.none : Option Jvm.ClassFile.FieldType)) ∈ lw_all := lw_g (lw_at lw_m2 150 rfl) rfl
theorem q464 : (Jvm.Cond.methodLink "OldLight$Ship" (3 : Nat) ({ cls := "java/lang/Object", name := "<init>", desc := "()V" } : Jvm.MethodName)) ∈ lw_all := lw_g (lw_at lw_m2 151 rfl) rfl
theorem q465 : (Jvm.Cond.fieldLink "OldLight$Ship" (9 : Nat) "OldLight$Ship" "trace" "LOldLight$Trace;") ∈ lw_all := lw_g (lw_at lw_m2 152 rfl) rfl
theorem q478 : (Jvm.Cond.fieldLink "OldLight$Ship" (15 : Nat) "OldLight$Ship" "number" "I") ∈ lw_all := lw_g (lw_at lw_m2 165 rfl) rfl
theorem q481 : (Jvm.Cond.fieldLink "OldLight$Ship" (19 : Nat) "OldLight$Ship" "m" "I") ∈ lw_all := lw_g (lw_at lw_m2 168 rfl) rfl
theorem q487 : (Jvm.Cond.soleField "OldLight$Ship" "trace") ∈ lw_all := lw_g (lw_at lw_m2 174 rfl) rfl
theorem q489 : (Jvm.Cond.soleField "OldLight$Ship" "number") ∈ lw_all := lw_g (lw_at lw_m2 176 rfl) rfl
theorem q491 : (Jvm.Cond.soleField "OldLight$Ship" "m") ∈ lw_all := lw_g (lw_at lw_m2 178 rfl) rfl
theorem q544 : (Jvm.Cond.instantiable "OldLight$Ship" (3 : Nat)) ∈ lw_all := lw_g (lw_at lw_m2 231 rfl) rfl
theorem q546 : (Jvm.Cond.laysFinal "OldLight$Ship" "OldLight$Ship" "trace" "LOldLight$Trace;") ∈ lw_all := lw_g (lw_at lw_m2 233 rfl) rfl
theorem q547 : (Jvm.Cond.laysFinal "OldLight$Ship" "OldLight$Ship" "number" "I") ∈ lw_all := lw_g (lw_at lw_m2 234 rfl) rfl
theorem q548 : (Jvm.Cond.laysFinal "OldLight$Ship" "OldLight$Ship" "m" "I") ∈ lw_all := lw_g (lw_at lw_m2 235 rfl) rfl
theorem q549 : (Jvm.Cond.superclass "OldLight$Ship" "java/lang/Object") ∈ lw_all := lw_g (lw_at lw_m2 236 rfl) rfl
theorem q563 : (Jvm.Cond.instanceMethod ({ cls := "OldLight$Ship", name := "kind", desc := "()I" } : Jvm.MethodName)) ∈ lw_all := lw_g (lw_at lw_m3 10 rfl) rfl
theorem q564 : (Jvm.Cond.selects "OldLight$Ship" ({ cls := "OldLight$Ship", name := "kind", desc := "()I" } : Jvm.MethodName) ({ cls := "OldLight$Ship", name := "kind", desc := "()I" } : Jvm.MethodName)) ∈ lw_all := lw_g (lw_at lw_m3 11 rfl) rfl
theorem q565 : (Jvm.Cond.sameMethod "OldLight$Ship" "OldLight$Ship" "kind" "()I") ∈ lw_all := lw_g (lw_at lw_m3 12 rfl) rfl
theorem q584 : (Jvm.Cond.code ({ cls := "OldLight$Ship", name := "kind", desc := "()I" } : Jvm.MethodName) prog_19_method_2_code (1 : Nat) (Option.some Jvm.ClassFile.FieldType.int)) ∈ lw_all := lw_g (lw_at lw_m3 31 rfl) rfl
theorem q590 : (Jvm.Cond.instanceMethod ({ cls := "OldLight$Ship", name := "believes", desc := "(LOldLight$Bay;I)I" } : Jvm.MethodName)) ∈ lw_all := lw_g (lw_at lw_m3 37 rfl) rfl
theorem q591 : (Jvm.Cond.selects "OldLight$Ship" ({ cls := "OldLight$Ship", name := "believes", desc := "(LOldLight$Bay;I)I" } : Jvm.MethodName) ({ cls := "OldLight$Ship", name := "believes", desc := "(LOldLight$Bay;I)I" } : Jvm.MethodName)) ∈ lw_all := lw_g (lw_at lw_m3 38 rfl) rfl
theorem q592 : (Jvm.Cond.sameMethod "OldLight$Ship" "OldLight$Ship" "believes" "(LOldLight$Bay;I)I") ∈ lw_all := lw_g (lw_at lw_m3 39 rfl) rfl
theorem q623 : (Jvm.Cond.code ({ cls := "OldLight$Ship", name := "believes", desc := "(LOldLight$Bay;I)I" } : Jvm.MethodName) prog_19_method_4_code (3 : Nat) (Option.some Jvm.ClassFile.FieldType.int)) ∈ lw_all := lw_g (lw_at lw_m3 70 rfl) rfl
theorem q624 : (Jvm.Cond.methodLink "OldLight$Ship" (27 : Nat) ({ cls := "OldLight$Bay", name := "shown", desc := "(II)I" } : Jvm.MethodName)) ∈ lw_all := lw_g (lw_at lw_m3 71 rfl) rfl
theorem q642 : (Jvm.Cond.instanceMethod ({ cls := "OldLight$Ship", name := "isOf", desc := "(I)Z" } : Jvm.MethodName)) ∈ lw_all := lw_g (lw_at lw_m3 89 rfl) rfl
theorem q643 : (Jvm.Cond.selects "OldLight$Ship" ({ cls := "OldLight$Ship", name := "isOf", desc := "(I)Z" } : Jvm.MethodName) ({ cls := "OldLight$Ship", name := "isOf", desc := "(I)Z" } : Jvm.MethodName)) ∈ lw_all := lw_g (lw_at lw_m3 90 rfl) rfl
theorem q644 : (Jvm.Cond.sameMethod "OldLight$Ship" "OldLight$Ship" "isOf" "(I)Z") ∈ lw_all := lw_g (lw_at lw_m3 91 rfl) rfl
theorem q669 : (Jvm.Cond.code ({ cls := "OldLight$Ship", name := "isOf", desc := "(I)Z" } : Jvm.MethodName) prog_19_method_3_code (2 : Nat) (Option.some Jvm.ClassFile.FieldType.boolean)) ∈ lw_all := lw_g (lw_at lw_m3 116 rfl) rfl
theorem q1107 : (Jvm.Cond.instanceMethod ({ cls := "OldLight$Ship", name := "sails", desc := "(I)I" } : Jvm.MethodName)) ∈ lw_all := lw_g (lw_at lw_m5 74 rfl) rfl
theorem q1108 : (Jvm.Cond.code ({ cls := "OldLight$Ship", name := "sails", desc := "(I)I" } : Jvm.MethodName) prog_19_method_5_code (2 : Nat) (Option.some Jvm.ClassFile.FieldType.int)) ∈ lw_all := lw_g (lw_at lw_m5 75 rfl) rfl
theorem q1109 : (Jvm.Cond.methodLink "OldLight$Ship" (31 : Nat) ({ cls := "OldLight$Trace", name := "begins", desc := "(I)V" } : Jvm.MethodName)) ∈ lw_all := lw_g (lw_at lw_m5 76 rfl) rfl
theorem q1116 : (Jvm.Cond.publicMethod ({ cls := "OldLight$Ship", name := "sails", desc := "(I)I" } : Jvm.MethodName)) ∈ lw_tbl := lw_at lw_m5 83 rfl
theorem q1120 : (Jvm.Cond.castable "OldLight$Ship" "OldLight$Sails") ∈ lw_tbl := lw_at lw_m5 87 rfl
theorem q1121 : (Jvm.Cond.selects "OldLight$Ship" ({ cls := "OldLight$Sails", name := "sails", desc := "(I)I" } : Jvm.MethodName) ({ cls := "OldLight$Ship", name := "sails", desc := "(I)I" } : Jvm.MethodName)) ∈ lw_all := lw_g (lw_at lw_m5 88 rfl) rfl
theorem q1122 : (Jvm.Cond.unhidden "OldLight$Ship" "sails" "(I)I") ∈ lw_tbl := lw_at lw_m5 89 rfl
theorem q1136 : (Jvm.Cond.instanceMethod ({ cls := "OldLight$Ship", name := "steers", desc := "(I)I" } : Jvm.MethodName)) ∈ lw_all := lw_g (lw_at lw_m5 103 rfl) rfl
theorem q1137 : (Jvm.Cond.publicMethod ({ cls := "OldLight$Ship", name := "steers", desc := "(I)I" } : Jvm.MethodName)) ∈ lw_tbl := lw_at lw_m5 104 rfl
theorem q1138 : (Jvm.Cond.code ({ cls := "OldLight$Ship", name := "steers", desc := "(I)I" } : Jvm.MethodName) prog_19_method_6_code (2 : Nat) (Option.some Jvm.ClassFile.FieldType.int)) ∈ lw_all := lw_g (lw_at lw_m5 105 rfl) rfl
theorem q1139 : (Jvm.Cond.methodLink "OldLight$Ship" (37 : Nat) ({ cls := "OldLight$Ship", name := "sails", desc := "(I)I" } : Jvm.MethodName)) ∈ lw_all := lw_g (lw_at lw_m5 106 rfl) rfl
theorem q1156 : (Jvm.Cond.declares ({ cls := "OldLight$Ship", name := "sounds", desc := "(I)I" } : Jvm.MethodName)) ∈ lw_tbl := lw_at lw_m5 123 rfl
theorem q1159 : (Jvm.Cond.instanceMethod ({ cls := "OldLight$Ship", name := "sounds", desc := "(I)I" } : Jvm.MethodName)) ∈ lw_all := lw_g (lw_at lw_m5 126 rfl) rfl
theorem q1160 : (Jvm.Cond.code ({ cls := "OldLight$Ship", name := "sounds", desc := "(I)I" } : Jvm.MethodName) prog_19_method_7_code (2 : Nat) (Option.some Jvm.ClassFile.FieldType.int)) ∈ lw_all := lw_g (lw_at lw_m5 127 rfl) rfl
theorem q1161 : (Jvm.Cond.castable "OldLight$Ship" "OldLight$Steers") ∈ lw_tbl := lw_at lw_m5 128 rfl
theorem q1162 : (Jvm.Cond.selects "OldLight$Ship" ({ cls := "OldLight$Steers", name := "steers", desc := "(I)I" } : Jvm.MethodName) ({ cls := "OldLight$Ship", name := "steers", desc := "(I)I" } : Jvm.MethodName)) ∈ lw_all := lw_g (lw_at lw_m5 129 rfl) rfl
theorem q1163 : (Jvm.Cond.unhidden "OldLight$Ship" "steers" "(I)I") ∈ lw_tbl := lw_at lw_m5 130 rfl
theorem q1182 : (Jvm.Cond.publicMethod ({ cls := "OldLight$Ship", name := "sounds", desc := "(I)I" } : Jvm.MethodName)) ∈ lw_tbl := lw_at lw_m5 149 rfl
theorem q1201 : (Jvm.Cond.castable "OldLight$Ship" "OldLight$Sounds") ∈ lw_tbl := lw_at lw_m5 168 rfl
theorem q1202 : (Jvm.Cond.selects "OldLight$Ship" ({ cls := "OldLight$Sounds", name := "sounds", desc := "(I)I" } : Jvm.MethodName) ({ cls := "OldLight$Ship", name := "sounds", desc := "(I)I" } : Jvm.MethodName)) ∈ lw_all := lw_g (lw_at lw_m5 169 rfl) rfl
theorem q1203 : (Jvm.Cond.unhidden "OldLight$Ship" "sounds" "(I)I") ∈ lw_tbl := lw_at lw_m5 170 rfl
theorem q1218 : (Jvm.Cond.instanceMethod ({ cls := "OldLight$Ship", name := "logs", desc := "(I)I" } : Jvm.MethodName)) ∈ lw_all := lw_g (lw_at lw_m5 185 rfl) rfl
theorem q1219 : (Jvm.Cond.publicMethod ({ cls := "OldLight$Ship", name := "logs", desc := "(I)I" } : Jvm.MethodName)) ∈ lw_tbl := lw_at lw_m5 186 rfl
theorem q1220 : (Jvm.Cond.code ({ cls := "OldLight$Ship", name := "logs", desc := "(I)I" } : Jvm.MethodName) prog_19_method_8_code (3 : Nat) (Option.some Jvm.ClassFile.FieldType.int)) ∈ lw_all := lw_g (lw_at lw_m5 187 rfl) rfl
theorem q1221 : (Jvm.Cond.methodLink "OldLight$Ship" (41 : Nat) ({ cls := "OldLight$Ship", name := "steers", desc := "(I)I" } : Jvm.MethodName)) ∈ lw_all := lw_g (lw_at lw_m5 188 rfl) rfl
theorem q1222 : (Jvm.Cond.methodLink "OldLight$Ship" (44 : Nat) ({ cls := "OldLight$Ship", name := "sounds", desc := "(I)I" } : Jvm.MethodName)) ∈ lw_all := lw_g (lw_at lw_m5 189 rfl) rfl
theorem q1232 : (Jvm.Cond.declares ({ cls := "OldLight$Ship", name := "logs", desc := "(I)I" } : Jvm.MethodName)) ∈ lw_tbl := lw_at lw_m5 199 rfl
theorem q1245 : (Jvm.Cond.declares ({ cls := "OldLight$Ship", name := "steers", desc := "(I)I" } : Jvm.MethodName)) ∈ lw_tbl := lw_at lw_m5 212 rfl
theorem q1252 : (Jvm.Cond.castable "OldLight$Ship" "OldLight$Logs") ∈ lw_tbl := lw_at lw_m5 219 rfl
theorem q1253 : (Jvm.Cond.selects "OldLight$Ship" ({ cls := "OldLight$Logs", name := "logs", desc := "(I)I" } : Jvm.MethodName) ({ cls := "OldLight$Ship", name := "logs", desc := "(I)I" } : Jvm.MethodName)) ∈ lw_all := lw_g (lw_at lw_m5 220 rfl) rfl
theorem q1254 : (Jvm.Cond.unhidden "OldLight$Ship" "logs" "(I)I") ∈ lw_tbl := lw_at lw_m5 221 rfl
theorem q1881 : (Jvm.Cond.sameMethod "OldLight$Ship" "OldLight$Ship" "sails" "(I)I") ∈ lw_all := lw_g (lw_at lw_m8 128 rfl) rfl
theorem q1886 : (Jvm.Cond.selects "OldLight$Ship" ({ cls := "OldLight$Ship", name := "sails", desc := "(I)I" } : Jvm.MethodName) ({ cls := "OldLight$Ship", name := "sails", desc := "(I)I" } : Jvm.MethodName)) ∈ lw_all := lw_g (lw_at lw_m8 133 rfl) rfl
theorem q1889 : (Jvm.Cond.sameMethod "OldLight$Ship" "OldLight$Ship" "steers" "(I)I") ∈ lw_all := lw_g (lw_at lw_m8 136 rfl) rfl
theorem q1892 : (Jvm.Cond.sameMethod "OldLight$Ship" "OldLight$Ship" "sounds" "(I)I") ∈ lw_all := lw_g (lw_at lw_m8 139 rfl) rfl
theorem q1897 : (Jvm.Cond.selects "OldLight$Ship" ({ cls := "OldLight$Ship", name := "steers", desc := "(I)I" } : Jvm.MethodName) ({ cls := "OldLight$Ship", name := "steers", desc := "(I)I" } : Jvm.MethodName)) ∈ lw_all := lw_g (lw_at lw_m8 144 rfl) rfl
theorem q1904 : (Jvm.Cond.selects "OldLight$Ship" ({ cls := "OldLight$Ship", name := "sounds", desc := "(I)I" } : Jvm.MethodName) ({ cls := "OldLight$Ship", name := "sounds", desc := "(I)I" } : Jvm.MethodName)) ∈ lw_all := lw_g (lw_at lw_m8 151 rfl) rfl
theorem in_X9 : ∀ w ∈ wsX90, w ∈ lw_all := lw_in wsX90 [546, 547, 548] (by decide +kernel) (by decide +kernel)
/-! OldLight$Collier -/
set_option maxRecDepth 100000
def RX10 : String := "OldLight$Collier"
def TX10 : u_T := fun k => match k with
  | 0 => ("OldLight$Ship", "trace", "LOldLight$Trace;", true)
  | 1 => ("OldLight$Ship", "number", "I", true)
  | _ => ("OldLight$Ship", "m", "I", true)
def tyX10 : Nat → FieldType := fun k => match k with
  | 0 => .object "OldLight$Trace"
  | 1 => .int
  | _ => .int
abbrev wsX100 : List Cond := u_ws RX10 TX10 3
theorem nmX10 : ∀ a, a < 3 → ∀ b, b < 3 → a ≠ b → (TX10 a).2.1 ≠ (TX10 b).2.1 := by decide +kernel
theorem tyX10_ok : ∀ k, k < 3 → parseFieldDescriptor (TX10 k).2.2.1 = some (tyX10 k) := by decide +kernel
abbrev cX10_init : ByteArray := prog_4_method_1_code
def yX10_init : MethodName := ⟨RX10, "<init>", "(LOldLight$Trace;II)V"⟩
def dkwX10_init_0 : List UInt8 := [42, 43, 28, 29, 183, 0, 3, 177]
abbrev dktX10_init_0 : List UInt8 := dkwX10_init_0 ++ []
theorem dksX10_init_0 : cX10_init.data.toList.drop 0 = dktX10_init_0 := by decide +kernel
theorem dX10_init_0 : decode cX10_init 0 = .ok (.aload_n 0, 1) := dk_42 (dk_at dksX10_init_0 0 rfl rfl)
theorem dX10_init_1 : decode cX10_init 1 = .ok (.aload_n 1, 1) := dk_43 (dk_at dksX10_init_0 1 rfl rfl)
theorem dX10_init_2 : decode cX10_init 2 = .ok (.iload_n 2, 1) := dk_28 (dk_at dksX10_init_0 2 rfl rfl)
theorem dX10_init_3 : decode cX10_init 3 = .ok (.iload_n 3, 1) := dk_29 (dk_at dksX10_init_0 3 rfl rfl)
theorem dX10_init_4 : decode cX10_init 4 = .ok (.invokespecial 3, 3) := dk_183 0 3 (dk_at dksX10_init_0 4 rfl rfl)
theorem dX10_init_7 : decode cX10_init 7 = .ok (.return_, 1) := dk_177 (dk_at dksX10_init_0 7 rfl rfl)
abbrev cX10_kind : ByteArray := prog_4_method_2_code
def yX10_kind : MethodName := ⟨RX10, "kind", "()I"⟩
theorem dX10_kind_0 : decode cX10_kind 0 = .ok (.iconst 1, 1) := by decide +kernel
theorem dX10_kind_1 : decode cX10_kind 1 = .ok (.ireturn, 1) := by decide +kernel
abbrev cX10_believes : ByteArray := prog_4_method_4_code
def yX10_believes : MethodName := ⟨RX10, "believes", "(LOldLight$Bay;I)I"⟩
def dkwX10_believes_0 : List UInt8 := [42, 43, 28, 183, 0, 13, 42, 180, 0, 17, 6, 112, 96, 172]
abbrev dktX10_believes_0 : List UInt8 := dkwX10_believes_0 ++ []
theorem dksX10_believes_0 : cX10_believes.data.toList.drop 0 = dktX10_believes_0 := by decide +kernel
theorem dX10_believes_0 : decode cX10_believes 0 = .ok (.aload_n 0, 1) := dk_42 (dk_at dksX10_believes_0 0 rfl rfl)
theorem dX10_believes_1 : decode cX10_believes 1 = .ok (.aload_n 1, 1) := dk_43 (dk_at dksX10_believes_0 1 rfl rfl)
theorem dX10_believes_2 : decode cX10_believes 2 = .ok (.iload_n 2, 1) := dk_28 (dk_at dksX10_believes_0 2 rfl rfl)
theorem dX10_believes_3 : decode cX10_believes 3 = .ok (.invokespecial 13, 3) := dk_183 0 13 (dk_at dksX10_believes_0 3 rfl rfl)
theorem dX10_believes_6 : decode cX10_believes 6 = .ok (.aload_n 0, 1) := dk_42 (dk_at dksX10_believes_0 6 rfl rfl)
theorem dX10_believes_7 : decode cX10_believes 7 = .ok (.getfield 17, 3) := dk_180 0 17 (dk_at dksX10_believes_0 7 rfl rfl)
theorem dX10_believes_10 : decode cX10_believes 10 = .ok (.iconst 3, 1) := dk_6 (dk_at dksX10_believes_0 10 rfl rfl)
theorem dX10_believes_11 : decode cX10_believes 11 = .ok (.irem, 1) := dk_112 (dk_at dksX10_believes_0 11 rfl rfl)
theorem dX10_believes_12 : decode cX10_believes 12 = .ok (.iadd, 1) := dk_96 (dk_at dksX10_believes_0 12 rfl rfl)
theorem dX10_believes_13 : decode cX10_believes 13 = .ok (.ireturn, 1) := dk_172 (dk_at dksX10_believes_0 13 rfl rfl)
abbrev cX10_isOf : ByteArray := prog_4_method_3_code
def yX10_isOf : MethodName := ⟨RX10, "isOf", "(I)Z"⟩
def dkwX10_isOf_0 : List UInt8 := [27, 4, 159, 0, 11, 42, 27, 183, 0, 9, 153, 0, 7, 4, 167, 0, 4, 3, 172]
abbrev dktX10_isOf_0 : List UInt8 := dkwX10_isOf_0 ++ []
theorem dksX10_isOf_0 : cX10_isOf.data.toList.drop 0 = dktX10_isOf_0 := by decide +kernel
theorem dX10_isOf_0 : decode cX10_isOf 0 = .ok (.iload_n 1, 1) := dk_27 (dk_at dksX10_isOf_0 0 rfl rfl)
theorem dX10_isOf_1 : decode cX10_isOf 1 = .ok (.iconst 1, 1) := dk_4 (dk_at dksX10_isOf_0 1 rfl rfl)
theorem dX10_isOf_2 : decode cX10_isOf 2 = .ok (.if_icmp .eq 11, 3) := dk_159 0 11 (dk_at dksX10_isOf_0 2 rfl rfl)
theorem dX10_isOf_5 : decode cX10_isOf 5 = .ok (.aload_n 0, 1) := dk_42 (dk_at dksX10_isOf_0 5 rfl rfl)
theorem dX10_isOf_6 : decode cX10_isOf 6 = .ok (.iload_n 1, 1) := dk_27 (dk_at dksX10_isOf_0 6 rfl rfl)
theorem dX10_isOf_7 : decode cX10_isOf 7 = .ok (.invokespecial 9, 3) := dk_183 0 9 (dk_at dksX10_isOf_0 7 rfl rfl)
theorem dX10_isOf_10 : decode cX10_isOf 10 = .ok (.ifCond .eq 7, 3) := dk_153 0 7 (dk_at dksX10_isOf_0 10 rfl rfl)
theorem dX10_isOf_13 : decode cX10_isOf 13 = .ok (.iconst 1, 1) := dk_4 (dk_at dksX10_isOf_0 13 rfl rfl)
theorem dX10_isOf_14 : decode cX10_isOf 14 = .ok (.goto 4, 3) := dk_167 0 4 (dk_at dksX10_isOf_0 14 rfl rfl)
theorem dX10_isOf_17 : decode cX10_isOf 17 = .ok (.iconst 0, 1) := dk_3 (dk_at dksX10_isOf_0 17 rfl rfl)
theorem dX10_isOf_18 : decode cX10_isOf 18 = .ok (.ireturn, 1) := dk_172 (dk_at dksX10_isOf_0 18 rfl rfl)
abbrev cX10_sails : ByteArray := prog_4_method_5_code
def yX10_sails : MethodName := ⟨RX10, "sails", "(I)I"⟩
def dkwX10_sails_0 : List UInt8 := [42, 180, 0, 23, 16, 20, 182, 0, 27, 42, 27, 183, 0, 33, 6, 104, 172]
abbrev dktX10_sails_0 : List UInt8 := dkwX10_sails_0 ++ []
theorem dksX10_sails_0 : cX10_sails.data.toList.drop 0 = dktX10_sails_0 := by decide +kernel
theorem dX10_sails_0 : decode cX10_sails 0 = .ok (.aload_n 0, 1) := dk_42 (dk_at dksX10_sails_0 0 rfl rfl)
theorem dX10_sails_1 : decode cX10_sails 1 = .ok (.getfield 23, 3) := dk_180 0 23 (dk_at dksX10_sails_0 1 rfl rfl)
theorem dX10_sails_4 : decode cX10_sails 4 = .ok (.bipush 20, 2) := dk_16 20 (dk_at dksX10_sails_0 4 rfl rfl)
theorem dX10_sails_6 : decode cX10_sails 6 = .ok (.invokevirtual 27, 3) := dk_182 0 27 (dk_at dksX10_sails_0 6 rfl rfl)
theorem dX10_sails_9 : decode cX10_sails 9 = .ok (.aload_n 0, 1) := dk_42 (dk_at dksX10_sails_0 9 rfl rfl)
theorem dX10_sails_10 : decode cX10_sails 10 = .ok (.iload_n 1, 1) := dk_27 (dk_at dksX10_sails_0 10 rfl rfl)
theorem dX10_sails_11 : decode cX10_sails 11 = .ok (.invokespecial 33, 3) := dk_183 0 33 (dk_at dksX10_sails_0 11 rfl rfl)
theorem dX10_sails_14 : decode cX10_sails 14 = .ok (.iconst 3, 1) := dk_6 (dk_at dksX10_sails_0 14 rfl rfl)
theorem dX10_sails_15 : decode cX10_sails 15 = .ok (.imul, 1) := dk_104 (dk_at dksX10_sails_0 15 rfl rfl)
theorem dX10_sails_16 : decode cX10_sails 16 = .ok (.ireturn, 1) := dk_172 (dk_at dksX10_sails_0 16 rfl rfl)
theorem q88 : (Jvm.Cond.initialized "OldLight$Collier") ∈ lw_all := lw_g (lw_at lw_m1 15 rfl) rfl
theorem q457 : (Jvm.Cond.instantiable "OldLight$Collier" (3 : Nat)) ∈ lw_all := lw_g (lw_at lw_m2 144 rfl) rfl
theorem q459 : (Jvm.Cond.instanceMethod ({ cls := "OldLight$Collier", name := "<init>", desc := "(LOldLight$Trace;II)V" } : Jvm.MethodName)) ∈ lw_all := lw_g (lw_at lw_m2 146 rfl) rfl
theorem q460 : (Jvm.Cond.code ({ cls := "OldLight$Collier", name := "<init>", desc := "(LOldLight$Trace;II)V" } : Jvm.MethodName) prog_4_method_1_code (4 : Nat) (Option.none : Option Jvm.ClassFile.FieldType)) ∈ lw_all := lw_g (lw_at lw_m2 147 rfl) rfl
theorem q461 : (Jvm.Cond.methodLink "OldLight$Collier" (3 : Nat) ({ cls := "OldLight$Ship", name := "<init>", desc := "(LOldLight$Trace;II)V" } : Jvm.MethodName)) ∈ lw_all := lw_g (lw_at lw_m2 148 rfl) rfl
theorem q466 : (Jvm.Cond.fieldLink "OldLight$Collier" (23 : Nat) "OldLight$Collier" "trace" "LOldLight$Trace;") ∈ lw_all := lw_g (lw_at lw_m2 153 rfl) rfl
theorem q467 : (Jvm.Cond.sameField "OldLight$Collier" "OldLight$Ship" "trace" "LOldLight$Trace;") ∈ lw_all := lw_g (lw_at lw_m2 154 rfl) rfl
theorem q482 : (Jvm.Cond.fieldLink "OldLight$Collier" (17 : Nat) "OldLight$Collier" "m" "I") ∈ lw_all := lw_g (lw_at lw_m2 169 rfl) rfl
theorem q483 : (Jvm.Cond.sameField "OldLight$Collier" "OldLight$Ship" "m" "I") ∈ lw_all := lw_g (lw_at lw_m2 170 rfl) rfl
theorem q486 : (Jvm.Cond.laysFinal "OldLight$Collier" "OldLight$Ship" "trace" "LOldLight$Trace;") ∈ lw_all := lw_g (lw_at lw_m2 173 rfl) rfl
theorem q488 : (Jvm.Cond.laysFinal "OldLight$Collier" "OldLight$Ship" "number" "I") ∈ lw_all := lw_g (lw_at lw_m2 175 rfl) rfl
theorem q490 : (Jvm.Cond.laysFinal "OldLight$Collier" "OldLight$Ship" "m" "I") ∈ lw_all := lw_g (lw_at lw_m2 177 rfl) rfl
theorem q492 : (Jvm.Cond.superclass "OldLight$Collier" "OldLight$Ship") ∈ lw_all := lw_g (lw_at lw_m2 179 rfl) rfl
theorem q566 : (Jvm.Cond.selects "OldLight$Collier" ({ cls := "OldLight$Ship", name := "kind", desc := "()I" } : Jvm.MethodName) ({ cls := "OldLight$Collier", name := "kind", desc := "()I" } : Jvm.MethodName)) ∈ lw_all := lw_g (lw_at lw_m3 13 rfl) rfl
theorem q567 : (Jvm.Cond.instanceMethod ({ cls := "OldLight$Collier", name := "kind", desc := "()I" } : Jvm.MethodName)) ∈ lw_all := lw_g (lw_at lw_m3 14 rfl) rfl
theorem q568 : (Jvm.Cond.code ({ cls := "OldLight$Collier", name := "kind", desc := "()I" } : Jvm.MethodName) prog_4_method_2_code (1 : Nat) (Option.some Jvm.ClassFile.FieldType.int)) ∈ lw_all := lw_g (lw_at lw_m3 15 rfl) rfl
theorem q593 : (Jvm.Cond.selects "OldLight$Collier" ({ cls := "OldLight$Ship", name := "believes", desc := "(LOldLight$Bay;I)I" } : Jvm.MethodName) ({ cls := "OldLight$Collier", name := "believes", desc := "(LOldLight$Bay;I)I" } : Jvm.MethodName)) ∈ lw_all := lw_g (lw_at lw_m3 40 rfl) rfl
theorem q594 : (Jvm.Cond.instanceMethod ({ cls := "OldLight$Collier", name := "believes", desc := "(LOldLight$Bay;I)I" } : Jvm.MethodName)) ∈ lw_all := lw_g (lw_at lw_m3 41 rfl) rfl
theorem q595 : (Jvm.Cond.code ({ cls := "OldLight$Collier", name := "believes", desc := "(LOldLight$Bay;I)I" } : Jvm.MethodName) prog_4_method_4_code (3 : Nat) (Option.some Jvm.ClassFile.FieldType.int)) ∈ lw_all := lw_g (lw_at lw_m3 42 rfl) rfl
theorem q596 : (Jvm.Cond.methodLink "OldLight$Collier" (13 : Nat) ({ cls := "OldLight$Ship", name := "believes", desc := "(LOldLight$Bay;I)I" } : Jvm.MethodName)) ∈ lw_all := lw_g (lw_at lw_m3 43 rfl) rfl
theorem q645 : (Jvm.Cond.selects "OldLight$Collier" ({ cls := "OldLight$Ship", name := "isOf", desc := "(I)Z" } : Jvm.MethodName) ({ cls := "OldLight$Collier", name := "isOf", desc := "(I)Z" } : Jvm.MethodName)) ∈ lw_all := lw_g (lw_at lw_m3 92 rfl) rfl
theorem q646 : (Jvm.Cond.instanceMethod ({ cls := "OldLight$Collier", name := "isOf", desc := "(I)Z" } : Jvm.MethodName)) ∈ lw_all := lw_g (lw_at lw_m3 93 rfl) rfl
theorem q647 : (Jvm.Cond.code ({ cls := "OldLight$Collier", name := "isOf", desc := "(I)Z" } : Jvm.MethodName) prog_4_method_3_code (2 : Nat) (Option.some Jvm.ClassFile.FieldType.boolean)) ∈ lw_all := lw_g (lw_at lw_m3 94 rfl) rfl
theorem q648 : (Jvm.Cond.methodLink "OldLight$Collier" (9 : Nat) ({ cls := "OldLight$Ship", name := "isOf", desc := "(I)Z" } : Jvm.MethodName)) ∈ lw_all := lw_g (lw_at lw_m3 95 rfl) rfl
theorem q1096 : (Jvm.Cond.castable "OldLight$Collier" "OldLight$Sails") ∈ lw_tbl := lw_at lw_m5 63 rfl
theorem q1097 : (Jvm.Cond.selects "OldLight$Collier" ({ cls := "OldLight$Sails", name := "sails", desc := "(I)I" } : Jvm.MethodName) ({ cls := "OldLight$Collier", name := "sails", desc := "(I)I" } : Jvm.MethodName)) ∈ lw_all := lw_g (lw_at lw_m5 64 rfl) rfl
theorem q1098 : (Jvm.Cond.unhidden "OldLight$Collier" "sails" "(I)I") ∈ lw_tbl := lw_at lw_m5 65 rfl
theorem q1099 : (Jvm.Cond.instanceMethod ({ cls := "OldLight$Collier", name := "sails", desc := "(I)I" } : Jvm.MethodName)) ∈ lw_all := lw_g (lw_at lw_m5 66 rfl) rfl
theorem q1100 : (Jvm.Cond.publicMethod ({ cls := "OldLight$Collier", name := "sails", desc := "(I)I" } : Jvm.MethodName)) ∈ lw_tbl := lw_at lw_m5 67 rfl
theorem q1101 : (Jvm.Cond.code ({ cls := "OldLight$Collier", name := "sails", desc := "(I)I" } : Jvm.MethodName) prog_4_method_5_code (2 : Nat) (Option.some Jvm.ClassFile.FieldType.int)) ∈ lw_all := lw_g (lw_at lw_m5 68 rfl) rfl
theorem q1102 : (Jvm.Cond.methodLink "OldLight$Collier" (27 : Nat) ({ cls := "OldLight$Trace", name := "begins", desc := "(I)V" } : Jvm.MethodName)) ∈ lw_all := lw_g (lw_at lw_m5 69 rfl) rfl
theorem q1106 : (Jvm.Cond.methodLink "OldLight$Collier" (33 : Nat) ({ cls := "OldLight$Ship", name := "sails", desc := "(I)I" } : Jvm.MethodName)) ∈ lw_all := lw_g (lw_at lw_m5 73 rfl) rfl
theorem q1133 : (Jvm.Cond.castable "OldLight$Collier" "OldLight$Steers") ∈ lw_tbl := lw_at lw_m5 100 rfl
theorem q1134 : (Jvm.Cond.selects "OldLight$Collier" ({ cls := "OldLight$Steers", name := "steers", desc := "(I)I" } : Jvm.MethodName) ({ cls := "OldLight$Ship", name := "steers", desc := "(I)I" } : Jvm.MethodName)) ∈ lw_all := lw_g (lw_at lw_m5 101 rfl) rfl
theorem q1135 : (Jvm.Cond.unhidden "OldLight$Collier" "steers" "(I)I") ∈ lw_tbl := lw_at lw_m5 102 rfl
theorem q1179 : (Jvm.Cond.castable "OldLight$Collier" "OldLight$Sounds") ∈ lw_tbl := lw_at lw_m5 146 rfl
theorem q1180 : (Jvm.Cond.selects "OldLight$Collier" ({ cls := "OldLight$Sounds", name := "sounds", desc := "(I)I" } : Jvm.MethodName) ({ cls := "OldLight$Ship", name := "sounds", desc := "(I)I" } : Jvm.MethodName)) ∈ lw_all := lw_g (lw_at lw_m5 147 rfl) rfl
theorem q1181 : (Jvm.Cond.unhidden "OldLight$Collier" "sounds" "(I)I") ∈ lw_tbl := lw_at lw_m5 148 rfl
theorem q1215 : (Jvm.Cond.castable "OldLight$Collier" "OldLight$Logs") ∈ lw_tbl := lw_at lw_m5 182 rfl
theorem q1216 : (Jvm.Cond.selects "OldLight$Collier" ({ cls := "OldLight$Logs", name := "logs", desc := "(I)I" } : Jvm.MethodName) ({ cls := "OldLight$Ship", name := "logs", desc := "(I)I" } : Jvm.MethodName)) ∈ lw_all := lw_g (lw_at lw_m5 183 rfl) rfl
theorem q1217 : (Jvm.Cond.unhidden "OldLight$Collier" "logs" "(I)I") ∈ lw_tbl := lw_at lw_m5 184 rfl
theorem q1231 : (Jvm.Cond.sameMethod "OldLight$Collier" "OldLight$Ship" "logs" "(I)I") ∈ lw_all := lw_g (lw_at lw_m5 198 rfl) rfl
theorem q1235 : (Jvm.Cond.declares ({ cls := "OldLight$Collier", name := "sails", desc := "(I)I" } : Jvm.MethodName)) ∈ lw_tbl := lw_at lw_m5 202 rfl
theorem q1876 : (Jvm.Cond.sameMethod "OldLight$Collier" "OldLight$Collier" "believes" "(LOldLight$Bay;I)I") ∈ lw_all := lw_g (lw_at lw_m8 123 rfl) rfl
theorem q1878 : (Jvm.Cond.sameMethod "OldLight$Collier" "OldLight$Collier" "isOf" "(I)Z") ∈ lw_all := lw_g (lw_at lw_m8 125 rfl) rfl
theorem q1882 : (Jvm.Cond.selects "OldLight$Collier" ({ cls := "OldLight$Ship", name := "sails", desc := "(I)I" } : Jvm.MethodName) ({ cls := "OldLight$Collier", name := "sails", desc := "(I)I" } : Jvm.MethodName)) ∈ lw_all := lw_g (lw_at lw_m8 129 rfl) rfl
theorem q1893 : (Jvm.Cond.selects "OldLight$Collier" ({ cls := "OldLight$Ship", name := "steers", desc := "(I)I" } : Jvm.MethodName) ({ cls := "OldLight$Ship", name := "steers", desc := "(I)I" } : Jvm.MethodName)) ∈ lw_all := lw_g (lw_at lw_m8 140 rfl) rfl
theorem q1900 : (Jvm.Cond.selects "OldLight$Collier" ({ cls := "OldLight$Ship", name := "sounds", desc := "(I)I" } : Jvm.MethodName) ({ cls := "OldLight$Ship", name := "sounds", desc := "(I)I" } : Jvm.MethodName)) ∈ lw_all := lw_g (lw_at lw_m8 147 rfl) rfl
theorem q1910 : (Jvm.Cond.castable "OldLight$Collier" "OldLight$Ship") ∈ lw_tbl := lw_at lw_m8 157 rfl
theorem in_X10 : ∀ w ∈ wsX100, w ∈ lw_all := lw_in wsX100 [486, 488, 490] (by decide +kernel) (by decide +kernel)
/-! OldLight$Rower -/
set_option maxRecDepth 100000
def RX11 : String := "OldLight$Rower"
def TX11 : u_T := fun k => match k with
  | 0 => ("OldLight$Ship", "trace", "LOldLight$Trace;", true)
  | 1 => ("OldLight$Ship", "number", "I", true)
  | _ => ("OldLight$Ship", "m", "I", true)
def tyX11 : Nat → FieldType := fun k => match k with
  | 0 => .object "OldLight$Trace"
  | 1 => .int
  | _ => .int
abbrev wsX110 : List Cond := u_ws RX11 TX11 3
theorem nmX11 : ∀ a, a < 3 → ∀ b, b < 3 → a ≠ b → (TX11 a).2.1 ≠ (TX11 b).2.1 := by decide +kernel
theorem tyX11_ok : ∀ k, k < 3 → parseFieldDescriptor (TX11 k).2.2.1 = some (tyX11 k) := by decide +kernel
abbrev cX11_init : ByteArray := prog_15_method_1_code
def yX11_init : MethodName := ⟨RX11, "<init>", "(LOldLight$Trace;II)V"⟩
def dkwX11_init_0 : List UInt8 := [42, 43, 28, 29, 183, 0, 3, 177]
abbrev dktX11_init_0 : List UInt8 := dkwX11_init_0 ++ []
theorem dksX11_init_0 : cX11_init.data.toList.drop 0 = dktX11_init_0 := by decide +kernel
theorem dX11_init_0 : decode cX11_init 0 = .ok (.aload_n 0, 1) := dk_42 (dk_at dksX11_init_0 0 rfl rfl)
theorem dX11_init_1 : decode cX11_init 1 = .ok (.aload_n 1, 1) := dk_43 (dk_at dksX11_init_0 1 rfl rfl)
theorem dX11_init_2 : decode cX11_init 2 = .ok (.iload_n 2, 1) := dk_28 (dk_at dksX11_init_0 2 rfl rfl)
theorem dX11_init_3 : decode cX11_init 3 = .ok (.iload_n 3, 1) := dk_29 (dk_at dksX11_init_0 3 rfl rfl)
theorem dX11_init_4 : decode cX11_init 4 = .ok (.invokespecial 3, 3) := dk_183 0 3 (dk_at dksX11_init_0 4 rfl rfl)
theorem dX11_init_7 : decode cX11_init 7 = .ok (.return_, 1) := dk_177 (dk_at dksX11_init_0 7 rfl rfl)
abbrev cX11_kind : ByteArray := prog_15_method_2_code
def yX11_kind : MethodName := ⟨RX11, "kind", "()I"⟩
theorem dX11_kind_0 : decode cX11_kind 0 = .ok (.iconst 2, 1) := by decide +kernel
theorem dX11_kind_1 : decode cX11_kind 1 = .ok (.ireturn, 1) := by decide +kernel
abbrev cX11_believes : ByteArray := prog_15_method_4_code
def yX11_believes : MethodName := ⟨RX11, "believes", "(LOldLight$Bay;I)I"⟩
def dkwX11_believes_0 : List UInt8 := [43, 28, 182, 0, 13, 172]
abbrev dktX11_believes_0 : List UInt8 := dkwX11_believes_0 ++ []
theorem dksX11_believes_0 : cX11_believes.data.toList.drop 0 = dktX11_believes_0 := by decide +kernel
theorem dX11_believes_0 : decode cX11_believes 0 = .ok (.aload_n 1, 1) := dk_43 (dk_at dksX11_believes_0 0 rfl rfl)
theorem dX11_believes_1 : decode cX11_believes 1 = .ok (.iload_n 2, 1) := dk_28 (dk_at dksX11_believes_0 1 rfl rfl)
theorem dX11_believes_2 : decode cX11_believes 2 = .ok (.invokevirtual 13, 3) := dk_182 0 13 (dk_at dksX11_believes_0 2 rfl rfl)
theorem dX11_believes_5 : decode cX11_believes 5 = .ok (.ireturn, 1) := dk_172 (dk_at dksX11_believes_0 5 rfl rfl)
abbrev cX11_isOf : ByteArray := prog_15_method_3_code
def yX11_isOf : MethodName := ⟨RX11, "isOf", "(I)Z"⟩
def dkwX11_isOf_0 : List UInt8 := [27, 5, 159, 0, 11, 42, 27, 183, 0, 9, 153, 0, 7, 4, 167, 0, 4, 3, 172]
abbrev dktX11_isOf_0 : List UInt8 := dkwX11_isOf_0 ++ []
theorem dksX11_isOf_0 : cX11_isOf.data.toList.drop 0 = dktX11_isOf_0 := by decide +kernel
theorem dX11_isOf_0 : decode cX11_isOf 0 = .ok (.iload_n 1, 1) := dk_27 (dk_at dksX11_isOf_0 0 rfl rfl)
theorem dX11_isOf_1 : decode cX11_isOf 1 = .ok (.iconst 2, 1) := dk_5 (dk_at dksX11_isOf_0 1 rfl rfl)
theorem dX11_isOf_2 : decode cX11_isOf 2 = .ok (.if_icmp .eq 11, 3) := dk_159 0 11 (dk_at dksX11_isOf_0 2 rfl rfl)
theorem dX11_isOf_5 : decode cX11_isOf 5 = .ok (.aload_n 0, 1) := dk_42 (dk_at dksX11_isOf_0 5 rfl rfl)
theorem dX11_isOf_6 : decode cX11_isOf 6 = .ok (.iload_n 1, 1) := dk_27 (dk_at dksX11_isOf_0 6 rfl rfl)
theorem dX11_isOf_7 : decode cX11_isOf 7 = .ok (.invokespecial 9, 3) := dk_183 0 9 (dk_at dksX11_isOf_0 7 rfl rfl)
theorem dX11_isOf_10 : decode cX11_isOf 10 = .ok (.ifCond .eq 7, 3) := dk_153 0 7 (dk_at dksX11_isOf_0 10 rfl rfl)
theorem dX11_isOf_13 : decode cX11_isOf 13 = .ok (.iconst 1, 1) := dk_4 (dk_at dksX11_isOf_0 13 rfl rfl)
theorem dX11_isOf_14 : decode cX11_isOf 14 = .ok (.goto 4, 3) := dk_167 0 4 (dk_at dksX11_isOf_0 14 rfl rfl)
theorem dX11_isOf_17 : decode cX11_isOf 17 = .ok (.iconst 0, 1) := dk_3 (dk_at dksX11_isOf_0 17 rfl rfl)
theorem dX11_isOf_18 : decode cX11_isOf 18 = .ok (.ireturn, 1) := dk_172 (dk_at dksX11_isOf_0 18 rfl rfl)
abbrev cX11_steers : ByteArray := prog_15_method_5_code
def yX11_steers : MethodName := ⟨RX11, "steers", "(I)I"⟩
def dkwX11_steers_0 : List UInt8 := [42, 180, 0, 19, 16, 30, 182, 0, 25, 42, 27, 183, 0, 31, 61, 28, 42, 4, 182, 0, 34, 100, 172]
abbrev dktX11_steers_0 : List UInt8 := dkwX11_steers_0 ++ []
theorem dksX11_steers_0 : cX11_steers.data.toList.drop 0 = dktX11_steers_0 := by decide +kernel
theorem dX11_steers_0 : decode cX11_steers 0 = .ok (.aload_n 0, 1) := dk_42 (dk_at dksX11_steers_0 0 rfl rfl)
theorem dX11_steers_1 : decode cX11_steers 1 = .ok (.getfield 19, 3) := dk_180 0 19 (dk_at dksX11_steers_0 1 rfl rfl)
theorem dX11_steers_4 : decode cX11_steers 4 = .ok (.bipush 30, 2) := dk_16 30 (dk_at dksX11_steers_0 4 rfl rfl)
theorem dX11_steers_6 : decode cX11_steers 6 = .ok (.invokevirtual 25, 3) := dk_182 0 25 (dk_at dksX11_steers_0 6 rfl rfl)
theorem dX11_steers_9 : decode cX11_steers 9 = .ok (.aload_n 0, 1) := dk_42 (dk_at dksX11_steers_0 9 rfl rfl)
theorem dX11_steers_10 : decode cX11_steers 10 = .ok (.iload_n 1, 1) := dk_27 (dk_at dksX11_steers_0 10 rfl rfl)
theorem dX11_steers_11 : decode cX11_steers 11 = .ok (.invokespecial 31, 3) := dk_183 0 31 (dk_at dksX11_steers_0 11 rfl rfl)
theorem dX11_steers_14 : decode cX11_steers 14 = .ok (.istore_n 2, 1) := dk_61 (dk_at dksX11_steers_0 14 rfl rfl)
theorem dX11_steers_15 : decode cX11_steers 15 = .ok (.iload_n 2, 1) := dk_28 (dk_at dksX11_steers_0 15 rfl rfl)
theorem dX11_steers_16 : decode cX11_steers 16 = .ok (.aload_n 0, 1) := dk_42 (dk_at dksX11_steers_0 16 rfl rfl)
theorem dX11_steers_17 : decode cX11_steers 17 = .ok (.iconst 1, 1) := dk_4 (dk_at dksX11_steers_0 17 rfl rfl)
theorem dX11_steers_18 : decode cX11_steers 18 = .ok (.invokevirtual 34, 3) := dk_182 0 34 (dk_at dksX11_steers_0 18 rfl rfl)
theorem dX11_steers_21 : decode cX11_steers 21 = .ok (.isub, 1) := dk_100 (dk_at dksX11_steers_0 21 rfl rfl)
theorem dX11_steers_22 : decode cX11_steers 22 = .ok (.ireturn, 1) := dk_172 (dk_at dksX11_steers_0 22 rfl rfl)
theorem q89 : (Jvm.Cond.initialized "OldLight$Rower") ∈ lw_all := lw_g (lw_at lw_m1 16 rfl) rfl
theorem q468 : (Jvm.Cond.fieldLink "OldLight$Rower" (19 : Nat) "OldLight$Rower" "trace" "LOldLight$Trace;") ∈ lw_all := lw_g (lw_at lw_m2 155 rfl) rfl
theorem q469 : (Jvm.Cond.sameField "OldLight$Rower" "OldLight$Ship" "trace" "LOldLight$Trace;") ∈ lw_all := lw_g (lw_at lw_m2 156 rfl) rfl
theorem q494 : (Jvm.Cond.instantiable "OldLight$Rower" (3 : Nat)) ∈ lw_all := lw_g (lw_at lw_m2 181 rfl) rfl
theorem q496 : (Jvm.Cond.instanceMethod ({ cls := "OldLight$Rower", name := "<init>", desc := "(LOldLight$Trace;II)V" } : Jvm.MethodName)) ∈ lw_all := lw_g (lw_at lw_m2 183 rfl) rfl
theorem q497 : (Jvm.Cond.code ({ cls := "OldLight$Rower", name := "<init>", desc := "(LOldLight$Trace;II)V" } : Jvm.MethodName) prog_15_method_1_code (4 : Nat) (Option.none : Option Jvm.ClassFile.FieldType)) ∈ lw_all := lw_g (lw_at lw_m2 184 rfl) rfl
theorem q498 : (Jvm.Cond.methodLink "OldLight$Rower" (3 : Nat) ({ cls := "OldLight$Ship", name := "<init>", desc := "(LOldLight$Trace;II)V" } : Jvm.MethodName)) ∈ lw_all := lw_g (lw_at lw_m2 185 rfl) rfl
theorem q499 : (Jvm.Cond.laysFinal "OldLight$Rower" "OldLight$Ship" "trace" "LOldLight$Trace;") ∈ lw_all := lw_g (lw_at lw_m2 186 rfl) rfl
theorem q500 : (Jvm.Cond.laysFinal "OldLight$Rower" "OldLight$Ship" "number" "I") ∈ lw_all := lw_g (lw_at lw_m2 187 rfl) rfl
theorem q501 : (Jvm.Cond.laysFinal "OldLight$Rower" "OldLight$Ship" "m" "I") ∈ lw_all := lw_g (lw_at lw_m2 188 rfl) rfl
theorem q502 : (Jvm.Cond.superclass "OldLight$Rower" "OldLight$Ship") ∈ lw_all := lw_g (lw_at lw_m2 189 rfl) rfl
theorem q575 : (Jvm.Cond.selects "OldLight$Rower" ({ cls := "OldLight$Ship", name := "kind", desc := "()I" } : Jvm.MethodName) ({ cls := "OldLight$Rower", name := "kind", desc := "()I" } : Jvm.MethodName)) ∈ lw_all := lw_g (lw_at lw_m3 22 rfl) rfl
theorem q576 : (Jvm.Cond.instanceMethod ({ cls := "OldLight$Rower", name := "kind", desc := "()I" } : Jvm.MethodName)) ∈ lw_all := lw_g (lw_at lw_m3 23 rfl) rfl
theorem q577 : (Jvm.Cond.code ({ cls := "OldLight$Rower", name := "kind", desc := "()I" } : Jvm.MethodName) prog_15_method_2_code (1 : Nat) (Option.some Jvm.ClassFile.FieldType.int)) ∈ lw_all := lw_g (lw_at lw_m3 24 rfl) rfl
theorem q607 : (Jvm.Cond.selects "OldLight$Rower" ({ cls := "OldLight$Ship", name := "believes", desc := "(LOldLight$Bay;I)I" } : Jvm.MethodName) ({ cls := "OldLight$Rower", name := "believes", desc := "(LOldLight$Bay;I)I" } : Jvm.MethodName)) ∈ lw_all := lw_g (lw_at lw_m3 54 rfl) rfl
theorem q608 : (Jvm.Cond.instanceMethod ({ cls := "OldLight$Rower", name := "believes", desc := "(LOldLight$Bay;I)I" } : Jvm.MethodName)) ∈ lw_all := lw_g (lw_at lw_m3 55 rfl) rfl
theorem q609 : (Jvm.Cond.code ({ cls := "OldLight$Rower", name := "believes", desc := "(LOldLight$Bay;I)I" } : Jvm.MethodName) prog_15_method_4_code (3 : Nat) (Option.some Jvm.ClassFile.FieldType.int)) ∈ lw_all := lw_g (lw_at lw_m3 56 rfl) rfl
theorem q610 : (Jvm.Cond.methodLink "OldLight$Rower" (13 : Nat) ({ cls := "OldLight$Bay", name := "trueDepth", desc := "(I)I" } : Jvm.MethodName)) ∈ lw_all := lw_g (lw_at lw_m3 57 rfl) rfl
theorem q660 : (Jvm.Cond.selects "OldLight$Rower" ({ cls := "OldLight$Ship", name := "isOf", desc := "(I)Z" } : Jvm.MethodName) ({ cls := "OldLight$Rower", name := "isOf", desc := "(I)Z" } : Jvm.MethodName)) ∈ lw_all := lw_g (lw_at lw_m3 107 rfl) rfl
theorem q661 : (Jvm.Cond.instanceMethod ({ cls := "OldLight$Rower", name := "isOf", desc := "(I)Z" } : Jvm.MethodName)) ∈ lw_all := lw_g (lw_at lw_m3 108 rfl) rfl
theorem q662 : (Jvm.Cond.code ({ cls := "OldLight$Rower", name := "isOf", desc := "(I)Z" } : Jvm.MethodName) prog_15_method_3_code (2 : Nat) (Option.some Jvm.ClassFile.FieldType.boolean)) ∈ lw_all := lw_g (lw_at lw_m3 109 rfl) rfl
theorem q663 : (Jvm.Cond.methodLink "OldLight$Rower" (9 : Nat) ({ cls := "OldLight$Ship", name := "isOf", desc := "(I)Z" } : Jvm.MethodName)) ∈ lw_all := lw_g (lw_at lw_m3 110 rfl) rfl
theorem q1117 : (Jvm.Cond.castable "OldLight$Rower" "OldLight$Sails") ∈ lw_tbl := lw_at lw_m5 84 rfl
theorem q1118 : (Jvm.Cond.selects "OldLight$Rower" ({ cls := "OldLight$Sails", name := "sails", desc := "(I)I" } : Jvm.MethodName) ({ cls := "OldLight$Ship", name := "sails", desc := "(I)I" } : Jvm.MethodName)) ∈ lw_all := lw_g (lw_at lw_m5 85 rfl) rfl
theorem q1119 : (Jvm.Cond.unhidden "OldLight$Rower" "sails" "(I)I") ∈ lw_tbl := lw_at lw_m5 86 rfl
theorem q1146 : (Jvm.Cond.castable "OldLight$Rower" "OldLight$Steers") ∈ lw_tbl := lw_at lw_m5 113 rfl
theorem q1147 : (Jvm.Cond.selects "OldLight$Rower" ({ cls := "OldLight$Steers", name := "steers", desc := "(I)I" } : Jvm.MethodName) ({ cls := "OldLight$Rower", name := "steers", desc := "(I)I" } : Jvm.MethodName)) ∈ lw_all := lw_g (lw_at lw_m5 114 rfl) rfl
theorem q1148 : (Jvm.Cond.unhidden "OldLight$Rower" "steers" "(I)I") ∈ lw_tbl := lw_at lw_m5 115 rfl
theorem q1149 : (Jvm.Cond.instanceMethod ({ cls := "OldLight$Rower", name := "steers", desc := "(I)I" } : Jvm.MethodName)) ∈ lw_all := lw_g (lw_at lw_m5 116 rfl) rfl
theorem q1150 : (Jvm.Cond.publicMethod ({ cls := "OldLight$Rower", name := "steers", desc := "(I)I" } : Jvm.MethodName)) ∈ lw_tbl := lw_at lw_m5 117 rfl
theorem q1151 : (Jvm.Cond.code ({ cls := "OldLight$Rower", name := "steers", desc := "(I)I" } : Jvm.MethodName) prog_15_method_5_code (3 : Nat) (Option.some Jvm.ClassFile.FieldType.int)) ∈ lw_all := lw_g (lw_at lw_m5 118 rfl) rfl
theorem q1152 : (Jvm.Cond.methodLink "OldLight$Rower" (25 : Nat) ({ cls := "OldLight$Trace", name := "begins", desc := "(I)V" } : Jvm.MethodName)) ∈ lw_all := lw_g (lw_at lw_m5 119 rfl) rfl
theorem q1153 : (Jvm.Cond.methodLink "OldLight$Rower" (31 : Nat) ({ cls := "OldLight$Ship", name := "steers", desc := "(I)I" } : Jvm.MethodName)) ∈ lw_all := lw_g (lw_at lw_m5 120 rfl) rfl
theorem q1154 : (Jvm.Cond.methodLink "OldLight$Rower" (34 : Nat) ({ cls := "OldLight$Rower", name := "sounds", desc := "(I)I" } : Jvm.MethodName)) ∈ lw_all := lw_g (lw_at lw_m5 121 rfl) rfl
theorem q1155 : (Jvm.Cond.sameMethod "OldLight$Rower" "OldLight$Ship" "sounds" "(I)I") ∈ lw_all := lw_g (lw_at lw_m5 122 rfl) rfl
theorem q1157 : (Jvm.Cond.selects "OldLight$Rower" ({ cls := "OldLight$Rower", name := "sounds", desc := "(I)I" } : Jvm.MethodName) ({ cls := "OldLight$Ship", name := "sounds", desc := "(I)I" } : Jvm.MethodName)) ∈ lw_all := lw_g (lw_at lw_m5 124 rfl) rfl
theorem q1198 : (Jvm.Cond.castable "OldLight$Rower" "OldLight$Sounds") ∈ lw_tbl := lw_at lw_m5 165 rfl
theorem q1199 : (Jvm.Cond.selects "OldLight$Rower" ({ cls := "OldLight$Sounds", name := "sounds", desc := "(I)I" } : Jvm.MethodName) ({ cls := "OldLight$Ship", name := "sounds", desc := "(I)I" } : Jvm.MethodName)) ∈ lw_all := lw_g (lw_at lw_m5 166 rfl) rfl
theorem q1200 : (Jvm.Cond.unhidden "OldLight$Rower" "sounds" "(I)I") ∈ lw_tbl := lw_at lw_m5 167 rfl
theorem q1249 : (Jvm.Cond.castable "OldLight$Rower" "OldLight$Logs") ∈ lw_tbl := lw_at lw_m5 216 rfl
theorem q1250 : (Jvm.Cond.selects "OldLight$Rower" ({ cls := "OldLight$Logs", name := "logs", desc := "(I)I" } : Jvm.MethodName) ({ cls := "OldLight$Ship", name := "logs", desc := "(I)I" } : Jvm.MethodName)) ∈ lw_all := lw_g (lw_at lw_m5 217 rfl) rfl
theorem q1251 : (Jvm.Cond.unhidden "OldLight$Rower" "logs" "(I)I") ∈ lw_tbl := lw_at lw_m5 218 rfl
theorem q1877 : (Jvm.Cond.sameMethod "OldLight$Rower" "OldLight$Rower" "believes" "(LOldLight$Bay;I)I") ∈ lw_all := lw_g (lw_at lw_m8 124 rfl) rfl
theorem q1880 : (Jvm.Cond.sameMethod "OldLight$Rower" "OldLight$Rower" "isOf" "(I)Z") ∈ lw_all := lw_g (lw_at lw_m8 127 rfl) rfl
theorem q1885 : (Jvm.Cond.selects "OldLight$Rower" ({ cls := "OldLight$Ship", name := "sails", desc := "(I)I" } : Jvm.MethodName) ({ cls := "OldLight$Ship", name := "sails", desc := "(I)I" } : Jvm.MethodName)) ∈ lw_all := lw_g (lw_at lw_m8 132 rfl) rfl
theorem q1890 : (Jvm.Cond.sameMethod "OldLight$Rower" "OldLight$Rower" "steers" "(I)I") ∈ lw_all := lw_g (lw_at lw_m8 137 rfl) rfl
theorem q1896 : (Jvm.Cond.selects "OldLight$Rower" ({ cls := "OldLight$Ship", name := "steers", desc := "(I)I" } : Jvm.MethodName) ({ cls := "OldLight$Rower", name := "steers", desc := "(I)I" } : Jvm.MethodName)) ∈ lw_all := lw_g (lw_at lw_m8 143 rfl) rfl
theorem q1903 : (Jvm.Cond.selects "OldLight$Rower" ({ cls := "OldLight$Ship", name := "sounds", desc := "(I)I" } : Jvm.MethodName) ({ cls := "OldLight$Ship", name := "sounds", desc := "(I)I" } : Jvm.MethodName)) ∈ lw_all := lw_g (lw_at lw_m8 150 rfl) rfl
theorem q1911 : (Jvm.Cond.castable "OldLight$Rower" "OldLight$Ship") ∈ lw_tbl := lw_at lw_m8 158 rfl
theorem in_X11 : ∀ w ∈ wsX110, w ∈ lw_all := lw_in wsX110 [499, 500, 501] (by decide +kernel) (by decide +kernel)
/-! OldLight$Steamer -/
set_option maxRecDepth 100000
def RX12 : String := "OldLight$Steamer"
def TX12 : u_T := fun k => match k with
  | 0 => ("OldLight$Ship", "trace", "LOldLight$Trace;", true)
  | 1 => ("OldLight$Ship", "number", "I", true)
  | _ => ("OldLight$Ship", "m", "I", true)
def tyX12 : Nat → FieldType := fun k => match k with
  | 0 => .object "OldLight$Trace"
  | 1 => .int
  | _ => .int
abbrev wsX120 : List Cond := u_ws RX12 TX12 3
theorem nmX12 : ∀ a, a < 3 → ∀ b, b < 3 → a ≠ b → (TX12 a).2.1 ≠ (TX12 b).2.1 := by decide +kernel
theorem tyX12_ok : ∀ k, k < 3 → parseFieldDescriptor (TX12 k).2.2.1 = some (tyX12 k) := by decide +kernel
abbrev cX12_init : ByteArray := prog_23_method_1_code
def yX12_init : MethodName := ⟨RX12, "<init>", "(LOldLight$Trace;II)V"⟩
def dkwX12_init_0 : List UInt8 := [42, 43, 28, 29, 183, 0, 3, 177]
abbrev dktX12_init_0 : List UInt8 := dkwX12_init_0 ++ []
theorem dksX12_init_0 : cX12_init.data.toList.drop 0 = dktX12_init_0 := by decide +kernel
theorem dX12_init_0 : decode cX12_init 0 = .ok (.aload_n 0, 1) := dk_42 (dk_at dksX12_init_0 0 rfl rfl)
theorem dX12_init_1 : decode cX12_init 1 = .ok (.aload_n 1, 1) := dk_43 (dk_at dksX12_init_0 1 rfl rfl)
theorem dX12_init_2 : decode cX12_init 2 = .ok (.iload_n 2, 1) := dk_28 (dk_at dksX12_init_0 2 rfl rfl)
theorem dX12_init_3 : decode cX12_init 3 = .ok (.iload_n 3, 1) := dk_29 (dk_at dksX12_init_0 3 rfl rfl)
theorem dX12_init_4 : decode cX12_init 4 = .ok (.invokespecial 3, 3) := dk_183 0 3 (dk_at dksX12_init_0 4 rfl rfl)
theorem dX12_init_7 : decode cX12_init 7 = .ok (.return_, 1) := dk_177 (dk_at dksX12_init_0 7 rfl rfl)
abbrev cX12_kind : ByteArray := prog_23_method_2_code
def yX12_kind : MethodName := ⟨RX12, "kind", "()I"⟩
theorem dX12_kind_0 : decode cX12_kind 0 = .ok (.iconst 3, 1) := by decide +kernel
theorem dX12_kind_1 : decode cX12_kind 1 = .ok (.ireturn, 1) := by decide +kernel
abbrev cX12_believes : ByteArray := prog_23_method_4_code
def yX12_believes : MethodName := ⟨RX12, "believes", "(LOldLight$Bay;I)I"⟩
def dkwX12_believes_0 : List UInt8 := [42, 43, 28, 183, 0, 13, 43, 28, 182, 0, 17, 184, 0, 23, 172]
abbrev dktX12_believes_0 : List UInt8 := dkwX12_believes_0 ++ []
theorem dksX12_believes_0 : cX12_believes.data.toList.drop 0 = dktX12_believes_0 := by decide +kernel
theorem dX12_believes_0 : decode cX12_believes 0 = .ok (.aload_n 0, 1) := dk_42 (dk_at dksX12_believes_0 0 rfl rfl)
theorem dX12_believes_1 : decode cX12_believes 1 = .ok (.aload_n 1, 1) := dk_43 (dk_at dksX12_believes_0 1 rfl rfl)
theorem dX12_believes_2 : decode cX12_believes 2 = .ok (.iload_n 2, 1) := dk_28 (dk_at dksX12_believes_0 2 rfl rfl)
theorem dX12_believes_3 : decode cX12_believes 3 = .ok (.invokespecial 13, 3) := dk_183 0 13 (dk_at dksX12_believes_0 3 rfl rfl)
theorem dX12_believes_6 : decode cX12_believes 6 = .ok (.aload_n 1, 1) := dk_43 (dk_at dksX12_believes_0 6 rfl rfl)
theorem dX12_believes_7 : decode cX12_believes 7 = .ok (.iload_n 2, 1) := dk_28 (dk_at dksX12_believes_0 7 rfl rfl)
theorem dX12_believes_8 : decode cX12_believes 8 = .ok (.invokevirtual 17, 3) := dk_182 0 17 (dk_at dksX12_believes_0 8 rfl rfl)
theorem dX12_believes_11 : decode cX12_believes 11 = .ok (.invokestatic 23, 3) := dk_184 0 23 (dk_at dksX12_believes_0 11 rfl rfl)
theorem dX12_believes_14 : decode cX12_believes 14 = .ok (.ireturn, 1) := dk_172 (dk_at dksX12_believes_0 14 rfl rfl)
abbrev cX12_isOf : ByteArray := prog_23_method_3_code
def yX12_isOf : MethodName := ⟨RX12, "isOf", "(I)Z"⟩
def dkwX12_isOf_0 : List UInt8 := [27, 6, 159, 0, 11, 42, 27, 183, 0, 9, 153, 0, 7, 4, 167, 0, 4, 3, 172]
abbrev dktX12_isOf_0 : List UInt8 := dkwX12_isOf_0 ++ []
theorem dksX12_isOf_0 : cX12_isOf.data.toList.drop 0 = dktX12_isOf_0 := by decide +kernel
theorem dX12_isOf_0 : decode cX12_isOf 0 = .ok (.iload_n 1, 1) := dk_27 (dk_at dksX12_isOf_0 0 rfl rfl)
theorem dX12_isOf_1 : decode cX12_isOf 1 = .ok (.iconst 3, 1) := dk_6 (dk_at dksX12_isOf_0 1 rfl rfl)
theorem dX12_isOf_2 : decode cX12_isOf 2 = .ok (.if_icmp .eq 11, 3) := dk_159 0 11 (dk_at dksX12_isOf_0 2 rfl rfl)
theorem dX12_isOf_5 : decode cX12_isOf 5 = .ok (.aload_n 0, 1) := dk_42 (dk_at dksX12_isOf_0 5 rfl rfl)
theorem dX12_isOf_6 : decode cX12_isOf 6 = .ok (.iload_n 1, 1) := dk_27 (dk_at dksX12_isOf_0 6 rfl rfl)
theorem dX12_isOf_7 : decode cX12_isOf 7 = .ok (.invokespecial 9, 3) := dk_183 0 9 (dk_at dksX12_isOf_0 7 rfl rfl)
theorem dX12_isOf_10 : decode cX12_isOf 10 = .ok (.ifCond .eq 7, 3) := dk_153 0 7 (dk_at dksX12_isOf_0 10 rfl rfl)
theorem dX12_isOf_13 : decode cX12_isOf 13 = .ok (.iconst 1, 1) := dk_4 (dk_at dksX12_isOf_0 13 rfl rfl)
theorem dX12_isOf_14 : decode cX12_isOf 14 = .ok (.goto 4, 3) := dk_167 0 4 (dk_at dksX12_isOf_0 14 rfl rfl)
theorem dX12_isOf_17 : decode cX12_isOf 17 = .ok (.iconst 0, 1) := dk_3 (dk_at dksX12_isOf_0 17 rfl rfl)
theorem dX12_isOf_18 : decode cX12_isOf 18 = .ok (.ireturn, 1) := dk_172 (dk_at dksX12_isOf_0 18 rfl rfl)
abbrev cX12_sounds : ByteArray := prog_23_method_5_code
def yX12_sounds : MethodName := ⟨RX12, "sounds", "(I)I"⟩
def dkwX12_sounds_0 : List UInt8 := [42, 180, 0, 29, 16, 40, 182, 0, 35, 42, 27, 183, 0, 41, 116, 172]
abbrev dktX12_sounds_0 : List UInt8 := dkwX12_sounds_0 ++ []
theorem dksX12_sounds_0 : cX12_sounds.data.toList.drop 0 = dktX12_sounds_0 := by decide +kernel
theorem dX12_sounds_0 : decode cX12_sounds 0 = .ok (.aload_n 0, 1) := dk_42 (dk_at dksX12_sounds_0 0 rfl rfl)
theorem dX12_sounds_1 : decode cX12_sounds 1 = .ok (.getfield 29, 3) := dk_180 0 29 (dk_at dksX12_sounds_0 1 rfl rfl)
theorem dX12_sounds_4 : decode cX12_sounds 4 = .ok (.bipush 40, 2) := dk_16 40 (dk_at dksX12_sounds_0 4 rfl rfl)
theorem dX12_sounds_6 : decode cX12_sounds 6 = .ok (.invokevirtual 35, 3) := dk_182 0 35 (dk_at dksX12_sounds_0 6 rfl rfl)
theorem dX12_sounds_9 : decode cX12_sounds 9 = .ok (.aload_n 0, 1) := dk_42 (dk_at dksX12_sounds_0 9 rfl rfl)
theorem dX12_sounds_10 : decode cX12_sounds 10 = .ok (.iload_n 1, 1) := dk_27 (dk_at dksX12_sounds_0 10 rfl rfl)
theorem dX12_sounds_11 : decode cX12_sounds 11 = .ok (.invokespecial 41, 3) := dk_183 0 41 (dk_at dksX12_sounds_0 11 rfl rfl)
theorem dX12_sounds_14 : decode cX12_sounds 14 = .ok (.ineg, 1) := dk_116 (dk_at dksX12_sounds_0 14 rfl rfl)
theorem dX12_sounds_15 : decode cX12_sounds 15 = .ok (.ireturn, 1) := dk_172 (dk_at dksX12_sounds_0 15 rfl rfl)
theorem q90 : (Jvm.Cond.initialized "OldLight$Steamer") ∈ lw_all := lw_g (lw_at lw_m1 17 rfl) rfl
theorem q474 : (Jvm.Cond.fieldLink "OldLight$Steamer" (29 : Nat) "OldLight$Steamer" "trace" "LOldLight$Trace;") ∈ lw_all := lw_g (lw_at lw_m2 161 rfl) rfl
theorem q475 : (Jvm.Cond.sameField "OldLight$Steamer" "OldLight$Ship" "trace" "LOldLight$Trace;") ∈ lw_all := lw_g (lw_at lw_m2 162 rfl) rfl
theorem q504 : (Jvm.Cond.instantiable "OldLight$Steamer" (3 : Nat)) ∈ lw_all := lw_g (lw_at lw_m2 191 rfl) rfl
theorem q506 : (Jvm.Cond.instanceMethod ({ cls := "OldLight$Steamer", name := "<init>", desc := "(LOldLight$Trace;II)V" } : Jvm.MethodName)) ∈ lw_all := lw_g (lw_at lw_m2 193 rfl) rfl
theorem q507 : (Jvm.Cond.code ({ cls := "OldLight$Steamer", name := "<init>", desc := "(LOldLight$Trace;II)V" } : Jvm.MethodName) prog_23_method_1_code (4 : Nat) (Option.none : Option Jvm.ClassFile.FieldType)) ∈ lw_all := lw_g (lw_at lw_m2 194 rfl) rfl
theorem q508 : (Jvm.Cond.methodLink "OldLight$Steamer" (3 : Nat) ({ cls := "OldLight$Ship", name := "<init>", desc := "(LOldLight$Trace;II)V" } : Jvm.MethodName)) ∈ lw_all := lw_g (lw_at lw_m2 195 rfl) rfl
theorem q509 : (Jvm.Cond.laysFinal "OldLight$Steamer" "OldLight$Ship" "trace" "LOldLight$Trace;") ∈ lw_all := lw_g (lw_at lw_m2 196 rfl) rfl
theorem q510 : (Jvm.Cond.laysFinal "OldLight$Steamer" "OldLight$Ship" "number" "I") ∈ lw_all := lw_g (lw_at lw_m2 197 rfl) rfl
theorem q511 : (Jvm.Cond.laysFinal "OldLight$Steamer" "OldLight$Ship" "m" "I") ∈ lw_all := lw_g (lw_at lw_m2 198 rfl) rfl
theorem q512 : (Jvm.Cond.superclass "OldLight$Steamer" "OldLight$Ship") ∈ lw_all := lw_g (lw_at lw_m2 199 rfl) rfl
theorem q581 : (Jvm.Cond.selects "OldLight$Steamer" ({ cls := "OldLight$Ship", name := "kind", desc := "()I" } : Jvm.MethodName) ({ cls := "OldLight$Steamer", name := "kind", desc := "()I" } : Jvm.MethodName)) ∈ lw_all := lw_g (lw_at lw_m3 28 rfl) rfl
theorem q582 : (Jvm.Cond.instanceMethod ({ cls := "OldLight$Steamer", name := "kind", desc := "()I" } : Jvm.MethodName)) ∈ lw_all := lw_g (lw_at lw_m3 29 rfl) rfl
theorem q583 : (Jvm.Cond.code ({ cls := "OldLight$Steamer", name := "kind", desc := "()I" } : Jvm.MethodName) prog_23_method_2_code (1 : Nat) (Option.some Jvm.ClassFile.FieldType.int)) ∈ lw_all := lw_g (lw_at lw_m3 30 rfl) rfl
theorem q617 : (Jvm.Cond.selects "OldLight$Steamer" ({ cls := "OldLight$Ship", name := "believes", desc := "(LOldLight$Bay;I)I" } : Jvm.MethodName) ({ cls := "OldLight$Steamer", name := "believes", desc := "(LOldLight$Bay;I)I" } : Jvm.MethodName)) ∈ lw_all := lw_g (lw_at lw_m3 64 rfl) rfl
theorem q618 : (Jvm.Cond.instanceMethod ({ cls := "OldLight$Steamer", name := "believes", desc := "(LOldLight$Bay;I)I" } : Jvm.MethodName)) ∈ lw_all := lw_g (lw_at lw_m3 65 rfl) rfl
theorem q619 : (Jvm.Cond.code ({ cls := "OldLight$Steamer", name := "believes", desc := "(LOldLight$Bay;I)I" } : Jvm.MethodName) prog_23_method_4_code (3 : Nat) (Option.some Jvm.ClassFile.FieldType.int)) ∈ lw_all := lw_g (lw_at lw_m3 66 rfl) rfl
theorem q620 : (Jvm.Cond.methodLink "OldLight$Steamer" (13 : Nat) ({ cls := "OldLight$Ship", name := "believes", desc := "(LOldLight$Bay;I)I" } : Jvm.MethodName)) ∈ lw_all := lw_g (lw_at lw_m3 67 rfl) rfl
theorem q621 : (Jvm.Cond.methodLink "OldLight$Steamer" (17 : Nat) ({ cls := "OldLight$Bay", name := "trueDepth", desc := "(I)I" } : Jvm.MethodName)) ∈ lw_all := lw_g (lw_at lw_m3 68 rfl) rfl
theorem q622 : (Jvm.Cond.methodLink "OldLight$Steamer" (23 : Nat) ({ cls := "java/lang/Math", name := "min", desc := "(II)I" } : Jvm.MethodName)) ∈ lw_all := lw_g (lw_at lw_m3 69 rfl) rfl
theorem q657 : (Jvm.Cond.instanceMethod ({ cls := "OldLight$Steamer", name := "isOf", desc := "(I)Z" } : Jvm.MethodName)) ∈ lw_all := lw_g (lw_at lw_m3 104 rfl) rfl
theorem q658 : (Jvm.Cond.code ({ cls := "OldLight$Steamer", name := "isOf", desc := "(I)Z" } : Jvm.MethodName) prog_23_method_3_code (2 : Nat) (Option.some Jvm.ClassFile.FieldType.boolean)) ∈ lw_all := lw_g (lw_at lw_m3 105 rfl) rfl
theorem q659 : (Jvm.Cond.methodLink "OldLight$Steamer" (9 : Nat) ({ cls := "OldLight$Ship", name := "isOf", desc := "(I)Z" } : Jvm.MethodName)) ∈ lw_all := lw_g (lw_at lw_m3 106 rfl) rfl
theorem q668 : (Jvm.Cond.selects "OldLight$Steamer" ({ cls := "OldLight$Ship", name := "isOf", desc := "(I)Z" } : Jvm.MethodName) ({ cls := "OldLight$Steamer", name := "isOf", desc := "(I)Z" } : Jvm.MethodName)) ∈ lw_all := lw_g (lw_at lw_m3 115 rfl) rfl
theorem q1126 : (Jvm.Cond.castable "OldLight$Steamer" "OldLight$Sails") ∈ lw_tbl := lw_at lw_m5 93 rfl
theorem q1127 : (Jvm.Cond.selects "OldLight$Steamer" ({ cls := "OldLight$Sails", name := "sails", desc := "(I)I" } : Jvm.MethodName) ({ cls := "OldLight$Ship", name := "sails", desc := "(I)I" } : Jvm.MethodName)) ∈ lw_all := lw_g (lw_at lw_m5 94 rfl) rfl
theorem q1128 : (Jvm.Cond.unhidden "OldLight$Steamer" "sails" "(I)I") ∈ lw_tbl := lw_at lw_m5 95 rfl
theorem q1172 : (Jvm.Cond.castable "OldLight$Steamer" "OldLight$Steers") ∈ lw_tbl := lw_at lw_m5 139 rfl
theorem q1173 : (Jvm.Cond.selects "OldLight$Steamer" ({ cls := "OldLight$Steers", name := "steers", desc := "(I)I" } : Jvm.MethodName) ({ cls := "OldLight$Ship", name := "steers", desc := "(I)I" } : Jvm.MethodName)) ∈ lw_all := lw_g (lw_at lw_m5 140 rfl) rfl
theorem q1174 : (Jvm.Cond.unhidden "OldLight$Steamer" "steers" "(I)I") ∈ lw_tbl := lw_at lw_m5 141 rfl
theorem q1194 : (Jvm.Cond.instanceMethod ({ cls := "OldLight$Steamer", name := "sounds", desc := "(I)I" } : Jvm.MethodName)) ∈ lw_all := lw_g (lw_at lw_m5 161 rfl) rfl
theorem q1195 : (Jvm.Cond.code ({ cls := "OldLight$Steamer", name := "sounds", desc := "(I)I" } : Jvm.MethodName) prog_23_method_5_code (2 : Nat) (Option.some Jvm.ClassFile.FieldType.int)) ∈ lw_all := lw_g (lw_at lw_m5 162 rfl) rfl
theorem q1196 : (Jvm.Cond.methodLink "OldLight$Steamer" (35 : Nat) ({ cls := "OldLight$Trace", name := "begins", desc := "(I)V" } : Jvm.MethodName)) ∈ lw_all := lw_g (lw_at lw_m5 163 rfl) rfl
theorem q1197 : (Jvm.Cond.methodLink "OldLight$Steamer" (41 : Nat) ({ cls := "OldLight$Ship", name := "sounds", desc := "(I)I" } : Jvm.MethodName)) ∈ lw_all := lw_g (lw_at lw_m5 164 rfl) rfl
theorem q1207 : (Jvm.Cond.castable "OldLight$Steamer" "OldLight$Sounds") ∈ lw_tbl := lw_at lw_m5 174 rfl
theorem q1208 : (Jvm.Cond.selects "OldLight$Steamer" ({ cls := "OldLight$Sounds", name := "sounds", desc := "(I)I" } : Jvm.MethodName) ({ cls := "OldLight$Steamer", name := "sounds", desc := "(I)I" } : Jvm.MethodName)) ∈ lw_all := lw_g (lw_at lw_m5 175 rfl) rfl
theorem q1209 : (Jvm.Cond.unhidden "OldLight$Steamer" "sounds" "(I)I") ∈ lw_tbl := lw_at lw_m5 176 rfl
theorem q1210 : (Jvm.Cond.publicMethod ({ cls := "OldLight$Steamer", name := "sounds", desc := "(I)I" } : Jvm.MethodName)) ∈ lw_tbl := lw_at lw_m5 177 rfl
theorem q1248 : (Jvm.Cond.sameMethod "OldLight$Steamer" "OldLight$Ship" "logs" "(I)I") ∈ lw_all := lw_g (lw_at lw_m5 215 rfl) rfl
theorem q1258 : (Jvm.Cond.castable "OldLight$Steamer" "OldLight$Logs") ∈ lw_tbl := lw_at lw_m5 225 rfl
theorem q1259 : (Jvm.Cond.selects "OldLight$Steamer" ({ cls := "OldLight$Logs", name := "logs", desc := "(I)I" } : Jvm.MethodName) ({ cls := "OldLight$Ship", name := "logs", desc := "(I)I" } : Jvm.MethodName)) ∈ lw_all := lw_g (lw_at lw_m5 226 rfl) rfl
theorem q1260 : (Jvm.Cond.unhidden "OldLight$Steamer" "logs" "(I)I") ∈ lw_tbl := lw_at lw_m5 227 rfl
theorem q1879 : (Jvm.Cond.sameMethod "OldLight$Steamer" "OldLight$Steamer" "isOf" "(I)Z") ∈ lw_all := lw_g (lw_at lw_m8 126 rfl) rfl
theorem q1888 : (Jvm.Cond.selects "OldLight$Steamer" ({ cls := "OldLight$Ship", name := "sails", desc := "(I)I" } : Jvm.MethodName) ({ cls := "OldLight$Ship", name := "sails", desc := "(I)I" } : Jvm.MethodName)) ∈ lw_all := lw_g (lw_at lw_m8 135 rfl) rfl
theorem q1891 : (Jvm.Cond.sameMethod "OldLight$Steamer" "OldLight$Steamer" "sounds" "(I)I") ∈ lw_all := lw_g (lw_at lw_m8 138 rfl) rfl
theorem q1899 : (Jvm.Cond.selects "OldLight$Steamer" ({ cls := "OldLight$Ship", name := "steers", desc := "(I)I" } : Jvm.MethodName) ({ cls := "OldLight$Ship", name := "steers", desc := "(I)I" } : Jvm.MethodName)) ∈ lw_all := lw_g (lw_at lw_m8 146 rfl) rfl
theorem q1906 : (Jvm.Cond.selects "OldLight$Steamer" ({ cls := "OldLight$Ship", name := "sounds", desc := "(I)I" } : Jvm.MethodName) ({ cls := "OldLight$Steamer", name := "sounds", desc := "(I)I" } : Jvm.MethodName)) ∈ lw_all := lw_g (lw_at lw_m8 153 rfl) rfl
theorem q1912 : (Jvm.Cond.castable "OldLight$Steamer" "OldLight$Ship") ∈ lw_tbl := lw_at lw_m8 159 rfl
theorem in_X12 : ∀ w ∈ wsX120, w ∈ lw_all := lw_in wsX120 [509, 510, 511] (by decide +kernel) (by decide +kernel)
/-! OldLight$Cutter -/
set_option maxRecDepth 100000
def RX13 : String := "OldLight$Cutter"
def TX13 : u_T := fun k => match k with
  | 0 => ("OldLight$Ship", "trace", "LOldLight$Trace;", true)
  | 1 => ("OldLight$Ship", "number", "I", true)
  | _ => ("OldLight$Ship", "m", "I", true)
def tyX13 : Nat → FieldType := fun k => match k with
  | 0 => .object "OldLight$Trace"
  | 1 => .int
  | _ => .int
abbrev wsX130 : List Cond := u_ws RX13 TX13 3
theorem nmX13 : ∀ a, a < 3 → ∀ b, b < 3 → a ≠ b → (TX13 a).2.1 ≠ (TX13 b).2.1 := by decide +kernel
theorem tyX13_ok : ∀ k, k < 3 → parseFieldDescriptor (TX13 k).2.2.1 = some (tyX13 k) := by decide +kernel
abbrev cX13_init : ByteArray := prog_5_method_1_code
def yX13_init : MethodName := ⟨RX13, "<init>", "(LOldLight$Trace;II)V"⟩
def dkwX13_init_0 : List UInt8 := [42, 43, 28, 29, 183, 0, 3, 177]
abbrev dktX13_init_0 : List UInt8 := dkwX13_init_0 ++ []
theorem dksX13_init_0 : cX13_init.data.toList.drop 0 = dktX13_init_0 := by decide +kernel
theorem dX13_init_0 : decode cX13_init 0 = .ok (.aload_n 0, 1) := dk_42 (dk_at dksX13_init_0 0 rfl rfl)
theorem dX13_init_1 : decode cX13_init 1 = .ok (.aload_n 1, 1) := dk_43 (dk_at dksX13_init_0 1 rfl rfl)
theorem dX13_init_2 : decode cX13_init 2 = .ok (.iload_n 2, 1) := dk_28 (dk_at dksX13_init_0 2 rfl rfl)
theorem dX13_init_3 : decode cX13_init 3 = .ok (.iload_n 3, 1) := dk_29 (dk_at dksX13_init_0 3 rfl rfl)
theorem dX13_init_4 : decode cX13_init 4 = .ok (.invokespecial 3, 3) := dk_183 0 3 (dk_at dksX13_init_0 4 rfl rfl)
theorem dX13_init_7 : decode cX13_init 7 = .ok (.return_, 1) := dk_177 (dk_at dksX13_init_0 7 rfl rfl)
abbrev cX13_kind : ByteArray := prog_5_method_2_code
def yX13_kind : MethodName := ⟨RX13, "kind", "()I"⟩
theorem dX13_kind_0 : decode cX13_kind 0 = .ok (.iconst 4, 1) := by decide +kernel
theorem dX13_kind_1 : decode cX13_kind 1 = .ok (.ireturn, 1) := by decide +kernel
abbrev cX13_believes : ByteArray := prog_5_method_4_code
def yX13_believes : MethodName := ⟨RX13, "believes", "(LOldLight$Bay;I)I"⟩
def dkwX13_believes_0 : List UInt8 := [42, 43, 28, 183, 0, 13, 4, 100, 172]
abbrev dktX13_believes_0 : List UInt8 := dkwX13_believes_0 ++ []
theorem dksX13_believes_0 : cX13_believes.data.toList.drop 0 = dktX13_believes_0 := by decide +kernel
theorem dX13_believes_0 : decode cX13_believes 0 = .ok (.aload_n 0, 1) := dk_42 (dk_at dksX13_believes_0 0 rfl rfl)
theorem dX13_believes_1 : decode cX13_believes 1 = .ok (.aload_n 1, 1) := dk_43 (dk_at dksX13_believes_0 1 rfl rfl)
theorem dX13_believes_2 : decode cX13_believes 2 = .ok (.iload_n 2, 1) := dk_28 (dk_at dksX13_believes_0 2 rfl rfl)
theorem dX13_believes_3 : decode cX13_believes 3 = .ok (.invokespecial 13, 3) := dk_183 0 13 (dk_at dksX13_believes_0 3 rfl rfl)
theorem dX13_believes_6 : decode cX13_believes 6 = .ok (.iconst 1, 1) := dk_4 (dk_at dksX13_believes_0 6 rfl rfl)
theorem dX13_believes_7 : decode cX13_believes 7 = .ok (.isub, 1) := dk_100 (dk_at dksX13_believes_0 7 rfl rfl)
theorem dX13_believes_8 : decode cX13_believes 8 = .ok (.ireturn, 1) := dk_172 (dk_at dksX13_believes_0 8 rfl rfl)
abbrev cX13_isOf : ByteArray := prog_5_method_3_code
def yX13_isOf : MethodName := ⟨RX13, "isOf", "(I)Z"⟩
def dkwX13_isOf_0 : List UInt8 := [27, 7, 159, 0, 11, 42, 27, 183, 0, 9, 153, 0, 7, 4, 167, 0, 4, 3, 172]
abbrev dktX13_isOf_0 : List UInt8 := dkwX13_isOf_0 ++ []
theorem dksX13_isOf_0 : cX13_isOf.data.toList.drop 0 = dktX13_isOf_0 := by decide +kernel
theorem dX13_isOf_0 : decode cX13_isOf 0 = .ok (.iload_n 1, 1) := dk_27 (dk_at dksX13_isOf_0 0 rfl rfl)
theorem dX13_isOf_1 : decode cX13_isOf 1 = .ok (.iconst 4, 1) := dk_7 (dk_at dksX13_isOf_0 1 rfl rfl)
theorem dX13_isOf_2 : decode cX13_isOf 2 = .ok (.if_icmp .eq 11, 3) := dk_159 0 11 (dk_at dksX13_isOf_0 2 rfl rfl)
theorem dX13_isOf_5 : decode cX13_isOf 5 = .ok (.aload_n 0, 1) := dk_42 (dk_at dksX13_isOf_0 5 rfl rfl)
theorem dX13_isOf_6 : decode cX13_isOf 6 = .ok (.iload_n 1, 1) := dk_27 (dk_at dksX13_isOf_0 6 rfl rfl)
theorem dX13_isOf_7 : decode cX13_isOf 7 = .ok (.invokespecial 9, 3) := dk_183 0 9 (dk_at dksX13_isOf_0 7 rfl rfl)
theorem dX13_isOf_10 : decode cX13_isOf 10 = .ok (.ifCond .eq 7, 3) := dk_153 0 7 (dk_at dksX13_isOf_0 10 rfl rfl)
theorem dX13_isOf_13 : decode cX13_isOf 13 = .ok (.iconst 1, 1) := dk_4 (dk_at dksX13_isOf_0 13 rfl rfl)
theorem dX13_isOf_14 : decode cX13_isOf 14 = .ok (.goto 4, 3) := dk_167 0 4 (dk_at dksX13_isOf_0 14 rfl rfl)
theorem dX13_isOf_17 : decode cX13_isOf 17 = .ok (.iconst 0, 1) := dk_3 (dk_at dksX13_isOf_0 17 rfl rfl)
theorem dX13_isOf_18 : decode cX13_isOf 18 = .ok (.ireturn, 1) := dk_172 (dk_at dksX13_isOf_0 18 rfl rfl)
abbrev cX13_logs : ByteArray := prog_5_method_5_code
def yX13_logs : MethodName := ⟨RX13, "logs", "(I)I"⟩
def dkwX13_logs_0 : List UInt8 := [42, 180, 0, 17, 16, 50, 182, 0, 23, 42, 27, 183, 0, 29, 61, 28, 42, 5, 182, 0, 33, 100, 172]
abbrev dktX13_logs_0 : List UInt8 := dkwX13_logs_0 ++ []
theorem dksX13_logs_0 : cX13_logs.data.toList.drop 0 = dktX13_logs_0 := by decide +kernel
theorem dX13_logs_0 : decode cX13_logs 0 = .ok (.aload_n 0, 1) := dk_42 (dk_at dksX13_logs_0 0 rfl rfl)
theorem dX13_logs_1 : decode cX13_logs 1 = .ok (.getfield 17, 3) := dk_180 0 17 (dk_at dksX13_logs_0 1 rfl rfl)
theorem dX13_logs_4 : decode cX13_logs 4 = .ok (.bipush 50, 2) := dk_16 50 (dk_at dksX13_logs_0 4 rfl rfl)
theorem dX13_logs_6 : decode cX13_logs 6 = .ok (.invokevirtual 23, 3) := dk_182 0 23 (dk_at dksX13_logs_0 6 rfl rfl)
theorem dX13_logs_9 : decode cX13_logs 9 = .ok (.aload_n 0, 1) := dk_42 (dk_at dksX13_logs_0 9 rfl rfl)
theorem dX13_logs_10 : decode cX13_logs 10 = .ok (.iload_n 1, 1) := dk_27 (dk_at dksX13_logs_0 10 rfl rfl)
theorem dX13_logs_11 : decode cX13_logs 11 = .ok (.invokespecial 29, 3) := dk_183 0 29 (dk_at dksX13_logs_0 11 rfl rfl)
theorem dX13_logs_14 : decode cX13_logs 14 = .ok (.istore_n 2, 1) := dk_61 (dk_at dksX13_logs_0 14 rfl rfl)
theorem dX13_logs_15 : decode cX13_logs 15 = .ok (.iload_n 2, 1) := dk_28 (dk_at dksX13_logs_0 15 rfl rfl)
theorem dX13_logs_16 : decode cX13_logs 16 = .ok (.aload_n 0, 1) := dk_42 (dk_at dksX13_logs_0 16 rfl rfl)
theorem dX13_logs_17 : decode cX13_logs 17 = .ok (.iconst 2, 1) := dk_5 (dk_at dksX13_logs_0 17 rfl rfl)
theorem dX13_logs_18 : decode cX13_logs 18 = .ok (.invokevirtual 33, 3) := dk_182 0 33 (dk_at dksX13_logs_0 18 rfl rfl)
theorem dX13_logs_21 : decode cX13_logs 21 = .ok (.isub, 1) := dk_100 (dk_at dksX13_logs_0 21 rfl rfl)
theorem dX13_logs_22 : decode cX13_logs 22 = .ok (.ireturn, 1) := dk_172 (dk_at dksX13_logs_0 22 rfl rfl)
theorem q91 : (Jvm.Cond.initialized "OldLight$Cutter") ∈ lw_all := lw_g (lw_at lw_m1 18 rfl) rfl
theorem q476 : (Jvm.Cond.fieldLink "OldLight$Cutter" (17 : Nat) "OldLight$Cutter" "trace" "LOldLight$Trace;") ∈ lw_all := lw_g (lw_at lw_m2 163 rfl) rfl
theorem q477 : (Jvm.Cond.sameField "OldLight$Cutter" "OldLight$Ship" "trace" "LOldLight$Trace;") ∈ lw_all := lw_g (lw_at lw_m2 164 rfl) rfl
theorem q514 : (Jvm.Cond.instantiable "OldLight$Cutter" (3 : Nat)) ∈ lw_all := lw_g (lw_at lw_m2 201 rfl) rfl
theorem q516 : (Jvm.Cond.instanceMethod ({ cls := "OldLight$Cutter", name := "<init>", desc := "(LOldLight$Trace;II)V" } : Jvm.MethodName)) ∈ lw_all := lw_g (lw_at lw_m2 203 rfl) rfl
theorem q517 : (Jvm.Cond.code ({ cls := "OldLight$Cutter", name := "<init>", desc := "(LOldLight$Trace;II)V" } : Jvm.MethodName) prog_5_method_1_code (4 : Nat) (Option.none : Option Jvm.ClassFile.FieldType)) ∈ lw_all := lw_g (lw_at lw_m2 204 rfl) rfl
theorem q518 : (Jvm.Cond.methodLink "OldLight$Cutter" (3 : Nat) ({ cls := "OldLight$Collier", name := "<init>", desc := "(LOldLight$Trace;II)V" } : Jvm.MethodName)) ∈ lw_all := lw_g (lw_at lw_m2 205 rfl) rfl
theorem q519 : (Jvm.Cond.laysFinal "OldLight$Cutter" "OldLight$Ship" "trace" "LOldLight$Trace;") ∈ lw_all := lw_g (lw_at lw_m2 206 rfl) rfl
theorem q520 : (Jvm.Cond.laysFinal "OldLight$Cutter" "OldLight$Ship" "number" "I") ∈ lw_all := lw_g (lw_at lw_m2 207 rfl) rfl
theorem q521 : (Jvm.Cond.laysFinal "OldLight$Cutter" "OldLight$Ship" "m" "I") ∈ lw_all := lw_g (lw_at lw_m2 208 rfl) rfl
theorem q522 : (Jvm.Cond.superclass "OldLight$Cutter" "OldLight$Collier") ∈ lw_all := lw_g (lw_at lw_m2 209 rfl) rfl
theorem q569 : (Jvm.Cond.selects "OldLight$Cutter" ({ cls := "OldLight$Ship", name := "kind", desc := "()I" } : Jvm.MethodName) ({ cls := "OldLight$Cutter", name := "kind", desc := "()I" } : Jvm.MethodName)) ∈ lw_all := lw_g (lw_at lw_m3 16 rfl) rfl
theorem q570 : (Jvm.Cond.instanceMethod ({ cls := "OldLight$Cutter", name := "kind", desc := "()I" } : Jvm.MethodName)) ∈ lw_all := lw_g (lw_at lw_m3 17 rfl) rfl
theorem q571 : (Jvm.Cond.code ({ cls := "OldLight$Cutter", name := "kind", desc := "()I" } : Jvm.MethodName) prog_5_method_2_code (1 : Nat) (Option.some Jvm.ClassFile.FieldType.int)) ∈ lw_all := lw_g (lw_at lw_m3 18 rfl) rfl
theorem q597 : (Jvm.Cond.selects "OldLight$Cutter" ({ cls := "OldLight$Ship", name := "believes", desc := "(LOldLight$Bay;I)I" } : Jvm.MethodName) ({ cls := "OldLight$Cutter", name := "believes", desc := "(LOldLight$Bay;I)I" } : Jvm.MethodName)) ∈ lw_all := lw_g (lw_at lw_m3 44 rfl) rfl
theorem q598 : (Jvm.Cond.instanceMethod ({ cls := "OldLight$Cutter", name := "believes", desc := "(LOldLight$Bay;I)I" } : Jvm.MethodName)) ∈ lw_all := lw_g (lw_at lw_m3 45 rfl) rfl
theorem q599 : (Jvm.Cond.code ({ cls := "OldLight$Cutter", name := "believes", desc := "(LOldLight$Bay;I)I" } : Jvm.MethodName) prog_5_method_4_code (3 : Nat) (Option.some Jvm.ClassFile.FieldType.int)) ∈ lw_all := lw_g (lw_at lw_m3 46 rfl) rfl
theorem q600 : (Jvm.Cond.methodLink "OldLight$Cutter" (13 : Nat) ({ cls := "OldLight$Collier", name := "believes", desc := "(LOldLight$Bay;I)I" } : Jvm.MethodName)) ∈ lw_all := lw_g (lw_at lw_m3 47 rfl) rfl
theorem q649 : (Jvm.Cond.selects "OldLight$Cutter" ({ cls := "OldLight$Ship", name := "isOf", desc := "(I)Z" } : Jvm.MethodName) ({ cls := "OldLight$Cutter", name := "isOf", desc := "(I)Z" } : Jvm.MethodName)) ∈ lw_all := lw_g (lw_at lw_m3 96 rfl) rfl
theorem q650 : (Jvm.Cond.instanceMethod ({ cls := "OldLight$Cutter", name := "isOf", desc := "(I)Z" } : Jvm.MethodName)) ∈ lw_all := lw_g (lw_at lw_m3 97 rfl) rfl
theorem q651 : (Jvm.Cond.code ({ cls := "OldLight$Cutter", name := "isOf", desc := "(I)Z" } : Jvm.MethodName) prog_5_method_3_code (2 : Nat) (Option.some Jvm.ClassFile.FieldType.boolean)) ∈ lw_all := lw_g (lw_at lw_m3 98 rfl) rfl
theorem q652 : (Jvm.Cond.methodLink "OldLight$Cutter" (9 : Nat) ({ cls := "OldLight$Collier", name := "isOf", desc := "(I)Z" } : Jvm.MethodName)) ∈ lw_all := lw_g (lw_at lw_m3 99 rfl) rfl
theorem q1110 : (Jvm.Cond.castable "OldLight$Cutter" "OldLight$Sails") ∈ lw_tbl := lw_at lw_m5 77 rfl
theorem q1111 : (Jvm.Cond.selects "OldLight$Cutter" ({ cls := "OldLight$Sails", name := "sails", desc := "(I)I" } : Jvm.MethodName) ({ cls := "OldLight$Collier", name := "sails", desc := "(I)I" } : Jvm.MethodName)) ∈ lw_all := lw_g (lw_at lw_m5 78 rfl) rfl
theorem q1112 : (Jvm.Cond.unhidden "OldLight$Cutter" "sails" "(I)I") ∈ lw_tbl := lw_at lw_m5 79 rfl
theorem q1140 : (Jvm.Cond.castable "OldLight$Cutter" "OldLight$Steers") ∈ lw_tbl := lw_at lw_m5 107 rfl
theorem q1141 : (Jvm.Cond.selects "OldLight$Cutter" ({ cls := "OldLight$Steers", name := "steers", desc := "(I)I" } : Jvm.MethodName) ({ cls := "OldLight$Ship", name := "steers", desc := "(I)I" } : Jvm.MethodName)) ∈ lw_all := lw_g (lw_at lw_m5 108 rfl) rfl
theorem q1142 : (Jvm.Cond.unhidden "OldLight$Cutter" "steers" "(I)I") ∈ lw_tbl := lw_at lw_m5 109 rfl
theorem q1183 : (Jvm.Cond.castable "OldLight$Cutter" "OldLight$Sounds") ∈ lw_tbl := lw_at lw_m5 150 rfl
theorem q1184 : (Jvm.Cond.selects "OldLight$Cutter" ({ cls := "OldLight$Sounds", name := "sounds", desc := "(I)I" } : Jvm.MethodName) ({ cls := "OldLight$Ship", name := "sounds", desc := "(I)I" } : Jvm.MethodName)) ∈ lw_all := lw_g (lw_at lw_m5 151 rfl) rfl
theorem q1185 : (Jvm.Cond.unhidden "OldLight$Cutter" "sounds" "(I)I") ∈ lw_tbl := lw_at lw_m5 152 rfl
theorem q1223 : (Jvm.Cond.castable "OldLight$Cutter" "OldLight$Logs") ∈ lw_tbl := lw_at lw_m5 190 rfl
theorem q1224 : (Jvm.Cond.selects "OldLight$Cutter" ({ cls := "OldLight$Logs", name := "logs", desc := "(I)I" } : Jvm.MethodName) ({ cls := "OldLight$Cutter", name := "logs", desc := "(I)I" } : Jvm.MethodName)) ∈ lw_all := lw_g (lw_at lw_m5 191 rfl) rfl
theorem q1225 : (Jvm.Cond.unhidden "OldLight$Cutter" "logs" "(I)I") ∈ lw_tbl := lw_at lw_m5 192 rfl
theorem q1226 : (Jvm.Cond.instanceMethod ({ cls := "OldLight$Cutter", name := "logs", desc := "(I)I" } : Jvm.MethodName)) ∈ lw_all := lw_g (lw_at lw_m5 193 rfl) rfl
theorem q1227 : (Jvm.Cond.publicMethod ({ cls := "OldLight$Cutter", name := "logs", desc := "(I)I" } : Jvm.MethodName)) ∈ lw_tbl := lw_at lw_m5 194 rfl
theorem q1228 : (Jvm.Cond.code ({ cls := "OldLight$Cutter", name := "logs", desc := "(I)I" } : Jvm.MethodName) prog_5_method_5_code (3 : Nat) (Option.some Jvm.ClassFile.FieldType.int)) ∈ lw_all := lw_g (lw_at lw_m5 195 rfl) rfl
theorem q1229 : (Jvm.Cond.methodLink "OldLight$Cutter" (23 : Nat) ({ cls := "OldLight$Trace", name := "begins", desc := "(I)V" } : Jvm.MethodName)) ∈ lw_all := lw_g (lw_at lw_m5 196 rfl) rfl
theorem q1230 : (Jvm.Cond.methodLink "OldLight$Cutter" (29 : Nat) ({ cls := "OldLight$Collier", name := "logs", desc := "(I)I" } : Jvm.MethodName)) ∈ lw_all := lw_g (lw_at lw_m5 197 rfl) rfl
theorem q1233 : (Jvm.Cond.methodLink "OldLight$Cutter" (33 : Nat) ({ cls := "OldLight$Cutter", name := "sails", desc := "(I)I" } : Jvm.MethodName)) ∈ lw_all := lw_g (lw_at lw_m5 200 rfl) rfl
theorem q1234 : (Jvm.Cond.sameMethod "OldLight$Cutter" "OldLight$Collier" "sails" "(I)I") ∈ lw_all := lw_g (lw_at lw_m5 201 rfl) rfl
theorem q1236 : (Jvm.Cond.selects "OldLight$Cutter" ({ cls := "OldLight$Cutter", name := "sails", desc := "(I)I" } : Jvm.MethodName) ({ cls := "OldLight$Collier", name := "sails", desc := "(I)I" } : Jvm.MethodName)) ∈ lw_all := lw_g (lw_at lw_m5 203 rfl) rfl
theorem q1883 : (Jvm.Cond.selects "OldLight$Cutter" ({ cls := "OldLight$Ship", name := "sails", desc := "(I)I" } : Jvm.MethodName) ({ cls := "OldLight$Collier", name := "sails", desc := "(I)I" } : Jvm.MethodName)) ∈ lw_all := lw_g (lw_at lw_m8 130 rfl) rfl
theorem q1894 : (Jvm.Cond.selects "OldLight$Cutter" ({ cls := "OldLight$Ship", name := "steers", desc := "(I)I" } : Jvm.MethodName) ({ cls := "OldLight$Ship", name := "steers", desc := "(I)I" } : Jvm.MethodName)) ∈ lw_all := lw_g (lw_at lw_m8 141 rfl) rfl
theorem q1901 : (Jvm.Cond.selects "OldLight$Cutter" ({ cls := "OldLight$Ship", name := "sounds", desc := "(I)I" } : Jvm.MethodName) ({ cls := "OldLight$Ship", name := "sounds", desc := "(I)I" } : Jvm.MethodName)) ∈ lw_all := lw_g (lw_at lw_m8 148 rfl) rfl
theorem q1913 : (Jvm.Cond.castable "OldLight$Cutter" "OldLight$Ship") ∈ lw_tbl := lw_at lw_m8 160 rfl
theorem in_X13 : ∀ w ∈ wsX130, w ∈ lw_all := lw_in wsX130 [519, 520, 521] (by decide +kernel) (by decide +kernel)
/-! OldLight$Smuggler -/
set_option maxRecDepth 100000
def RX14 : String := "OldLight$Smuggler"
def TX14 : u_T := fun k => match k with
  | 0 => ("OldLight$Ship", "trace", "LOldLight$Trace;", true)
  | 1 => ("OldLight$Ship", "number", "I", true)
  | _ => ("OldLight$Ship", "m", "I", true)
def tyX14 : Nat → FieldType := fun k => match k with
  | 0 => .object "OldLight$Trace"
  | 1 => .int
  | _ => .int
abbrev wsX140 : List Cond := u_ws RX14 TX14 3
theorem nmX14 : ∀ a, a < 3 → ∀ b, b < 3 → a ≠ b → (TX14 a).2.1 ≠ (TX14 b).2.1 := by decide +kernel
theorem tyX14_ok : ∀ k, k < 3 → parseFieldDescriptor (TX14 k).2.2.1 = some (tyX14 k) := by decide +kernel
abbrev cX14_init : ByteArray := prog_21_method_1_code
def yX14_init : MethodName := ⟨RX14, "<init>", "(LOldLight$Trace;II)V"⟩
def dkwX14_init_0 : List UInt8 := [42, 43, 28, 29, 183, 0, 3, 177]
abbrev dktX14_init_0 : List UInt8 := dkwX14_init_0 ++ []
theorem dksX14_init_0 : cX14_init.data.toList.drop 0 = dktX14_init_0 := by decide +kernel
theorem dX14_init_0 : decode cX14_init 0 = .ok (.aload_n 0, 1) := dk_42 (dk_at dksX14_init_0 0 rfl rfl)
theorem dX14_init_1 : decode cX14_init 1 = .ok (.aload_n 1, 1) := dk_43 (dk_at dksX14_init_0 1 rfl rfl)
theorem dX14_init_2 : decode cX14_init 2 = .ok (.iload_n 2, 1) := dk_28 (dk_at dksX14_init_0 2 rfl rfl)
theorem dX14_init_3 : decode cX14_init 3 = .ok (.iload_n 3, 1) := dk_29 (dk_at dksX14_init_0 3 rfl rfl)
theorem dX14_init_4 : decode cX14_init 4 = .ok (.invokespecial 3, 3) := dk_183 0 3 (dk_at dksX14_init_0 4 rfl rfl)
theorem dX14_init_7 : decode cX14_init 7 = .ok (.return_, 1) := dk_177 (dk_at dksX14_init_0 7 rfl rfl)
abbrev cX14_kind : ByteArray := prog_21_method_2_code
def yX14_kind : MethodName := ⟨RX14, "kind", "()I"⟩
theorem dX14_kind_0 : decode cX14_kind 0 = .ok (.iconst 5, 1) := by decide +kernel
theorem dX14_kind_1 : decode cX14_kind 1 = .ok (.ireturn, 1) := by decide +kernel
abbrev cX14_believes : ByteArray := prog_21_method_4_code
def yX14_believes : MethodName := ⟨RX14, "believes", "(LOldLight$Bay;I)I"⟩
def dkwX14_believes_0 : List UInt8 := [42, 43, 28, 183, 0, 13, 43, 28, 43, 180, 0, 17, 182, 0, 23, 184, 0, 27, 172]
abbrev dktX14_believes_0 : List UInt8 := dkwX14_believes_0 ++ []
theorem dksX14_believes_0 : cX14_believes.data.toList.drop 0 = dktX14_believes_0 := by decide +kernel
theorem dX14_believes_0 : decode cX14_believes 0 = .ok (.aload_n 0, 1) := dk_42 (dk_at dksX14_believes_0 0 rfl rfl)
theorem dX14_believes_1 : decode cX14_believes 1 = .ok (.aload_n 1, 1) := dk_43 (dk_at dksX14_believes_0 1 rfl rfl)
theorem dX14_believes_2 : decode cX14_believes 2 = .ok (.iload_n 2, 1) := dk_28 (dk_at dksX14_believes_0 2 rfl rfl)
theorem dX14_believes_3 : decode cX14_believes 3 = .ok (.invokespecial 13, 3) := dk_183 0 13 (dk_at dksX14_believes_0 3 rfl rfl)
theorem dX14_believes_6 : decode cX14_believes 6 = .ok (.aload_n 1, 1) := dk_43 (dk_at dksX14_believes_0 6 rfl rfl)
theorem dX14_believes_7 : decode cX14_believes 7 = .ok (.iload_n 2, 1) := dk_28 (dk_at dksX14_believes_0 7 rfl rfl)
theorem dX14_believes_8 : decode cX14_believes 8 = .ok (.aload_n 1, 1) := dk_43 (dk_at dksX14_believes_0 8 rfl rfl)
theorem dX14_believes_9 : decode cX14_believes 9 = .ok (.getfield 17, 3) := dk_180 0 17 (dk_at dksX14_believes_0 9 rfl rfl)
theorem dX14_believes_12 : decode cX14_believes 12 = .ok (.invokevirtual 23, 3) := dk_182 0 23 (dk_at dksX14_believes_0 12 rfl rfl)
theorem dX14_believes_15 : decode cX14_believes 15 = .ok (.invokestatic 27, 3) := dk_184 0 27 (dk_at dksX14_believes_0 15 rfl rfl)
theorem dX14_believes_18 : decode cX14_believes 18 = .ok (.ireturn, 1) := dk_172 (dk_at dksX14_believes_0 18 rfl rfl)
abbrev cX14_isOf : ByteArray := prog_21_method_3_code
def yX14_isOf : MethodName := ⟨RX14, "isOf", "(I)Z"⟩
def dkwX14_isOf_0 : List UInt8 := [27, 8, 159, 0, 11, 42, 27, 183, 0, 9, 153, 0, 7, 4, 167, 0, 4, 3, 172]
abbrev dktX14_isOf_0 : List UInt8 := dkwX14_isOf_0 ++ []
theorem dksX14_isOf_0 : cX14_isOf.data.toList.drop 0 = dktX14_isOf_0 := by decide +kernel
theorem dX14_isOf_0 : decode cX14_isOf 0 = .ok (.iload_n 1, 1) := dk_27 (dk_at dksX14_isOf_0 0 rfl rfl)
theorem dX14_isOf_1 : decode cX14_isOf 1 = .ok (.iconst 5, 1) := dk_8 (dk_at dksX14_isOf_0 1 rfl rfl)
theorem dX14_isOf_2 : decode cX14_isOf 2 = .ok (.if_icmp .eq 11, 3) := dk_159 0 11 (dk_at dksX14_isOf_0 2 rfl rfl)
theorem dX14_isOf_5 : decode cX14_isOf 5 = .ok (.aload_n 0, 1) := dk_42 (dk_at dksX14_isOf_0 5 rfl rfl)
theorem dX14_isOf_6 : decode cX14_isOf 6 = .ok (.iload_n 1, 1) := dk_27 (dk_at dksX14_isOf_0 6 rfl rfl)
theorem dX14_isOf_7 : decode cX14_isOf 7 = .ok (.invokespecial 9, 3) := dk_183 0 9 (dk_at dksX14_isOf_0 7 rfl rfl)
theorem dX14_isOf_10 : decode cX14_isOf 10 = .ok (.ifCond .eq 7, 3) := dk_153 0 7 (dk_at dksX14_isOf_0 10 rfl rfl)
theorem dX14_isOf_13 : decode cX14_isOf 13 = .ok (.iconst 1, 1) := dk_4 (dk_at dksX14_isOf_0 13 rfl rfl)
theorem dX14_isOf_14 : decode cX14_isOf 14 = .ok (.goto 4, 3) := dk_167 0 4 (dk_at dksX14_isOf_0 14 rfl rfl)
theorem dX14_isOf_17 : decode cX14_isOf 17 = .ok (.iconst 0, 1) := dk_3 (dk_at dksX14_isOf_0 17 rfl rfl)
theorem dX14_isOf_18 : decode cX14_isOf 18 = .ok (.ireturn, 1) := dk_172 (dk_at dksX14_isOf_0 18 rfl rfl)
abbrev cX14_steers : ByteArray := prog_21_method_5_code
def yX14_steers : MethodName := ⟨RX14, "steers", "(I)I"⟩
def dkwX14_steers_0 : List UInt8 := [42, 180, 0, 32, 16, 60, 182, 0, 38, 42, 27, 4, 96, 183, 0, 44, 172]
abbrev dktX14_steers_0 : List UInt8 := dkwX14_steers_0 ++ []
theorem dksX14_steers_0 : cX14_steers.data.toList.drop 0 = dktX14_steers_0 := by decide +kernel
theorem dX14_steers_0 : decode cX14_steers 0 = .ok (.aload_n 0, 1) := dk_42 (dk_at dksX14_steers_0 0 rfl rfl)
theorem dX14_steers_1 : decode cX14_steers 1 = .ok (.getfield 32, 3) := dk_180 0 32 (dk_at dksX14_steers_0 1 rfl rfl)
theorem dX14_steers_4 : decode cX14_steers 4 = .ok (.bipush 60, 2) := dk_16 60 (dk_at dksX14_steers_0 4 rfl rfl)
theorem dX14_steers_6 : decode cX14_steers 6 = .ok (.invokevirtual 38, 3) := dk_182 0 38 (dk_at dksX14_steers_0 6 rfl rfl)
theorem dX14_steers_9 : decode cX14_steers 9 = .ok (.aload_n 0, 1) := dk_42 (dk_at dksX14_steers_0 9 rfl rfl)
theorem dX14_steers_10 : decode cX14_steers 10 = .ok (.iload_n 1, 1) := dk_27 (dk_at dksX14_steers_0 10 rfl rfl)
theorem dX14_steers_11 : decode cX14_steers 11 = .ok (.iconst 1, 1) := dk_4 (dk_at dksX14_steers_0 11 rfl rfl)
theorem dX14_steers_12 : decode cX14_steers 12 = .ok (.iadd, 1) := dk_96 (dk_at dksX14_steers_0 12 rfl rfl)
theorem dX14_steers_13 : decode cX14_steers 13 = .ok (.invokespecial 44, 3) := dk_183 0 44 (dk_at dksX14_steers_0 13 rfl rfl)
theorem dX14_steers_16 : decode cX14_steers 16 = .ok (.ireturn, 1) := dk_172 (dk_at dksX14_steers_0 16 rfl rfl)
theorem q92 : (Jvm.Cond.initialized "OldLight$Smuggler") ∈ lw_all := lw_g (lw_at lw_m1 19 rfl) rfl
theorem q223 : (Jvm.Cond.fieldLinkNest "OldLight$Smuggler" (17 : Nat) "OldLight$Bay" "back" "I" "OldLight") ∈ lw_tbl := lw_at lw_m1 150 rfl
theorem q470 : (Jvm.Cond.fieldLink "OldLight$Smuggler" (32 : Nat) "OldLight$Smuggler" "trace" "LOldLight$Trace;") ∈ lw_all := lw_g (lw_at lw_m2 157 rfl) rfl
theorem q471 : (Jvm.Cond.sameField "OldLight$Smuggler" "OldLight$Ship" "trace" "LOldLight$Trace;") ∈ lw_all := lw_g (lw_at lw_m2 158 rfl) rfl
theorem q524 : (Jvm.Cond.instantiable "OldLight$Smuggler" (3 : Nat)) ∈ lw_all := lw_g (lw_at lw_m2 211 rfl) rfl
theorem q526 : (Jvm.Cond.instanceMethod ({ cls := "OldLight$Smuggler", name := "<init>", desc := "(LOldLight$Trace;II)V" } : Jvm.MethodName)) ∈ lw_all := lw_g (lw_at lw_m2 213 rfl) rfl
theorem q527 : (Jvm.Cond.code ({ cls := "OldLight$Smuggler", name := "<init>", desc := "(LOldLight$Trace;II)V" } : Jvm.MethodName) prog_21_method_1_code (4 : Nat) (Option.none : Option Jvm.ClassFile.FieldType)) ∈ lw_all := lw_g (lw_at lw_m2 214 rfl) rfl
theorem q528 : (Jvm.Cond.methodLink "OldLight$Smuggler" (3 : Nat) ({ cls := "OldLight$Rower", name := "<init>", desc := "(LOldLight$Trace;II)V" } : Jvm.MethodName)) ∈ lw_all := lw_g (lw_at lw_m2 215 rfl) rfl
theorem q529 : (Jvm.Cond.laysFinal "OldLight$Smuggler" "OldLight$Ship" "trace" "LOldLight$Trace;") ∈ lw_all := lw_g (lw_at lw_m2 216 rfl) rfl
theorem q530 : (Jvm.Cond.laysFinal "OldLight$Smuggler" "OldLight$Ship" "number" "I") ∈ lw_all := lw_g (lw_at lw_m2 217 rfl) rfl
theorem q531 : (Jvm.Cond.laysFinal "OldLight$Smuggler" "OldLight$Ship" "m" "I") ∈ lw_all := lw_g (lw_at lw_m2 218 rfl) rfl
theorem q532 : (Jvm.Cond.superclass "OldLight$Smuggler" "OldLight$Rower") ∈ lw_all := lw_g (lw_at lw_m2 219 rfl) rfl
theorem q578 : (Jvm.Cond.selects "OldLight$Smuggler" ({ cls := "OldLight$Ship", name := "kind", desc := "()I" } : Jvm.MethodName) ({ cls := "OldLight$Smuggler", name := "kind", desc := "()I" } : Jvm.MethodName)) ∈ lw_all := lw_g (lw_at lw_m3 25 rfl) rfl
theorem q579 : (Jvm.Cond.instanceMethod ({ cls := "OldLight$Smuggler", name := "kind", desc := "()I" } : Jvm.MethodName)) ∈ lw_all := lw_g (lw_at lw_m3 26 rfl) rfl
theorem q580 : (Jvm.Cond.code ({ cls := "OldLight$Smuggler", name := "kind", desc := "()I" } : Jvm.MethodName) prog_21_method_2_code (1 : Nat) (Option.some Jvm.ClassFile.FieldType.int)) ∈ lw_all := lw_g (lw_at lw_m3 27 rfl) rfl
theorem q611 : (Jvm.Cond.selects "OldLight$Smuggler" ({ cls := "OldLight$Ship", name := "believes", desc := "(LOldLight$Bay;I)I" } : Jvm.MethodName) ({ cls := "OldLight$Smuggler", name := "believes", desc := "(LOldLight$Bay;I)I" } : Jvm.MethodName)) ∈ lw_all := lw_g (lw_at lw_m3 58 rfl) rfl
theorem q612 : (Jvm.Cond.instanceMethod ({ cls := "OldLight$Smuggler", name := "believes", desc := "(LOldLight$Bay;I)I" } : Jvm.MethodName)) ∈ lw_all := lw_g (lw_at lw_m3 59 rfl) rfl
theorem q613 : (Jvm.Cond.code ({ cls := "OldLight$Smuggler", name := "believes", desc := "(LOldLight$Bay;I)I" } : Jvm.MethodName) prog_21_method_4_code (3 : Nat) (Option.some Jvm.ClassFile.FieldType.int)) ∈ lw_all := lw_g (lw_at lw_m3 60 rfl) rfl
theorem q614 : (Jvm.Cond.methodLink "OldLight$Smuggler" (13 : Nat) ({ cls := "OldLight$Rower", name := "believes", desc := "(LOldLight$Bay;I)I" } : Jvm.MethodName)) ∈ lw_all := lw_g (lw_at lw_m3 61 rfl) rfl
theorem q615 : (Jvm.Cond.methodLink "OldLight$Smuggler" (23 : Nat) ({ cls := "OldLight$Bay", name := "shown", desc := "(II)I" } : Jvm.MethodName)) ∈ lw_all := lw_g (lw_at lw_m3 62 rfl) rfl
theorem q616 : (Jvm.Cond.methodLink "OldLight$Smuggler" (27 : Nat) ({ cls := "java/lang/Math", name := "max", desc := "(II)I" } : Jvm.MethodName)) ∈ lw_all := lw_g (lw_at lw_m3 63 rfl) rfl
theorem q664 : (Jvm.Cond.selects "OldLight$Smuggler" ({ cls := "OldLight$Ship", name := "isOf", desc := "(I)Z" } : Jvm.MethodName) ({ cls := "OldLight$Smuggler", name := "isOf", desc := "(I)Z" } : Jvm.MethodName)) ∈ lw_all := lw_g (lw_at lw_m3 111 rfl) rfl
theorem q665 : (Jvm.Cond.instanceMethod ({ cls := "OldLight$Smuggler", name := "isOf", desc := "(I)Z" } : Jvm.MethodName)) ∈ lw_all := lw_g (lw_at lw_m3 112 rfl) rfl
theorem q666 : (Jvm.Cond.code ({ cls := "OldLight$Smuggler", name := "isOf", desc := "(I)Z" } : Jvm.MethodName) prog_21_method_3_code (2 : Nat) (Option.some Jvm.ClassFile.FieldType.boolean)) ∈ lw_all := lw_g (lw_at lw_m3 113 rfl) rfl
theorem q667 : (Jvm.Cond.methodLink "OldLight$Smuggler" (9 : Nat) ({ cls := "OldLight$Rower", name := "isOf", desc := "(I)Z" } : Jvm.MethodName)) ∈ lw_all := lw_g (lw_at lw_m3 114 rfl) rfl
theorem q1123 : (Jvm.Cond.castable "OldLight$Smuggler" "OldLight$Sails") ∈ lw_tbl := lw_at lw_m5 90 rfl
theorem q1124 : (Jvm.Cond.selects "OldLight$Smuggler" ({ cls := "OldLight$Sails", name := "sails", desc := "(I)I" } : Jvm.MethodName) ({ cls := "OldLight$Ship", name := "sails", desc := "(I)I" } : Jvm.MethodName)) ∈ lw_all := lw_g (lw_at lw_m5 91 rfl) rfl
theorem q1125 : (Jvm.Cond.unhidden "OldLight$Smuggler" "sails" "(I)I") ∈ lw_tbl := lw_at lw_m5 92 rfl
theorem q1158 : (Jvm.Cond.selects "OldLight$Smuggler" ({ cls := "OldLight$Rower", name := "sounds", desc := "(I)I" } : Jvm.MethodName) ({ cls := "OldLight$Ship", name := "sounds", desc := "(I)I" } : Jvm.MethodName)) ∈ lw_all := lw_g (lw_at lw_m5 125 rfl) rfl
theorem q1164 : (Jvm.Cond.castable "OldLight$Smuggler" "OldLight$Steers") ∈ lw_tbl := lw_at lw_m5 131 rfl
theorem q1165 : (Jvm.Cond.selects "OldLight$Smuggler" ({ cls := "OldLight$Steers", name := "steers", desc := "(I)I" } : Jvm.MethodName) ({ cls := "OldLight$Smuggler", name := "steers", desc := "(I)I" } : Jvm.MethodName)) ∈ lw_all := lw_g (lw_at lw_m5 132 rfl) rfl
theorem q1166 : (Jvm.Cond.unhidden "OldLight$Smuggler" "steers" "(I)I") ∈ lw_tbl := lw_at lw_m5 133 rfl
theorem q1167 : (Jvm.Cond.instanceMethod ({ cls := "OldLight$Smuggler", name := "steers", desc := "(I)I" } : Jvm.MethodName)) ∈ lw_all := lw_g (lw_at lw_m5 134 rfl) rfl
theorem q1168 : (Jvm.Cond.publicMethod ({ cls := "OldLight$Smuggler", name := "steers", desc := "(I)I" } : Jvm.MethodName)) ∈ lw_tbl := lw_at lw_m5 135 rfl
theorem q1169 : (Jvm.Cond.code ({ cls := "OldLight$Smuggler", name := "steers", desc := "(I)I" } : Jvm.MethodName) prog_21_method_5_code (2 : Nat) (Option.some Jvm.ClassFile.FieldType.int)) ∈ lw_all := lw_g (lw_at lw_m5 136 rfl) rfl
theorem q1170 : (Jvm.Cond.methodLink "OldLight$Smuggler" (38 : Nat) ({ cls := "OldLight$Trace", name := "begins", desc := "(I)V" } : Jvm.MethodName)) ∈ lw_all := lw_g (lw_at lw_m5 137 rfl) rfl
theorem q1171 : (Jvm.Cond.methodLink "OldLight$Smuggler" (44 : Nat) ({ cls := "OldLight$Rower", name := "steers", desc := "(I)I" } : Jvm.MethodName)) ∈ lw_all := lw_g (lw_at lw_m5 138 rfl) rfl
theorem q1204 : (Jvm.Cond.castable "OldLight$Smuggler" "OldLight$Sounds") ∈ lw_tbl := lw_at lw_m5 171 rfl
theorem q1205 : (Jvm.Cond.selects "OldLight$Smuggler" ({ cls := "OldLight$Sounds", name := "sounds", desc := "(I)I" } : Jvm.MethodName) ({ cls := "OldLight$Ship", name := "sounds", desc := "(I)I" } : Jvm.MethodName)) ∈ lw_all := lw_g (lw_at lw_m5 172 rfl) rfl
theorem q1206 : (Jvm.Cond.unhidden "OldLight$Smuggler" "sounds" "(I)I") ∈ lw_tbl := lw_at lw_m5 173 rfl
theorem q1255 : (Jvm.Cond.castable "OldLight$Smuggler" "OldLight$Logs") ∈ lw_tbl := lw_at lw_m5 222 rfl
theorem q1256 : (Jvm.Cond.selects "OldLight$Smuggler" ({ cls := "OldLight$Logs", name := "logs", desc := "(I)I" } : Jvm.MethodName) ({ cls := "OldLight$Ship", name := "logs", desc := "(I)I" } : Jvm.MethodName)) ∈ lw_all := lw_g (lw_at lw_m5 223 rfl) rfl
theorem q1257 : (Jvm.Cond.unhidden "OldLight$Smuggler" "logs" "(I)I") ∈ lw_tbl := lw_at lw_m5 224 rfl
theorem q1887 : (Jvm.Cond.selects "OldLight$Smuggler" ({ cls := "OldLight$Ship", name := "sails", desc := "(I)I" } : Jvm.MethodName) ({ cls := "OldLight$Ship", name := "sails", desc := "(I)I" } : Jvm.MethodName)) ∈ lw_all := lw_g (lw_at lw_m8 134 rfl) rfl
theorem q1898 : (Jvm.Cond.selects "OldLight$Smuggler" ({ cls := "OldLight$Ship", name := "steers", desc := "(I)I" } : Jvm.MethodName) ({ cls := "OldLight$Smuggler", name := "steers", desc := "(I)I" } : Jvm.MethodName)) ∈ lw_all := lw_g (lw_at lw_m8 145 rfl) rfl
theorem q1905 : (Jvm.Cond.selects "OldLight$Smuggler" ({ cls := "OldLight$Ship", name := "sounds", desc := "(I)I" } : Jvm.MethodName) ({ cls := "OldLight$Ship", name := "sounds", desc := "(I)I" } : Jvm.MethodName)) ∈ lw_all := lw_g (lw_at lw_m8 152 rfl) rfl
theorem q1914 : (Jvm.Cond.castable "OldLight$Smuggler" "OldLight$Ship") ∈ lw_tbl := lw_at lw_m8 161 rfl
theorem in_X14 : ∀ w ∈ wsX140, w ∈ lw_all := lw_in wsX140 [529, 530, 531] (by decide +kernel) (by decide +kernel)
/-! OldLight$Ghost -/
set_option maxRecDepth 100000
def RX15 : String := "OldLight$Ghost"
def TX15 : u_T := fun k => match k with
  | 0 => ("OldLight$Ship", "trace", "LOldLight$Trace;", true)
  | 1 => ("OldLight$Ship", "number", "I", true)
  | _ => ("OldLight$Ship", "m", "I", true)
def tyX15 : Nat → FieldType := fun k => match k with
  | 0 => .object "OldLight$Trace"
  | 1 => .int
  | _ => .int
abbrev wsX150 : List Cond := u_ws RX15 TX15 3
theorem nmX15 : ∀ a, a < 3 → ∀ b, b < 3 → a ≠ b → (TX15 a).2.1 ≠ (TX15 b).2.1 := by decide +kernel
theorem tyX15_ok : ∀ k, k < 3 → parseFieldDescriptor (TX15 k).2.2.1 = some (tyX15 k) := by decide +kernel
abbrev cX15_init : ByteArray := prog_10_method_1_code
def yX15_init : MethodName := ⟨RX15, "<init>", "(LOldLight$Trace;II)V"⟩
def dkwX15_init_0 : List UInt8 := [42, 43, 28, 29, 183, 0, 3, 177]
abbrev dktX15_init_0 : List UInt8 := dkwX15_init_0 ++ []
theorem dksX15_init_0 : cX15_init.data.toList.drop 0 = dktX15_init_0 := by decide +kernel
theorem dX15_init_0 : decode cX15_init 0 = .ok (.aload_n 0, 1) := dk_42 (dk_at dksX15_init_0 0 rfl rfl)
theorem dX15_init_1 : decode cX15_init 1 = .ok (.aload_n 1, 1) := dk_43 (dk_at dksX15_init_0 1 rfl rfl)
theorem dX15_init_2 : decode cX15_init 2 = .ok (.iload_n 2, 1) := dk_28 (dk_at dksX15_init_0 2 rfl rfl)
theorem dX15_init_3 : decode cX15_init 3 = .ok (.iload_n 3, 1) := dk_29 (dk_at dksX15_init_0 3 rfl rfl)
theorem dX15_init_4 : decode cX15_init 4 = .ok (.invokespecial 3, 3) := dk_183 0 3 (dk_at dksX15_init_0 4 rfl rfl)
theorem dX15_init_7 : decode cX15_init 7 = .ok (.return_, 1) := dk_177 (dk_at dksX15_init_0 7 rfl rfl)
abbrev cX15_kind : ByteArray := prog_10_method_2_code
def yX15_kind : MethodName := ⟨RX15, "kind", "()I"⟩
theorem dX15_kind_0 : decode cX15_kind 0 = .ok (.bipush 6, 2) := by decide +kernel
theorem dX15_kind_2 : decode cX15_kind 2 = .ok (.ireturn, 1) := by decide +kernel
abbrev cX15_believes : ByteArray := prog_10_method_4_code
def yX15_believes : MethodName := ⟨RX15, "believes", "(LOldLight$Bay;I)I"⟩
def dkwX15_believes_0 : List UInt8 := [43, 28, 5, 43, 180, 0, 13, 104, 182, 0, 19, 43, 28, 182, 0, 23, 184, 0, 27, 172]
abbrev dktX15_believes_0 : List UInt8 := dkwX15_believes_0 ++ []
theorem dksX15_believes_0 : cX15_believes.data.toList.drop 0 = dktX15_believes_0 := by decide +kernel
theorem dX15_believes_0 : decode cX15_believes 0 = .ok (.aload_n 1, 1) := dk_43 (dk_at dksX15_believes_0 0 rfl rfl)
theorem dX15_believes_1 : decode cX15_believes 1 = .ok (.iload_n 2, 1) := dk_28 (dk_at dksX15_believes_0 1 rfl rfl)
theorem dX15_believes_2 : decode cX15_believes 2 = .ok (.iconst 2, 1) := dk_5 (dk_at dksX15_believes_0 2 rfl rfl)
theorem dX15_believes_3 : decode cX15_believes 3 = .ok (.aload_n 1, 1) := dk_43 (dk_at dksX15_believes_0 3 rfl rfl)
theorem dX15_believes_4 : decode cX15_believes 4 = .ok (.getfield 13, 3) := dk_180 0 13 (dk_at dksX15_believes_0 4 rfl rfl)
theorem dX15_believes_7 : decode cX15_believes 7 = .ok (.imul, 1) := dk_104 (dk_at dksX15_believes_0 7 rfl rfl)
theorem dX15_believes_8 : decode cX15_believes 8 = .ok (.invokevirtual 19, 3) := dk_182 0 19 (dk_at dksX15_believes_0 8 rfl rfl)
theorem dX15_believes_11 : decode cX15_believes 11 = .ok (.aload_n 1, 1) := dk_43 (dk_at dksX15_believes_0 11 rfl rfl)
theorem dX15_believes_12 : decode cX15_believes 12 = .ok (.iload_n 2, 1) := dk_28 (dk_at dksX15_believes_0 12 rfl rfl)
theorem dX15_believes_13 : decode cX15_believes 13 = .ok (.invokevirtual 23, 3) := dk_182 0 23 (dk_at dksX15_believes_0 13 rfl rfl)
theorem dX15_believes_16 : decode cX15_believes 16 = .ok (.invokestatic 27, 3) := dk_184 0 27 (dk_at dksX15_believes_0 16 rfl rfl)
theorem dX15_believes_19 : decode cX15_believes 19 = .ok (.ireturn, 1) := dk_172 (dk_at dksX15_believes_0 19 rfl rfl)
abbrev cX15_isOf : ByteArray := prog_10_method_3_code
def yX15_isOf : MethodName := ⟨RX15, "isOf", "(I)Z"⟩
def dkwX15_isOf_0 : List UInt8 := [27, 16, 6, 159, 0, 11, 42, 27, 183, 0, 9, 153, 0, 7, 4, 167, 0, 4, 3, 172]
abbrev dktX15_isOf_0 : List UInt8 := dkwX15_isOf_0 ++ []
theorem dksX15_isOf_0 : cX15_isOf.data.toList.drop 0 = dktX15_isOf_0 := by decide +kernel
theorem dX15_isOf_0 : decode cX15_isOf 0 = .ok (.iload_n 1, 1) := dk_27 (dk_at dksX15_isOf_0 0 rfl rfl)
theorem dX15_isOf_1 : decode cX15_isOf 1 = .ok (.bipush 6, 2) := dk_16 6 (dk_at dksX15_isOf_0 1 rfl rfl)
theorem dX15_isOf_3 : decode cX15_isOf 3 = .ok (.if_icmp .eq 11, 3) := dk_159 0 11 (dk_at dksX15_isOf_0 3 rfl rfl)
theorem dX15_isOf_6 : decode cX15_isOf 6 = .ok (.aload_n 0, 1) := dk_42 (dk_at dksX15_isOf_0 6 rfl rfl)
theorem dX15_isOf_7 : decode cX15_isOf 7 = .ok (.iload_n 1, 1) := dk_27 (dk_at dksX15_isOf_0 7 rfl rfl)
theorem dX15_isOf_8 : decode cX15_isOf 8 = .ok (.invokespecial 9, 3) := dk_183 0 9 (dk_at dksX15_isOf_0 8 rfl rfl)
theorem dX15_isOf_11 : decode cX15_isOf 11 = .ok (.ifCond .eq 7, 3) := dk_153 0 7 (dk_at dksX15_isOf_0 11 rfl rfl)
theorem dX15_isOf_14 : decode cX15_isOf 14 = .ok (.iconst 1, 1) := dk_4 (dk_at dksX15_isOf_0 14 rfl rfl)
theorem dX15_isOf_15 : decode cX15_isOf 15 = .ok (.goto 4, 3) := dk_167 0 4 (dk_at dksX15_isOf_0 15 rfl rfl)
theorem dX15_isOf_18 : decode cX15_isOf 18 = .ok (.iconst 0, 1) := dk_3 (dk_at dksX15_isOf_0 18 rfl rfl)
theorem dX15_isOf_19 : decode cX15_isOf 19 = .ok (.ireturn, 1) := dk_172 (dk_at dksX15_isOf_0 19 rfl rfl)
abbrev cX15_sounds : ByteArray := prog_10_method_5_code
def yX15_sounds : MethodName := ⟨RX15, "sounds", "(I)I"⟩
def dkwX15_sounds_0 : List UInt8 := [42, 180, 0, 32, 16, 70, 182, 0, 38, 42, 27, 183, 0, 44, 42, 180, 0, 47, 130, 172]
abbrev dktX15_sounds_0 : List UInt8 := dkwX15_sounds_0 ++ []
theorem dksX15_sounds_0 : cX15_sounds.data.toList.drop 0 = dktX15_sounds_0 := by decide +kernel
theorem dX15_sounds_0 : decode cX15_sounds 0 = .ok (.aload_n 0, 1) := dk_42 (dk_at dksX15_sounds_0 0 rfl rfl)
theorem dX15_sounds_1 : decode cX15_sounds 1 = .ok (.getfield 32, 3) := dk_180 0 32 (dk_at dksX15_sounds_0 1 rfl rfl)
theorem dX15_sounds_4 : decode cX15_sounds 4 = .ok (.bipush 70, 2) := dk_16 70 (dk_at dksX15_sounds_0 4 rfl rfl)
theorem dX15_sounds_6 : decode cX15_sounds 6 = .ok (.invokevirtual 38, 3) := dk_182 0 38 (dk_at dksX15_sounds_0 6 rfl rfl)
theorem dX15_sounds_9 : decode cX15_sounds 9 = .ok (.aload_n 0, 1) := dk_42 (dk_at dksX15_sounds_0 9 rfl rfl)
theorem dX15_sounds_10 : decode cX15_sounds 10 = .ok (.iload_n 1, 1) := dk_27 (dk_at dksX15_sounds_0 10 rfl rfl)
theorem dX15_sounds_11 : decode cX15_sounds 11 = .ok (.invokespecial 44, 3) := dk_183 0 44 (dk_at dksX15_sounds_0 11 rfl rfl)
theorem dX15_sounds_14 : decode cX15_sounds 14 = .ok (.aload_n 0, 1) := dk_42 (dk_at dksX15_sounds_0 14 rfl rfl)
theorem dX15_sounds_15 : decode cX15_sounds 15 = .ok (.getfield 47, 3) := dk_180 0 47 (dk_at dksX15_sounds_0 15 rfl rfl)
theorem dX15_sounds_18 : decode cX15_sounds 18 = .ok (.ixor, 1) := dk_130 (dk_at dksX15_sounds_0 18 rfl rfl)
theorem dX15_sounds_19 : decode cX15_sounds 19 = .ok (.ireturn, 1) := dk_172 (dk_at dksX15_sounds_0 19 rfl rfl)
abbrev cX15_logs : ByteArray := prog_10_method_6_code
def yX15_logs : MethodName := ⟨RX15, "logs", "(I)I"⟩
def dkwX15_logs_0 : List UInt8 := [42, 180, 0, 32, 16, 71, 182, 0, 38, 42, 27, 182, 0, 50, 61, 28, 42, 27, 183, 0, 53, 100, 172]
abbrev dktX15_logs_0 : List UInt8 := dkwX15_logs_0 ++ []
theorem dksX15_logs_0 : cX15_logs.data.toList.drop 0 = dktX15_logs_0 := by decide +kernel
theorem dX15_logs_0 : decode cX15_logs 0 = .ok (.aload_n 0, 1) := dk_42 (dk_at dksX15_logs_0 0 rfl rfl)
theorem dX15_logs_1 : decode cX15_logs 1 = .ok (.getfield 32, 3) := dk_180 0 32 (dk_at dksX15_logs_0 1 rfl rfl)
theorem dX15_logs_4 : decode cX15_logs 4 = .ok (.bipush 71, 2) := dk_16 71 (dk_at dksX15_logs_0 4 rfl rfl)
theorem dX15_logs_6 : decode cX15_logs 6 = .ok (.invokevirtual 38, 3) := dk_182 0 38 (dk_at dksX15_logs_0 6 rfl rfl)
theorem dX15_logs_9 : decode cX15_logs 9 = .ok (.aload_n 0, 1) := dk_42 (dk_at dksX15_logs_0 9 rfl rfl)
theorem dX15_logs_10 : decode cX15_logs 10 = .ok (.iload_n 1, 1) := dk_27 (dk_at dksX15_logs_0 10 rfl rfl)
theorem dX15_logs_11 : decode cX15_logs 11 = .ok (.invokevirtual 50, 3) := dk_182 0 50 (dk_at dksX15_logs_0 11 rfl rfl)
theorem dX15_logs_14 : decode cX15_logs 14 = .ok (.istore_n 2, 1) := dk_61 (dk_at dksX15_logs_0 14 rfl rfl)
theorem dX15_logs_15 : decode cX15_logs 15 = .ok (.iload_n 2, 1) := dk_28 (dk_at dksX15_logs_0 15 rfl rfl)
theorem dX15_logs_16 : decode cX15_logs 16 = .ok (.aload_n 0, 1) := dk_42 (dk_at dksX15_logs_0 16 rfl rfl)
theorem dX15_logs_17 : decode cX15_logs 17 = .ok (.iload_n 1, 1) := dk_27 (dk_at dksX15_logs_0 17 rfl rfl)
theorem dX15_logs_18 : decode cX15_logs 18 = .ok (.invokespecial 53, 3) := dk_183 0 53 (dk_at dksX15_logs_0 18 rfl rfl)
theorem dX15_logs_21 : decode cX15_logs 21 = .ok (.isub, 1) := dk_100 (dk_at dksX15_logs_0 21 rfl rfl)
theorem dX15_logs_22 : decode cX15_logs 22 = .ok (.ireturn, 1) := dk_172 (dk_at dksX15_logs_0 22 rfl rfl)
theorem q93 : (Jvm.Cond.initialized "OldLight$Ghost") ∈ lw_all := lw_g (lw_at lw_m1 20 rfl) rfl
theorem q222 : (Jvm.Cond.fieldLinkNest "OldLight$Ghost" (13 : Nat) "OldLight$Bay" "back" "I" "OldLight") ∈ lw_tbl := lw_at lw_m1 149 rfl
theorem q472 : (Jvm.Cond.fieldLink "OldLight$Ghost" (32 : Nat) "OldLight$Ghost" "trace" "LOldLight$Trace;") ∈ lw_all := lw_g (lw_at lw_m2 159 rfl) rfl
theorem q473 : (Jvm.Cond.sameField "OldLight$Ghost" "OldLight$Ship" "trace" "LOldLight$Trace;") ∈ lw_all := lw_g (lw_at lw_m2 160 rfl) rfl
theorem q479 : (Jvm.Cond.fieldLink "OldLight$Ghost" (47 : Nat) "OldLight$Ghost" "number" "I") ∈ lw_all := lw_g (lw_at lw_m2 166 rfl) rfl
theorem q480 : (Jvm.Cond.sameField "OldLight$Ghost" "OldLight$Ship" "number" "I") ∈ lw_all := lw_g (lw_at lw_m2 167 rfl) rfl
theorem q534 : (Jvm.Cond.instantiable "OldLight$Ghost" (3 : Nat)) ∈ lw_all := lw_g (lw_at lw_m2 221 rfl) rfl
theorem q536 : (Jvm.Cond.instanceMethod ({ cls := "OldLight$Ghost", name := "<init>", desc := "(LOldLight$Trace;II)V" } : Jvm.MethodName)) ∈ lw_all := lw_g (lw_at lw_m2 223 rfl) rfl
theorem q537 : (Jvm.Cond.code ({ cls := "OldLight$Ghost", name := "<init>", desc := "(LOldLight$Trace;II)V" } : Jvm.MethodName) prog_10_method_1_code (4 : Nat) (Option.none : Option Jvm.ClassFile.FieldType)) ∈ lw_all := lw_g (lw_at lw_m2 224 rfl) rfl
theorem q538 : (Jvm.Cond.methodLink "OldLight$Ghost" (3 : Nat) ({ cls := "OldLight$Steamer", name := "<init>", desc := "(LOldLight$Trace;II)V" } : Jvm.MethodName)) ∈ lw_all := lw_g (lw_at lw_m2 225 rfl) rfl
theorem q539 : (Jvm.Cond.laysFinal "OldLight$Ghost" "OldLight$Ship" "trace" "LOldLight$Trace;") ∈ lw_all := lw_g (lw_at lw_m2 226 rfl) rfl
theorem q540 : (Jvm.Cond.laysFinal "OldLight$Ghost" "OldLight$Ship" "number" "I") ∈ lw_all := lw_g (lw_at lw_m2 227 rfl) rfl
theorem q541 : (Jvm.Cond.laysFinal "OldLight$Ghost" "OldLight$Ship" "m" "I") ∈ lw_all := lw_g (lw_at lw_m2 228 rfl) rfl
theorem q542 : (Jvm.Cond.superclass "OldLight$Ghost" "OldLight$Steamer") ∈ lw_all := lw_g (lw_at lw_m2 229 rfl) rfl
theorem q572 : (Jvm.Cond.selects "OldLight$Ghost" ({ cls := "OldLight$Ship", name := "kind", desc := "()I" } : Jvm.MethodName) ({ cls := "OldLight$Ghost", name := "kind", desc := "()I" } : Jvm.MethodName)) ∈ lw_all := lw_g (lw_at lw_m3 19 rfl) rfl
theorem q573 : (Jvm.Cond.instanceMethod ({ cls := "OldLight$Ghost", name := "kind", desc := "()I" } : Jvm.MethodName)) ∈ lw_all := lw_g (lw_at lw_m3 20 rfl) rfl
theorem q574 : (Jvm.Cond.code ({ cls := "OldLight$Ghost", name := "kind", desc := "()I" } : Jvm.MethodName) prog_10_method_2_code (1 : Nat) (Option.some Jvm.ClassFile.FieldType.int)) ∈ lw_all := lw_g (lw_at lw_m3 21 rfl) rfl
theorem q601 : (Jvm.Cond.selects "OldLight$Ghost" ({ cls := "OldLight$Ship", name := "believes", desc := "(LOldLight$Bay;I)I" } : Jvm.MethodName) ({ cls := "OldLight$Ghost", name := "believes", desc := "(LOldLight$Bay;I)I" } : Jvm.MethodName)) ∈ lw_all := lw_g (lw_at lw_m3 48 rfl) rfl
theorem q602 : (Jvm.Cond.instanceMethod ({ cls := "OldLight$Ghost", name := "believes", desc := "(LOldLight$Bay;I)I" } : Jvm.MethodName)) ∈ lw_all := lw_g (lw_at lw_m3 49 rfl) rfl
theorem q603 : (Jvm.Cond.code ({ cls := "OldLight$Ghost", name := "believes", desc := "(LOldLight$Bay;I)I" } : Jvm.MethodName) prog_10_method_4_code (3 : Nat) (Option.some Jvm.ClassFile.FieldType.int)) ∈ lw_all := lw_g (lw_at lw_m3 50 rfl) rfl
theorem q604 : (Jvm.Cond.methodLink "OldLight$Ghost" (19 : Nat) ({ cls := "OldLight$Bay", name := "shown", desc := "(II)I" } : Jvm.MethodName)) ∈ lw_all := lw_g (lw_at lw_m3 51 rfl) rfl
theorem q605 : (Jvm.Cond.methodLink "OldLight$Ghost" (23 : Nat) ({ cls := "OldLight$Bay", name := "trueDepth", desc := "(I)I" } : Jvm.MethodName)) ∈ lw_all := lw_g (lw_at lw_m3 52 rfl) rfl
theorem q606 : (Jvm.Cond.methodLink "OldLight$Ghost" (27 : Nat) ({ cls := "java/lang/Math", name := "min", desc := "(II)I" } : Jvm.MethodName)) ∈ lw_all := lw_g (lw_at lw_m3 53 rfl) rfl
theorem q653 : (Jvm.Cond.selects "OldLight$Ghost" ({ cls := "OldLight$Ship", name := "isOf", desc := "(I)Z" } : Jvm.MethodName) ({ cls := "OldLight$Ghost", name := "isOf", desc := "(I)Z" } : Jvm.MethodName)) ∈ lw_all := lw_g (lw_at lw_m3 100 rfl) rfl
theorem q654 : (Jvm.Cond.instanceMethod ({ cls := "OldLight$Ghost", name := "isOf", desc := "(I)Z" } : Jvm.MethodName)) ∈ lw_all := lw_g (lw_at lw_m3 101 rfl) rfl
theorem q655 : (Jvm.Cond.code ({ cls := "OldLight$Ghost", name := "isOf", desc := "(I)Z" } : Jvm.MethodName) prog_10_method_3_code (2 : Nat) (Option.some Jvm.ClassFile.FieldType.boolean)) ∈ lw_all := lw_g (lw_at lw_m3 102 rfl) rfl
theorem q656 : (Jvm.Cond.methodLink "OldLight$Ghost" (9 : Nat) ({ cls := "OldLight$Steamer", name := "isOf", desc := "(I)Z" } : Jvm.MethodName)) ∈ lw_all := lw_g (lw_at lw_m3 103 rfl) rfl
theorem q1113 : (Jvm.Cond.castable "OldLight$Ghost" "OldLight$Sails") ∈ lw_tbl := lw_at lw_m5 80 rfl
theorem q1114 : (Jvm.Cond.selects "OldLight$Ghost" ({ cls := "OldLight$Sails", name := "sails", desc := "(I)I" } : Jvm.MethodName) ({ cls := "OldLight$Ship", name := "sails", desc := "(I)I" } : Jvm.MethodName)) ∈ lw_all := lw_g (lw_at lw_m5 81 rfl) rfl
theorem q1115 : (Jvm.Cond.unhidden "OldLight$Ghost" "sails" "(I)I") ∈ lw_tbl := lw_at lw_m5 82 rfl
theorem q1143 : (Jvm.Cond.castable "OldLight$Ghost" "OldLight$Steers") ∈ lw_tbl := lw_at lw_m5 110 rfl
theorem q1144 : (Jvm.Cond.selects "OldLight$Ghost" ({ cls := "OldLight$Steers", name := "steers", desc := "(I)I" } : Jvm.MethodName) ({ cls := "OldLight$Ship", name := "steers", desc := "(I)I" } : Jvm.MethodName)) ∈ lw_all := lw_g (lw_at lw_m5 111 rfl) rfl
theorem q1145 : (Jvm.Cond.unhidden "OldLight$Ghost" "steers" "(I)I") ∈ lw_tbl := lw_at lw_m5 112 rfl
theorem q1186 : (Jvm.Cond.castable "OldLight$Ghost" "OldLight$Sounds") ∈ lw_tbl := lw_at lw_m5 153 rfl
theorem q1187 : (Jvm.Cond.selects "OldLight$Ghost" ({ cls := "OldLight$Sounds", name := "sounds", desc := "(I)I" } : Jvm.MethodName) ({ cls := "OldLight$Ghost", name := "sounds", desc := "(I)I" } : Jvm.MethodName)) ∈ lw_all := lw_g (lw_at lw_m5 154 rfl) rfl
theorem q1188 : (Jvm.Cond.unhidden "OldLight$Ghost" "sounds" "(I)I") ∈ lw_tbl := lw_at lw_m5 155 rfl
theorem q1189 : (Jvm.Cond.instanceMethod ({ cls := "OldLight$Ghost", name := "sounds", desc := "(I)I" } : Jvm.MethodName)) ∈ lw_all := lw_g (lw_at lw_m5 156 rfl) rfl
theorem q1190 : (Jvm.Cond.publicMethod ({ cls := "OldLight$Ghost", name := "sounds", desc := "(I)I" } : Jvm.MethodName)) ∈ lw_tbl := lw_at lw_m5 157 rfl
theorem q1191 : (Jvm.Cond.code ({ cls := "OldLight$Ghost", name := "sounds", desc := "(I)I" } : Jvm.MethodName) prog_10_method_5_code (2 : Nat) (Option.some Jvm.ClassFile.FieldType.int)) ∈ lw_all := lw_g (lw_at lw_m5 158 rfl) rfl
theorem q1192 : (Jvm.Cond.methodLink "OldLight$Ghost" (38 : Nat) ({ cls := "OldLight$Trace", name := "begins", desc := "(I)V" } : Jvm.MethodName)) ∈ lw_all := lw_g (lw_at lw_m5 159 rfl) rfl
theorem q1193 : (Jvm.Cond.methodLink "OldLight$Ghost" (44 : Nat) ({ cls := "OldLight$Steamer", name := "sounds", desc := "(I)I" } : Jvm.MethodName)) ∈ lw_all := lw_g (lw_at lw_m5 160 rfl) rfl
theorem q1237 : (Jvm.Cond.castable "OldLight$Ghost" "OldLight$Logs") ∈ lw_tbl := lw_at lw_m5 204 rfl
theorem q1238 : (Jvm.Cond.selects "OldLight$Ghost" ({ cls := "OldLight$Logs", name := "logs", desc := "(I)I" } : Jvm.MethodName) ({ cls := "OldLight$Ghost", name := "logs", desc := "(I)I" } : Jvm.MethodName)) ∈ lw_all := lw_g (lw_at lw_m5 205 rfl) rfl
theorem q1239 : (Jvm.Cond.unhidden "OldLight$Ghost" "logs" "(I)I") ∈ lw_tbl := lw_at lw_m5 206 rfl
theorem q1240 : (Jvm.Cond.instanceMethod ({ cls := "OldLight$Ghost", name := "logs", desc := "(I)I" } : Jvm.MethodName)) ∈ lw_all := lw_g (lw_at lw_m5 207 rfl) rfl
theorem q1241 : (Jvm.Cond.publicMethod ({ cls := "OldLight$Ghost", name := "logs", desc := "(I)I" } : Jvm.MethodName)) ∈ lw_tbl := lw_at lw_m5 208 rfl
theorem q1242 : (Jvm.Cond.code ({ cls := "OldLight$Ghost", name := "logs", desc := "(I)I" } : Jvm.MethodName) prog_10_method_6_code (3 : Nat) (Option.some Jvm.ClassFile.FieldType.int)) ∈ lw_all := lw_g (lw_at lw_m5 209 rfl) rfl
theorem q1243 : (Jvm.Cond.methodLink "OldLight$Ghost" (50 : Nat) ({ cls := "OldLight$Ghost", name := "steers", desc := "(I)I" } : Jvm.MethodName)) ∈ lw_all := lw_g (lw_at lw_m5 210 rfl) rfl
theorem q1244 : (Jvm.Cond.sameMethod "OldLight$Ghost" "OldLight$Ship" "steers" "(I)I") ∈ lw_all := lw_g (lw_at lw_m5 211 rfl) rfl
theorem q1246 : (Jvm.Cond.selects "OldLight$Ghost" ({ cls := "OldLight$Ghost", name := "steers", desc := "(I)I" } : Jvm.MethodName) ({ cls := "OldLight$Ship", name := "steers", desc := "(I)I" } : Jvm.MethodName)) ∈ lw_all := lw_g (lw_at lw_m5 213 rfl) rfl
theorem q1247 : (Jvm.Cond.methodLink "OldLight$Ghost" (53 : Nat) ({ cls := "OldLight$Steamer", name := "logs", desc := "(I)I" } : Jvm.MethodName)) ∈ lw_all := lw_g (lw_at lw_m5 214 rfl) rfl
theorem q1884 : (Jvm.Cond.selects "OldLight$Ghost" ({ cls := "OldLight$Ship", name := "sails", desc := "(I)I" } : Jvm.MethodName) ({ cls := "OldLight$Ship", name := "sails", desc := "(I)I" } : Jvm.MethodName)) ∈ lw_all := lw_g (lw_at lw_m8 131 rfl) rfl
theorem q1895 : (Jvm.Cond.selects "OldLight$Ghost" ({ cls := "OldLight$Ship", name := "steers", desc := "(I)I" } : Jvm.MethodName) ({ cls := "OldLight$Ship", name := "steers", desc := "(I)I" } : Jvm.MethodName)) ∈ lw_all := lw_g (lw_at lw_m8 142 rfl) rfl
theorem q1902 : (Jvm.Cond.selects "OldLight$Ghost" ({ cls := "OldLight$Ship", name := "sounds", desc := "(I)I" } : Jvm.MethodName) ({ cls := "OldLight$Ghost", name := "sounds", desc := "(I)I" } : Jvm.MethodName)) ∈ lw_all := lw_g (lw_at lw_m8 149 rfl) rfl
theorem q1915 : (Jvm.Cond.castable "OldLight$Ghost" "OldLight$Ship") ∈ lw_tbl := lw_at lw_m8 162 rfl
theorem in_X15 : ∀ w ∈ wsX150, w ∈ lw_all := lw_in wsX150 [539, 540, 541] (by decide +kernel) (by decide +kernel)
/-! OldLight$Reader -/
set_option maxRecDepth 100000
def RX16 : String := "OldLight$Reader"
def TX16 : u_T := fun k => match k with
  | 0 => ("OldLight$Reader", "names", "Ljava/lang/String;", true)
  | 1 => ("OldLight$Reader", "bytes", "[B", true)
  | 2 => ("OldLight$Reader", "size", "I", true)
  | 3 => ("OldLight$Reader", "at", "I", false)
  | _ => ("OldLight$Reader", "open", "I", false)
def tyX16 : Nat → FieldType := fun k => match k with
  | 0 => .object "java/lang/String"
  | 1 => .array .byte
  | 2 => .int
  | 3 => .int
  | _ => .int
abbrev wsX160 : List Cond := u_ws RX16 TX16 5
theorem nmX16 : ∀ a, a < 5 → ∀ b, b < 5 → a ≠ b → (TX16 a).2.1 ≠ (TX16 b).2.1 := by decide +kernel
theorem tyX16_ok : ∀ k, k < 5 → parseFieldDescriptor (TX16 k).2.2.1 = some (tyX16 k) := by decide +kernel
abbrev cX16_init : ByteArray := prog_14_method_1_code
def yX16_init : MethodName := ⟨RX16, "<init>", "(Ljava/lang/String;[BI)V"⟩
def dkwX16_init_0 : List UInt8 := [42, 183, 0, 3, 42, 43, 181, 0, 9, 42, 44, 181, 0, 15, 42, 29, 181, 0, 19, 177]
abbrev dktX16_init_0 : List UInt8 := dkwX16_init_0 ++ []
theorem dksX16_init_0 : cX16_init.data.toList.drop 0 = dktX16_init_0 := by decide +kernel
theorem dX16_init_0 : decode cX16_init 0 = .ok (.aload_n 0, 1) := dk_42 (dk_at dksX16_init_0 0 rfl rfl)
theorem dX16_init_1 : decode cX16_init 1 = .ok (.invokespecial 3, 3) := dk_183 0 3 (dk_at dksX16_init_0 1 rfl rfl)
theorem dX16_init_4 : decode cX16_init 4 = .ok (.aload_n 0, 1) := dk_42 (dk_at dksX16_init_0 4 rfl rfl)
theorem dX16_init_5 : decode cX16_init 5 = .ok (.aload_n 1, 1) := dk_43 (dk_at dksX16_init_0 5 rfl rfl)
theorem dX16_init_6 : decode cX16_init 6 = .ok (.putfield 9, 3) := dk_181 0 9 (dk_at dksX16_init_0 6 rfl rfl)
theorem dX16_init_9 : decode cX16_init 9 = .ok (.aload_n 0, 1) := dk_42 (dk_at dksX16_init_0 9 rfl rfl)
theorem dX16_init_10 : decode cX16_init 10 = .ok (.aload_n 2, 1) := dk_44 (dk_at dksX16_init_0 10 rfl rfl)
theorem dX16_init_11 : decode cX16_init 11 = .ok (.putfield 15, 3) := dk_181 0 15 (dk_at dksX16_init_0 11 rfl rfl)
theorem dX16_init_14 : decode cX16_init 14 = .ok (.aload_n 0, 1) := dk_42 (dk_at dksX16_init_0 14 rfl rfl)
theorem dX16_init_15 : decode cX16_init 15 = .ok (.iload_n 3, 1) := dk_29 (dk_at dksX16_init_0 15 rfl rfl)
theorem dX16_init_16 : decode cX16_init 16 = .ok (.putfield 19, 3) := dk_181 0 19 (dk_at dksX16_init_0 16 rfl rfl)
theorem dX16_init_19 : decode cX16_init 19 = .ok (.return_, 1) := dk_177 (dk_at dksX16_init_0 19 rfl rfl)
abbrev cX16_read : ByteArray := prog_14_method_2_code
def yX16_read : MethodName := ⟨RX16, "read", "()LOldLight$Term;"⟩
def dkwX16_read_1 : List UInt8 := [182, 0, 30, 43, 176]
abbrev dktX16_read_1 : List UInt8 := dkwX16_read_1 ++ []
def dkwX16_read_0 : List UInt8 := [42, 182, 0, 23, 76, 42, 42, 180, 0, 27, 42, 180, 0, 19, 160, 0, 7, 4, 167, 0, 4, 3]
abbrev dktX16_read_0 : List UInt8 := dkwX16_read_0 ++ dktX16_read_1
theorem dksX16_read_0 : cX16_read.data.toList.drop 0 = dktX16_read_0 := by decide +kernel
theorem dksX16_read_1 : cX16_read.data.toList.drop 22 = dktX16_read_1 := dk_seg dksX16_read_0 22 rfl rfl
theorem dX16_read_0 : decode cX16_read 0 = .ok (.aload_n 0, 1) := dk_42 (dk_at dksX16_read_0 0 rfl rfl)
theorem dX16_read_1 : decode cX16_read 1 = .ok (.invokevirtual 23, 3) := dk_182 0 23 (dk_at dksX16_read_0 1 rfl rfl)
theorem dX16_read_4 : decode cX16_read 4 = .ok (.astore_n 1, 1) := dk_76 (dk_at dksX16_read_0 4 rfl rfl)
theorem dX16_read_5 : decode cX16_read 5 = .ok (.aload_n 0, 1) := dk_42 (dk_at dksX16_read_0 5 rfl rfl)
theorem dX16_read_6 : decode cX16_read 6 = .ok (.aload_n 0, 1) := dk_42 (dk_at dksX16_read_0 6 rfl rfl)
theorem dX16_read_7 : decode cX16_read 7 = .ok (.getfield 27, 3) := dk_180 0 27 (dk_at dksX16_read_0 7 rfl rfl)
theorem dX16_read_10 : decode cX16_read 10 = .ok (.aload_n 0, 1) := dk_42 (dk_at dksX16_read_0 10 rfl rfl)
theorem dX16_read_11 : decode cX16_read 11 = .ok (.getfield 19, 3) := dk_180 0 19 (dk_at dksX16_read_0 11 rfl rfl)
theorem dX16_read_14 : decode cX16_read 14 = .ok (.if_icmp .ne 7, 3) := dk_160 0 7 (dk_at dksX16_read_0 14 rfl rfl)
theorem dX16_read_17 : decode cX16_read 17 = .ok (.iconst 1, 1) := dk_4 (dk_at dksX16_read_0 17 rfl rfl)
theorem dX16_read_18 : decode cX16_read 18 = .ok (.goto 4, 3) := dk_167 0 4 (dk_at dksX16_read_0 18 rfl rfl)
theorem dX16_read_21 : decode cX16_read 21 = .ok (.iconst 0, 1) := dk_3 (dk_at dksX16_read_0 21 rfl rfl)
theorem dX16_read_22 : decode cX16_read 22 = .ok (.invokevirtual 30, 3) := dk_182 0 30 (dk_at dksX16_read_1 0 rfl rfl)
theorem dX16_read_25 : decode cX16_read 25 = .ok (.aload_n 1, 1) := dk_43 (dk_at dksX16_read_1 3 rfl rfl)
theorem dX16_read_26 : decode cX16_read 26 = .ok (.areturn, 1) := dk_176 (dk_at dksX16_read_1 4 rfl rfl)
abbrev cX16_either : ByteArray := prog_14_method_6_code
def yX16_either : MethodName := ⟨RX16, "either", "()LOldLight$Term;"⟩
def dkwX16_either_1 : List UInt8 := [187, 0, 58, 89, 16, 124, 43, 42, 182, 0, 49, 183, 0, 60, 76, 167, 255, 222, 43, 176]
abbrev dktX16_either_1 : List UInt8 := dkwX16_either_1 ++ []
def dkwX16_either_0 : List UInt8 := [42, 182, 0, 49, 76, 42, 18, 52, 182, 0, 54, 153, 0, 31, 42, 89, 180, 0, 27, 4, 96, 181, 0, 27]
abbrev dktX16_either_0 : List UInt8 := dkwX16_either_0 ++ dktX16_either_1
theorem dksX16_either_0 : cX16_either.data.toList.drop 0 = dktX16_either_0 := by decide +kernel
theorem dksX16_either_1 : cX16_either.data.toList.drop 24 = dktX16_either_1 := dk_seg dksX16_either_0 24 rfl rfl
theorem dX16_either_0 : decode cX16_either 0 = .ok (.aload_n 0, 1) := dk_42 (dk_at dksX16_either_0 0 rfl rfl)
theorem dX16_either_1 : decode cX16_either 1 = .ok (.invokevirtual 49, 3) := dk_182 0 49 (dk_at dksX16_either_0 1 rfl rfl)
theorem dX16_either_4 : decode cX16_either 4 = .ok (.astore_n 1, 1) := dk_76 (dk_at dksX16_either_0 4 rfl rfl)
theorem dX16_either_5 : decode cX16_either 5 = .ok (.aload_n 0, 1) := dk_42 (dk_at dksX16_either_0 5 rfl rfl)
theorem dX16_either_6 : decode cX16_either 6 = .ok (.ldc 52, 2) := dk_18 52 (dk_at dksX16_either_0 6 rfl rfl)
theorem dX16_either_8 : decode cX16_either 8 = .ok (.invokevirtual 54, 3) := dk_182 0 54 (dk_at dksX16_either_0 8 rfl rfl)
theorem dX16_either_11 : decode cX16_either 11 = .ok (.ifCond .eq 31, 3) := dk_153 0 31 (dk_at dksX16_either_0 11 rfl rfl)
theorem dX16_either_14 : decode cX16_either 14 = .ok (.aload_n 0, 1) := dk_42 (dk_at dksX16_either_0 14 rfl rfl)
theorem dX16_either_15 : decode cX16_either 15 = .ok (.dup, 1) := dk_89 (dk_at dksX16_either_0 15 rfl rfl)
theorem dX16_either_16 : decode cX16_either 16 = .ok (.getfield 27, 3) := dk_180 0 27 (dk_at dksX16_either_0 16 rfl rfl)
theorem dX16_either_19 : decode cX16_either 19 = .ok (.iconst 1, 1) := dk_4 (dk_at dksX16_either_0 19 rfl rfl)
theorem dX16_either_20 : decode cX16_either 20 = .ok (.iadd, 1) := dk_96 (dk_at dksX16_either_0 20 rfl rfl)
theorem dX16_either_21 : decode cX16_either 21 = .ok (.putfield 27, 3) := dk_181 0 27 (dk_at dksX16_either_0 21 rfl rfl)
theorem dX16_either_24 : decode cX16_either 24 = .ok (.new 58, 3) := dk_187 0 58 (dk_at dksX16_either_1 0 rfl rfl)
theorem dX16_either_27 : decode cX16_either 27 = .ok (.dup, 1) := dk_89 (dk_at dksX16_either_1 3 rfl rfl)
theorem dX16_either_28 : decode cX16_either 28 = .ok (.bipush 124, 2) := dk_16 124 (dk_at dksX16_either_1 4 rfl rfl)
theorem dX16_either_30 : decode cX16_either 30 = .ok (.aload_n 1, 1) := dk_43 (dk_at dksX16_either_1 6 rfl rfl)
theorem dX16_either_31 : decode cX16_either 31 = .ok (.aload_n 0, 1) := dk_42 (dk_at dksX16_either_1 7 rfl rfl)
theorem dX16_either_32 : decode cX16_either 32 = .ok (.invokevirtual 49, 3) := dk_182 0 49 (dk_at dksX16_either_1 8 rfl rfl)
theorem dX16_either_35 : decode cX16_either 35 = .ok (.invokespecial 60, 3) := dk_183 0 60 (dk_at dksX16_either_1 11 rfl rfl)
theorem dX16_either_38 : decode cX16_either 38 = .ok (.astore_n 1, 1) := dk_76 (dk_at dksX16_either_1 14 rfl rfl)
theorem dX16_either_39 : decode cX16_either 39 = .ok (.goto (-34), 3) := dk_167 255 222 (dk_at dksX16_either_1 15 rfl rfl)
theorem dX16_either_42 : decode cX16_either 42 = .ok (.aload_n 1, 1) := dk_43 (dk_at dksX16_either_1 18 rfl rfl)
theorem dX16_either_43 : decode cX16_either 43 = .ok (.areturn, 1) := dk_176 (dk_at dksX16_either_1 19 rfl rfl)
abbrev cX16_both : ByteArray := prog_14_method_7_code
def yX16_both : MethodName := ⟨RX16, "both", "()LOldLight$Term;"⟩
def dkwX16_both_1 : List UInt8 := [187, 0, 58, 89, 16, 38, 43, 42, 182, 0, 63, 183, 0, 60, 76, 167, 255, 222, 43, 176]
abbrev dktX16_both_1 : List UInt8 := dkwX16_both_1 ++ []
def dkwX16_both_0 : List UInt8 := [42, 182, 0, 63, 76, 42, 18, 66, 182, 0, 54, 153, 0, 31, 42, 89, 180, 0, 27, 4, 96, 181, 0, 27]
abbrev dktX16_both_0 : List UInt8 := dkwX16_both_0 ++ dktX16_both_1
theorem dksX16_both_0 : cX16_both.data.toList.drop 0 = dktX16_both_0 := by decide +kernel
theorem dksX16_both_1 : cX16_both.data.toList.drop 24 = dktX16_both_1 := dk_seg dksX16_both_0 24 rfl rfl
theorem dX16_both_0 : decode cX16_both 0 = .ok (.aload_n 0, 1) := dk_42 (dk_at dksX16_both_0 0 rfl rfl)
theorem dX16_both_1 : decode cX16_both 1 = .ok (.invokevirtual 63, 3) := dk_182 0 63 (dk_at dksX16_both_0 1 rfl rfl)
theorem dX16_both_4 : decode cX16_both 4 = .ok (.astore_n 1, 1) := dk_76 (dk_at dksX16_both_0 4 rfl rfl)
theorem dX16_both_5 : decode cX16_both 5 = .ok (.aload_n 0, 1) := dk_42 (dk_at dksX16_both_0 5 rfl rfl)
theorem dX16_both_6 : decode cX16_both 6 = .ok (.ldc 66, 2) := dk_18 66 (dk_at dksX16_both_0 6 rfl rfl)
theorem dX16_both_8 : decode cX16_both 8 = .ok (.invokevirtual 54, 3) := dk_182 0 54 (dk_at dksX16_both_0 8 rfl rfl)
theorem dX16_both_11 : decode cX16_both 11 = .ok (.ifCond .eq 31, 3) := dk_153 0 31 (dk_at dksX16_both_0 11 rfl rfl)
theorem dX16_both_14 : decode cX16_both 14 = .ok (.aload_n 0, 1) := dk_42 (dk_at dksX16_both_0 14 rfl rfl)
theorem dX16_both_15 : decode cX16_both 15 = .ok (.dup, 1) := dk_89 (dk_at dksX16_both_0 15 rfl rfl)
theorem dX16_both_16 : decode cX16_both 16 = .ok (.getfield 27, 3) := dk_180 0 27 (dk_at dksX16_both_0 16 rfl rfl)
theorem dX16_both_19 : decode cX16_both 19 = .ok (.iconst 1, 1) := dk_4 (dk_at dksX16_both_0 19 rfl rfl)
theorem dX16_both_20 : decode cX16_both 20 = .ok (.iadd, 1) := dk_96 (dk_at dksX16_both_0 20 rfl rfl)
theorem dX16_both_21 : decode cX16_both 21 = .ok (.putfield 27, 3) := dk_181 0 27 (dk_at dksX16_both_0 21 rfl rfl)
theorem dX16_both_24 : decode cX16_both 24 = .ok (.new 58, 3) := dk_187 0 58 (dk_at dksX16_both_1 0 rfl rfl)
theorem dX16_both_27 : decode cX16_both 27 = .ok (.dup, 1) := dk_89 (dk_at dksX16_both_1 3 rfl rfl)
theorem dX16_both_28 : decode cX16_both 28 = .ok (.bipush 38, 2) := dk_16 38 (dk_at dksX16_both_1 4 rfl rfl)
theorem dX16_both_30 : decode cX16_both 30 = .ok (.aload_n 1, 1) := dk_43 (dk_at dksX16_both_1 6 rfl rfl)
theorem dX16_both_31 : decode cX16_both 31 = .ok (.aload_n 0, 1) := dk_42 (dk_at dksX16_both_1 7 rfl rfl)
theorem dX16_both_32 : decode cX16_both 32 = .ok (.invokevirtual 63, 3) := dk_182 0 63 (dk_at dksX16_both_1 8 rfl rfl)
theorem dX16_both_35 : decode cX16_both 35 = .ok (.invokespecial 60, 3) := dk_183 0 60 (dk_at dksX16_both_1 11 rfl rfl)
theorem dX16_both_38 : decode cX16_both 38 = .ok (.astore_n 1, 1) := dk_76 (dk_at dksX16_both_1 14 rfl rfl)
theorem dX16_both_39 : decode cX16_both 39 = .ok (.goto (-34), 3) := dk_167 255 222 (dk_at dksX16_both_1 15 rfl rfl)
theorem dX16_both_42 : decode cX16_both 42 = .ok (.aload_n 1, 1) := dk_43 (dk_at dksX16_both_1 18 rfl rfl)
theorem dX16_both_43 : decode cX16_both 43 = .ok (.areturn, 1) := dk_176 (dk_at dksX16_both_1 19 rfl rfl)
abbrev cX16_relation : ByteArray := prog_14_method_8_code
def yX16_relation : MethodName := ⟨RX16, "relation", "()LOldLight$Term;"⟩
def dkwX16_relation_1 : List UInt8 := [180, 0, 27, 4, 96, 181, 0, 27, 187, 0, 58, 89, 28, 43, 42, 182, 0, 68, 183, 0, 60, 176]
abbrev dktX16_relation_1 : List UInt8 := dkwX16_relation_1 ++ []
def dkwX16_relation_0 : List UInt8 := [42, 182, 0, 68, 76, 42, 18, 71, 182, 0, 54, 154, 0, 5, 43, 176, 42, 182, 0, 39, 61, 42, 89]
abbrev dktX16_relation_0 : List UInt8 := dkwX16_relation_0 ++ dktX16_relation_1
theorem dksX16_relation_0 : cX16_relation.data.toList.drop 0 = dktX16_relation_0 := by decide +kernel
theorem dksX16_relation_1 : cX16_relation.data.toList.drop 23 = dktX16_relation_1 := dk_seg dksX16_relation_0 23 rfl rfl
theorem dX16_relation_0 : decode cX16_relation 0 = .ok (.aload_n 0, 1) := dk_42 (dk_at dksX16_relation_0 0 rfl rfl)
theorem dX16_relation_1 : decode cX16_relation 1 = .ok (.invokevirtual 68, 3) := dk_182 0 68 (dk_at dksX16_relation_0 1 rfl rfl)
theorem dX16_relation_4 : decode cX16_relation 4 = .ok (.astore_n 1, 1) := dk_76 (dk_at dksX16_relation_0 4 rfl rfl)
theorem dX16_relation_5 : decode cX16_relation 5 = .ok (.aload_n 0, 1) := dk_42 (dk_at dksX16_relation_0 5 rfl rfl)
theorem dX16_relation_6 : decode cX16_relation 6 = .ok (.ldc 71, 2) := dk_18 71 (dk_at dksX16_relation_0 6 rfl rfl)
theorem dX16_relation_8 : decode cX16_relation 8 = .ok (.invokevirtual 54, 3) := dk_182 0 54 (dk_at dksX16_relation_0 8 rfl rfl)
theorem dX16_relation_11 : decode cX16_relation 11 = .ok (.ifCond .ne 5, 3) := dk_154 0 5 (dk_at dksX16_relation_0 11 rfl rfl)
theorem dX16_relation_14 : decode cX16_relation 14 = .ok (.aload_n 1, 1) := dk_43 (dk_at dksX16_relation_0 14 rfl rfl)
theorem dX16_relation_15 : decode cX16_relation 15 = .ok (.areturn, 1) := dk_176 (dk_at dksX16_relation_0 15 rfl rfl)
theorem dX16_relation_16 : decode cX16_relation 16 = .ok (.aload_n 0, 1) := dk_42 (dk_at dksX16_relation_0 16 rfl rfl)
theorem dX16_relation_17 : decode cX16_relation 17 = .ok (.invokevirtual 39, 3) := dk_182 0 39 (dk_at dksX16_relation_0 17 rfl rfl)
theorem dX16_relation_20 : decode cX16_relation 20 = .ok (.istore_n 2, 1) := dk_61 (dk_at dksX16_relation_0 20 rfl rfl)
theorem dX16_relation_21 : decode cX16_relation 21 = .ok (.aload_n 0, 1) := dk_42 (dk_at dksX16_relation_0 21 rfl rfl)
theorem dX16_relation_22 : decode cX16_relation 22 = .ok (.dup, 1) := dk_89 (dk_at dksX16_relation_0 22 rfl rfl)
theorem dX16_relation_23 : decode cX16_relation 23 = .ok (.getfield 27, 3) := dk_180 0 27 (dk_at dksX16_relation_1 0 rfl rfl)
theorem dX16_relation_26 : decode cX16_relation 26 = .ok (.iconst 1, 1) := dk_4 (dk_at dksX16_relation_1 3 rfl rfl)
theorem dX16_relation_27 : decode cX16_relation 27 = .ok (.iadd, 1) := dk_96 (dk_at dksX16_relation_1 4 rfl rfl)
theorem dX16_relation_28 : decode cX16_relation 28 = .ok (.putfield 27, 3) := dk_181 0 27 (dk_at dksX16_relation_1 5 rfl rfl)
theorem dX16_relation_31 : decode cX16_relation 31 = .ok (.new 58, 3) := dk_187 0 58 (dk_at dksX16_relation_1 8 rfl rfl)
theorem dX16_relation_34 : decode cX16_relation 34 = .ok (.dup, 1) := dk_89 (dk_at dksX16_relation_1 11 rfl rfl)
theorem dX16_relation_35 : decode cX16_relation 35 = .ok (.iload_n 2, 1) := dk_28 (dk_at dksX16_relation_1 12 rfl rfl)
theorem dX16_relation_36 : decode cX16_relation 36 = .ok (.aload_n 1, 1) := dk_43 (dk_at dksX16_relation_1 13 rfl rfl)
theorem dX16_relation_37 : decode cX16_relation 37 = .ok (.aload_n 0, 1) := dk_42 (dk_at dksX16_relation_1 14 rfl rfl)
theorem dX16_relation_38 : decode cX16_relation 38 = .ok (.invokevirtual 68, 3) := dk_182 0 68 (dk_at dksX16_relation_1 15 rfl rfl)
theorem dX16_relation_41 : decode cX16_relation 41 = .ok (.invokespecial 60, 3) := dk_183 0 60 (dk_at dksX16_relation_1 18 rfl rfl)
theorem dX16_relation_44 : decode cX16_relation 44 = .ok (.areturn, 1) := dk_176 (dk_at dksX16_relation_1 21 rfl rfl)
abbrev cX16_sum : ByteArray := prog_14_method_9_code
def yX16_sum : MethodName := ⟨RX16, "sum", "()LOldLight$Term;"⟩
def dkwX16_sum_1 : List UInt8 := [4, 96, 181, 0, 27, 187, 0, 58, 89, 28, 43, 42, 182, 0, 73, 183, 0, 60, 76, 167, 255, 218, 43, 176]
abbrev dktX16_sum_1 : List UInt8 := dkwX16_sum_1 ++ []
def dkwX16_sum_0 : List UInt8 := [42, 182, 0, 73, 76, 42, 18, 76, 182, 0, 54, 153, 0, 35, 42, 182, 0, 39, 61, 42, 89, 180, 0, 27]
abbrev dktX16_sum_0 : List UInt8 := dkwX16_sum_0 ++ dktX16_sum_1
theorem dksX16_sum_0 : cX16_sum.data.toList.drop 0 = dktX16_sum_0 := by decide +kernel
theorem dksX16_sum_1 : cX16_sum.data.toList.drop 24 = dktX16_sum_1 := dk_seg dksX16_sum_0 24 rfl rfl
theorem dX16_sum_0 : decode cX16_sum 0 = .ok (.aload_n 0, 1) := dk_42 (dk_at dksX16_sum_0 0 rfl rfl)
theorem dX16_sum_1 : decode cX16_sum 1 = .ok (.invokevirtual 73, 3) := dk_182 0 73 (dk_at dksX16_sum_0 1 rfl rfl)
theorem dX16_sum_4 : decode cX16_sum 4 = .ok (.astore_n 1, 1) := dk_76 (dk_at dksX16_sum_0 4 rfl rfl)
theorem dX16_sum_5 : decode cX16_sum 5 = .ok (.aload_n 0, 1) := dk_42 (dk_at dksX16_sum_0 5 rfl rfl)
theorem dX16_sum_6 : decode cX16_sum 6 = .ok (.ldc 76, 2) := dk_18 76 (dk_at dksX16_sum_0 6 rfl rfl)
theorem dX16_sum_8 : decode cX16_sum 8 = .ok (.invokevirtual 54, 3) := dk_182 0 54 (dk_at dksX16_sum_0 8 rfl rfl)
theorem dX16_sum_11 : decode cX16_sum 11 = .ok (.ifCond .eq 35, 3) := dk_153 0 35 (dk_at dksX16_sum_0 11 rfl rfl)
theorem dX16_sum_14 : decode cX16_sum 14 = .ok (.aload_n 0, 1) := dk_42 (dk_at dksX16_sum_0 14 rfl rfl)
theorem dX16_sum_15 : decode cX16_sum 15 = .ok (.invokevirtual 39, 3) := dk_182 0 39 (dk_at dksX16_sum_0 15 rfl rfl)
theorem dX16_sum_18 : decode cX16_sum 18 = .ok (.istore_n 2, 1) := dk_61 (dk_at dksX16_sum_0 18 rfl rfl)
theorem dX16_sum_19 : decode cX16_sum 19 = .ok (.aload_n 0, 1) := dk_42 (dk_at dksX16_sum_0 19 rfl rfl)
theorem dX16_sum_20 : decode cX16_sum 20 = .ok (.dup, 1) := dk_89 (dk_at dksX16_sum_0 20 rfl rfl)
theorem dX16_sum_21 : decode cX16_sum 21 = .ok (.getfield 27, 3) := dk_180 0 27 (dk_at dksX16_sum_0 21 rfl rfl)
theorem dX16_sum_24 : decode cX16_sum 24 = .ok (.iconst 1, 1) := dk_4 (dk_at dksX16_sum_1 0 rfl rfl)
theorem dX16_sum_25 : decode cX16_sum 25 = .ok (.iadd, 1) := dk_96 (dk_at dksX16_sum_1 1 rfl rfl)
theorem dX16_sum_26 : decode cX16_sum 26 = .ok (.putfield 27, 3) := dk_181 0 27 (dk_at dksX16_sum_1 2 rfl rfl)
theorem dX16_sum_29 : decode cX16_sum 29 = .ok (.new 58, 3) := dk_187 0 58 (dk_at dksX16_sum_1 5 rfl rfl)
theorem dX16_sum_32 : decode cX16_sum 32 = .ok (.dup, 1) := dk_89 (dk_at dksX16_sum_1 8 rfl rfl)
theorem dX16_sum_33 : decode cX16_sum 33 = .ok (.iload_n 2, 1) := dk_28 (dk_at dksX16_sum_1 9 rfl rfl)
theorem dX16_sum_34 : decode cX16_sum 34 = .ok (.aload_n 1, 1) := dk_43 (dk_at dksX16_sum_1 10 rfl rfl)
theorem dX16_sum_35 : decode cX16_sum 35 = .ok (.aload_n 0, 1) := dk_42 (dk_at dksX16_sum_1 11 rfl rfl)
theorem dX16_sum_36 : decode cX16_sum 36 = .ok (.invokevirtual 73, 3) := dk_182 0 73 (dk_at dksX16_sum_1 12 rfl rfl)
theorem dX16_sum_39 : decode cX16_sum 39 = .ok (.invokespecial 60, 3) := dk_183 0 60 (dk_at dksX16_sum_1 15 rfl rfl)
theorem dX16_sum_42 : decode cX16_sum 42 = .ok (.astore_n 1, 1) := dk_76 (dk_at dksX16_sum_1 18 rfl rfl)
theorem dX16_sum_43 : decode cX16_sum 43 = .ok (.goto (-38), 3) := dk_167 255 218 (dk_at dksX16_sum_1 19 rfl rfl)
theorem dX16_sum_46 : decode cX16_sum 46 = .ok (.aload_n 1, 1) := dk_43 (dk_at dksX16_sum_1 22 rfl rfl)
theorem dX16_sum_47 : decode cX16_sum 47 = .ok (.areturn, 1) := dk_176 (dk_at dksX16_sum_1 23 rfl rfl)
abbrev cX16_product : ByteArray := prog_14_method_10_code
def yX16_product : MethodName := ⟨RX16, "product", "()LOldLight$Term;"⟩
def dkwX16_product_1 : List UInt8 := [4, 96, 181, 0, 27, 187, 0, 58, 89, 28, 43, 42, 182, 0, 78, 183, 0, 60, 76, 167, 255, 218, 43, 176]
abbrev dktX16_product_1 : List UInt8 := dkwX16_product_1 ++ []
def dkwX16_product_0 : List UInt8 := [42, 182, 0, 78, 76, 42, 18, 81, 182, 0, 54, 153, 0, 35, 42, 182, 0, 39, 61, 42, 89, 180, 0, 27]
abbrev dktX16_product_0 : List UInt8 := dkwX16_product_0 ++ dktX16_product_1
theorem dksX16_product_0 : cX16_product.data.toList.drop 0 = dktX16_product_0 := by decide +kernel
theorem dksX16_product_1 : cX16_product.data.toList.drop 24 = dktX16_product_1 := dk_seg dksX16_product_0 24 rfl rfl
theorem dX16_product_0 : decode cX16_product 0 = .ok (.aload_n 0, 1) := dk_42 (dk_at dksX16_product_0 0 rfl rfl)
theorem dX16_product_1 : decode cX16_product 1 = .ok (.invokevirtual 78, 3) := dk_182 0 78 (dk_at dksX16_product_0 1 rfl rfl)
theorem dX16_product_4 : decode cX16_product 4 = .ok (.astore_n 1, 1) := dk_76 (dk_at dksX16_product_0 4 rfl rfl)
theorem dX16_product_5 : decode cX16_product 5 = .ok (.aload_n 0, 1) := dk_42 (dk_at dksX16_product_0 5 rfl rfl)
theorem dX16_product_6 : decode cX16_product 6 = .ok (.ldc 81, 2) := dk_18 81 (dk_at dksX16_product_0 6 rfl rfl)
theorem dX16_product_8 : decode cX16_product 8 = .ok (.invokevirtual 54, 3) := dk_182 0 54 (dk_at dksX16_product_0 8 rfl rfl)
theorem dX16_product_11 : decode cX16_product 11 = .ok (.ifCond .eq 35, 3) := dk_153 0 35 (dk_at dksX16_product_0 11 rfl rfl)
theorem dX16_product_14 : decode cX16_product 14 = .ok (.aload_n 0, 1) := dk_42 (dk_at dksX16_product_0 14 rfl rfl)
theorem dX16_product_15 : decode cX16_product 15 = .ok (.invokevirtual 39, 3) := dk_182 0 39 (dk_at dksX16_product_0 15 rfl rfl)
theorem dX16_product_18 : decode cX16_product 18 = .ok (.istore_n 2, 1) := dk_61 (dk_at dksX16_product_0 18 rfl rfl)
theorem dX16_product_19 : decode cX16_product 19 = .ok (.aload_n 0, 1) := dk_42 (dk_at dksX16_product_0 19 rfl rfl)
theorem dX16_product_20 : decode cX16_product 20 = .ok (.dup, 1) := dk_89 (dk_at dksX16_product_0 20 rfl rfl)
theorem dX16_product_21 : decode cX16_product 21 = .ok (.getfield 27, 3) := dk_180 0 27 (dk_at dksX16_product_0 21 rfl rfl)
theorem dX16_product_24 : decode cX16_product 24 = .ok (.iconst 1, 1) := dk_4 (dk_at dksX16_product_1 0 rfl rfl)
theorem dX16_product_25 : decode cX16_product 25 = .ok (.iadd, 1) := dk_96 (dk_at dksX16_product_1 1 rfl rfl)
theorem dX16_product_26 : decode cX16_product 26 = .ok (.putfield 27, 3) := dk_181 0 27 (dk_at dksX16_product_1 2 rfl rfl)
theorem dX16_product_29 : decode cX16_product 29 = .ok (.new 58, 3) := dk_187 0 58 (dk_at dksX16_product_1 5 rfl rfl)
theorem dX16_product_32 : decode cX16_product 32 = .ok (.dup, 1) := dk_89 (dk_at dksX16_product_1 8 rfl rfl)
theorem dX16_product_33 : decode cX16_product 33 = .ok (.iload_n 2, 1) := dk_28 (dk_at dksX16_product_1 9 rfl rfl)
theorem dX16_product_34 : decode cX16_product 34 = .ok (.aload_n 1, 1) := dk_43 (dk_at dksX16_product_1 10 rfl rfl)
theorem dX16_product_35 : decode cX16_product 35 = .ok (.aload_n 0, 1) := dk_42 (dk_at dksX16_product_1 11 rfl rfl)
theorem dX16_product_36 : decode cX16_product 36 = .ok (.invokevirtual 78, 3) := dk_182 0 78 (dk_at dksX16_product_1 12 rfl rfl)
theorem dX16_product_39 : decode cX16_product 39 = .ok (.invokespecial 60, 3) := dk_183 0 60 (dk_at dksX16_product_1 15 rfl rfl)
theorem dX16_product_42 : decode cX16_product 42 = .ok (.astore_n 1, 1) := dk_76 (dk_at dksX16_product_1 18 rfl rfl)
theorem dX16_product_43 : decode cX16_product 43 = .ok (.goto (-38), 3) := dk_167 255 218 (dk_at dksX16_product_1 19 rfl rfl)
theorem dX16_product_46 : decode cX16_product 46 = .ok (.aload_n 1, 1) := dk_43 (dk_at dksX16_product_1 22 rfl rfl)
theorem dX16_product_47 : decode cX16_product 47 = .ok (.areturn, 1) := dk_176 (dk_at dksX16_product_1 23 rfl rfl)
abbrev cX16_single : ByteArray := prog_14_method_12_code
def yX16_single : MethodName := ⟨RX16, "single", "()LOldLight$Term;"⟩
def dkwX16_single_9 : List UInt8 := [183, 0, 107, 176]
abbrev dktX16_single_9 : List UInt8 := dkwX16_single_9 ++ []
def dkwX16_single_8 : List UInt8 := [100, 60, 42, 89, 180, 0, 27, 4, 96, 181, 0, 27, 132, 2, 1, 167, 255, 211, 187, 0, 105, 89, 27]
abbrev dktX16_single_8 : List UInt8 := dkwX16_single_8 ++ dktX16_single_9
def dkwX16_single_7 : List UInt8 := [182, 0, 39, 16, 48, 16, 57, 184, 0, 101, 153, 0, 32, 16, 10, 27, 104, 42, 182, 0, 39, 96, 16, 48]
abbrev dktX16_single_7 : List UInt8 := dkwX16_single_7 ++ dktX16_single_8
def dkwX16_single_6 : List UInt8 := [182, 0, 39, 16, 48, 16, 57, 184, 0, 101, 182, 0, 30, 3, 60, 3, 61, 28, 7, 162, 0, 46, 42]
abbrev dktX16_single_6 : List UInt8 := dkwX16_single_6 ++ dktX16_single_7
def dkwX16_single_5 : List UInt8 := [180, 0, 27, 4, 96, 181, 0, 27, 42, 89, 180, 0, 83, 4, 100, 181, 0, 83, 43, 176, 42, 42]
abbrev dktX16_single_5 : List UInt8 := dkwX16_single_5 ++ dktX16_single_6
def dkwX16_single_4 : List UInt8 := [182, 0, 23, 76, 42, 42, 182, 0, 39, 16, 41, 160, 0, 7, 4, 167, 0, 4, 3, 182, 0, 30, 42, 89]
abbrev dktX16_single_4 : List UInt8 := dkwX16_single_4 ++ dktX16_single_5
def dkwX16_single_3 : List UInt8 := [187, 0, 94, 89, 43, 183, 0, 96, 176, 42, 18, 99, 182, 0, 54, 153, 0, 52, 42, 182, 0, 91, 42]
abbrev dktX16_single_3 : List UInt8 := dkwX16_single_3 ++ dktX16_single_4
def dkwX16_single_2 : List UInt8 := [153, 0, 31, 42, 182, 0, 91, 42, 182, 0, 78, 76, 42, 89, 180, 0, 83, 4, 100, 181, 0, 83]
abbrev dktX16_single_2 : List UInt8 := dkwX16_single_2 ++ dktX16_single_3
def dkwX16_single_1 : List UInt8 := [89, 42, 180, 0, 15, 42, 180, 0, 27, 4, 100, 51, 183, 0, 88, 176, 42, 18, 89, 182, 0, 54]
abbrev dktX16_single_1 : List UInt8 := dkwX16_single_1 ++ dktX16_single_2
def dkwX16_single_0 : List UInt8 := [42, 42, 180, 0, 9, 182, 0, 54, 153, 0, 32, 42, 89, 180, 0, 27, 4, 96, 181, 0, 27, 187, 0, 86]
abbrev dktX16_single_0 : List UInt8 := dkwX16_single_0 ++ dktX16_single_1
theorem dksX16_single_0 : cX16_single.data.toList.drop 0 = dktX16_single_0 := by decide +kernel
theorem dksX16_single_1 : cX16_single.data.toList.drop 24 = dktX16_single_1 := dk_seg dksX16_single_0 24 rfl rfl
theorem dksX16_single_2 : cX16_single.data.toList.drop 46 = dktX16_single_2 := dk_seg dksX16_single_1 22 rfl rfl
theorem dksX16_single_3 : cX16_single.data.toList.drop 68 = dktX16_single_3 := dk_seg dksX16_single_2 22 rfl rfl
theorem dksX16_single_4 : cX16_single.data.toList.drop 91 = dktX16_single_4 := dk_seg dksX16_single_3 23 rfl rfl
theorem dksX16_single_5 : cX16_single.data.toList.drop 115 = dktX16_single_5 := dk_seg dksX16_single_4 24 rfl rfl
theorem dksX16_single_6 : cX16_single.data.toList.drop 137 = dktX16_single_6 := dk_seg dksX16_single_5 22 rfl rfl
theorem dksX16_single_7 : cX16_single.data.toList.drop 160 = dktX16_single_7 := dk_seg dksX16_single_6 23 rfl rfl
theorem dksX16_single_8 : cX16_single.data.toList.drop 184 = dktX16_single_8 := dk_seg dksX16_single_7 24 rfl rfl
theorem dksX16_single_9 : cX16_single.data.toList.drop 207 = dktX16_single_9 := dk_seg dksX16_single_8 23 rfl rfl
theorem dX16_single_0 : decode cX16_single 0 = .ok (.aload_n 0, 1) := dk_42 (dk_at dksX16_single_0 0 rfl rfl)
theorem dX16_single_1 : decode cX16_single 1 = .ok (.aload_n 0, 1) := dk_42 (dk_at dksX16_single_0 1 rfl rfl)
theorem dX16_single_2 : decode cX16_single 2 = .ok (.getfield 9, 3) := dk_180 0 9 (dk_at dksX16_single_0 2 rfl rfl)
theorem dX16_single_5 : decode cX16_single 5 = .ok (.invokevirtual 54, 3) := dk_182 0 54 (dk_at dksX16_single_0 5 rfl rfl)
theorem dX16_single_8 : decode cX16_single 8 = .ok (.ifCond .eq 32, 3) := dk_153 0 32 (dk_at dksX16_single_0 8 rfl rfl)
theorem dX16_single_11 : decode cX16_single 11 = .ok (.aload_n 0, 1) := dk_42 (dk_at dksX16_single_0 11 rfl rfl)
theorem dX16_single_12 : decode cX16_single 12 = .ok (.dup, 1) := dk_89 (dk_at dksX16_single_0 12 rfl rfl)
theorem dX16_single_13 : decode cX16_single 13 = .ok (.getfield 27, 3) := dk_180 0 27 (dk_at dksX16_single_0 13 rfl rfl)
theorem dX16_single_16 : decode cX16_single 16 = .ok (.iconst 1, 1) := dk_4 (dk_at dksX16_single_0 16 rfl rfl)
theorem dX16_single_17 : decode cX16_single 17 = .ok (.iadd, 1) := dk_96 (dk_at dksX16_single_0 17 rfl rfl)
theorem dX16_single_18 : decode cX16_single 18 = .ok (.putfield 27, 3) := dk_181 0 27 (dk_at dksX16_single_0 18 rfl rfl)
theorem dX16_single_21 : decode cX16_single 21 = .ok (.new 86, 3) := dk_187 0 86 (dk_at dksX16_single_0 21 rfl rfl)
theorem dX16_single_24 : decode cX16_single 24 = .ok (.dup, 1) := dk_89 (dk_at dksX16_single_1 0 rfl rfl)
theorem dX16_single_25 : decode cX16_single 25 = .ok (.aload_n 0, 1) := dk_42 (dk_at dksX16_single_1 1 rfl rfl)
theorem dX16_single_26 : decode cX16_single 26 = .ok (.getfield 15, 3) := dk_180 0 15 (dk_at dksX16_single_1 2 rfl rfl)
theorem dX16_single_29 : decode cX16_single 29 = .ok (.aload_n 0, 1) := dk_42 (dk_at dksX16_single_1 5 rfl rfl)
theorem dX16_single_30 : decode cX16_single 30 = .ok (.getfield 27, 3) := dk_180 0 27 (dk_at dksX16_single_1 6 rfl rfl)
theorem dX16_single_33 : decode cX16_single 33 = .ok (.iconst 1, 1) := dk_4 (dk_at dksX16_single_1 9 rfl rfl)
theorem dX16_single_34 : decode cX16_single 34 = .ok (.isub, 1) := dk_100 (dk_at dksX16_single_1 10 rfl rfl)
theorem dX16_single_35 : decode cX16_single 35 = .ok (.baload, 1) := dk_51 (dk_at dksX16_single_1 11 rfl rfl)
theorem dX16_single_36 : decode cX16_single 36 = .ok (.invokespecial 88, 3) := dk_183 0 88 (dk_at dksX16_single_1 12 rfl rfl)
theorem dX16_single_39 : decode cX16_single 39 = .ok (.areturn, 1) := dk_176 (dk_at dksX16_single_1 15 rfl rfl)
theorem dX16_single_40 : decode cX16_single 40 = .ok (.aload_n 0, 1) := dk_42 (dk_at dksX16_single_1 16 rfl rfl)
theorem dX16_single_41 : decode cX16_single 41 = .ok (.ldc 89, 2) := dk_18 89 (dk_at dksX16_single_1 17 rfl rfl)
theorem dX16_single_43 : decode cX16_single 43 = .ok (.invokevirtual 54, 3) := dk_182 0 54 (dk_at dksX16_single_1 19 rfl rfl)
theorem dX16_single_46 : decode cX16_single 46 = .ok (.ifCond .eq 31, 3) := dk_153 0 31 (dk_at dksX16_single_2 0 rfl rfl)
theorem dX16_single_49 : decode cX16_single 49 = .ok (.aload_n 0, 1) := dk_42 (dk_at dksX16_single_2 3 rfl rfl)
theorem dX16_single_50 : decode cX16_single 50 = .ok (.invokevirtual 91, 3) := dk_182 0 91 (dk_at dksX16_single_2 4 rfl rfl)
theorem dX16_single_53 : decode cX16_single 53 = .ok (.aload_n 0, 1) := dk_42 (dk_at dksX16_single_2 7 rfl rfl)
theorem dX16_single_54 : decode cX16_single 54 = .ok (.invokevirtual 78, 3) := dk_182 0 78 (dk_at dksX16_single_2 8 rfl rfl)
theorem dX16_single_57 : decode cX16_single 57 = .ok (.astore_n 1, 1) := dk_76 (dk_at dksX16_single_2 11 rfl rfl)
theorem dX16_single_58 : decode cX16_single 58 = .ok (.aload_n 0, 1) := dk_42 (dk_at dksX16_single_2 12 rfl rfl)
theorem dX16_single_59 : decode cX16_single 59 = .ok (.dup, 1) := dk_89 (dk_at dksX16_single_2 13 rfl rfl)
theorem dX16_single_60 : decode cX16_single 60 = .ok (.getfield 83, 3) := dk_180 0 83 (dk_at dksX16_single_2 14 rfl rfl)
theorem dX16_single_63 : decode cX16_single 63 = .ok (.iconst 1, 1) := dk_4 (dk_at dksX16_single_2 17 rfl rfl)
theorem dX16_single_64 : decode cX16_single 64 = .ok (.isub, 1) := dk_100 (dk_at dksX16_single_2 18 rfl rfl)
theorem dX16_single_65 : decode cX16_single 65 = .ok (.putfield 83, 3) := dk_181 0 83 (dk_at dksX16_single_2 19 rfl rfl)
theorem dX16_single_68 : decode cX16_single 68 = .ok (.new 94, 3) := dk_187 0 94 (dk_at dksX16_single_3 0 rfl rfl)
theorem dX16_single_71 : decode cX16_single 71 = .ok (.dup, 1) := dk_89 (dk_at dksX16_single_3 3 rfl rfl)
theorem dX16_single_72 : decode cX16_single 72 = .ok (.aload_n 1, 1) := dk_43 (dk_at dksX16_single_3 4 rfl rfl)
theorem dX16_single_73 : decode cX16_single 73 = .ok (.invokespecial 96, 3) := dk_183 0 96 (dk_at dksX16_single_3 5 rfl rfl)
theorem dX16_single_76 : decode cX16_single 76 = .ok (.areturn, 1) := dk_176 (dk_at dksX16_single_3 8 rfl rfl)
theorem dX16_single_77 : decode cX16_single 77 = .ok (.aload_n 0, 1) := dk_42 (dk_at dksX16_single_3 9 rfl rfl)
theorem dX16_single_78 : decode cX16_single 78 = .ok (.ldc 99, 2) := dk_18 99 (dk_at dksX16_single_3 10 rfl rfl)
theorem dX16_single_80 : decode cX16_single 80 = .ok (.invokevirtual 54, 3) := dk_182 0 54 (dk_at dksX16_single_3 12 rfl rfl)
theorem dX16_single_83 : decode cX16_single 83 = .ok (.ifCond .eq 52, 3) := dk_153 0 52 (dk_at dksX16_single_3 15 rfl rfl)
theorem dX16_single_86 : decode cX16_single 86 = .ok (.aload_n 0, 1) := dk_42 (dk_at dksX16_single_3 18 rfl rfl)
theorem dX16_single_87 : decode cX16_single 87 = .ok (.invokevirtual 91, 3) := dk_182 0 91 (dk_at dksX16_single_3 19 rfl rfl)
theorem dX16_single_90 : decode cX16_single 90 = .ok (.aload_n 0, 1) := dk_42 (dk_at dksX16_single_3 22 rfl rfl)
theorem dX16_single_91 : decode cX16_single 91 = .ok (.invokevirtual 23, 3) := dk_182 0 23 (dk_at dksX16_single_4 0 rfl rfl)
theorem dX16_single_94 : decode cX16_single 94 = .ok (.astore_n 1, 1) := dk_76 (dk_at dksX16_single_4 3 rfl rfl)
theorem dX16_single_95 : decode cX16_single 95 = .ok (.aload_n 0, 1) := dk_42 (dk_at dksX16_single_4 4 rfl rfl)
theorem dX16_single_96 : decode cX16_single 96 = .ok (.aload_n 0, 1) := dk_42 (dk_at dksX16_single_4 5 rfl rfl)
theorem dX16_single_97 : decode cX16_single 97 = .ok (.invokevirtual 39, 3) := dk_182 0 39 (dk_at dksX16_single_4 6 rfl rfl)
theorem dX16_single_100 : decode cX16_single 100 = .ok (.bipush 41, 2) := dk_16 41 (dk_at dksX16_single_4 9 rfl rfl)
theorem dX16_single_102 : decode cX16_single 102 = .ok (.if_icmp .ne 7, 3) := dk_160 0 7 (dk_at dksX16_single_4 11 rfl rfl)
theorem dX16_single_105 : decode cX16_single 105 = .ok (.iconst 1, 1) := dk_4 (dk_at dksX16_single_4 14 rfl rfl)
theorem dX16_single_106 : decode cX16_single 106 = .ok (.goto 4, 3) := dk_167 0 4 (dk_at dksX16_single_4 15 rfl rfl)
theorem dX16_single_109 : decode cX16_single 109 = .ok (.iconst 0, 1) := dk_3 (dk_at dksX16_single_4 18 rfl rfl)
theorem dX16_single_110 : decode cX16_single 110 = .ok (.invokevirtual 30, 3) := dk_182 0 30 (dk_at dksX16_single_4 19 rfl rfl)
theorem dX16_single_113 : decode cX16_single 113 = .ok (.aload_n 0, 1) := dk_42 (dk_at dksX16_single_4 22 rfl rfl)
theorem dX16_single_114 : decode cX16_single 114 = .ok (.dup, 1) := dk_89 (dk_at dksX16_single_4 23 rfl rfl)
theorem dX16_single_115 : decode cX16_single 115 = .ok (.getfield 27, 3) := dk_180 0 27 (dk_at dksX16_single_5 0 rfl rfl)
theorem dX16_single_118 : decode cX16_single 118 = .ok (.iconst 1, 1) := dk_4 (dk_at dksX16_single_5 3 rfl rfl)
theorem dX16_single_119 : decode cX16_single 119 = .ok (.iadd, 1) := dk_96 (dk_at dksX16_single_5 4 rfl rfl)
theorem dX16_single_120 : decode cX16_single 120 = .ok (.putfield 27, 3) := dk_181 0 27 (dk_at dksX16_single_5 5 rfl rfl)
theorem dX16_single_123 : decode cX16_single 123 = .ok (.aload_n 0, 1) := dk_42 (dk_at dksX16_single_5 8 rfl rfl)
theorem dX16_single_124 : decode cX16_single 124 = .ok (.dup, 1) := dk_89 (dk_at dksX16_single_5 9 rfl rfl)
theorem dX16_single_125 : decode cX16_single 125 = .ok (.getfield 83, 3) := dk_180 0 83 (dk_at dksX16_single_5 10 rfl rfl)
theorem dX16_single_128 : decode cX16_single 128 = .ok (.iconst 1, 1) := dk_4 (dk_at dksX16_single_5 13 rfl rfl)
theorem dX16_single_129 : decode cX16_single 129 = .ok (.isub, 1) := dk_100 (dk_at dksX16_single_5 14 rfl rfl)
theorem dX16_single_130 : decode cX16_single 130 = .ok (.putfield 83, 3) := dk_181 0 83 (dk_at dksX16_single_5 15 rfl rfl)
theorem dX16_single_133 : decode cX16_single 133 = .ok (.aload_n 1, 1) := dk_43 (dk_at dksX16_single_5 18 rfl rfl)
theorem dX16_single_134 : decode cX16_single 134 = .ok (.areturn, 1) := dk_176 (dk_at dksX16_single_5 19 rfl rfl)
theorem dX16_single_135 : decode cX16_single 135 = .ok (.aload_n 0, 1) := dk_42 (dk_at dksX16_single_5 20 rfl rfl)
theorem dX16_single_136 : decode cX16_single 136 = .ok (.aload_n 0, 1) := dk_42 (dk_at dksX16_single_5 21 rfl rfl)
theorem dX16_single_137 : decode cX16_single 137 = .ok (.invokevirtual 39, 3) := dk_182 0 39 (dk_at dksX16_single_6 0 rfl rfl)
theorem dX16_single_140 : decode cX16_single 140 = .ok (.bipush 48, 2) := dk_16 48 (dk_at dksX16_single_6 3 rfl rfl)
theorem dX16_single_142 : decode cX16_single 142 = .ok (.bipush 57, 2) := dk_16 57 (dk_at dksX16_single_6 5 rfl rfl)
theorem dX16_single_144 : decode cX16_single 144 = .ok (.invokestatic 101, 3) := dk_184 0 101 (dk_at dksX16_single_6 7 rfl rfl)
theorem dX16_single_147 : decode cX16_single 147 = .ok (.invokevirtual 30, 3) := dk_182 0 30 (dk_at dksX16_single_6 10 rfl rfl)
theorem dX16_single_150 : decode cX16_single 150 = .ok (.iconst 0, 1) := dk_3 (dk_at dksX16_single_6 13 rfl rfl)
theorem dX16_single_151 : decode cX16_single 151 = .ok (.istore_n 1, 1) := dk_60 (dk_at dksX16_single_6 14 rfl rfl)
theorem dX16_single_152 : decode cX16_single 152 = .ok (.iconst 0, 1) := dk_3 (dk_at dksX16_single_6 15 rfl rfl)
theorem dX16_single_153 : decode cX16_single 153 = .ok (.istore_n 2, 1) := dk_61 (dk_at dksX16_single_6 16 rfl rfl)
theorem dX16_single_154 : decode cX16_single 154 = .ok (.iload_n 2, 1) := dk_28 (dk_at dksX16_single_6 17 rfl rfl)
theorem dX16_single_155 : decode cX16_single 155 = .ok (.iconst 4, 1) := dk_7 (dk_at dksX16_single_6 18 rfl rfl)
theorem dX16_single_156 : decode cX16_single 156 = .ok (.if_icmp .ge 46, 3) := dk_162 0 46 (dk_at dksX16_single_6 19 rfl rfl)
theorem dX16_single_159 : decode cX16_single 159 = .ok (.aload_n 0, 1) := dk_42 (dk_at dksX16_single_6 22 rfl rfl)
theorem dX16_single_160 : decode cX16_single 160 = .ok (.invokevirtual 39, 3) := dk_182 0 39 (dk_at dksX16_single_7 0 rfl rfl)
theorem dX16_single_163 : decode cX16_single 163 = .ok (.bipush 48, 2) := dk_16 48 (dk_at dksX16_single_7 3 rfl rfl)
theorem dX16_single_165 : decode cX16_single 165 = .ok (.bipush 57, 2) := dk_16 57 (dk_at dksX16_single_7 5 rfl rfl)
theorem dX16_single_167 : decode cX16_single 167 = .ok (.invokestatic 101, 3) := dk_184 0 101 (dk_at dksX16_single_7 7 rfl rfl)
theorem dX16_single_170 : decode cX16_single 170 = .ok (.ifCond .eq 32, 3) := dk_153 0 32 (dk_at dksX16_single_7 10 rfl rfl)
theorem dX16_single_173 : decode cX16_single 173 = .ok (.bipush 10, 2) := dk_16 10 (dk_at dksX16_single_7 13 rfl rfl)
theorem dX16_single_175 : decode cX16_single 175 = .ok (.iload_n 1, 1) := dk_27 (dk_at dksX16_single_7 15 rfl rfl)
theorem dX16_single_176 : decode cX16_single 176 = .ok (.imul, 1) := dk_104 (dk_at dksX16_single_7 16 rfl rfl)
theorem dX16_single_177 : decode cX16_single 177 = .ok (.aload_n 0, 1) := dk_42 (dk_at dksX16_single_7 17 rfl rfl)
theorem dX16_single_178 : decode cX16_single 178 = .ok (.invokevirtual 39, 3) := dk_182 0 39 (dk_at dksX16_single_7 18 rfl rfl)
theorem dX16_single_181 : decode cX16_single 181 = .ok (.iadd, 1) := dk_96 (dk_at dksX16_single_7 21 rfl rfl)
theorem dX16_single_182 : decode cX16_single 182 = .ok (.bipush 48, 2) := dk_16 48 (dk_at dksX16_single_7 22 rfl rfl)
theorem dX16_single_184 : decode cX16_single 184 = .ok (.isub, 1) := dk_100 (dk_at dksX16_single_8 0 rfl rfl)
theorem dX16_single_185 : decode cX16_single 185 = .ok (.istore_n 1, 1) := dk_60 (dk_at dksX16_single_8 1 rfl rfl)
theorem dX16_single_186 : decode cX16_single 186 = .ok (.aload_n 0, 1) := dk_42 (dk_at dksX16_single_8 2 rfl rfl)
theorem dX16_single_187 : decode cX16_single 187 = .ok (.dup, 1) := dk_89 (dk_at dksX16_single_8 3 rfl rfl)
theorem dX16_single_188 : decode cX16_single 188 = .ok (.getfield 27, 3) := dk_180 0 27 (dk_at dksX16_single_8 4 rfl rfl)
theorem dX16_single_191 : decode cX16_single 191 = .ok (.iconst 1, 1) := dk_4 (dk_at dksX16_single_8 7 rfl rfl)
theorem dX16_single_192 : decode cX16_single 192 = .ok (.iadd, 1) := dk_96 (dk_at dksX16_single_8 8 rfl rfl)
theorem dX16_single_193 : decode cX16_single 193 = .ok (.putfield 27, 3) := dk_181 0 27 (dk_at dksX16_single_8 9 rfl rfl)
theorem dX16_single_196 : decode cX16_single 196 = .ok (.iinc 2 1, 3) := dk_132 2 1 (dk_at dksX16_single_8 12 rfl rfl)
theorem dX16_single_199 : decode cX16_single 199 = .ok (.goto (-45), 3) := dk_167 255 211 (dk_at dksX16_single_8 15 rfl rfl)
theorem dX16_single_202 : decode cX16_single 202 = .ok (.new 105, 3) := dk_187 0 105 (dk_at dksX16_single_8 18 rfl rfl)
theorem dX16_single_205 : decode cX16_single 205 = .ok (.dup, 1) := dk_89 (dk_at dksX16_single_8 21 rfl rfl)
theorem dX16_single_206 : decode cX16_single 206 = .ok (.iload_n 1, 1) := dk_27 (dk_at dksX16_single_8 22 rfl rfl)
theorem dX16_single_207 : decode cX16_single 207 = .ok (.invokespecial 107, 3) := dk_183 0 107 (dk_at dksX16_single_9 0 rfl rfl)
theorem dX16_single_210 : decode cX16_single 210 = .ok (.areturn, 1) := dk_176 (dk_at dksX16_single_9 3 rfl rfl)
abbrev cX16_isOne : ByteArray := prog_14_method_5_code
def yX16_isOne : MethodName := ⟨RX16, "isOne", "(Ljava/lang/String;)Z"⟩
def dkwX16_isOne_0 : List UInt8 := [42, 182, 0, 39, 155, 0, 18, 43, 42, 182, 0, 39, 182, 0, 43, 155, 0, 7, 4, 167, 0, 4, 3, 172]
abbrev dktX16_isOne_0 : List UInt8 := dkwX16_isOne_0 ++ []
theorem dksX16_isOne_0 : cX16_isOne.data.toList.drop 0 = dktX16_isOne_0 := by decide +kernel
theorem dX16_isOne_0 : decode cX16_isOne 0 = .ok (.aload_n 0, 1) := dk_42 (dk_at dksX16_isOne_0 0 rfl rfl)
theorem dX16_isOne_1 : decode cX16_isOne 1 = .ok (.invokevirtual 39, 3) := dk_182 0 39 (dk_at dksX16_isOne_0 1 rfl rfl)
theorem dX16_isOne_4 : decode cX16_isOne 4 = .ok (.ifCond .lt 18, 3) := dk_155 0 18 (dk_at dksX16_isOne_0 4 rfl rfl)
theorem dX16_isOne_7 : decode cX16_isOne 7 = .ok (.aload_n 1, 1) := dk_43 (dk_at dksX16_isOne_0 7 rfl rfl)
theorem dX16_isOne_8 : decode cX16_isOne 8 = .ok (.aload_n 0, 1) := dk_42 (dk_at dksX16_isOne_0 8 rfl rfl)
theorem dX16_isOne_9 : decode cX16_isOne 9 = .ok (.invokevirtual 39, 3) := dk_182 0 39 (dk_at dksX16_isOne_0 9 rfl rfl)
theorem dX16_isOne_12 : decode cX16_isOne 12 = .ok (.invokevirtual 43, 3) := dk_182 0 43 (dk_at dksX16_isOne_0 12 rfl rfl)
theorem dX16_isOne_15 : decode cX16_isOne 15 = .ok (.ifCond .lt 7, 3) := dk_155 0 7 (dk_at dksX16_isOne_0 15 rfl rfl)
theorem dX16_isOne_18 : decode cX16_isOne 18 = .ok (.iconst 1, 1) := dk_4 (dk_at dksX16_isOne_0 18 rfl rfl)
theorem dX16_isOne_19 : decode cX16_isOne 19 = .ok (.goto 4, 3) := dk_167 0 4 (dk_at dksX16_isOne_0 19 rfl rfl)
theorem dX16_isOne_22 : decode cX16_isOne 22 = .ok (.iconst 0, 1) := dk_3 (dk_at dksX16_isOne_0 22 rfl rfl)
theorem dX16_isOne_23 : decode cX16_isOne 23 = .ok (.ireturn, 1) := dk_172 (dk_at dksX16_isOne_0 23 rfl rfl)
abbrev cX16_look : ByteArray := prog_14_method_3_code
def yX16_look : MethodName := ⟨RX16, "look", "()I"⟩
def dkwX16_look_1 : List UInt8 := [167, 0, 4, 2, 172]
abbrev dktX16_look_1 : List UInt8 := dkwX16_look_1 ++ []
def dkwX16_look_0 : List UInt8 := [42, 180, 0, 27, 42, 180, 0, 19, 162, 0, 19, 42, 180, 0, 15, 42, 180, 0, 27, 51, 17, 0, 255, 126]
abbrev dktX16_look_0 : List UInt8 := dkwX16_look_0 ++ dktX16_look_1
theorem dksX16_look_0 : cX16_look.data.toList.drop 0 = dktX16_look_0 := by decide +kernel
theorem dksX16_look_1 : cX16_look.data.toList.drop 24 = dktX16_look_1 := dk_seg dksX16_look_0 24 rfl rfl
theorem dX16_look_0 : decode cX16_look 0 = .ok (.aload_n 0, 1) := dk_42 (dk_at dksX16_look_0 0 rfl rfl)
theorem dX16_look_1 : decode cX16_look 1 = .ok (.getfield 27, 3) := dk_180 0 27 (dk_at dksX16_look_0 1 rfl rfl)
theorem dX16_look_4 : decode cX16_look 4 = .ok (.aload_n 0, 1) := dk_42 (dk_at dksX16_look_0 4 rfl rfl)
theorem dX16_look_5 : decode cX16_look 5 = .ok (.getfield 19, 3) := dk_180 0 19 (dk_at dksX16_look_0 5 rfl rfl)
theorem dX16_look_8 : decode cX16_look 8 = .ok (.if_icmp .ge 19, 3) := dk_162 0 19 (dk_at dksX16_look_0 8 rfl rfl)
theorem dX16_look_11 : decode cX16_look 11 = .ok (.aload_n 0, 1) := dk_42 (dk_at dksX16_look_0 11 rfl rfl)
theorem dX16_look_12 : decode cX16_look 12 = .ok (.getfield 15, 3) := dk_180 0 15 (dk_at dksX16_look_0 12 rfl rfl)
theorem dX16_look_15 : decode cX16_look 15 = .ok (.aload_n 0, 1) := dk_42 (dk_at dksX16_look_0 15 rfl rfl)
theorem dX16_look_16 : decode cX16_look 16 = .ok (.getfield 27, 3) := dk_180 0 27 (dk_at dksX16_look_0 16 rfl rfl)
theorem dX16_look_19 : decode cX16_look 19 = .ok (.baload, 1) := dk_51 (dk_at dksX16_look_0 19 rfl rfl)
theorem dX16_look_20 : decode cX16_look 20 = .ok (.sipush 255, 3) := dk_17 0 255 (dk_at dksX16_look_0 20 rfl rfl)
theorem dX16_look_23 : decode cX16_look 23 = .ok (.iand, 1) := dk_126 (dk_at dksX16_look_0 23 rfl rfl)
theorem dX16_look_24 : decode cX16_look 24 = .ok (.goto 4, 3) := dk_167 0 4 (dk_at dksX16_look_1 0 rfl rfl)
theorem dX16_look_27 : decode cX16_look 27 = .ok (.iconst (-1), 1) := dk_2 (dk_at dksX16_look_1 3 rfl rfl)
theorem dX16_look_28 : decode cX16_look 28 = .ok (.ireturn, 1) := dk_172 (dk_at dksX16_look_1 4 rfl rfl)
abbrev cX16_opens : ByteArray := prog_14_method_11_code
def yX16_opens : MethodName := ⟨RX16, "opens", "()V"⟩
def dkwX16_opens_1 : List UInt8 := [181, 0, 83, 42, 89, 180, 0, 27, 4, 96, 181, 0, 27, 177]
abbrev dktX16_opens_1 : List UInt8 := dkwX16_opens_1 ++ []
def dkwX16_opens_0 : List UInt8 := [42, 42, 180, 0, 83, 8, 162, 0, 7, 4, 167, 0, 4, 3, 182, 0, 30, 42, 89, 180, 0, 83, 4, 96]
abbrev dktX16_opens_0 : List UInt8 := dkwX16_opens_0 ++ dktX16_opens_1
theorem dksX16_opens_0 : cX16_opens.data.toList.drop 0 = dktX16_opens_0 := by decide +kernel
theorem dksX16_opens_1 : cX16_opens.data.toList.drop 24 = dktX16_opens_1 := dk_seg dksX16_opens_0 24 rfl rfl
theorem dX16_opens_0 : decode cX16_opens 0 = .ok (.aload_n 0, 1) := dk_42 (dk_at dksX16_opens_0 0 rfl rfl)
theorem dX16_opens_1 : decode cX16_opens 1 = .ok (.aload_n 0, 1) := dk_42 (dk_at dksX16_opens_0 1 rfl rfl)
theorem dX16_opens_2 : decode cX16_opens 2 = .ok (.getfield 83, 3) := dk_180 0 83 (dk_at dksX16_opens_0 2 rfl rfl)
theorem dX16_opens_5 : decode cX16_opens 5 = .ok (.iconst 5, 1) := dk_8 (dk_at dksX16_opens_0 5 rfl rfl)
theorem dX16_opens_6 : decode cX16_opens 6 = .ok (.if_icmp .ge 7, 3) := dk_162 0 7 (dk_at dksX16_opens_0 6 rfl rfl)
theorem dX16_opens_9 : decode cX16_opens 9 = .ok (.iconst 1, 1) := dk_4 (dk_at dksX16_opens_0 9 rfl rfl)
theorem dX16_opens_10 : decode cX16_opens 10 = .ok (.goto 4, 3) := dk_167 0 4 (dk_at dksX16_opens_0 10 rfl rfl)
theorem dX16_opens_13 : decode cX16_opens 13 = .ok (.iconst 0, 1) := dk_3 (dk_at dksX16_opens_0 13 rfl rfl)
theorem dX16_opens_14 : decode cX16_opens 14 = .ok (.invokevirtual 30, 3) := dk_182 0 30 (dk_at dksX16_opens_0 14 rfl rfl)
theorem dX16_opens_17 : decode cX16_opens 17 = .ok (.aload_n 0, 1) := dk_42 (dk_at dksX16_opens_0 17 rfl rfl)
theorem dX16_opens_18 : decode cX16_opens 18 = .ok (.dup, 1) := dk_89 (dk_at dksX16_opens_0 18 rfl rfl)
theorem dX16_opens_19 : decode cX16_opens 19 = .ok (.getfield 83, 3) := dk_180 0 83 (dk_at dksX16_opens_0 19 rfl rfl)
theorem dX16_opens_22 : decode cX16_opens 22 = .ok (.iconst 1, 1) := dk_4 (dk_at dksX16_opens_0 22 rfl rfl)
theorem dX16_opens_23 : decode cX16_opens 23 = .ok (.iadd, 1) := dk_96 (dk_at dksX16_opens_0 23 rfl rfl)
theorem dX16_opens_24 : decode cX16_opens 24 = .ok (.putfield 83, 3) := dk_181 0 83 (dk_at dksX16_opens_1 0 rfl rfl)
theorem dX16_opens_27 : decode cX16_opens 27 = .ok (.aload_n 0, 1) := dk_42 (dk_at dksX16_opens_1 3 rfl rfl)
theorem dX16_opens_28 : decode cX16_opens 28 = .ok (.dup, 1) := dk_89 (dk_at dksX16_opens_1 4 rfl rfl)
theorem dX16_opens_29 : decode cX16_opens 29 = .ok (.getfield 27, 3) := dk_180 0 27 (dk_at dksX16_opens_1 5 rfl rfl)
theorem dX16_opens_32 : decode cX16_opens 32 = .ok (.iconst 1, 1) := dk_4 (dk_at dksX16_opens_1 8 rfl rfl)
theorem dX16_opens_33 : decode cX16_opens 33 = .ok (.iadd, 1) := dk_96 (dk_at dksX16_opens_1 9 rfl rfl)
theorem dX16_opens_34 : decode cX16_opens 34 = .ok (.putfield 27, 3) := dk_181 0 27 (dk_at dksX16_opens_1 10 rfl rfl)
theorem dX16_opens_37 : decode cX16_opens 37 = .ok (.return_, 1) := dk_177 (dk_at dksX16_opens_1 13 rfl rfl)
abbrev cX16_fault : ByteArray := prog_14_method_4_code
def yX16_fault : MethodName := ⟨RX16, "fault", "(Z)V"⟩
def dkwX16_fault_0 : List UInt8 := [27, 154, 0, 15, 187, 0, 34, 89, 42, 180, 0, 27, 183, 0, 36, 191, 177]
abbrev dktX16_fault_0 : List UInt8 := dkwX16_fault_0 ++ []
theorem dksX16_fault_0 : cX16_fault.data.toList.drop 0 = dktX16_fault_0 := by decide +kernel
theorem dX16_fault_0 : decode cX16_fault 0 = .ok (.iload_n 1, 1) := dk_27 (dk_at dksX16_fault_0 0 rfl rfl)
theorem dX16_fault_1 : decode cX16_fault 1 = .ok (.ifCond .ne 15, 3) := dk_154 0 15 (dk_at dksX16_fault_0 1 rfl rfl)
theorem dX16_fault_4 : decode cX16_fault 4 = .ok (.new 34, 3) := dk_187 0 34 (dk_at dksX16_fault_0 4 rfl rfl)
theorem dX16_fault_7 : decode cX16_fault 7 = .ok (.dup, 1) := dk_89 (dk_at dksX16_fault_0 7 rfl rfl)
theorem dX16_fault_8 : decode cX16_fault 8 = .ok (.aload_n 0, 1) := dk_42 (dk_at dksX16_fault_0 8 rfl rfl)
theorem dX16_fault_9 : decode cX16_fault 9 = .ok (.getfield 27, 3) := dk_180 0 27 (dk_at dksX16_fault_0 9 rfl rfl)
theorem dX16_fault_12 : decode cX16_fault 12 = .ok (.invokespecial 36, 3) := dk_183 0 36 (dk_at dksX16_fault_0 12 rfl rfl)
theorem dX16_fault_15 : decode cX16_fault 15 = .ok (.athrow, 1) := dk_191 (dk_at dksX16_fault_0 15 rfl rfl)
theorem dX16_fault_16 : decode cX16_fault 16 = .ok (.return_, 1) := dk_177 (dk_at dksX16_fault_0 16 rfl rfl)
theorem q94 : (Jvm.Cond.initialized "OldLight$Reader") ∈ lw_all := lw_g (lw_at lw_m1 21 rfl) rfl
theorem q680 : (Jvm.Cond.instantiable "OldLight$Reader" (5 : Nat)) ∈ lw_all := lw_g (lw_at lw_m3 127 rfl) rfl
theorem q684 : (Jvm.Cond.instanceMethod ({ cls := "OldLight$Reader", name := "<init>", desc := "(Ljava/lang/String;[BI)V" } : Jvm.MethodName)) ∈ lw_all := lw_g (lw_at lw_m3 131 rfl) rfl
theorem q685 : (Jvm.Cond.code ({ cls := "OldLight$Reader", name := "<init>", desc := "(Ljava/lang/String;[BI)V" } : Jvm.MethodName) prog_14_method_1_code (4 : Nat) (Option.none : Option Jvm.ClassFile.FieldType)) ∈ lw_all := lw_g (lw_at lw_m3 132 rfl) rfl
theorem q686 : (Jvm.Cond.methodLink "OldLight$Reader" (3 : Nat) ({ cls := "java/lang/Object", name := "<init>", desc := "()V" } : Jvm.MethodName)) ∈ lw_all := lw_g (lw_at lw_m3 133 rfl) rfl
theorem q687 : (Jvm.Cond.fieldLink "OldLight$Reader" (9 : Nat) "OldLight$Reader" "names" "Ljava/lang/String;") ∈ lw_all := lw_g (lw_at lw_m3 134 rfl) rfl
theorem q688 : (Jvm.Cond.fieldLink "OldLight$Reader" (15 : Nat) "OldLight$Reader" "bytes" "[B") ∈ lw_all := lw_g (lw_at lw_m3 135 rfl) rfl
theorem q689 : (Jvm.Cond.fieldLink "OldLight$Reader" (19 : Nat) "OldLight$Reader" "size" "I") ∈ lw_all := lw_g (lw_at lw_m3 136 rfl) rfl
theorem q690 : (Jvm.Cond.fieldLink "OldLight$Reader" (27 : Nat) "OldLight$Reader" "at" "I") ∈ lw_all := lw_g (lw_at lw_m3 137 rfl) rfl
theorem q691 : (Jvm.Cond.fieldLink "OldLight$Reader" (83 : Nat) "OldLight$Reader" "open" "I") ∈ lw_all := lw_g (lw_at lw_m3 138 rfl) rfl
theorem q692 : (Jvm.Cond.laysFinal "OldLight$Reader" "OldLight$Reader" "names" "Ljava/lang/String;") ∈ lw_all := lw_g (lw_at lw_m3 139 rfl) rfl
theorem q693 : (Jvm.Cond.soleField "OldLight$Reader" "names") ∈ lw_all := lw_g (lw_at lw_m3 140 rfl) rfl
theorem q694 : (Jvm.Cond.laysFinal "OldLight$Reader" "OldLight$Reader" "bytes" "[B") ∈ lw_all := lw_g (lw_at lw_m3 141 rfl) rfl
theorem q695 : (Jvm.Cond.soleField "OldLight$Reader" "bytes") ∈ lw_all := lw_g (lw_at lw_m3 142 rfl) rfl
theorem q696 : (Jvm.Cond.laysFinal "OldLight$Reader" "OldLight$Reader" "size" "I") ∈ lw_all := lw_g (lw_at lw_m3 143 rfl) rfl
theorem q697 : (Jvm.Cond.soleField "OldLight$Reader" "size") ∈ lw_all := lw_g (lw_at lw_m3 144 rfl) rfl
theorem q698 : (Jvm.Cond.lays "OldLight$Reader" "OldLight$Reader" "at" "I") ∈ lw_all := lw_g (lw_at lw_m3 145 rfl) rfl
theorem q699 : (Jvm.Cond.soleField "OldLight$Reader" "at") ∈ lw_all := lw_g (lw_at lw_m3 146 rfl) rfl
theorem q700 : (Jvm.Cond.lays "OldLight$Reader" "OldLight$Reader" "open" "I") ∈ lw_all := lw_g (lw_at lw_m3 147 rfl) rfl
theorem q701 : (Jvm.Cond.soleField "OldLight$Reader" "open") ∈ lw_all := lw_g (lw_at lw_m3 148 rfl) rfl
theorem q702 : (Jvm.Cond.superclass "OldLight$Reader" "java/lang/Object") ∈ lw_all := lw_g (lw_at lw_m3 149 rfl) rfl
theorem q704 : (Jvm.Cond.instanceMethod ({ cls := "OldLight$Reader", name := "read", desc := "()LOldLight$Term;" } : Jvm.MethodName)) ∈ lw_all := lw_g (lw_at lw_m3 151 rfl) rfl
theorem q705 : (Jvm.Cond.selects "OldLight$Reader" ({ cls := "OldLight$Reader", name := "read", desc := "()LOldLight$Term;" } : Jvm.MethodName) ({ cls := "OldLight$Reader", name := "read", desc := "()LOldLight$Term;" } : Jvm.MethodName)) ∈ lw_all := lw_g (lw_at lw_m3 152 rfl) rfl
theorem q706 : (Jvm.Cond.code ({ cls := "OldLight$Reader", name := "read", desc := "()LOldLight$Term;" } : Jvm.MethodName) prog_14_method_2_code (2 : Nat) (Option.some (Jvm.ClassFile.FieldType.object "OldLight$Term"))) ∈ lw_all := lw_g (lw_at lw_m3 153 rfl) rfl
theorem q707 : (Jvm.Cond.methodLink "OldLight$Reader" (23 : Nat) ({ cls := "OldLight$Reader", name := "either", desc := "()LOldLight$Term;" } : Jvm.MethodName)) ∈ lw_all := lw_g (lw_at lw_m3 154 rfl) rfl
theorem q708 : (Jvm.Cond.privateMethod ({ cls := "OldLight$Reader", name := "either", desc := "()LOldLight$Term;" } : Jvm.MethodName)) ∈ lw_tbl := lw_at lw_m3 155 rfl
theorem q709 : (Jvm.Cond.instanceMethod ({ cls := "OldLight$Reader", name := "either", desc := "()LOldLight$Term;" } : Jvm.MethodName)) ∈ lw_all := lw_g (lw_at lw_m3 156 rfl) rfl
theorem q710 : (Jvm.Cond.code ({ cls := "OldLight$Reader", name := "either", desc := "()LOldLight$Term;" } : Jvm.MethodName) prog_14_method_6_code (2 : Nat) (Option.some (Jvm.ClassFile.FieldType.object "OldLight$Term"))) ∈ lw_all := lw_g (lw_at lw_m3 157 rfl) rfl
theorem q711 : (Jvm.Cond.methodLink "OldLight$Reader" (49 : Nat) ({ cls := "OldLight$Reader", name := "both", desc := "()LOldLight$Term;" } : Jvm.MethodName)) ∈ lw_all := lw_g (lw_at lw_m3 158 rfl) rfl
theorem q712 : (Jvm.Cond.privateMethod ({ cls := "OldLight$Reader", name := "both", desc := "()LOldLight$Term;" } : Jvm.MethodName)) ∈ lw_tbl := lw_at lw_m3 159 rfl
theorem q713 : (Jvm.Cond.instanceMethod ({ cls := "OldLight$Reader", name := "both", desc := "()LOldLight$Term;" } : Jvm.MethodName)) ∈ lw_all := lw_g (lw_at lw_m3 160 rfl) rfl
theorem q714 : (Jvm.Cond.code ({ cls := "OldLight$Reader", name := "both", desc := "()LOldLight$Term;" } : Jvm.MethodName) prog_14_method_7_code (2 : Nat) (Option.some (Jvm.ClassFile.FieldType.object "OldLight$Term"))) ∈ lw_all := lw_g (lw_at lw_m3 161 rfl) rfl
theorem q715 : (Jvm.Cond.methodLink "OldLight$Reader" (63 : Nat) ({ cls := "OldLight$Reader", name := "relation", desc := "()LOldLight$Term;" } : Jvm.MethodName)) ∈ lw_all := lw_g (lw_at lw_m3 162 rfl) rfl
theorem q716 : (Jvm.Cond.privateMethod ({ cls := "OldLight$Reader", name := "relation", desc := "()LOldLight$Term;" } : Jvm.MethodName)) ∈ lw_tbl := lw_at lw_m3 163 rfl
theorem q717 : (Jvm.Cond.instanceMethod ({ cls := "OldLight$Reader", name := "relation", desc := "()LOldLight$Term;" } : Jvm.MethodName)) ∈ lw_all := lw_g (lw_at lw_m3 164 rfl) rfl
theorem q718 : (Jvm.Cond.code ({ cls := "OldLight$Reader", name := "relation", desc := "()LOldLight$Term;" } : Jvm.MethodName) prog_14_method_8_code (3 : Nat) (Option.some (Jvm.ClassFile.FieldType.object "OldLight$Term"))) ∈ lw_all := lw_g (lw_at lw_m3 165 rfl) rfl
theorem q719 : (Jvm.Cond.methodLink "OldLight$Reader" (68 : Nat) ({ cls := "OldLight$Reader", name := "sum", desc := "()LOldLight$Term;" } : Jvm.MethodName)) ∈ lw_all := lw_g (lw_at lw_m3 166 rfl) rfl
theorem q720 : (Jvm.Cond.privateMethod ({ cls := "OldLight$Reader", name := "sum", desc := "()LOldLight$Term;" } : Jvm.MethodName)) ∈ lw_tbl := lw_at lw_m3 167 rfl
theorem q721 : (Jvm.Cond.instanceMethod ({ cls := "OldLight$Reader", name := "sum", desc := "()LOldLight$Term;" } : Jvm.MethodName)) ∈ lw_all := lw_g (lw_at lw_m3 168 rfl) rfl
theorem q722 : (Jvm.Cond.code ({ cls := "OldLight$Reader", name := "sum", desc := "()LOldLight$Term;" } : Jvm.MethodName) prog_14_method_9_code (3 : Nat) (Option.some (Jvm.ClassFile.FieldType.object "OldLight$Term"))) ∈ lw_all := lw_g (lw_at lw_m3 169 rfl) rfl
theorem q723 : (Jvm.Cond.methodLink "OldLight$Reader" (73 : Nat) ({ cls := "OldLight$Reader", name := "product", desc := "()LOldLight$Term;" } : Jvm.MethodName)) ∈ lw_all := lw_g (lw_at lw_m3 170 rfl) rfl
theorem q724 : (Jvm.Cond.privateMethod ({ cls := "OldLight$Reader", name := "product", desc := "()LOldLight$Term;" } : Jvm.MethodName)) ∈ lw_tbl := lw_at lw_m3 171 rfl
theorem q725 : (Jvm.Cond.instanceMethod ({ cls := "OldLight$Reader", name := "product", desc := "()LOldLight$Term;" } : Jvm.MethodName)) ∈ lw_all := lw_g (lw_at lw_m3 172 rfl) rfl
theorem q726 : (Jvm.Cond.code ({ cls := "OldLight$Reader", name := "product", desc := "()LOldLight$Term;" } : Jvm.MethodName) prog_14_method_10_code (3 : Nat) (Option.some (Jvm.ClassFile.FieldType.object "OldLight$Term"))) ∈ lw_all := lw_g (lw_at lw_m3 173 rfl) rfl
theorem q727 : (Jvm.Cond.methodLink "OldLight$Reader" (78 : Nat) ({ cls := "OldLight$Reader", name := "single", desc := "()LOldLight$Term;" } : Jvm.MethodName)) ∈ lw_all := lw_g (lw_at lw_m3 174 rfl) rfl
theorem q728 : (Jvm.Cond.privateMethod ({ cls := "OldLight$Reader", name := "single", desc := "()LOldLight$Term;" } : Jvm.MethodName)) ∈ lw_tbl := lw_at lw_m3 175 rfl
theorem q729 : (Jvm.Cond.instanceMethod ({ cls := "OldLight$Reader", name := "single", desc := "()LOldLight$Term;" } : Jvm.MethodName)) ∈ lw_all := lw_g (lw_at lw_m3 176 rfl) rfl
theorem q730 : (Jvm.Cond.code ({ cls := "OldLight$Reader", name := "single", desc := "()LOldLight$Term;" } : Jvm.MethodName) prog_14_method_12_code (3 : Nat) (Option.some (Jvm.ClassFile.FieldType.object "OldLight$Term"))) ∈ lw_all := lw_g (lw_at lw_m3 177 rfl) rfl
theorem q731 : (Jvm.Cond.methodLink "OldLight$Reader" (54 : Nat) ({ cls := "OldLight$Reader", name := "isOne", desc := "(Ljava/lang/String;)Z" } : Jvm.MethodName)) ∈ lw_all := lw_g (lw_at lw_m3 178 rfl) rfl
theorem q732 : (Jvm.Cond.privateMethod ({ cls := "OldLight$Reader", name := "isOne", desc := "(Ljava/lang/String;)Z" } : Jvm.MethodName)) ∈ lw_tbl := lw_at lw_m3 179 rfl
theorem q733 : (Jvm.Cond.instanceMethod ({ cls := "OldLight$Reader", name := "isOne", desc := "(Ljava/lang/String;)Z" } : Jvm.MethodName)) ∈ lw_all := lw_g (lw_at lw_m3 180 rfl) rfl
theorem q734 : (Jvm.Cond.code ({ cls := "OldLight$Reader", name := "isOne", desc := "(Ljava/lang/String;)Z" } : Jvm.MethodName) prog_14_method_5_code (2 : Nat) (Option.some Jvm.ClassFile.FieldType.boolean)) ∈ lw_all := lw_g (lw_at lw_m3 181 rfl) rfl
theorem q735 : (Jvm.Cond.methodLink "OldLight$Reader" (39 : Nat) ({ cls := "OldLight$Reader", name := "look", desc := "()I" } : Jvm.MethodName)) ∈ lw_all := lw_g (lw_at lw_m3 182 rfl) rfl
theorem q736 : (Jvm.Cond.privateMethod ({ cls := "OldLight$Reader", name := "look", desc := "()I" } : Jvm.MethodName)) ∈ lw_tbl := lw_at lw_m3 183 rfl
theorem q737 : (Jvm.Cond.instanceMethod ({ cls := "OldLight$Reader", name := "look", desc := "()I" } : Jvm.MethodName)) ∈ lw_all := lw_g (lw_at lw_m3 184 rfl) rfl
theorem q738 : (Jvm.Cond.code ({ cls := "OldLight$Reader", name := "look", desc := "()I" } : Jvm.MethodName) prog_14_method_3_code (1 : Nat) (Option.some Jvm.ClassFile.FieldType.int)) ∈ lw_all := lw_g (lw_at lw_m3 185 rfl) rfl
theorem q739 : (Jvm.Cond.methodLink "OldLight$Reader" (43 : Nat) ({ cls := "java/lang/String", name := "indexOf", desc := "(I)I" } : Jvm.MethodName)) ∈ lw_all := lw_g (lw_at lw_m3 186 rfl) rfl
theorem q821 : (Jvm.Cond.classLink "OldLight$Reader" (86 : Nat) "OldLight$Named") ∈ lw_all := lw_g (lw_at lw_m4 28 rfl) rfl
theorem q823 : (Jvm.Cond.methodLink "OldLight$Reader" (88 : Nat) ({ cls := "OldLight$Named", name := "<init>", desc := "(I)V" } : Jvm.MethodName)) ∈ lw_all := lw_g (lw_at lw_m4 30 rfl) rfl
theorem q834 : (Jvm.Cond.stringRef "OldLight$Reader" (89 : Nat) "!") ∈ lw_tbl := lw_at lw_m4 41 rfl
theorem q835 : (Jvm.Cond.methodLink "OldLight$Reader" (91 : Nat) ({ cls := "OldLight$Reader", name := "opens", desc := "()V" } : Jvm.MethodName)) ∈ lw_all := lw_g (lw_at lw_m4 42 rfl) rfl
theorem q836 : (Jvm.Cond.privateMethod ({ cls := "OldLight$Reader", name := "opens", desc := "()V" } : Jvm.MethodName)) ∈ lw_tbl := lw_at lw_m4 43 rfl
theorem q837 : (Jvm.Cond.instanceMethod ({ cls := "OldLight$Reader", name := "opens", desc := "()V" } : Jvm.MethodName)) ∈ lw_all := lw_g (lw_at lw_m4 44 rfl) rfl
theorem q838 : (Jvm.Cond.code ({ cls := "OldLight$Reader", name := "opens", desc := "()V" } : Jvm.MethodName) prog_14_method_11_code (1 : Nat) (Option.none : Option Jvm.ClassFile.FieldType)) ∈ lw_all := lw_g (lw_at lw_m4 45 rfl) rfl
theorem q839 : (Jvm.Cond.methodLink "OldLight$Reader" (30 : Nat) ({ cls := "OldLight$Reader", name := "fault", desc := "(Z)V" } : Jvm.MethodName)) ∈ lw_all := lw_g (lw_at lw_m4 46 rfl) rfl
theorem q840 : (Jvm.Cond.privateMethod ({ cls := "OldLight$Reader", name := "fault", desc := "(Z)V" } : Jvm.MethodName)) ∈ lw_tbl := lw_at lw_m4 47 rfl
theorem q841 : (Jvm.Cond.instanceMethod ({ cls := "OldLight$Reader", name := "fault", desc := "(Z)V" } : Jvm.MethodName)) ∈ lw_all := lw_g (lw_at lw_m4 48 rfl) rfl
theorem q842 : (Jvm.Cond.code ({ cls := "OldLight$Reader", name := "fault", desc := "(Z)V" } : Jvm.MethodName) prog_14_method_4_code (2 : Nat) (Option.none : Option Jvm.ClassFile.FieldType)) ∈ lw_all := lw_g (lw_at lw_m4 49 rfl) rfl
theorem q843 : (Jvm.Cond.classLink "OldLight$Reader" (34 : Nat) "OldLight$Fault") ∈ lw_all := lw_g (lw_at lw_m4 50 rfl) rfl
theorem q852 : (Jvm.Cond.methodLink "OldLight$Reader" (36 : Nat) ({ cls := "OldLight$Fault", name := "<init>", desc := "(I)V" } : Jvm.MethodName)) ∈ lw_all := lw_g (lw_at lw_m4 59 rfl) rfl
theorem q862 : (Jvm.Cond.classLink "OldLight$Reader" (94 : Nat) "OldLight$Turned") ∈ lw_all := lw_g (lw_at lw_m4 69 rfl) rfl
theorem q864 : (Jvm.Cond.methodLink "OldLight$Reader" (96 : Nat) ({ cls := "OldLight$Turned", name := "<init>", desc := "(LOldLight$Term;)V" } : Jvm.MethodName)) ∈ lw_all := lw_g (lw_at lw_m4 71 rfl) rfl
theorem q872 : (Jvm.Cond.stringRef "OldLight$Reader" (99 : Nat) "(") ∈ lw_tbl := lw_at lw_m4 79 rfl
theorem q873 : (Jvm.Cond.methodLinkNest "OldLight$Reader" (101 : Nat) ({ cls := "OldLight", name := "in", desc := "(III)Z" } : Jvm.MethodName) "OldLight") ∈ lw_tbl := lw_at lw_m4 80 rfl
theorem q874 : (Jvm.Cond.classLink "OldLight$Reader" (105 : Nat) "OldLight$Figure") ∈ lw_all := lw_g (lw_at lw_m4 81 rfl) rfl
theorem q876 : (Jvm.Cond.methodLink "OldLight$Reader" (107 : Nat) ({ cls := "OldLight$Figure", name := "<init>", desc := "(I)V" } : Jvm.MethodName)) ∈ lw_all := lw_g (lw_at lw_m4 83 rfl) rfl
theorem q884 : (Jvm.Cond.stringRef "OldLight$Reader" (81 : Nat) "*/%") ∈ lw_tbl := lw_at lw_m4 91 rfl
theorem q885 : (Jvm.Cond.classLink "OldLight$Reader" (58 : Nat) "OldLight$Two") ∈ lw_all := lw_g (lw_at lw_m4 92 rfl) rfl
theorem q887 : (Jvm.Cond.methodLink "OldLight$Reader" (60 : Nat) ({ cls := "OldLight$Two", name := "<init>", desc := "(ILOldLight$Term;LOldLight$Term;)V" } : Jvm.MethodName)) ∈ lw_all := lw_g (lw_at lw_m4 94 rfl) rfl
theorem q901 : (Jvm.Cond.stringRef "OldLight$Reader" (76 : Nat) "+-") ∈ lw_tbl := lw_at lw_m4 108 rfl
theorem q902 : (Jvm.Cond.stringRef "OldLight$Reader" (71 : Nat) "<=>") ∈ lw_tbl := lw_at lw_m4 109 rfl
theorem q903 : (Jvm.Cond.stringRef "OldLight$Reader" (66 : Nat) "&") ∈ lw_tbl := lw_at lw_m4 110 rfl
theorem q904 : (Jvm.Cond.stringRef "OldLight$Reader" (52 : Nat) "|") ∈ lw_tbl := lw_at lw_m4 111 rfl
theorem in_X16 : ∀ w ∈ wsX160, w ∈ lw_all := lw_in wsX160 [692, 694, 696, 698, 700] (by decide +kernel) (by decide +kernel)
/-! java/lang/String -/
set_option maxRecDepth 100000
def RJ4 : String := "java/lang/String"
abbrev cJ4_indexOf : ByteArray := prog_36_method_79_code
def yJ4_indexOf : MethodName := ⟨RJ4, "indexOf", "(I)I"⟩
def dkwJ4_indexOf_0 : List UInt8 := [42, 27, 3, 182, 2, 121, 172]
abbrev dktJ4_indexOf_0 : List UInt8 := dkwJ4_indexOf_0 ++ []
theorem dksJ4_indexOf_0 : cJ4_indexOf.data.toList.drop 0 = dktJ4_indexOf_0 := by decide +kernel
theorem dJ4_indexOf_0 : decode cJ4_indexOf 0 = .ok (.aload_n 0, 1) := dk_42 (dk_at dksJ4_indexOf_0 0 rfl rfl)
theorem dJ4_indexOf_1 : decode cJ4_indexOf 1 = .ok (.iload_n 1, 1) := dk_27 (dk_at dksJ4_indexOf_0 1 rfl rfl)
theorem dJ4_indexOf_2 : decode cJ4_indexOf 2 = .ok (.iconst 0, 1) := dk_3 (dk_at dksJ4_indexOf_0 2 rfl rfl)
theorem dJ4_indexOf_3 : decode cJ4_indexOf 3 = .ok (.invokevirtual 633, 3) := dk_182 2 121 (dk_at dksJ4_indexOf_0 3 rfl rfl)
theorem dJ4_indexOf_6 : decode cJ4_indexOf 6 = .ok (.ireturn, 1) := dk_172 (dk_at dksJ4_indexOf_0 6 rfl rfl)
abbrev cJ4_indexOf_2 : ByteArray := prog_36_method_80_code
def yJ4_indexOf_2 : MethodName := ⟨RJ4, "indexOf", "(II)I"⟩
def dkwJ4_indexOf_2_1 : List UInt8 := [180, 0, 9, 27, 28, 42, 182, 1, 249, 184, 2, 128, 172]
abbrev dktJ4_indexOf_2_1 : List UInt8 := dkwJ4_indexOf_2_1 ++ []
def dkwJ4_indexOf_2_0 : List UInt8 := [42, 182, 1, 236, 153, 0, 19, 42, 180, 0, 9, 27, 28, 42, 182, 1, 249, 184, 2, 125, 167, 0, 16, 42]
abbrev dktJ4_indexOf_2_0 : List UInt8 := dkwJ4_indexOf_2_0 ++ dktJ4_indexOf_2_1
theorem dksJ4_indexOf_2_0 : cJ4_indexOf_2.data.toList.drop 0 = dktJ4_indexOf_2_0 := by decide +kernel
theorem dksJ4_indexOf_2_1 : cJ4_indexOf_2.data.toList.drop 24 = dktJ4_indexOf_2_1 := dk_seg dksJ4_indexOf_2_0 24 rfl rfl
theorem dJ4_indexOf_2_0 : decode cJ4_indexOf_2 0 = .ok (.aload_n 0, 1) := dk_42 (dk_at dksJ4_indexOf_2_0 0 rfl rfl)
theorem dJ4_indexOf_2_1 : decode cJ4_indexOf_2 1 = .ok (.invokevirtual 492, 3) := dk_182 1 236 (dk_at dksJ4_indexOf_2_0 1 rfl rfl)
theorem dJ4_indexOf_2_4 : decode cJ4_indexOf_2 4 = .ok (.ifCond .eq 19, 3) := dk_153 0 19 (dk_at dksJ4_indexOf_2_0 4 rfl rfl)
theorem dJ4_indexOf_2_7 : decode cJ4_indexOf_2 7 = .ok (.aload_n 0, 1) := dk_42 (dk_at dksJ4_indexOf_2_0 7 rfl rfl)
theorem dJ4_indexOf_2_8 : decode cJ4_indexOf_2 8 = .ok (.getfield 9, 3) := dk_180 0 9 (dk_at dksJ4_indexOf_2_0 8 rfl rfl)
theorem dJ4_indexOf_2_11 : decode cJ4_indexOf_2 11 = .ok (.iload_n 1, 1) := dk_27 (dk_at dksJ4_indexOf_2_0 11 rfl rfl)
theorem dJ4_indexOf_2_12 : decode cJ4_indexOf_2 12 = .ok (.iload_n 2, 1) := dk_28 (dk_at dksJ4_indexOf_2_0 12 rfl rfl)
theorem dJ4_indexOf_2_13 : decode cJ4_indexOf_2 13 = .ok (.aload_n 0, 1) := dk_42 (dk_at dksJ4_indexOf_2_0 13 rfl rfl)
theorem dJ4_indexOf_2_14 : decode cJ4_indexOf_2 14 = .ok (.invokevirtual 505, 3) := dk_182 1 249 (dk_at dksJ4_indexOf_2_0 14 rfl rfl)
theorem dJ4_indexOf_2_17 : decode cJ4_indexOf_2 17 = .ok (.invokestatic 637, 3) := dk_184 2 125 (dk_at dksJ4_indexOf_2_0 17 rfl rfl)
theorem dJ4_indexOf_2_20 : decode cJ4_indexOf_2 20 = .ok (.goto 16, 3) := dk_167 0 16 (dk_at dksJ4_indexOf_2_0 20 rfl rfl)
theorem dJ4_indexOf_2_23 : decode cJ4_indexOf_2 23 = .ok (.aload_n 0, 1) := dk_42 (dk_at dksJ4_indexOf_2_0 23 rfl rfl)
theorem dJ4_indexOf_2_24 : decode cJ4_indexOf_2 24 = .ok (.getfield 9, 3) := dk_180 0 9 (dk_at dksJ4_indexOf_2_1 0 rfl rfl)
theorem dJ4_indexOf_2_27 : decode cJ4_indexOf_2 27 = .ok (.iload_n 1, 1) := dk_27 (dk_at dksJ4_indexOf_2_1 3 rfl rfl)
theorem dJ4_indexOf_2_28 : decode cJ4_indexOf_2 28 = .ok (.iload_n 2, 1) := dk_28 (dk_at dksJ4_indexOf_2_1 4 rfl rfl)
theorem dJ4_indexOf_2_29 : decode cJ4_indexOf_2 29 = .ok (.aload_n 0, 1) := dk_42 (dk_at dksJ4_indexOf_2_1 5 rfl rfl)
theorem dJ4_indexOf_2_30 : decode cJ4_indexOf_2 30 = .ok (.invokevirtual 505, 3) := dk_182 1 249 (dk_at dksJ4_indexOf_2_1 6 rfl rfl)
theorem dJ4_indexOf_2_33 : decode cJ4_indexOf_2 33 = .ok (.invokestatic 640, 3) := dk_184 2 128 (dk_at dksJ4_indexOf_2_1 9 rfl rfl)
theorem dJ4_indexOf_2_36 : decode cJ4_indexOf_2 36 = .ok (.ireturn, 1) := dk_172 (dk_at dksJ4_indexOf_2_1 12 rfl rfl)
abbrev cJ4_isLatin1 : ByteArray := prog_36_method_154_code
def yJ4_isLatin1 : MethodName := ⟨RJ4, "isLatin1", "()Z"⟩
def dkwJ4_isLatin1_0 : List UInt8 := [178, 0, 38, 153, 0, 14, 42, 180, 0, 15, 154, 0, 7, 4, 167, 0, 4, 3, 172]
abbrev dktJ4_isLatin1_0 : List UInt8 := dkwJ4_isLatin1_0 ++ []
theorem dksJ4_isLatin1_0 : cJ4_isLatin1.data.toList.drop 0 = dktJ4_isLatin1_0 := by decide +kernel
theorem dJ4_isLatin1_0 : decode cJ4_isLatin1 0 = .ok (.getstatic 38, 3) := dk_178 0 38 (dk_at dksJ4_isLatin1_0 0 rfl rfl)
theorem dJ4_isLatin1_3 : decode cJ4_isLatin1 3 = .ok (.ifCond .eq 14, 3) := dk_153 0 14 (dk_at dksJ4_isLatin1_0 3 rfl rfl)
theorem dJ4_isLatin1_6 : decode cJ4_isLatin1 6 = .ok (.aload_n 0, 1) := dk_42 (dk_at dksJ4_isLatin1_0 6 rfl rfl)
theorem dJ4_isLatin1_7 : decode cJ4_isLatin1 7 = .ok (.getfield 15, 3) := dk_180 0 15 (dk_at dksJ4_isLatin1_0 7 rfl rfl)
theorem dJ4_isLatin1_10 : decode cJ4_isLatin1 10 = .ok (.ifCond .ne 7, 3) := dk_154 0 7 (dk_at dksJ4_isLatin1_0 10 rfl rfl)
theorem dJ4_isLatin1_13 : decode cJ4_isLatin1 13 = .ok (.iconst 1, 1) := dk_4 (dk_at dksJ4_isLatin1_0 13 rfl rfl)
theorem dJ4_isLatin1_14 : decode cJ4_isLatin1 14 = .ok (.goto 4, 3) := dk_167 0 4 (dk_at dksJ4_isLatin1_0 14 rfl rfl)
theorem dJ4_isLatin1_17 : decode cJ4_isLatin1 17 = .ok (.iconst 0, 1) := dk_3 (dk_at dksJ4_isLatin1_0 17 rfl rfl)
theorem dJ4_isLatin1_18 : decode cJ4_isLatin1 18 = .ok (.ireturn, 1) := dk_172 (dk_at dksJ4_isLatin1_0 18 rfl rfl)
abbrev cJ4_length : ByteArray := prog_36_method_54_code
def yJ4_length : MethodName := ⟨RJ4, "length", "()I"⟩
def dkwJ4_length_0 : List UInt8 := [42, 180, 0, 9, 190, 42, 182, 1, 79, 122, 172]
abbrev dktJ4_length_0 : List UInt8 := dkwJ4_length_0 ++ []
theorem dksJ4_length_0 : cJ4_length.data.toList.drop 0 = dktJ4_length_0 := by decide +kernel
theorem dJ4_length_0 : decode cJ4_length 0 = .ok (.aload_n 0, 1) := dk_42 (dk_at dksJ4_length_0 0 rfl rfl)
theorem dJ4_length_1 : decode cJ4_length 1 = .ok (.getfield 9, 3) := dk_180 0 9 (dk_at dksJ4_length_0 1 rfl rfl)
theorem dJ4_length_4 : decode cJ4_length 4 = .ok (.arraylength, 1) := dk_190 (dk_at dksJ4_length_0 4 rfl rfl)
theorem dJ4_length_5 : decode cJ4_length 5 = .ok (.aload_n 0, 1) := dk_42 (dk_at dksJ4_length_0 5 rfl rfl)
theorem dJ4_length_6 : decode cJ4_length 6 = .ok (.invokevirtual 335, 3) := dk_182 1 79 (dk_at dksJ4_length_0 6 rfl rfl)
theorem dJ4_length_9 : decode cJ4_length 9 = .ok (.ishr, 1) := dk_122 (dk_at dksJ4_length_0 9 rfl rfl)
theorem dJ4_length_10 : decode cJ4_length 10 = .ok (.ireturn, 1) := dk_172 (dk_at dksJ4_length_0 10 rfl rfl)
abbrev cJ4_coder : ByteArray := prog_36_method_152_code
def yJ4_coder : MethodName := ⟨RJ4, "coder", "()B"⟩
def dkwJ4_coder_0 : List UInt8 := [178, 0, 38, 153, 0, 10, 42, 180, 0, 15, 167, 0, 4, 4, 172]
abbrev dktJ4_coder_0 : List UInt8 := dkwJ4_coder_0 ++ []
theorem dksJ4_coder_0 : cJ4_coder.data.toList.drop 0 = dktJ4_coder_0 := by decide +kernel
theorem dJ4_coder_0 : decode cJ4_coder 0 = .ok (.getstatic 38, 3) := dk_178 0 38 (dk_at dksJ4_coder_0 0 rfl rfl)
theorem dJ4_coder_3 : decode cJ4_coder 3 = .ok (.ifCond .eq 10, 3) := dk_153 0 10 (dk_at dksJ4_coder_0 3 rfl rfl)
theorem dJ4_coder_6 : decode cJ4_coder 6 = .ok (.aload_n 0, 1) := dk_42 (dk_at dksJ4_coder_0 6 rfl rfl)
theorem dJ4_coder_7 : decode cJ4_coder 7 = .ok (.getfield 15, 3) := dk_180 0 15 (dk_at dksJ4_coder_0 7 rfl rfl)
theorem dJ4_coder_10 : decode cJ4_coder 10 = .ok (.goto 4, 3) := dk_167 0 4 (dk_at dksJ4_coder_0 10 rfl rfl)
theorem dJ4_coder_13 : decode cJ4_coder 13 = .ok (.iconst 1, 1) := dk_4 (dk_at dksJ4_coder_0 13 rfl rfl)
theorem dJ4_coder_14 : decode cJ4_coder 14 = .ok (.ireturn, 1) := dk_172 (dk_at dksJ4_coder_0 14 rfl rfl)
abbrev cJ4_checkBoundsBeginEnd : ByteArray := prog_36_method_158_code
def yJ4_checkBoundsBeginEnd : MethodName := ⟨RJ4, "checkBoundsBeginEnd", "(III)V"⟩
def dkwJ4_checkBoundsBeginEnd_0 : List UInt8 := [26, 27, 28, 178, 4, 29, 184, 4, 38, 87, 177]
abbrev dktJ4_checkBoundsBeginEnd_0 : List UInt8 := dkwJ4_checkBoundsBeginEnd_0 ++ []
theorem dksJ4_checkBoundsBeginEnd_0 : cJ4_checkBoundsBeginEnd.data.toList.drop 0 = dktJ4_checkBoundsBeginEnd_0 := by decide +kernel
theorem dJ4_checkBoundsBeginEnd_0 : decode cJ4_checkBoundsBeginEnd 0 = .ok (.iload_n 0, 1) := dk_26 (dk_at dksJ4_checkBoundsBeginEnd_0 0 rfl rfl)
theorem dJ4_checkBoundsBeginEnd_1 : decode cJ4_checkBoundsBeginEnd 1 = .ok (.iload_n 1, 1) := dk_27 (dk_at dksJ4_checkBoundsBeginEnd_0 1 rfl rfl)
theorem dJ4_checkBoundsBeginEnd_2 : decode cJ4_checkBoundsBeginEnd 2 = .ok (.iload_n 2, 1) := dk_28 (dk_at dksJ4_checkBoundsBeginEnd_0 2 rfl rfl)
theorem dJ4_checkBoundsBeginEnd_3 : decode cJ4_checkBoundsBeginEnd 3 = .ok (.getstatic 1053, 3) := dk_178 4 29 (dk_at dksJ4_checkBoundsBeginEnd_0 3 rfl rfl)
theorem dJ4_checkBoundsBeginEnd_6 : decode cJ4_checkBoundsBeginEnd 6 = .ok (.invokestatic 1062, 3) := dk_184 4 38 (dk_at dksJ4_checkBoundsBeginEnd_0 6 rfl rfl)
theorem dJ4_checkBoundsBeginEnd_9 : decode cJ4_checkBoundsBeginEnd 9 = .ok (.pop, 1) := dk_87 (dk_at dksJ4_checkBoundsBeginEnd_0 9 rfl rfl)
theorem dJ4_checkBoundsBeginEnd_10 : decode cJ4_checkBoundsBeginEnd 10 = .ok (.return_, 1) := dk_177 (dk_at dksJ4_checkBoundsBeginEnd_0 10 rfl rfl)
abbrev cJ4_charAt : ByteArray := prog_36_method_56_code
def yJ4_charAt : MethodName := ⟨RJ4, "charAt", "(I)C"⟩
def dkwJ4_charAt_1 : List UInt8 := [172]
abbrev dktJ4_charAt_1 : List UInt8 := dkwJ4_charAt_1 ++ []
def dkwJ4_charAt_0 : List UInt8 := [42, 182, 1, 236, 153, 0, 12, 42, 180, 0, 9, 27, 184, 1, 239, 172, 42, 180, 0, 9, 27, 184, 1, 242]
abbrev dktJ4_charAt_0 : List UInt8 := dkwJ4_charAt_0 ++ dktJ4_charAt_1
theorem dksJ4_charAt_0 : cJ4_charAt.data.toList.drop 0 = dktJ4_charAt_0 := by decide +kernel
theorem dksJ4_charAt_1 : cJ4_charAt.data.toList.drop 24 = dktJ4_charAt_1 := dk_seg dksJ4_charAt_0 24 rfl rfl
theorem dJ4_charAt_0 : decode cJ4_charAt 0 = .ok (.aload_n 0, 1) := dk_42 (dk_at dksJ4_charAt_0 0 rfl rfl)
theorem dJ4_charAt_1 : decode cJ4_charAt 1 = .ok (.invokevirtual 492, 3) := dk_182 1 236 (dk_at dksJ4_charAt_0 1 rfl rfl)
theorem dJ4_charAt_4 : decode cJ4_charAt 4 = .ok (.ifCond .eq 12, 3) := dk_153 0 12 (dk_at dksJ4_charAt_0 4 rfl rfl)
theorem dJ4_charAt_7 : decode cJ4_charAt 7 = .ok (.aload_n 0, 1) := dk_42 (dk_at dksJ4_charAt_0 7 rfl rfl)
theorem dJ4_charAt_8 : decode cJ4_charAt 8 = .ok (.getfield 9, 3) := dk_180 0 9 (dk_at dksJ4_charAt_0 8 rfl rfl)
theorem dJ4_charAt_11 : decode cJ4_charAt 11 = .ok (.iload_n 1, 1) := dk_27 (dk_at dksJ4_charAt_0 11 rfl rfl)
theorem dJ4_charAt_12 : decode cJ4_charAt 12 = .ok (.invokestatic 495, 3) := dk_184 1 239 (dk_at dksJ4_charAt_0 12 rfl rfl)
theorem dJ4_charAt_15 : decode cJ4_charAt 15 = .ok (.ireturn, 1) := dk_172 (dk_at dksJ4_charAt_0 15 rfl rfl)
theorem dJ4_charAt_16 : decode cJ4_charAt 16 = .ok (.aload_n 0, 1) := dk_42 (dk_at dksJ4_charAt_0 16 rfl rfl)
theorem dJ4_charAt_17 : decode cJ4_charAt 17 = .ok (.getfield 9, 3) := dk_180 0 9 (dk_at dksJ4_charAt_0 17 rfl rfl)
theorem dJ4_charAt_20 : decode cJ4_charAt 20 = .ok (.iload_n 1, 1) := dk_27 (dk_at dksJ4_charAt_0 20 rfl rfl)
theorem dJ4_charAt_21 : decode cJ4_charAt 21 = .ok (.invokestatic 498, 3) := dk_184 1 242 (dk_at dksJ4_charAt_0 21 rfl rfl)
theorem dJ4_charAt_24 : decode cJ4_charAt 24 = .ok (.ireturn, 1) := dk_172 (dk_at dksJ4_charAt_1 0 rfl rfl)
abbrev cJ4_checkIndex : ByteArray := prog_36_method_155_code
def yJ4_checkIndex : MethodName := ⟨RJ4, "checkIndex", "(II)V"⟩
def dkwJ4_checkIndex_0 : List UInt8 := [26, 27, 178, 4, 29, 184, 4, 35, 87, 177]
abbrev dktJ4_checkIndex_0 : List UInt8 := dkwJ4_checkIndex_0 ++ []
theorem dksJ4_checkIndex_0 : cJ4_checkIndex.data.toList.drop 0 = dktJ4_checkIndex_0 := by decide +kernel
theorem dJ4_checkIndex_0 : decode cJ4_checkIndex 0 = .ok (.iload_n 0, 1) := dk_26 (dk_at dksJ4_checkIndex_0 0 rfl rfl)
theorem dJ4_checkIndex_1 : decode cJ4_checkIndex 1 = .ok (.iload_n 1, 1) := dk_27 (dk_at dksJ4_checkIndex_0 1 rfl rfl)
theorem dJ4_checkIndex_2 : decode cJ4_checkIndex 2 = .ok (.getstatic 1053, 3) := dk_178 4 29 (dk_at dksJ4_checkIndex_0 2 rfl rfl)
theorem dJ4_checkIndex_5 : decode cJ4_checkIndex 5 = .ok (.invokestatic 1059, 3) := dk_184 4 35 (dk_at dksJ4_checkIndex_0 5 rfl rfl)
theorem dJ4_checkIndex_8 : decode cJ4_checkIndex 8 = .ok (.pop, 1) := dk_87 (dk_at dksJ4_checkIndex_0 8 rfl rfl)
theorem dJ4_checkIndex_9 : decode cJ4_checkIndex 9 = .ok (.return_, 1) := dk_177 (dk_at dksJ4_checkIndex_0 9 rfl rfl)
theorem q95 : (Jvm.Cond.initialized "java/lang/String") ∈ lw_all := lw_g (lw_at lw_m1 22 rfl) rfl
theorem q740 : (Jvm.Cond.instanceMethod ({ cls := "java/lang/String", name := "indexOf", desc := "(I)I" } : Jvm.MethodName)) ∈ lw_all := lw_g (lw_at lw_m3 187 rfl) rfl
theorem q741 : (Jvm.Cond.selects "java/lang/String" ({ cls := "java/lang/String", name := "indexOf", desc := "(I)I" } : Jvm.MethodName) ({ cls := "java/lang/String", name := "indexOf", desc := "(I)I" } : Jvm.MethodName)) ∈ lw_all := lw_g (lw_at lw_m3 188 rfl) rfl
theorem q742 : (Jvm.Cond.code ({ cls := "java/lang/String", name := "indexOf", desc := "(I)I" } : Jvm.MethodName) prog_36_method_79_code (2 : Nat) (Option.some Jvm.ClassFile.FieldType.int)) ∈ lw_all := lw_g (lw_at lw_m3 189 rfl) rfl
theorem q743 : (Jvm.Cond.methodLink "java/lang/String" (633 : Nat) ({ cls := "java/lang/String", name := "indexOf", desc := "(II)I" } : Jvm.MethodName)) ∈ lw_all := lw_g (lw_at lw_m3 190 rfl) rfl
theorem q744 : (Jvm.Cond.instanceMethod ({ cls := "java/lang/String", name := "indexOf", desc := "(II)I" } : Jvm.MethodName)) ∈ lw_all := lw_g (lw_at lw_m3 191 rfl) rfl
theorem q745 : (Jvm.Cond.selects "java/lang/String" ({ cls := "java/lang/String", name := "indexOf", desc := "(II)I" } : Jvm.MethodName) ({ cls := "java/lang/String", name := "indexOf", desc := "(II)I" } : Jvm.MethodName)) ∈ lw_all := lw_g (lw_at lw_m3 192 rfl) rfl
theorem q746 : (Jvm.Cond.code ({ cls := "java/lang/String", name := "indexOf", desc := "(II)I" } : Jvm.MethodName) prog_36_method_80_code (3 : Nat) (Option.some Jvm.ClassFile.FieldType.int)) ∈ lw_all := lw_g (lw_at lw_m3 193 rfl) rfl
theorem q747 : (Jvm.Cond.methodLink "java/lang/String" (492 : Nat) ({ cls := "java/lang/String", name := "isLatin1", desc := "()Z" } : Jvm.MethodName)) ∈ lw_all := lw_g (lw_at lw_m3 194 rfl) rfl
theorem q748 : (Jvm.Cond.instanceMethod ({ cls := "java/lang/String", name := "isLatin1", desc := "()Z" } : Jvm.MethodName)) ∈ lw_all := lw_g (lw_at lw_m3 195 rfl) rfl
theorem q749 : (Jvm.Cond.selects "java/lang/String" ({ cls := "java/lang/String", name := "isLatin1", desc := "()Z" } : Jvm.MethodName) ({ cls := "java/lang/String", name := "isLatin1", desc := "()Z" } : Jvm.MethodName)) ∈ lw_all := lw_g (lw_at lw_m3 196 rfl) rfl
theorem q750 : (Jvm.Cond.code ({ cls := "java/lang/String", name := "isLatin1", desc := "()Z" } : Jvm.MethodName) prog_36_method_154_code (1 : Nat) (Option.some Jvm.ClassFile.FieldType.boolean)) ∈ lw_all := lw_g (lw_at lw_m3 197 rfl) rfl
theorem q751 : (Jvm.Cond.fieldLink "java/lang/String" (38 : Nat) "java/lang/String" "COMPACT_STRINGS" "Z") ∈ lw_all := lw_g (lw_at lw_m3 198 rfl) rfl
theorem q752 : (Jvm.Cond.laysStatic "java/lang/String" "COMPACT_STRINGS" "Z") ∈ lw_tbl := lw_at lw_m3 199 rfl
theorem q753 : (Jvm.Cond.methodLink "java/lang/String" (505 : Nat) ({ cls := "java/lang/String", name := "length", desc := "()I" } : Jvm.MethodName)) ∈ lw_all := lw_g (lw_at lw_m3 200 rfl) rfl
theorem q754 : (Jvm.Cond.instanceMethod ({ cls := "java/lang/String", name := "length", desc := "()I" } : Jvm.MethodName)) ∈ lw_all := lw_g (lw_at lw_m3 201 rfl) rfl
theorem q755 : (Jvm.Cond.selects "java/lang/String" ({ cls := "java/lang/String", name := "length", desc := "()I" } : Jvm.MethodName) ({ cls := "java/lang/String", name := "length", desc := "()I" } : Jvm.MethodName)) ∈ lw_all := lw_g (lw_at lw_m3 202 rfl) rfl
theorem q756 : (Jvm.Cond.code ({ cls := "java/lang/String", name := "length", desc := "()I" } : Jvm.MethodName) prog_36_method_54_code (1 : Nat) (Option.some Jvm.ClassFile.FieldType.int)) ∈ lw_all := lw_g (lw_at lw_m3 203 rfl) rfl
theorem q757 : (Jvm.Cond.methodLink "java/lang/String" (335 : Nat) ({ cls := "java/lang/String", name := "coder", desc := "()B" } : Jvm.MethodName)) ∈ lw_all := lw_g (lw_at lw_m3 204 rfl) rfl
theorem q758 : (Jvm.Cond.instanceMethod ({ cls := "java/lang/String", name := "coder", desc := "()B" } : Jvm.MethodName)) ∈ lw_all := lw_g (lw_at lw_m3 205 rfl) rfl
theorem q759 : (Jvm.Cond.selects "java/lang/String" ({ cls := "java/lang/String", name := "coder", desc := "()B" } : Jvm.MethodName) ({ cls := "java/lang/String", name := "coder", desc := "()B" } : Jvm.MethodName)) ∈ lw_all := lw_g (lw_at lw_m3 206 rfl) rfl
theorem q760 : (Jvm.Cond.code ({ cls := "java/lang/String", name := "coder", desc := "()B" } : Jvm.MethodName) prog_36_method_152_code (1 : Nat) (Option.some Jvm.ClassFile.FieldType.byte)) ∈ lw_all := lw_g (lw_at lw_m3 207 rfl) rfl
theorem q761 : (Jvm.Cond.methodLink "java/lang/String" (637 : Nat) ({ cls := "java/lang/StringLatin1", name := "indexOf", desc := "([BIII)I" } : Jvm.MethodName)) ∈ lw_all := lw_g (lw_at lw_m3 208 rfl) rfl
theorem q772 : (Jvm.Cond.methodLink "java/lang/String" (640 : Nat) ({ cls := "java/lang/StringUTF16", name := "indexOf", desc := "([BIII)I" } : Jvm.MethodName)) ∈ lw_all := lw_g (lw_at lw_m3 219 rfl) rfl
theorem q788 : (Jvm.Cond.static ({ cls := "java/lang/String", name := "checkBoundsBeginEnd", desc := "(III)V" } : Jvm.MethodName)) ∈ lw_all := lw_g (lw_at lw_m3 235 rfl) rfl
theorem q789 : (Jvm.Cond.code ({ cls := "java/lang/String", name := "checkBoundsBeginEnd", desc := "(III)V" } : Jvm.MethodName) prog_36_method_158_code (3 : Nat) (Option.none : Option Jvm.ClassFile.FieldType)) ∈ lw_all := lw_g (lw_at lw_m3 236 rfl) rfl
theorem q790 : (Jvm.Cond.fieldLink "java/lang/String" (1053 : Nat) "jdk/internal/util/Preconditions" "SIOOBE_FORMATTER" "Ljava/util/function/BiFunction;") ∈ lw_all := lw_g (lw_at lw_m3 237 rfl) rfl
theorem q792 : (Jvm.Cond.methodLink "java/lang/String" (1062 : Nat) ({ cls := "jdk/internal/util/Preconditions", name := "checkFromToIndex", desc := "(IIILjava/util/function/BiFunction;)I" } : Jvm.MethodName)) ∈ lw_all := lw_g (lw_at lw_m3 239 rfl) rfl
theorem q1538 : (Jvm.Cond.instanceMethod ({ cls := "java/lang/String", name := "charAt", desc := "(I)C" } : Jvm.MethodName)) ∈ lw_all := lw_g (lw_at lw_m7 25 rfl) rfl
theorem q1539 : (Jvm.Cond.selects "java/lang/String" ({ cls := "java/lang/String", name := "charAt", desc := "(I)C" } : Jvm.MethodName) ({ cls := "java/lang/String", name := "charAt", desc := "(I)C" } : Jvm.MethodName)) ∈ lw_all := lw_g (lw_at lw_m7 26 rfl) rfl
theorem q1540 : (Jvm.Cond.code ({ cls := "java/lang/String", name := "charAt", desc := "(I)C" } : Jvm.MethodName) prog_36_method_56_code (2 : Nat) (Option.some Jvm.ClassFile.FieldType.char)) ∈ lw_all := lw_g (lw_at lw_m7 27 rfl) rfl
theorem q1541 : (Jvm.Cond.methodLink "java/lang/String" (495 : Nat) ({ cls := "java/lang/StringLatin1", name := "charAt", desc := "([BI)C" } : Jvm.MethodName)) ∈ lw_all := lw_g (lw_at lw_m7 28 rfl) rfl
theorem q1545 : (Jvm.Cond.static ({ cls := "java/lang/String", name := "checkIndex", desc := "(II)V" } : Jvm.MethodName)) ∈ lw_all := lw_g (lw_at lw_m7 32 rfl) rfl
theorem q1546 : (Jvm.Cond.code ({ cls := "java/lang/String", name := "checkIndex", desc := "(II)V" } : Jvm.MethodName) prog_36_method_155_code (2 : Nat) (Option.none : Option Jvm.ClassFile.FieldType)) ∈ lw_all := lw_g (lw_at lw_m7 33 rfl) rfl
theorem q1547 : (Jvm.Cond.methodLink "java/lang/String" (1059 : Nat) ({ cls := "jdk/internal/util/Preconditions", name := "checkIndex", desc := "(IILjava/util/function/BiFunction;)I" } : Jvm.MethodName)) ∈ lw_all := lw_g (lw_at lw_m7 34 rfl) rfl
theorem q1550 : (Jvm.Cond.methodLink "java/lang/String" (498 : Nat) ({ cls := "java/lang/StringUTF16", name := "charAt", desc := "([BI)C" } : Jvm.MethodName)) ∈ lw_all := lw_g (lw_at lw_m7 37 rfl) rfl
theorem q1920 : (Jvm.Cond.fieldLink "java/lang/String" (15 : Nat) "java/lang/String" "coder" "B") ∈ lw_all := lw_g (lw_at lw_m8 167 rfl) rfl
theorem q1921 : (Jvm.Cond.fieldLink "java/lang/String" (9 : Nat) "java/lang/String" "value" "[B") ∈ lw_all := lw_g (lw_at lw_m8 168 rfl) rfl
/-! java/lang/StringLatin1 -/
set_option maxRecDepth 100000
def RJ5 : String := "java/lang/StringLatin1"
abbrev cJ5_indexOf : ByteArray := prog_37_method_22_code
def yJ5_indexOf : MethodName := ⟨RJ5, "indexOf", "([BIII)I"⟩
def dkwJ5_indexOf_1 : List UInt8 := [161, 0, 5, 2, 172, 42, 27, 28, 29, 184, 0, 95, 172]
abbrev dktJ5_indexOf_1 : List UInt8 := dkwJ5_indexOf_1 ++ []
def dkwJ5_indexOf_0 : List UInt8 := [27, 184, 0, 88, 154, 0, 5, 2, 172, 28, 3, 184, 0, 92, 61, 29, 42, 190, 184, 0, 38, 62, 28, 29]
abbrev dktJ5_indexOf_0 : List UInt8 := dkwJ5_indexOf_0 ++ dktJ5_indexOf_1
theorem dksJ5_indexOf_0 : cJ5_indexOf.data.toList.drop 0 = dktJ5_indexOf_0 := by decide +kernel
theorem dksJ5_indexOf_1 : cJ5_indexOf.data.toList.drop 24 = dktJ5_indexOf_1 := dk_seg dksJ5_indexOf_0 24 rfl rfl
theorem dJ5_indexOf_0 : decode cJ5_indexOf 0 = .ok (.iload_n 1, 1) := dk_27 (dk_at dksJ5_indexOf_0 0 rfl rfl)
theorem dJ5_indexOf_1 : decode cJ5_indexOf 1 = .ok (.invokestatic 88, 3) := dk_184 0 88 (dk_at dksJ5_indexOf_0 1 rfl rfl)
theorem dJ5_indexOf_4 : decode cJ5_indexOf 4 = .ok (.ifCond .ne 5, 3) := dk_154 0 5 (dk_at dksJ5_indexOf_0 4 rfl rfl)
theorem dJ5_indexOf_7 : decode cJ5_indexOf 7 = .ok (.iconst (-1), 1) := dk_2 (dk_at dksJ5_indexOf_0 7 rfl rfl)
theorem dJ5_indexOf_8 : decode cJ5_indexOf 8 = .ok (.ireturn, 1) := dk_172 (dk_at dksJ5_indexOf_0 8 rfl rfl)
theorem dJ5_indexOf_9 : decode cJ5_indexOf 9 = .ok (.iload_n 2, 1) := dk_28 (dk_at dksJ5_indexOf_0 9 rfl rfl)
theorem dJ5_indexOf_10 : decode cJ5_indexOf 10 = .ok (.iconst 0, 1) := dk_3 (dk_at dksJ5_indexOf_0 10 rfl rfl)
theorem dJ5_indexOf_11 : decode cJ5_indexOf 11 = .ok (.invokestatic 92, 3) := dk_184 0 92 (dk_at dksJ5_indexOf_0 11 rfl rfl)
theorem dJ5_indexOf_14 : decode cJ5_indexOf 14 = .ok (.istore_n 2, 1) := dk_61 (dk_at dksJ5_indexOf_0 14 rfl rfl)
theorem dJ5_indexOf_15 : decode cJ5_indexOf 15 = .ok (.iload_n 3, 1) := dk_29 (dk_at dksJ5_indexOf_0 15 rfl rfl)
theorem dJ5_indexOf_16 : decode cJ5_indexOf 16 = .ok (.aload_n 0, 1) := dk_42 (dk_at dksJ5_indexOf_0 16 rfl rfl)
theorem dJ5_indexOf_17 : decode cJ5_indexOf 17 = .ok (.arraylength, 1) := dk_190 (dk_at dksJ5_indexOf_0 17 rfl rfl)
theorem dJ5_indexOf_18 : decode cJ5_indexOf 18 = .ok (.invokestatic 38, 3) := dk_184 0 38 (dk_at dksJ5_indexOf_0 18 rfl rfl)
theorem dJ5_indexOf_21 : decode cJ5_indexOf 21 = .ok (.istore_n 3, 1) := dk_62 (dk_at dksJ5_indexOf_0 21 rfl rfl)
theorem dJ5_indexOf_22 : decode cJ5_indexOf 22 = .ok (.iload_n 2, 1) := dk_28 (dk_at dksJ5_indexOf_0 22 rfl rfl)
theorem dJ5_indexOf_23 : decode cJ5_indexOf 23 = .ok (.iload_n 3, 1) := dk_29 (dk_at dksJ5_indexOf_0 23 rfl rfl)
theorem dJ5_indexOf_24 : decode cJ5_indexOf 24 = .ok (.if_icmp .lt 5, 3) := dk_161 0 5 (dk_at dksJ5_indexOf_1 0 rfl rfl)
theorem dJ5_indexOf_27 : decode cJ5_indexOf 27 = .ok (.iconst (-1), 1) := dk_2 (dk_at dksJ5_indexOf_1 3 rfl rfl)
theorem dJ5_indexOf_28 : decode cJ5_indexOf 28 = .ok (.ireturn, 1) := dk_172 (dk_at dksJ5_indexOf_1 4 rfl rfl)
theorem dJ5_indexOf_29 : decode cJ5_indexOf 29 = .ok (.aload_n 0, 1) := dk_42 (dk_at dksJ5_indexOf_1 5 rfl rfl)
theorem dJ5_indexOf_30 : decode cJ5_indexOf 30 = .ok (.iload_n 1, 1) := dk_27 (dk_at dksJ5_indexOf_1 6 rfl rfl)
theorem dJ5_indexOf_31 : decode cJ5_indexOf 31 = .ok (.iload_n 2, 1) := dk_28 (dk_at dksJ5_indexOf_1 7 rfl rfl)
theorem dJ5_indexOf_32 : decode cJ5_indexOf 32 = .ok (.iload_n 3, 1) := dk_29 (dk_at dksJ5_indexOf_1 8 rfl rfl)
theorem dJ5_indexOf_33 : decode cJ5_indexOf 33 = .ok (.invokestatic 95, 3) := dk_184 0 95 (dk_at dksJ5_indexOf_1 9 rfl rfl)
theorem dJ5_indexOf_36 : decode cJ5_indexOf 36 = .ok (.ireturn, 1) := dk_172 (dk_at dksJ5_indexOf_1 12 rfl rfl)
abbrev cJ5_canEncode : ByteArray := prog_37_method_4_code
def yJ5_canEncode : MethodName := ⟨RJ5, "canEncode", "(I)Z"⟩
def dkwJ5_canEncode_0 : List UInt8 := [26, 155, 0, 14, 26, 17, 0, 255, 163, 0, 7, 4, 167, 0, 4, 3, 172]
abbrev dktJ5_canEncode_0 : List UInt8 := dkwJ5_canEncode_0 ++ []
theorem dksJ5_canEncode_0 : cJ5_canEncode.data.toList.drop 0 = dktJ5_canEncode_0 := by decide +kernel
theorem dJ5_canEncode_0 : decode cJ5_canEncode 0 = .ok (.iload_n 0, 1) := dk_26 (dk_at dksJ5_canEncode_0 0 rfl rfl)
theorem dJ5_canEncode_1 : decode cJ5_canEncode 1 = .ok (.ifCond .lt 14, 3) := dk_155 0 14 (dk_at dksJ5_canEncode_0 1 rfl rfl)
theorem dJ5_canEncode_4 : decode cJ5_canEncode 4 = .ok (.iload_n 0, 1) := dk_26 (dk_at dksJ5_canEncode_0 4 rfl rfl)
theorem dJ5_canEncode_5 : decode cJ5_canEncode 5 = .ok (.sipush 255, 3) := dk_17 0 255 (dk_at dksJ5_canEncode_0 5 rfl rfl)
theorem dJ5_canEncode_8 : decode cJ5_canEncode 8 = .ok (.if_icmp .gt 7, 3) := dk_163 0 7 (dk_at dksJ5_canEncode_0 8 rfl rfl)
theorem dJ5_canEncode_11 : decode cJ5_canEncode 11 = .ok (.iconst 1, 1) := dk_4 (dk_at dksJ5_canEncode_0 11 rfl rfl)
theorem dJ5_canEncode_12 : decode cJ5_canEncode 12 = .ok (.goto 4, 3) := dk_167 0 4 (dk_at dksJ5_canEncode_0 12 rfl rfl)
theorem dJ5_canEncode_15 : decode cJ5_canEncode 15 = .ok (.iconst 0, 1) := dk_3 (dk_at dksJ5_canEncode_0 15 rfl rfl)
theorem dJ5_canEncode_16 : decode cJ5_canEncode 16 = .ok (.ireturn, 1) := dk_172 (dk_at dksJ5_canEncode_0 16 rfl rfl)
abbrev cJ5_indexOfChar : ByteArray := prog_37_method_23_code
def yJ5_indexOfChar : MethodName := ⟨RJ5, "indexOfChar", "([BIII)I"⟩
def dkwJ5_indexOfChar_1 : List UInt8 := [172, 132, 5, 1, 167, 255, 235, 2, 172]
abbrev dktJ5_indexOfChar_1 : List UInt8 := dkwJ5_indexOfChar_1 ++ []
def dkwJ5_indexOfChar_0 : List UInt8 := [27, 145, 54, 4, 28, 54, 5, 21, 5, 29, 162, 0, 21, 42, 21, 5, 51, 21, 4, 160, 0, 6, 21, 5]
abbrev dktJ5_indexOfChar_0 : List UInt8 := dkwJ5_indexOfChar_0 ++ dktJ5_indexOfChar_1
theorem dksJ5_indexOfChar_0 : cJ5_indexOfChar.data.toList.drop 0 = dktJ5_indexOfChar_0 := by decide +kernel
theorem dksJ5_indexOfChar_1 : cJ5_indexOfChar.data.toList.drop 24 = dktJ5_indexOfChar_1 := dk_seg dksJ5_indexOfChar_0 24 rfl rfl
theorem dJ5_indexOfChar_0 : decode cJ5_indexOfChar 0 = .ok (.iload_n 1, 1) := dk_27 (dk_at dksJ5_indexOfChar_0 0 rfl rfl)
theorem dJ5_indexOfChar_1 : decode cJ5_indexOfChar 1 = .ok (.i2b, 1) := dk_145 (dk_at dksJ5_indexOfChar_0 1 rfl rfl)
theorem dJ5_indexOfChar_2 : decode cJ5_indexOfChar 2 = .ok (.istore 4, 2) := dk_54 4 (dk_at dksJ5_indexOfChar_0 2 rfl rfl)
theorem dJ5_indexOfChar_4 : decode cJ5_indexOfChar 4 = .ok (.iload_n 2, 1) := dk_28 (dk_at dksJ5_indexOfChar_0 4 rfl rfl)
theorem dJ5_indexOfChar_5 : decode cJ5_indexOfChar 5 = .ok (.istore 5, 2) := dk_54 5 (dk_at dksJ5_indexOfChar_0 5 rfl rfl)
theorem dJ5_indexOfChar_7 : decode cJ5_indexOfChar 7 = .ok (.iload 5, 2) := dk_21 5 (dk_at dksJ5_indexOfChar_0 7 rfl rfl)
theorem dJ5_indexOfChar_9 : decode cJ5_indexOfChar 9 = .ok (.iload_n 3, 1) := dk_29 (dk_at dksJ5_indexOfChar_0 9 rfl rfl)
theorem dJ5_indexOfChar_10 : decode cJ5_indexOfChar 10 = .ok (.if_icmp .ge 21, 3) := dk_162 0 21 (dk_at dksJ5_indexOfChar_0 10 rfl rfl)
theorem dJ5_indexOfChar_13 : decode cJ5_indexOfChar 13 = .ok (.aload_n 0, 1) := dk_42 (dk_at dksJ5_indexOfChar_0 13 rfl rfl)
theorem dJ5_indexOfChar_14 : decode cJ5_indexOfChar 14 = .ok (.iload 5, 2) := dk_21 5 (dk_at dksJ5_indexOfChar_0 14 rfl rfl)
theorem dJ5_indexOfChar_16 : decode cJ5_indexOfChar 16 = .ok (.baload, 1) := dk_51 (dk_at dksJ5_indexOfChar_0 16 rfl rfl)
theorem dJ5_indexOfChar_17 : decode cJ5_indexOfChar 17 = .ok (.iload 4, 2) := dk_21 4 (dk_at dksJ5_indexOfChar_0 17 rfl rfl)
theorem dJ5_indexOfChar_19 : decode cJ5_indexOfChar 19 = .ok (.if_icmp .ne 6, 3) := dk_160 0 6 (dk_at dksJ5_indexOfChar_0 19 rfl rfl)
theorem dJ5_indexOfChar_22 : decode cJ5_indexOfChar 22 = .ok (.iload 5, 2) := dk_21 5 (dk_at dksJ5_indexOfChar_0 22 rfl rfl)
theorem dJ5_indexOfChar_24 : decode cJ5_indexOfChar 24 = .ok (.ireturn, 1) := dk_172 (dk_at dksJ5_indexOfChar_1 0 rfl rfl)
theorem dJ5_indexOfChar_25 : decode cJ5_indexOfChar 25 = .ok (.iinc 5 1, 3) := dk_132 5 1 (dk_at dksJ5_indexOfChar_1 1 rfl rfl)
theorem dJ5_indexOfChar_28 : decode cJ5_indexOfChar 28 = .ok (.goto (-21), 3) := dk_167 255 235 (dk_at dksJ5_indexOfChar_1 4 rfl rfl)
theorem dJ5_indexOfChar_31 : decode cJ5_indexOfChar 31 = .ok (.iconst (-1), 1) := dk_2 (dk_at dksJ5_indexOfChar_1 7 rfl rfl)
theorem dJ5_indexOfChar_32 : decode cJ5_indexOfChar 32 = .ok (.ireturn, 1) := dk_172 (dk_at dksJ5_indexOfChar_1 8 rfl rfl)
abbrev cJ5_charAt : ByteArray := prog_37_method_2_code
def yJ5_charAt : MethodName := ⟨RJ5, "charAt", "([BI)C"⟩
def dkwJ5_charAt_0 : List UInt8 := [27, 42, 190, 184, 0, 9, 42, 27, 51, 17, 0, 255, 126, 146, 172]
abbrev dktJ5_charAt_0 : List UInt8 := dkwJ5_charAt_0 ++ []
theorem dksJ5_charAt_0 : cJ5_charAt.data.toList.drop 0 = dktJ5_charAt_0 := by decide +kernel
theorem dJ5_charAt_0 : decode cJ5_charAt 0 = .ok (.iload_n 1, 1) := dk_27 (dk_at dksJ5_charAt_0 0 rfl rfl)
theorem dJ5_charAt_1 : decode cJ5_charAt 1 = .ok (.aload_n 0, 1) := dk_42 (dk_at dksJ5_charAt_0 1 rfl rfl)
theorem dJ5_charAt_2 : decode cJ5_charAt 2 = .ok (.arraylength, 1) := dk_190 (dk_at dksJ5_charAt_0 2 rfl rfl)
theorem dJ5_charAt_3 : decode cJ5_charAt 3 = .ok (.invokestatic 9, 3) := dk_184 0 9 (dk_at dksJ5_charAt_0 3 rfl rfl)
theorem dJ5_charAt_6 : decode cJ5_charAt 6 = .ok (.aload_n 0, 1) := dk_42 (dk_at dksJ5_charAt_0 6 rfl rfl)
theorem dJ5_charAt_7 : decode cJ5_charAt 7 = .ok (.iload_n 1, 1) := dk_27 (dk_at dksJ5_charAt_0 7 rfl rfl)
theorem dJ5_charAt_8 : decode cJ5_charAt 8 = .ok (.baload, 1) := dk_51 (dk_at dksJ5_charAt_0 8 rfl rfl)
theorem dJ5_charAt_9 : decode cJ5_charAt 9 = .ok (.sipush 255, 3) := dk_17 0 255 (dk_at dksJ5_charAt_0 9 rfl rfl)
theorem dJ5_charAt_12 : decode cJ5_charAt 12 = .ok (.iand, 1) := dk_126 (dk_at dksJ5_charAt_0 12 rfl rfl)
theorem dJ5_charAt_13 : decode cJ5_charAt 13 = .ok (.i2c, 1) := dk_146 (dk_at dksJ5_charAt_0 13 rfl rfl)
theorem dJ5_charAt_14 : decode cJ5_charAt 14 = .ok (.ireturn, 1) := dk_172 (dk_at dksJ5_charAt_0 14 rfl rfl)
theorem q96 : (Jvm.Cond.initialized "java/lang/StringLatin1") ∈ lw_all := lw_g (lw_at lw_m1 23 rfl) rfl
theorem q762 : (Jvm.Cond.static ({ cls := "java/lang/StringLatin1", name := "indexOf", desc := "([BIII)I" } : Jvm.MethodName)) ∈ lw_all := lw_g (lw_at lw_m3 209 rfl) rfl
theorem q763 : (Jvm.Cond.code ({ cls := "java/lang/StringLatin1", name := "indexOf", desc := "([BIII)I" } : Jvm.MethodName) prog_37_method_22_code (4 : Nat) (Option.some Jvm.ClassFile.FieldType.int)) ∈ lw_all := lw_g (lw_at lw_m3 210 rfl) rfl
theorem q764 : (Jvm.Cond.methodLink "java/lang/StringLatin1" (88 : Nat) ({ cls := "java/lang/StringLatin1", name := "canEncode", desc := "(I)Z" } : Jvm.MethodName)) ∈ lw_all := lw_g (lw_at lw_m3 211 rfl) rfl
theorem q765 : (Jvm.Cond.static ({ cls := "java/lang/StringLatin1", name := "canEncode", desc := "(I)Z" } : Jvm.MethodName)) ∈ lw_all := lw_g (lw_at lw_m3 212 rfl) rfl
theorem q766 : (Jvm.Cond.code ({ cls := "java/lang/StringLatin1", name := "canEncode", desc := "(I)Z" } : Jvm.MethodName) prog_37_method_4_code (1 : Nat) (Option.some Jvm.ClassFile.FieldType.boolean)) ∈ lw_all := lw_g (lw_at lw_m3 213 rfl) rfl
theorem q767 : (Jvm.Cond.methodLink "java/lang/StringLatin1" (92 : Nat) ({ cls := "java/lang/Math", name := "max", desc := "(II)I" } : Jvm.MethodName)) ∈ lw_all := lw_g (lw_at lw_m3 214 rfl) rfl
theorem q768 : (Jvm.Cond.methodLink "java/lang/StringLatin1" (38 : Nat) ({ cls := "java/lang/Math", name := "min", desc := "(II)I" } : Jvm.MethodName)) ∈ lw_all := lw_g (lw_at lw_m3 215 rfl) rfl
theorem q769 : (Jvm.Cond.methodLink "java/lang/StringLatin1" (95 : Nat) ({ cls := "java/lang/StringLatin1", name := "indexOfChar", desc := "([BIII)I" } : Jvm.MethodName)) ∈ lw_all := lw_g (lw_at lw_m3 216 rfl) rfl
theorem q770 : (Jvm.Cond.static ({ cls := "java/lang/StringLatin1", name := "indexOfChar", desc := "([BIII)I" } : Jvm.MethodName)) ∈ lw_all := lw_g (lw_at lw_m3 217 rfl) rfl
theorem q771 : (Jvm.Cond.code ({ cls := "java/lang/StringLatin1", name := "indexOfChar", desc := "([BIII)I" } : Jvm.MethodName) prog_37_method_23_code (6 : Nat) (Option.some Jvm.ClassFile.FieldType.int)) ∈ lw_all := lw_g (lw_at lw_m3 218 rfl) rfl
theorem q1542 : (Jvm.Cond.static ({ cls := "java/lang/StringLatin1", name := "charAt", desc := "([BI)C" } : Jvm.MethodName)) ∈ lw_all := lw_g (lw_at lw_m7 29 rfl) rfl
theorem q1543 : (Jvm.Cond.code ({ cls := "java/lang/StringLatin1", name := "charAt", desc := "([BI)C" } : Jvm.MethodName) prog_37_method_2_code (2 : Nat) (Option.some Jvm.ClassFile.FieldType.char)) ∈ lw_all := lw_g (lw_at lw_m7 30 rfl) rfl
theorem q1544 : (Jvm.Cond.methodLink "java/lang/StringLatin1" (9 : Nat) ({ cls := "java/lang/String", name := "checkIndex", desc := "(II)V" } : Jvm.MethodName)) ∈ lw_all := lw_g (lw_at lw_m7 31 rfl) rfl
/-! java/lang/StringUTF16 -/
set_option maxRecDepth 100000
def RJ6 : String := "java/lang/StringUTF16"
abbrev cJ6_indexOf : ByteArray := prog_38_method_40_code
def yJ6_indexOf : MethodName := ⟨RJ6, "indexOf", "([BIII)I"⟩
def dkwJ6_indexOf_1 : List UInt8 := [18, 227, 162, 0, 11, 42, 27, 28, 29, 184, 0, 228, 172, 42, 27, 28, 29, 184, 0, 232, 172]
abbrev dktJ6_indexOf_1 : List UInt8 := dkwJ6_indexOf_1 ++ []
def dkwJ6_indexOf_0 : List UInt8 := [28, 3, 184, 0, 224, 61, 29, 42, 190, 4, 122, 184, 0, 183, 62, 28, 29, 161, 0, 5, 2, 172, 27]
abbrev dktJ6_indexOf_0 : List UInt8 := dkwJ6_indexOf_0 ++ dktJ6_indexOf_1
theorem dksJ6_indexOf_0 : cJ6_indexOf.data.toList.drop 0 = dktJ6_indexOf_0 := by decide +kernel
theorem dksJ6_indexOf_1 : cJ6_indexOf.data.toList.drop 23 = dktJ6_indexOf_1 := dk_seg dksJ6_indexOf_0 23 rfl rfl
theorem dJ6_indexOf_0 : decode cJ6_indexOf 0 = .ok (.iload_n 2, 1) := dk_28 (dk_at dksJ6_indexOf_0 0 rfl rfl)
theorem dJ6_indexOf_1 : decode cJ6_indexOf 1 = .ok (.iconst 0, 1) := dk_3 (dk_at dksJ6_indexOf_0 1 rfl rfl)
theorem dJ6_indexOf_2 : decode cJ6_indexOf 2 = .ok (.invokestatic 224, 3) := dk_184 0 224 (dk_at dksJ6_indexOf_0 2 rfl rfl)
theorem dJ6_indexOf_5 : decode cJ6_indexOf 5 = .ok (.istore_n 2, 1) := dk_61 (dk_at dksJ6_indexOf_0 5 rfl rfl)
theorem dJ6_indexOf_6 : decode cJ6_indexOf 6 = .ok (.iload_n 3, 1) := dk_29 (dk_at dksJ6_indexOf_0 6 rfl rfl)
theorem dJ6_indexOf_7 : decode cJ6_indexOf 7 = .ok (.aload_n 0, 1) := dk_42 (dk_at dksJ6_indexOf_0 7 rfl rfl)
theorem dJ6_indexOf_8 : decode cJ6_indexOf 8 = .ok (.arraylength, 1) := dk_190 (dk_at dksJ6_indexOf_0 8 rfl rfl)
theorem dJ6_indexOf_9 : decode cJ6_indexOf 9 = .ok (.iconst 1, 1) := dk_4 (dk_at dksJ6_indexOf_0 9 rfl rfl)
theorem dJ6_indexOf_10 : decode cJ6_indexOf 10 = .ok (.ishr, 1) := dk_122 (dk_at dksJ6_indexOf_0 10 rfl rfl)
theorem dJ6_indexOf_11 : decode cJ6_indexOf 11 = .ok (.invokestatic 183, 3) := dk_184 0 183 (dk_at dksJ6_indexOf_0 11 rfl rfl)
theorem dJ6_indexOf_14 : decode cJ6_indexOf 14 = .ok (.istore_n 3, 1) := dk_62 (dk_at dksJ6_indexOf_0 14 rfl rfl)
theorem dJ6_indexOf_15 : decode cJ6_indexOf 15 = .ok (.iload_n 2, 1) := dk_28 (dk_at dksJ6_indexOf_0 15 rfl rfl)
theorem dJ6_indexOf_16 : decode cJ6_indexOf 16 = .ok (.iload_n 3, 1) := dk_29 (dk_at dksJ6_indexOf_0 16 rfl rfl)
theorem dJ6_indexOf_17 : decode cJ6_indexOf 17 = .ok (.if_icmp .lt 5, 3) := dk_161 0 5 (dk_at dksJ6_indexOf_0 17 rfl rfl)
theorem dJ6_indexOf_20 : decode cJ6_indexOf 20 = .ok (.iconst (-1), 1) := dk_2 (dk_at dksJ6_indexOf_0 20 rfl rfl)
theorem dJ6_indexOf_21 : decode cJ6_indexOf 21 = .ok (.ireturn, 1) := dk_172 (dk_at dksJ6_indexOf_0 21 rfl rfl)
theorem dJ6_indexOf_22 : decode cJ6_indexOf 22 = .ok (.iload_n 1, 1) := dk_27 (dk_at dksJ6_indexOf_0 22 rfl rfl)
theorem dJ6_indexOf_23 : decode cJ6_indexOf 23 = .ok (.ldc 227, 2) := dk_18 227 (dk_at dksJ6_indexOf_1 0 rfl rfl)
theorem dJ6_indexOf_25 : decode cJ6_indexOf 25 = .ok (.if_icmp .ge 11, 3) := dk_162 0 11 (dk_at dksJ6_indexOf_1 2 rfl rfl)
theorem dJ6_indexOf_28 : decode cJ6_indexOf 28 = .ok (.aload_n 0, 1) := dk_42 (dk_at dksJ6_indexOf_1 5 rfl rfl)
theorem dJ6_indexOf_29 : decode cJ6_indexOf 29 = .ok (.iload_n 1, 1) := dk_27 (dk_at dksJ6_indexOf_1 6 rfl rfl)
theorem dJ6_indexOf_30 : decode cJ6_indexOf 30 = .ok (.iload_n 2, 1) := dk_28 (dk_at dksJ6_indexOf_1 7 rfl rfl)
theorem dJ6_indexOf_31 : decode cJ6_indexOf 31 = .ok (.iload_n 3, 1) := dk_29 (dk_at dksJ6_indexOf_1 8 rfl rfl)
theorem dJ6_indexOf_32 : decode cJ6_indexOf 32 = .ok (.invokestatic 228, 3) := dk_184 0 228 (dk_at dksJ6_indexOf_1 9 rfl rfl)
theorem dJ6_indexOf_35 : decode cJ6_indexOf 35 = .ok (.ireturn, 1) := dk_172 (dk_at dksJ6_indexOf_1 12 rfl rfl)
theorem dJ6_indexOf_36 : decode cJ6_indexOf 36 = .ok (.aload_n 0, 1) := dk_42 (dk_at dksJ6_indexOf_1 13 rfl rfl)
theorem dJ6_indexOf_37 : decode cJ6_indexOf 37 = .ok (.iload_n 1, 1) := dk_27 (dk_at dksJ6_indexOf_1 14 rfl rfl)
theorem dJ6_indexOf_38 : decode cJ6_indexOf 38 = .ok (.iload_n 2, 1) := dk_28 (dk_at dksJ6_indexOf_1 15 rfl rfl)
theorem dJ6_indexOf_39 : decode cJ6_indexOf 39 = .ok (.iload_n 3, 1) := dk_29 (dk_at dksJ6_indexOf_1 16 rfl rfl)
theorem dJ6_indexOf_40 : decode cJ6_indexOf 40 = .ok (.invokestatic 232, 3) := dk_184 0 232 (dk_at dksJ6_indexOf_1 17 rfl rfl)
theorem dJ6_indexOf_43 : decode cJ6_indexOf 43 = .ok (.ireturn, 1) := dk_172 (dk_at dksJ6_indexOf_1 20 rfl rfl)
abbrev cJ6_indexOfChar : ByteArray := prog_38_method_47_code
def yJ6_indexOfChar : MethodName := ⟨RJ6, "indexOfChar", "([BIII)I"⟩
def dkwJ6_indexOfChar_0 : List UInt8 := [28, 29, 42, 184, 0, 96, 42, 27, 28, 29, 184, 0, 244, 172]
abbrev dktJ6_indexOfChar_0 : List UInt8 := dkwJ6_indexOfChar_0 ++ []
theorem dksJ6_indexOfChar_0 : cJ6_indexOfChar.data.toList.drop 0 = dktJ6_indexOfChar_0 := by decide +kernel
theorem dJ6_indexOfChar_0 : decode cJ6_indexOfChar 0 = .ok (.iload_n 2, 1) := dk_28 (dk_at dksJ6_indexOfChar_0 0 rfl rfl)
theorem dJ6_indexOfChar_1 : decode cJ6_indexOfChar 1 = .ok (.iload_n 3, 1) := dk_29 (dk_at dksJ6_indexOfChar_0 1 rfl rfl)
theorem dJ6_indexOfChar_2 : decode cJ6_indexOfChar 2 = .ok (.aload_n 0, 1) := dk_42 (dk_at dksJ6_indexOfChar_0 2 rfl rfl)
theorem dJ6_indexOfChar_3 : decode cJ6_indexOfChar 3 = .ok (.invokestatic 96, 3) := dk_184 0 96 (dk_at dksJ6_indexOfChar_0 3 rfl rfl)
theorem dJ6_indexOfChar_6 : decode cJ6_indexOfChar 6 = .ok (.aload_n 0, 1) := dk_42 (dk_at dksJ6_indexOfChar_0 6 rfl rfl)
theorem dJ6_indexOfChar_7 : decode cJ6_indexOfChar 7 = .ok (.iload_n 1, 1) := dk_27 (dk_at dksJ6_indexOfChar_0 7 rfl rfl)
theorem dJ6_indexOfChar_8 : decode cJ6_indexOfChar 8 = .ok (.iload_n 2, 1) := dk_28 (dk_at dksJ6_indexOfChar_0 8 rfl rfl)
theorem dJ6_indexOfChar_9 : decode cJ6_indexOfChar 9 = .ok (.iload_n 3, 1) := dk_29 (dk_at dksJ6_indexOfChar_0 9 rfl rfl)
theorem dJ6_indexOfChar_10 : decode cJ6_indexOfChar 10 = .ok (.invokestatic 244, 3) := dk_184 0 244 (dk_at dksJ6_indexOfChar_0 10 rfl rfl)
theorem dJ6_indexOfChar_13 : decode cJ6_indexOfChar 13 = .ok (.ireturn, 1) := dk_172 (dk_at dksJ6_indexOfChar_0 13 rfl rfl)
abbrev cJ6_checkBoundsBeginEnd : ByteArray := prog_38_method_93_code
def yJ6_checkBoundsBeginEnd : MethodName := ⟨RJ6, "checkBoundsBeginEnd", "(II[B)V"⟩
def dkwJ6_checkBoundsBeginEnd_0 : List UInt8 := [26, 27, 44, 184, 0, 48, 184, 0, 241, 177]
abbrev dktJ6_checkBoundsBeginEnd_0 : List UInt8 := dkwJ6_checkBoundsBeginEnd_0 ++ []
theorem dksJ6_checkBoundsBeginEnd_0 : cJ6_checkBoundsBeginEnd.data.toList.drop 0 = dktJ6_checkBoundsBeginEnd_0 := by decide +kernel
theorem dJ6_checkBoundsBeginEnd_0 : decode cJ6_checkBoundsBeginEnd 0 = .ok (.iload_n 0, 1) := dk_26 (dk_at dksJ6_checkBoundsBeginEnd_0 0 rfl rfl)
theorem dJ6_checkBoundsBeginEnd_1 : decode cJ6_checkBoundsBeginEnd 1 = .ok (.iload_n 1, 1) := dk_27 (dk_at dksJ6_checkBoundsBeginEnd_0 1 rfl rfl)
theorem dJ6_checkBoundsBeginEnd_2 : decode cJ6_checkBoundsBeginEnd 2 = .ok (.aload_n 2, 1) := dk_44 (dk_at dksJ6_checkBoundsBeginEnd_0 2 rfl rfl)
theorem dJ6_checkBoundsBeginEnd_3 : decode cJ6_checkBoundsBeginEnd 3 = .ok (.invokestatic 48, 3) := dk_184 0 48 (dk_at dksJ6_checkBoundsBeginEnd_0 3 rfl rfl)
theorem dJ6_checkBoundsBeginEnd_6 : decode cJ6_checkBoundsBeginEnd 6 = .ok (.invokestatic 241, 3) := dk_184 0 241 (dk_at dksJ6_checkBoundsBeginEnd_0 6 rfl rfl)
theorem dJ6_checkBoundsBeginEnd_9 : decode cJ6_checkBoundsBeginEnd 9 = .ok (.return_, 1) := dk_177 (dk_at dksJ6_checkBoundsBeginEnd_0 9 rfl rfl)
abbrev cJ6_length : ByteArray := prog_38_method_6_code
def yJ6_length : MethodName := ⟨RJ6, "length", "([B)I"⟩
def dkwJ6_length_0 : List UInt8 := [42, 190, 4, 122, 172]
abbrev dktJ6_length_0 : List UInt8 := dkwJ6_length_0 ++ []
theorem dksJ6_length_0 : cJ6_length.data.toList.drop 0 = dktJ6_length_0 := by decide +kernel
theorem dJ6_length_0 : decode cJ6_length 0 = .ok (.aload_n 0, 1) := dk_42 (dk_at dksJ6_length_0 0 rfl rfl)
theorem dJ6_length_1 : decode cJ6_length 1 = .ok (.arraylength, 1) := dk_190 (dk_at dksJ6_length_0 1 rfl rfl)
theorem dJ6_length_2 : decode cJ6_length 2 = .ok (.iconst 1, 1) := dk_4 (dk_at dksJ6_length_0 2 rfl rfl)
theorem dJ6_length_3 : decode cJ6_length 3 = .ok (.ishr, 1) := dk_122 (dk_at dksJ6_length_0 3 rfl rfl)
theorem dJ6_length_4 : decode cJ6_length 4 = .ok (.ireturn, 1) := dk_172 (dk_at dksJ6_length_0 4 rfl rfl)
abbrev cJ6_indexOfCharUnsafe : ByteArray := prog_38_method_48_code
def yJ6_indexOfCharUnsafe : MethodName := ⟨RJ6, "indexOfCharUnsafe", "([BIII)I"⟩
def dkwJ6_indexOfCharUnsafe_1 : List UInt8 := [132, 4, 1, 167, 255, 234, 2, 172]
abbrev dktJ6_indexOfCharUnsafe_1 : List UInt8 := dkwJ6_indexOfCharUnsafe_1 ++ []
def dkwJ6_indexOfCharUnsafe_0 : List UInt8 := [28, 54, 4, 21, 4, 29, 162, 0, 22, 42, 21, 4, 184, 0, 71, 27, 160, 0, 6, 21, 4, 172]
abbrev dktJ6_indexOfCharUnsafe_0 : List UInt8 := dkwJ6_indexOfCharUnsafe_0 ++ dktJ6_indexOfCharUnsafe_1
theorem dksJ6_indexOfCharUnsafe_0 : cJ6_indexOfCharUnsafe.data.toList.drop 0 = dktJ6_indexOfCharUnsafe_0 := by decide +kernel
theorem dksJ6_indexOfCharUnsafe_1 : cJ6_indexOfCharUnsafe.data.toList.drop 22 = dktJ6_indexOfCharUnsafe_1 := dk_seg dksJ6_indexOfCharUnsafe_0 22 rfl rfl
theorem dJ6_indexOfCharUnsafe_0 : decode cJ6_indexOfCharUnsafe 0 = .ok (.iload_n 2, 1) := dk_28 (dk_at dksJ6_indexOfCharUnsafe_0 0 rfl rfl)
theorem dJ6_indexOfCharUnsafe_1 : decode cJ6_indexOfCharUnsafe 1 = .ok (.istore 4, 2) := dk_54 4 (dk_at dksJ6_indexOfCharUnsafe_0 1 rfl rfl)
theorem dJ6_indexOfCharUnsafe_3 : decode cJ6_indexOfCharUnsafe 3 = .ok (.iload 4, 2) := dk_21 4 (dk_at dksJ6_indexOfCharUnsafe_0 3 rfl rfl)
theorem dJ6_indexOfCharUnsafe_5 : decode cJ6_indexOfCharUnsafe 5 = .ok (.iload_n 3, 1) := dk_29 (dk_at dksJ6_indexOfCharUnsafe_0 5 rfl rfl)
theorem dJ6_indexOfCharUnsafe_6 : decode cJ6_indexOfCharUnsafe 6 = .ok (.if_icmp .ge 22, 3) := dk_162 0 22 (dk_at dksJ6_indexOfCharUnsafe_0 6 rfl rfl)
theorem dJ6_indexOfCharUnsafe_9 : decode cJ6_indexOfCharUnsafe 9 = .ok (.aload_n 0, 1) := dk_42 (dk_at dksJ6_indexOfCharUnsafe_0 9 rfl rfl)
theorem dJ6_indexOfCharUnsafe_10 : decode cJ6_indexOfCharUnsafe 10 = .ok (.iload 4, 2) := dk_21 4 (dk_at dksJ6_indexOfCharUnsafe_0 10 rfl rfl)
theorem dJ6_indexOfCharUnsafe_12 : decode cJ6_indexOfCharUnsafe 12 = .ok (.invokestatic 71, 3) := dk_184 0 71 (dk_at dksJ6_indexOfCharUnsafe_0 12 rfl rfl)
theorem dJ6_indexOfCharUnsafe_15 : decode cJ6_indexOfCharUnsafe 15 = .ok (.iload_n 1, 1) := dk_27 (dk_at dksJ6_indexOfCharUnsafe_0 15 rfl rfl)
theorem dJ6_indexOfCharUnsafe_16 : decode cJ6_indexOfCharUnsafe 16 = .ok (.if_icmp .ne 6, 3) := dk_160 0 6 (dk_at dksJ6_indexOfCharUnsafe_0 16 rfl rfl)
theorem dJ6_indexOfCharUnsafe_19 : decode cJ6_indexOfCharUnsafe 19 = .ok (.iload 4, 2) := dk_21 4 (dk_at dksJ6_indexOfCharUnsafe_0 19 rfl rfl)
theorem dJ6_indexOfCharUnsafe_21 : decode cJ6_indexOfCharUnsafe 21 = .ok (.ireturn, 1) := dk_172 (dk_at dksJ6_indexOfCharUnsafe_0 21 rfl rfl)
theorem dJ6_indexOfCharUnsafe_22 : decode cJ6_indexOfCharUnsafe 22 = .ok (.iinc 4 1, 3) := dk_132 4 1 (dk_at dksJ6_indexOfCharUnsafe_1 0 rfl rfl)
theorem dJ6_indexOfCharUnsafe_25 : decode cJ6_indexOfCharUnsafe 25 = .ok (.goto (-22), 3) := dk_167 255 234 (dk_at dksJ6_indexOfCharUnsafe_1 3 rfl rfl)
theorem dJ6_indexOfCharUnsafe_28 : decode cJ6_indexOfCharUnsafe 28 = .ok (.iconst (-1), 1) := dk_2 (dk_at dksJ6_indexOfCharUnsafe_1 6 rfl rfl)
theorem dJ6_indexOfCharUnsafe_29 : decode cJ6_indexOfCharUnsafe 29 = .ok (.ireturn, 1) := dk_172 (dk_at dksJ6_indexOfCharUnsafe_1 7 rfl rfl)
abbrev cJ6_getChar : ByteArray := prog_38_method_5_code
def yJ6_getChar : MethodName := ⟨RJ6, "getChar", "([BI)C"⟩
def dkwJ6_getChar_2 : List UInt8 := [51, 17, 0, 255, 126, 178, 0, 63, 120, 128, 146, 172]
abbrev dktJ6_getChar_2 : List UInt8 := dkwJ6_getChar_2 ++ []
def dkwJ6_getChar_1 : List UInt8 := [183, 0, 56, 191, 27, 4, 120, 60, 42, 27, 132, 1, 1, 51, 17, 0, 255, 126, 178, 0, 59, 120, 42, 27]
abbrev dktJ6_getChar_1 : List UInt8 := dkwJ6_getChar_1 ++ dktJ6_getChar_2
def dkwJ6_getChar_0 : List UInt8 := [178, 0, 44, 154, 0, 25, 27, 155, 0, 11, 27, 42, 184, 0, 48, 161, 0, 13, 187, 0, 52, 89, 18, 54]
abbrev dktJ6_getChar_0 : List UInt8 := dkwJ6_getChar_0 ++ dktJ6_getChar_1
theorem dksJ6_getChar_0 : cJ6_getChar.data.toList.drop 0 = dktJ6_getChar_0 := by decide +kernel
theorem dksJ6_getChar_1 : cJ6_getChar.data.toList.drop 24 = dktJ6_getChar_1 := dk_seg dksJ6_getChar_0 24 rfl rfl
theorem dksJ6_getChar_2 : cJ6_getChar.data.toList.drop 48 = dktJ6_getChar_2 := dk_seg dksJ6_getChar_1 24 rfl rfl
theorem dJ6_getChar_0 : decode cJ6_getChar 0 = .ok (.getstatic 44, 3) := dk_178 0 44 (dk_at dksJ6_getChar_0 0 rfl rfl)
theorem dJ6_getChar_3 : decode cJ6_getChar 3 = .ok (.ifCond .ne 25, 3) := dk_154 0 25 (dk_at dksJ6_getChar_0 3 rfl rfl)
theorem dJ6_getChar_6 : decode cJ6_getChar 6 = .ok (.iload_n 1, 1) := dk_27 (dk_at dksJ6_getChar_0 6 rfl rfl)
theorem dJ6_getChar_7 : decode cJ6_getChar 7 = .ok (.ifCond .lt 11, 3) := dk_155 0 11 (dk_at dksJ6_getChar_0 7 rfl rfl)
theorem dJ6_getChar_10 : decode cJ6_getChar 10 = .ok (.iload_n 1, 1) := dk_27 (dk_at dksJ6_getChar_0 10 rfl rfl)
theorem dJ6_getChar_11 : decode cJ6_getChar 11 = .ok (.aload_n 0, 1) := dk_42 (dk_at dksJ6_getChar_0 11 rfl rfl)
theorem dJ6_getChar_12 : decode cJ6_getChar 12 = .ok (.invokestatic 48, 3) := dk_184 0 48 (dk_at dksJ6_getChar_0 12 rfl rfl)
theorem dJ6_getChar_15 : decode cJ6_getChar 15 = .ok (.if_icmp .lt 13, 3) := dk_161 0 13 (dk_at dksJ6_getChar_0 15 rfl rfl)
theorem dJ6_getChar_18 : decode cJ6_getChar 18 = .ok (.new 52, 3) := dk_187 0 52 (dk_at dksJ6_getChar_0 18 rfl rfl)
theorem dJ6_getChar_21 : decode cJ6_getChar 21 = .ok (.dup, 1) := dk_89 (dk_at dksJ6_getChar_0 21 rfl rfl)
theorem dJ6_getChar_22 : decode cJ6_getChar 22 = .ok (.ldc 54, 2) := dk_18 54 (dk_at dksJ6_getChar_0 22 rfl rfl)
theorem dJ6_getChar_24 : decode cJ6_getChar 24 = .ok (.invokespecial 56, 3) := dk_183 0 56 (dk_at dksJ6_getChar_1 0 rfl rfl)
theorem dJ6_getChar_27 : decode cJ6_getChar 27 = .ok (.athrow, 1) := dk_191 (dk_at dksJ6_getChar_1 3 rfl rfl)
theorem dJ6_getChar_28 : decode cJ6_getChar 28 = .ok (.iload_n 1, 1) := dk_27 (dk_at dksJ6_getChar_1 4 rfl rfl)
theorem dJ6_getChar_29 : decode cJ6_getChar 29 = .ok (.iconst 1, 1) := dk_4 (dk_at dksJ6_getChar_1 5 rfl rfl)
theorem dJ6_getChar_30 : decode cJ6_getChar 30 = .ok (.ishl, 1) := dk_120 (dk_at dksJ6_getChar_1 6 rfl rfl)
theorem dJ6_getChar_31 : decode cJ6_getChar 31 = .ok (.istore_n 1, 1) := dk_60 (dk_at dksJ6_getChar_1 7 rfl rfl)
theorem dJ6_getChar_32 : decode cJ6_getChar 32 = .ok (.aload_n 0, 1) := dk_42 (dk_at dksJ6_getChar_1 8 rfl rfl)
theorem dJ6_getChar_33 : decode cJ6_getChar 33 = .ok (.iload_n 1, 1) := dk_27 (dk_at dksJ6_getChar_1 9 rfl rfl)
theorem dJ6_getChar_34 : decode cJ6_getChar 34 = .ok (.iinc 1 1, 3) := dk_132 1 1 (dk_at dksJ6_getChar_1 10 rfl rfl)
theorem dJ6_getChar_37 : decode cJ6_getChar 37 = .ok (.baload, 1) := dk_51 (dk_at dksJ6_getChar_1 13 rfl rfl)
theorem dJ6_getChar_38 : decode cJ6_getChar 38 = .ok (.sipush 255, 3) := dk_17 0 255 (dk_at dksJ6_getChar_1 14 rfl rfl)
theorem dJ6_getChar_41 : decode cJ6_getChar 41 = .ok (.iand, 1) := dk_126 (dk_at dksJ6_getChar_1 17 rfl rfl)
theorem dJ6_getChar_42 : decode cJ6_getChar 42 = .ok (.getstatic 59, 3) := dk_178 0 59 (dk_at dksJ6_getChar_1 18 rfl rfl)
theorem dJ6_getChar_45 : decode cJ6_getChar 45 = .ok (.ishl, 1) := dk_120 (dk_at dksJ6_getChar_1 21 rfl rfl)
theorem dJ6_getChar_46 : decode cJ6_getChar 46 = .ok (.aload_n 0, 1) := dk_42 (dk_at dksJ6_getChar_1 22 rfl rfl)
theorem dJ6_getChar_47 : decode cJ6_getChar 47 = .ok (.iload_n 1, 1) := dk_27 (dk_at dksJ6_getChar_1 23 rfl rfl)
theorem dJ6_getChar_48 : decode cJ6_getChar 48 = .ok (.baload, 1) := dk_51 (dk_at dksJ6_getChar_2 0 rfl rfl)
theorem dJ6_getChar_49 : decode cJ6_getChar 49 = .ok (.sipush 255, 3) := dk_17 0 255 (dk_at dksJ6_getChar_2 1 rfl rfl)
theorem dJ6_getChar_52 : decode cJ6_getChar 52 = .ok (.iand, 1) := dk_126 (dk_at dksJ6_getChar_2 4 rfl rfl)
theorem dJ6_getChar_53 : decode cJ6_getChar 53 = .ok (.getstatic 63, 3) := dk_178 0 63 (dk_at dksJ6_getChar_2 5 rfl rfl)
theorem dJ6_getChar_56 : decode cJ6_getChar 56 = .ok (.ishl, 1) := dk_120 (dk_at dksJ6_getChar_2 8 rfl rfl)
theorem dJ6_getChar_57 : decode cJ6_getChar 57 = .ok (.ior, 1) := dk_128 (dk_at dksJ6_getChar_2 9 rfl rfl)
theorem dJ6_getChar_58 : decode cJ6_getChar 58 = .ok (.i2c, 1) := dk_146 (dk_at dksJ6_getChar_2 10 rfl rfl)
theorem dJ6_getChar_59 : decode cJ6_getChar 59 = .ok (.ireturn, 1) := dk_172 (dk_at dksJ6_getChar_2 11 rfl rfl)
abbrev cJ6_indexOfSupplementary : ByteArray := prog_38_method_49_code
def yJ6_indexOfSupplementary : MethodName := ⟨RJ6, "indexOfSupplementary", "([BIII)I"⟩
def dkwJ6_indexOfSupplementary_3 : List UInt8 := [167, 255, 218, 2, 172]
abbrev dktJ6_indexOfSupplementary_3 : List UInt8 := dkwJ6_indexOfSupplementary_3 ++ []
def dkwJ6_indexOfSupplementary_2 : List UInt8 := [160, 0, 19, 42, 21, 6, 4, 96, 184, 0, 71, 21, 5, 160, 0, 6, 21, 6, 172, 132, 6, 1]
abbrev dktJ6_indexOfSupplementary_2 : List UInt8 := dkwJ6_indexOfSupplementary_2 ++ dktJ6_indexOfSupplementary_3
def dkwJ6_indexOfSupplementary_1 : List UInt8 := [184, 0, 96, 28, 54, 6, 21, 6, 29, 4, 100, 162, 0, 36, 42, 21, 6, 184, 0, 71, 21, 4]
abbrev dktJ6_indexOfSupplementary_1 : List UInt8 := dkwJ6_indexOfSupplementary_1 ++ dktJ6_indexOfSupplementary_2
def dkwJ6_indexOfSupplementary_0 : List UInt8 := [27, 184, 0, 164, 153, 0, 65, 27, 184, 0, 157, 54, 4, 27, 184, 0, 161, 54, 5, 28, 29, 42]
abbrev dktJ6_indexOfSupplementary_0 : List UInt8 := dkwJ6_indexOfSupplementary_0 ++ dktJ6_indexOfSupplementary_1
theorem dksJ6_indexOfSupplementary_0 : cJ6_indexOfSupplementary.data.toList.drop 0 = dktJ6_indexOfSupplementary_0 := by decide +kernel
theorem dksJ6_indexOfSupplementary_1 : cJ6_indexOfSupplementary.data.toList.drop 22 = dktJ6_indexOfSupplementary_1 := dk_seg dksJ6_indexOfSupplementary_0 22 rfl rfl
theorem dksJ6_indexOfSupplementary_2 : cJ6_indexOfSupplementary.data.toList.drop 44 = dktJ6_indexOfSupplementary_2 := dk_seg dksJ6_indexOfSupplementary_1 22 rfl rfl
theorem dksJ6_indexOfSupplementary_3 : cJ6_indexOfSupplementary.data.toList.drop 66 = dktJ6_indexOfSupplementary_3 := dk_seg dksJ6_indexOfSupplementary_2 22 rfl rfl
theorem dJ6_indexOfSupplementary_0 : decode cJ6_indexOfSupplementary 0 = .ok (.iload_n 1, 1) := dk_27 (dk_at dksJ6_indexOfSupplementary_0 0 rfl rfl)
theorem dJ6_indexOfSupplementary_1 : decode cJ6_indexOfSupplementary 1 = .ok (.invokestatic 164, 3) := dk_184 0 164 (dk_at dksJ6_indexOfSupplementary_0 1 rfl rfl)
theorem dJ6_indexOfSupplementary_4 : decode cJ6_indexOfSupplementary 4 = .ok (.ifCond .eq 65, 3) := dk_153 0 65 (dk_at dksJ6_indexOfSupplementary_0 4 rfl rfl)
theorem dJ6_indexOfSupplementary_7 : decode cJ6_indexOfSupplementary 7 = .ok (.iload_n 1, 1) := dk_27 (dk_at dksJ6_indexOfSupplementary_0 7 rfl rfl)
theorem dJ6_indexOfSupplementary_8 : decode cJ6_indexOfSupplementary 8 = .ok (.invokestatic 157, 3) := dk_184 0 157 (dk_at dksJ6_indexOfSupplementary_0 8 rfl rfl)
theorem dJ6_indexOfSupplementary_11 : decode cJ6_indexOfSupplementary 11 = .ok (.istore 4, 2) := dk_54 4 (dk_at dksJ6_indexOfSupplementary_0 11 rfl rfl)
theorem dJ6_indexOfSupplementary_13 : decode cJ6_indexOfSupplementary 13 = .ok (.iload_n 1, 1) := dk_27 (dk_at dksJ6_indexOfSupplementary_0 13 rfl rfl)
theorem dJ6_indexOfSupplementary_14 : decode cJ6_indexOfSupplementary 14 = .ok (.invokestatic 161, 3) := dk_184 0 161 (dk_at dksJ6_indexOfSupplementary_0 14 rfl rfl)
theorem dJ6_indexOfSupplementary_17 : decode cJ6_indexOfSupplementary 17 = .ok (.istore 5, 2) := dk_54 5 (dk_at dksJ6_indexOfSupplementary_0 17 rfl rfl)
theorem dJ6_indexOfSupplementary_19 : decode cJ6_indexOfSupplementary 19 = .ok (.iload_n 2, 1) := dk_28 (dk_at dksJ6_indexOfSupplementary_0 19 rfl rfl)
theorem dJ6_indexOfSupplementary_20 : decode cJ6_indexOfSupplementary 20 = .ok (.iload_n 3, 1) := dk_29 (dk_at dksJ6_indexOfSupplementary_0 20 rfl rfl)
theorem dJ6_indexOfSupplementary_21 : decode cJ6_indexOfSupplementary 21 = .ok (.aload_n 0, 1) := dk_42 (dk_at dksJ6_indexOfSupplementary_0 21 rfl rfl)
theorem dJ6_indexOfSupplementary_22 : decode cJ6_indexOfSupplementary 22 = .ok (.invokestatic 96, 3) := dk_184 0 96 (dk_at dksJ6_indexOfSupplementary_1 0 rfl rfl)
theorem dJ6_indexOfSupplementary_25 : decode cJ6_indexOfSupplementary 25 = .ok (.iload_n 2, 1) := dk_28 (dk_at dksJ6_indexOfSupplementary_1 3 rfl rfl)
theorem dJ6_indexOfSupplementary_26 : decode cJ6_indexOfSupplementary 26 = .ok (.istore 6, 2) := dk_54 6 (dk_at dksJ6_indexOfSupplementary_1 4 rfl rfl)
theorem dJ6_indexOfSupplementary_28 : decode cJ6_indexOfSupplementary 28 = .ok (.iload 6, 2) := dk_21 6 (dk_at dksJ6_indexOfSupplementary_1 6 rfl rfl)
theorem dJ6_indexOfSupplementary_30 : decode cJ6_indexOfSupplementary 30 = .ok (.iload_n 3, 1) := dk_29 (dk_at dksJ6_indexOfSupplementary_1 8 rfl rfl)
theorem dJ6_indexOfSupplementary_31 : decode cJ6_indexOfSupplementary 31 = .ok (.iconst 1, 1) := dk_4 (dk_at dksJ6_indexOfSupplementary_1 9 rfl rfl)
theorem dJ6_indexOfSupplementary_32 : decode cJ6_indexOfSupplementary 32 = .ok (.isub, 1) := dk_100 (dk_at dksJ6_indexOfSupplementary_1 10 rfl rfl)
theorem dJ6_indexOfSupplementary_33 : decode cJ6_indexOfSupplementary 33 = .ok (.if_icmp .ge 36, 3) := dk_162 0 36 (dk_at dksJ6_indexOfSupplementary_1 11 rfl rfl)
theorem dJ6_indexOfSupplementary_36 : decode cJ6_indexOfSupplementary 36 = .ok (.aload_n 0, 1) := dk_42 (dk_at dksJ6_indexOfSupplementary_1 14 rfl rfl)
theorem dJ6_indexOfSupplementary_37 : decode cJ6_indexOfSupplementary 37 = .ok (.iload 6, 2) := dk_21 6 (dk_at dksJ6_indexOfSupplementary_1 15 rfl rfl)
theorem dJ6_indexOfSupplementary_39 : decode cJ6_indexOfSupplementary 39 = .ok (.invokestatic 71, 3) := dk_184 0 71 (dk_at dksJ6_indexOfSupplementary_1 17 rfl rfl)
theorem dJ6_indexOfSupplementary_42 : decode cJ6_indexOfSupplementary 42 = .ok (.iload 4, 2) := dk_21 4 (dk_at dksJ6_indexOfSupplementary_1 20 rfl rfl)
theorem dJ6_indexOfSupplementary_44 : decode cJ6_indexOfSupplementary 44 = .ok (.if_icmp .ne 19, 3) := dk_160 0 19 (dk_at dksJ6_indexOfSupplementary_2 0 rfl rfl)
theorem dJ6_indexOfSupplementary_47 : decode cJ6_indexOfSupplementary 47 = .ok (.aload_n 0, 1) := dk_42 (dk_at dksJ6_indexOfSupplementary_2 3 rfl rfl)
theorem dJ6_indexOfSupplementary_48 : decode cJ6_indexOfSupplementary 48 = .ok (.iload 6, 2) := dk_21 6 (dk_at dksJ6_indexOfSupplementary_2 4 rfl rfl)
theorem dJ6_indexOfSupplementary_50 : decode cJ6_indexOfSupplementary 50 = .ok (.iconst 1, 1) := dk_4 (dk_at dksJ6_indexOfSupplementary_2 6 rfl rfl)
theorem dJ6_indexOfSupplementary_51 : decode cJ6_indexOfSupplementary 51 = .ok (.iadd, 1) := dk_96 (dk_at dksJ6_indexOfSupplementary_2 7 rfl rfl)
theorem dJ6_indexOfSupplementary_52 : decode cJ6_indexOfSupplementary 52 = .ok (.invokestatic 71, 3) := dk_184 0 71 (dk_at dksJ6_indexOfSupplementary_2 8 rfl rfl)
theorem dJ6_indexOfSupplementary_55 : decode cJ6_indexOfSupplementary 55 = .ok (.iload 5, 2) := dk_21 5 (dk_at dksJ6_indexOfSupplementary_2 11 rfl rfl)
theorem dJ6_indexOfSupplementary_57 : decode cJ6_indexOfSupplementary 57 = .ok (.if_icmp .ne 6, 3) := dk_160 0 6 (dk_at dksJ6_indexOfSupplementary_2 13 rfl rfl)
theorem dJ6_indexOfSupplementary_60 : decode cJ6_indexOfSupplementary 60 = .ok (.iload 6, 2) := dk_21 6 (dk_at dksJ6_indexOfSupplementary_2 16 rfl rfl)
theorem dJ6_indexOfSupplementary_62 : decode cJ6_indexOfSupplementary 62 = .ok (.ireturn, 1) := dk_172 (dk_at dksJ6_indexOfSupplementary_2 18 rfl rfl)
theorem dJ6_indexOfSupplementary_63 : decode cJ6_indexOfSupplementary 63 = .ok (.iinc 6 1, 3) := dk_132 6 1 (dk_at dksJ6_indexOfSupplementary_2 19 rfl rfl)
theorem dJ6_indexOfSupplementary_66 : decode cJ6_indexOfSupplementary 66 = .ok (.goto (-38), 3) := dk_167 255 218 (dk_at dksJ6_indexOfSupplementary_3 0 rfl rfl)
theorem dJ6_indexOfSupplementary_69 : decode cJ6_indexOfSupplementary 69 = .ok (.iconst (-1), 1) := dk_2 (dk_at dksJ6_indexOfSupplementary_3 3 rfl rfl)
theorem dJ6_indexOfSupplementary_70 : decode cJ6_indexOfSupplementary 70 = .ok (.ireturn, 1) := dk_172 (dk_at dksJ6_indexOfSupplementary_3 4 rfl rfl)
abbrev cJ6_charAt : ByteArray := prog_38_method_83_code
def yJ6_charAt : MethodName := ⟨RJ6, "charAt", "([BI)C"⟩
def dkwJ6_charAt_0 : List UInt8 := [27, 42, 184, 0, 67, 42, 27, 184, 0, 71, 172]
abbrev dktJ6_charAt_0 : List UInt8 := dkwJ6_charAt_0 ++ []
theorem dksJ6_charAt_0 : cJ6_charAt.data.toList.drop 0 = dktJ6_charAt_0 := by decide +kernel
theorem dJ6_charAt_0 : decode cJ6_charAt 0 = .ok (.iload_n 1, 1) := dk_27 (dk_at dksJ6_charAt_0 0 rfl rfl)
theorem dJ6_charAt_1 : decode cJ6_charAt 1 = .ok (.aload_n 0, 1) := dk_42 (dk_at dksJ6_charAt_0 1 rfl rfl)
theorem dJ6_charAt_2 : decode cJ6_charAt 2 = .ok (.invokestatic 67, 3) := dk_184 0 67 (dk_at dksJ6_charAt_0 2 rfl rfl)
theorem dJ6_charAt_5 : decode cJ6_charAt 5 = .ok (.aload_n 0, 1) := dk_42 (dk_at dksJ6_charAt_0 5 rfl rfl)
theorem dJ6_charAt_6 : decode cJ6_charAt 6 = .ok (.iload_n 1, 1) := dk_27 (dk_at dksJ6_charAt_0 6 rfl rfl)
theorem dJ6_charAt_7 : decode cJ6_charAt 7 = .ok (.invokestatic 71, 3) := dk_184 0 71 (dk_at dksJ6_charAt_0 7 rfl rfl)
theorem dJ6_charAt_10 : decode cJ6_charAt 10 = .ok (.ireturn, 1) := dk_172 (dk_at dksJ6_charAt_0 10 rfl rfl)
abbrev cJ6_checkIndex : ByteArray := prog_38_method_91_code
def yJ6_checkIndex : MethodName := ⟨RJ6, "checkIndex", "(I[B)V"⟩
def dkwJ6_checkIndex_0 : List UInt8 := [26, 43, 184, 0, 48, 184, 1, 158, 177]
abbrev dktJ6_checkIndex_0 : List UInt8 := dkwJ6_checkIndex_0 ++ []
theorem dksJ6_checkIndex_0 : cJ6_checkIndex.data.toList.drop 0 = dktJ6_checkIndex_0 := by decide +kernel
theorem dJ6_checkIndex_0 : decode cJ6_checkIndex 0 = .ok (.iload_n 0, 1) := dk_26 (dk_at dksJ6_checkIndex_0 0 rfl rfl)
theorem dJ6_checkIndex_1 : decode cJ6_checkIndex 1 = .ok (.aload_n 1, 1) := dk_43 (dk_at dksJ6_checkIndex_0 1 rfl rfl)
theorem dJ6_checkIndex_2 : decode cJ6_checkIndex 2 = .ok (.invokestatic 48, 3) := dk_184 0 48 (dk_at dksJ6_checkIndex_0 2 rfl rfl)
theorem dJ6_checkIndex_5 : decode cJ6_checkIndex 5 = .ok (.invokestatic 414, 3) := dk_184 1 158 (dk_at dksJ6_checkIndex_0 5 rfl rfl)
theorem dJ6_checkIndex_8 : decode cJ6_checkIndex 8 = .ok (.return_, 1) := dk_177 (dk_at dksJ6_checkIndex_0 8 rfl rfl)
theorem q97 : (Jvm.Cond.initialized "java/lang/StringUTF16") ∈ lw_all := lw_g (lw_at lw_m1 24 rfl) rfl
theorem q773 : (Jvm.Cond.static ({ cls := "java/lang/StringUTF16", name := "indexOf", desc := "([BIII)I" } : Jvm.MethodName)) ∈ lw_all := lw_g (lw_at lw_m3 220 rfl) rfl
theorem q774 : (Jvm.Cond.code ({ cls := "java/lang/StringUTF16", name := "indexOf", desc := "([BIII)I" } : Jvm.MethodName) prog_38_method_40_code (4 : Nat) (Option.some Jvm.ClassFile.FieldType.int)) ∈ lw_all := lw_g (lw_at lw_m3 221 rfl) rfl
theorem q775 : (Jvm.Cond.methodLink "java/lang/StringUTF16" (224 : Nat) ({ cls := "java/lang/Math", name := "max", desc := "(II)I" } : Jvm.MethodName)) ∈ lw_all := lw_g (lw_at lw_m3 222 rfl) rfl
theorem q776 : (Jvm.Cond.methodLink "java/lang/StringUTF16" (183 : Nat) ({ cls := "java/lang/Math", name := "min", desc := "(II)I" } : Jvm.MethodName)) ∈ lw_all := lw_g (lw_at lw_m3 223 rfl) rfl
theorem q777 : (Jvm.Cond.constant "java/lang/StringUTF16" (227 : Nat) (65536 : Int32)) ∈ lw_all := lw_g (lw_at lw_m3 224 rfl) rfl
theorem q778 : (Jvm.Cond.methodLink "java/lang/StringUTF16" (228 : Nat) ({ cls := "java/lang/StringUTF16", name := "indexOfChar", desc := "([BIII)I" } : Jvm.MethodName)) ∈ lw_all := lw_g (lw_at lw_m3 225 rfl) rfl
theorem q779 : (Jvm.Cond.static ({ cls := "java/lang/StringUTF16", name := "indexOfChar", desc := "([BIII)I" } : Jvm.MethodName)) ∈ lw_all := lw_g (lw_at lw_m3 226 rfl) rfl
theorem q780 : (Jvm.Cond.code ({ cls := "java/lang/StringUTF16", name := "indexOfChar", desc := "([BIII)I" } : Jvm.MethodName) prog_38_method_47_code (4 : Nat) (Option.some Jvm.ClassFile.FieldType.int)) ∈ lw_all := lw_g (lw_at lw_m3 227 rfl) rfl
theorem q781 : (Jvm.Cond.methodLink "java/lang/StringUTF16" (96 : Nat) ({ cls := "java/lang/StringUTF16", name := "checkBoundsBeginEnd", desc := "(II[B)V" } : Jvm.MethodName)) ∈ lw_all := lw_g (lw_at lw_m3 228 rfl) rfl
theorem q782 : (Jvm.Cond.static ({ cls := "java/lang/StringUTF16", name := "checkBoundsBeginEnd", desc := "(II[B)V" } : Jvm.MethodName)) ∈ lw_all := lw_g (lw_at lw_m3 229 rfl) rfl
theorem q783 : (Jvm.Cond.code ({ cls := "java/lang/StringUTF16", name := "checkBoundsBeginEnd", desc := "(II[B)V" } : Jvm.MethodName) prog_38_method_93_code (3 : Nat) (Option.none : Option Jvm.ClassFile.FieldType)) ∈ lw_all := lw_g (lw_at lw_m3 230 rfl) rfl
theorem q784 : (Jvm.Cond.methodLink "java/lang/StringUTF16" (48 : Nat) ({ cls := "java/lang/StringUTF16", name := "length", desc := "([B)I" } : Jvm.MethodName)) ∈ lw_all := lw_g (lw_at lw_m3 231 rfl) rfl
theorem q785 : (Jvm.Cond.static ({ cls := "java/lang/StringUTF16", name := "length", desc := "([B)I" } : Jvm.MethodName)) ∈ lw_all := lw_g (lw_at lw_m3 232 rfl) rfl
theorem q786 : (Jvm.Cond.code ({ cls := "java/lang/StringUTF16", name := "length", desc := "([B)I" } : Jvm.MethodName) prog_38_method_6_code (1 : Nat) (Option.some Jvm.ClassFile.FieldType.int)) ∈ lw_all := lw_g (lw_at lw_m3 233 rfl) rfl
theorem q787 : (Jvm.Cond.methodLink "java/lang/StringUTF16" (241 : Nat) ({ cls := "java/lang/String", name := "checkBoundsBeginEnd", desc := "(III)V" } : Jvm.MethodName)) ∈ lw_all := lw_g (lw_at lw_m3 234 rfl) rfl
theorem q795 : (Jvm.Cond.methodLink "java/lang/StringUTF16" (244 : Nat) ({ cls := "java/lang/StringUTF16", name := "indexOfCharUnsafe", desc := "([BIII)I" } : Jvm.MethodName)) ∈ lw_all := lw_g (lw_at lw_m4 2 rfl) rfl
theorem q796 : (Jvm.Cond.static ({ cls := "java/lang/StringUTF16", name := "indexOfCharUnsafe", desc := "([BIII)I" } : Jvm.MethodName)) ∈ lw_all := lw_g (lw_at lw_m4 3 rfl) rfl
theorem q797 : (Jvm.Cond.code ({ cls := "java/lang/StringUTF16", name := "indexOfCharUnsafe", desc := "([BIII)I" } : Jvm.MethodName) prog_38_method_48_code (5 : Nat) (Option.some Jvm.ClassFile.FieldType.int)) ∈ lw_all := lw_g (lw_at lw_m4 4 rfl) rfl
theorem q798 : (Jvm.Cond.methodLink "java/lang/StringUTF16" (71 : Nat) ({ cls := "java/lang/StringUTF16", name := "getChar", desc := "([BI)C" } : Jvm.MethodName)) ∈ lw_all := lw_g (lw_at lw_m4 5 rfl) rfl
theorem q799 : (Jvm.Cond.static ({ cls := "java/lang/StringUTF16", name := "getChar", desc := "([BI)C" } : Jvm.MethodName)) ∈ lw_all := lw_g (lw_at lw_m4 6 rfl) rfl
theorem q800 : (Jvm.Cond.code ({ cls := "java/lang/StringUTF16", name := "getChar", desc := "([BI)C" } : Jvm.MethodName) prog_38_method_5_code (2 : Nat) (Option.some Jvm.ClassFile.FieldType.char)) ∈ lw_all := lw_g (lw_at lw_m4 7 rfl) rfl
theorem q801 : (Jvm.Cond.fieldLink "java/lang/StringUTF16" (44 : Nat) "java/lang/StringUTF16" "$assertionsDisabled" "Z") ∈ lw_all := lw_g (lw_at lw_m4 8 rfl) rfl
theorem q802 : (Jvm.Cond.laysStatic "java/lang/StringUTF16" "$assertionsDisabled" "Z") ∈ lw_tbl := lw_at lw_m4 9 rfl
theorem q803 : (Jvm.Cond.fieldLink "java/lang/StringUTF16" (59 : Nat) "java/lang/StringUTF16" "HI_BYTE_SHIFT" "I") ∈ lw_all := lw_g (lw_at lw_m4 10 rfl) rfl
theorem q804 : (Jvm.Cond.laysStatic "java/lang/StringUTF16" "HI_BYTE_SHIFT" "I") ∈ lw_tbl := lw_at lw_m4 11 rfl
theorem q805 : (Jvm.Cond.fieldLink "java/lang/StringUTF16" (63 : Nat) "java/lang/StringUTF16" "LO_BYTE_SHIFT" "I") ∈ lw_all := lw_g (lw_at lw_m4 12 rfl) rfl
theorem q806 : (Jvm.Cond.laysStatic "java/lang/StringUTF16" "LO_BYTE_SHIFT" "I") ∈ lw_tbl := lw_at lw_m4 13 rfl
theorem q807 : (Jvm.Cond.methodLink "java/lang/StringUTF16" (232 : Nat) ({ cls := "java/lang/StringUTF16", name := "indexOfSupplementary", desc := "([BIII)I" } : Jvm.MethodName)) ∈ lw_all := lw_g (lw_at lw_m4 14 rfl) rfl
theorem q808 : (Jvm.Cond.static ({ cls := "java/lang/StringUTF16", name := "indexOfSupplementary", desc := "([BIII)I" } : Jvm.MethodName)) ∈ lw_all := lw_g (lw_at lw_m4 15 rfl) rfl
theorem q809 : (Jvm.Cond.code ({ cls := "java/lang/StringUTF16", name := "indexOfSupplementary", desc := "([BIII)I" } : Jvm.MethodName) prog_38_method_49_code (7 : Nat) (Option.some Jvm.ClassFile.FieldType.int)) ∈ lw_all := lw_g (lw_at lw_m4 16 rfl) rfl
theorem q810 : (Jvm.Cond.methodLink "java/lang/StringUTF16" (164 : Nat) ({ cls := "java/lang/Character", name := "isValidCodePoint", desc := "(I)Z" } : Jvm.MethodName)) ∈ lw_all := lw_g (lw_at lw_m4 17 rfl) rfl
theorem q813 : (Jvm.Cond.methodLink "java/lang/StringUTF16" (157 : Nat) ({ cls := "java/lang/Character", name := "highSurrogate", desc := "(I)C" } : Jvm.MethodName)) ∈ lw_all := lw_g (lw_at lw_m4 20 rfl) rfl
theorem q817 : (Jvm.Cond.methodLink "java/lang/StringUTF16" (161 : Nat) ({ cls := "java/lang/Character", name := "lowSurrogate", desc := "(I)C" } : Jvm.MethodName)) ∈ lw_all := lw_g (lw_at lw_m4 24 rfl) rfl
theorem q1551 : (Jvm.Cond.static ({ cls := "java/lang/StringUTF16", name := "charAt", desc := "([BI)C" } : Jvm.MethodName)) ∈ lw_all := lw_g (lw_at lw_m7 38 rfl) rfl
theorem q1552 : (Jvm.Cond.code ({ cls := "java/lang/StringUTF16", name := "charAt", desc := "([BI)C" } : Jvm.MethodName) prog_38_method_83_code (2 : Nat) (Option.some Jvm.ClassFile.FieldType.char)) ∈ lw_all := lw_g (lw_at lw_m7 39 rfl) rfl
theorem q1553 : (Jvm.Cond.methodLink "java/lang/StringUTF16" (67 : Nat) ({ cls := "java/lang/StringUTF16", name := "checkIndex", desc := "(I[B)V" } : Jvm.MethodName)) ∈ lw_all := lw_g (lw_at lw_m7 40 rfl) rfl
theorem q1554 : (Jvm.Cond.static ({ cls := "java/lang/StringUTF16", name := "checkIndex", desc := "(I[B)V" } : Jvm.MethodName)) ∈ lw_all := lw_g (lw_at lw_m7 41 rfl) rfl
theorem q1555 : (Jvm.Cond.code ({ cls := "java/lang/StringUTF16", name := "checkIndex", desc := "(I[B)V" } : Jvm.MethodName) prog_38_method_91_code (2 : Nat) (Option.none : Option Jvm.ClassFile.FieldType)) ∈ lw_all := lw_g (lw_at lw_m7 42 rfl) rfl
theorem q1556 : (Jvm.Cond.methodLink "java/lang/StringUTF16" (414 : Nat) ({ cls := "java/lang/String", name := "checkIndex", desc := "(II)V" } : Jvm.MethodName)) ∈ lw_all := lw_g (lw_at lw_m7 43 rfl) rfl
/-! jdk/internal/util/Preconditions -/
set_option maxRecDepth 100000
def RJ7 : String := "jdk/internal/util/Preconditions"
abbrev cJ7_checkFromToIndex : ByteArray := prog_41_method_12_code
def yJ7_checkFromToIndex : MethodName := ⟨RJ7, "checkFromToIndex", "(IIILjava/util/function/BiFunction;)I"⟩
def dkwJ7_checkFromToIndex_0 : List UInt8 := [26, 155, 0, 13, 26, 27, 163, 0, 8, 27, 28, 164, 0, 11, 45, 26, 27, 28, 184, 0, 99, 191, 26, 172]
abbrev dktJ7_checkFromToIndex_0 : List UInt8 := dkwJ7_checkFromToIndex_0 ++ []
theorem dksJ7_checkFromToIndex_0 : cJ7_checkFromToIndex.data.toList.drop 0 = dktJ7_checkFromToIndex_0 := by decide +kernel
theorem dJ7_checkFromToIndex_0 : decode cJ7_checkFromToIndex 0 = .ok (.iload_n 0, 1) := dk_26 (dk_at dksJ7_checkFromToIndex_0 0 rfl rfl)
theorem dJ7_checkFromToIndex_1 : decode cJ7_checkFromToIndex 1 = .ok (.ifCond .lt 13, 3) := dk_155 0 13 (dk_at dksJ7_checkFromToIndex_0 1 rfl rfl)
theorem dJ7_checkFromToIndex_4 : decode cJ7_checkFromToIndex 4 = .ok (.iload_n 0, 1) := dk_26 (dk_at dksJ7_checkFromToIndex_0 4 rfl rfl)
theorem dJ7_checkFromToIndex_5 : decode cJ7_checkFromToIndex 5 = .ok (.iload_n 1, 1) := dk_27 (dk_at dksJ7_checkFromToIndex_0 5 rfl rfl)
theorem dJ7_checkFromToIndex_6 : decode cJ7_checkFromToIndex 6 = .ok (.if_icmp .gt 8, 3) := dk_163 0 8 (dk_at dksJ7_checkFromToIndex_0 6 rfl rfl)
theorem dJ7_checkFromToIndex_9 : decode cJ7_checkFromToIndex 9 = .ok (.iload_n 1, 1) := dk_27 (dk_at dksJ7_checkFromToIndex_0 9 rfl rfl)
theorem dJ7_checkFromToIndex_10 : decode cJ7_checkFromToIndex 10 = .ok (.iload_n 2, 1) := dk_28 (dk_at dksJ7_checkFromToIndex_0 10 rfl rfl)
theorem dJ7_checkFromToIndex_11 : decode cJ7_checkFromToIndex 11 = .ok (.if_icmp .le 11, 3) := dk_164 0 11 (dk_at dksJ7_checkFromToIndex_0 11 rfl rfl)
theorem dJ7_checkFromToIndex_14 : decode cJ7_checkFromToIndex 14 = .ok (.aload_n 3, 1) := dk_45 (dk_at dksJ7_checkFromToIndex_0 14 rfl rfl)
theorem dJ7_checkFromToIndex_15 : decode cJ7_checkFromToIndex 15 = .ok (.iload_n 0, 1) := dk_26 (dk_at dksJ7_checkFromToIndex_0 15 rfl rfl)
theorem dJ7_checkFromToIndex_16 : decode cJ7_checkFromToIndex 16 = .ok (.iload_n 1, 1) := dk_27 (dk_at dksJ7_checkFromToIndex_0 16 rfl rfl)
theorem dJ7_checkFromToIndex_17 : decode cJ7_checkFromToIndex 17 = .ok (.iload_n 2, 1) := dk_28 (dk_at dksJ7_checkFromToIndex_0 17 rfl rfl)
theorem dJ7_checkFromToIndex_18 : decode cJ7_checkFromToIndex 18 = .ok (.invokestatic 99, 3) := dk_184 0 99 (dk_at dksJ7_checkFromToIndex_0 18 rfl rfl)
theorem dJ7_checkFromToIndex_21 : decode cJ7_checkFromToIndex 21 = .ok (.athrow, 1) := dk_191 (dk_at dksJ7_checkFromToIndex_0 21 rfl rfl)
theorem dJ7_checkFromToIndex_22 : decode cJ7_checkFromToIndex 22 = .ok (.iload_n 0, 1) := dk_26 (dk_at dksJ7_checkFromToIndex_0 22 rfl rfl)
theorem dJ7_checkFromToIndex_23 : decode cJ7_checkFromToIndex 23 = .ok (.ireturn, 1) := dk_172 (dk_at dksJ7_checkFromToIndex_0 23 rfl rfl)
abbrev cJ7_checkIndex : ByteArray := prog_41_method_11_code
def yJ7_checkIndex : MethodName := ⟨RJ7, "checkIndex", "(IILjava/util/function/BiFunction;)I"⟩
def dkwJ7_checkIndex_0 : List UInt8 := [26, 155, 0, 8, 26, 27, 161, 0, 10, 44, 26, 27, 184, 0, 95, 191, 26, 172]
abbrev dktJ7_checkIndex_0 : List UInt8 := dkwJ7_checkIndex_0 ++ []
theorem dksJ7_checkIndex_0 : cJ7_checkIndex.data.toList.drop 0 = dktJ7_checkIndex_0 := by decide +kernel
theorem dJ7_checkIndex_0 : decode cJ7_checkIndex 0 = .ok (.iload_n 0, 1) := dk_26 (dk_at dksJ7_checkIndex_0 0 rfl rfl)
theorem dJ7_checkIndex_1 : decode cJ7_checkIndex 1 = .ok (.ifCond .lt 8, 3) := dk_155 0 8 (dk_at dksJ7_checkIndex_0 1 rfl rfl)
theorem dJ7_checkIndex_4 : decode cJ7_checkIndex 4 = .ok (.iload_n 0, 1) := dk_26 (dk_at dksJ7_checkIndex_0 4 rfl rfl)
theorem dJ7_checkIndex_5 : decode cJ7_checkIndex 5 = .ok (.iload_n 1, 1) := dk_27 (dk_at dksJ7_checkIndex_0 5 rfl rfl)
theorem dJ7_checkIndex_6 : decode cJ7_checkIndex 6 = .ok (.if_icmp .lt 10, 3) := dk_161 0 10 (dk_at dksJ7_checkIndex_0 6 rfl rfl)
theorem dJ7_checkIndex_9 : decode cJ7_checkIndex 9 = .ok (.aload_n 2, 1) := dk_44 (dk_at dksJ7_checkIndex_0 9 rfl rfl)
theorem dJ7_checkIndex_10 : decode cJ7_checkIndex 10 = .ok (.iload_n 0, 1) := dk_26 (dk_at dksJ7_checkIndex_0 10 rfl rfl)
theorem dJ7_checkIndex_11 : decode cJ7_checkIndex 11 = .ok (.iload_n 1, 1) := dk_27 (dk_at dksJ7_checkIndex_0 11 rfl rfl)
theorem dJ7_checkIndex_12 : decode cJ7_checkIndex 12 = .ok (.invokestatic 95, 3) := dk_184 0 95 (dk_at dksJ7_checkIndex_0 12 rfl rfl)
theorem dJ7_checkIndex_15 : decode cJ7_checkIndex 15 = .ok (.athrow, 1) := dk_191 (dk_at dksJ7_checkIndex_0 15 rfl rfl)
theorem dJ7_checkIndex_16 : decode cJ7_checkIndex 16 = .ok (.iload_n 0, 1) := dk_26 (dk_at dksJ7_checkIndex_0 16 rfl rfl)
theorem dJ7_checkIndex_17 : decode cJ7_checkIndex 17 = .ok (.ireturn, 1) := dk_172 (dk_at dksJ7_checkIndex_0 17 rfl rfl)
theorem q98 : (Jvm.Cond.initialized "jdk/internal/util/Preconditions") ∈ lw_all := lw_g (lw_at lw_m1 25 rfl) rfl
theorem q791 : (Jvm.Cond.laysStatic "jdk/internal/util/Preconditions" "SIOOBE_FORMATTER" "Ljava/util/function/BiFunction;") ∈ lw_tbl := lw_at lw_m3 238 rfl
theorem q793 : (Jvm.Cond.static ({ cls := "jdk/internal/util/Preconditions", name := "checkFromToIndex", desc := "(IIILjava/util/function/BiFunction;)I" } : Jvm.MethodName)) ∈ lw_all := lw_g (lw_at lw_m4 0 rfl) rfl
theorem q794 : (Jvm.Cond.code ({ cls := "jdk/internal/util/Preconditions", name := "checkFromToIndex", desc := "(IIILjava/util/function/BiFunction;)I" } : Jvm.MethodName) prog_41_method_12_code (4 : Nat) (Option.some Jvm.ClassFile.FieldType.int)) ∈ lw_all := lw_g (lw_at lw_m4 1 rfl) rfl
theorem q1548 : (Jvm.Cond.static ({ cls := "jdk/internal/util/Preconditions", name := "checkIndex", desc := "(IILjava/util/function/BiFunction;)I" } : Jvm.MethodName)) ∈ lw_all := lw_g (lw_at lw_m7 35 rfl) rfl
theorem q1549 : (Jvm.Cond.code ({ cls := "jdk/internal/util/Preconditions", name := "checkIndex", desc := "(IILjava/util/function/BiFunction;)I" } : Jvm.MethodName) prog_41_method_11_code (3 : Nat) (Option.some Jvm.ClassFile.FieldType.int)) ∈ lw_all := lw_g (lw_at lw_m7 36 rfl) rfl
/-! java/lang/Character -/
set_option maxRecDepth 100000
def RJ8 : String := "java/lang/Character"
abbrev cJ8_isValidCodePoint : ByteArray := prog_31_method_11_code
def yJ8_isValidCodePoint : MethodName := ⟨RJ8, "isValidCodePoint", "(I)Z"⟩
def dkwJ8_isValidCodePoint_0 : List UInt8 := [26, 16, 16, 124, 60, 27, 16, 17, 162, 0, 7, 4, 167, 0, 4, 3, 172]
abbrev dktJ8_isValidCodePoint_0 : List UInt8 := dkwJ8_isValidCodePoint_0 ++ []
theorem dksJ8_isValidCodePoint_0 : cJ8_isValidCodePoint.data.toList.drop 0 = dktJ8_isValidCodePoint_0 := by decide +kernel
theorem dJ8_isValidCodePoint_0 : decode cJ8_isValidCodePoint 0 = .ok (.iload_n 0, 1) := dk_26 (dk_at dksJ8_isValidCodePoint_0 0 rfl rfl)
theorem dJ8_isValidCodePoint_1 : decode cJ8_isValidCodePoint 1 = .ok (.bipush 16, 2) := dk_16 16 (dk_at dksJ8_isValidCodePoint_0 1 rfl rfl)
theorem dJ8_isValidCodePoint_3 : decode cJ8_isValidCodePoint 3 = .ok (.iushr, 1) := dk_124 (dk_at dksJ8_isValidCodePoint_0 3 rfl rfl)
theorem dJ8_isValidCodePoint_4 : decode cJ8_isValidCodePoint 4 = .ok (.istore_n 1, 1) := dk_60 (dk_at dksJ8_isValidCodePoint_0 4 rfl rfl)
theorem dJ8_isValidCodePoint_5 : decode cJ8_isValidCodePoint 5 = .ok (.iload_n 1, 1) := dk_27 (dk_at dksJ8_isValidCodePoint_0 5 rfl rfl)
theorem dJ8_isValidCodePoint_6 : decode cJ8_isValidCodePoint 6 = .ok (.bipush 17, 2) := dk_16 17 (dk_at dksJ8_isValidCodePoint_0 6 rfl rfl)
theorem dJ8_isValidCodePoint_8 : decode cJ8_isValidCodePoint 8 = .ok (.if_icmp .ge 7, 3) := dk_162 0 7 (dk_at dksJ8_isValidCodePoint_0 8 rfl rfl)
theorem dJ8_isValidCodePoint_11 : decode cJ8_isValidCodePoint 11 = .ok (.iconst 1, 1) := dk_4 (dk_at dksJ8_isValidCodePoint_0 11 rfl rfl)
theorem dJ8_isValidCodePoint_12 : decode cJ8_isValidCodePoint 12 = .ok (.goto 4, 3) := dk_167 0 4 (dk_at dksJ8_isValidCodePoint_0 12 rfl rfl)
theorem dJ8_isValidCodePoint_15 : decode cJ8_isValidCodePoint 15 = .ok (.iconst 0, 1) := dk_3 (dk_at dksJ8_isValidCodePoint_0 15 rfl rfl)
theorem dJ8_isValidCodePoint_16 : decode cJ8_isValidCodePoint 16 = .ok (.ireturn, 1) := dk_172 (dk_at dksJ8_isValidCodePoint_0 16 rfl rfl)
abbrev cJ8_highSurrogate : ByteArray := prog_31_method_28_code
def yJ8_highSurrogate : MethodName := ⟨RJ8, "highSurrogate", "(I)C"⟩
def dkwJ8_highSurrogate_0 : List UInt8 := [26, 16, 10, 124, 18, 110, 96, 146, 172]
abbrev dktJ8_highSurrogate_0 : List UInt8 := dkwJ8_highSurrogate_0 ++ []
theorem dksJ8_highSurrogate_0 : cJ8_highSurrogate.data.toList.drop 0 = dktJ8_highSurrogate_0 := by decide +kernel
theorem dJ8_highSurrogate_0 : decode cJ8_highSurrogate 0 = .ok (.iload_n 0, 1) := dk_26 (dk_at dksJ8_highSurrogate_0 0 rfl rfl)
theorem dJ8_highSurrogate_1 : decode cJ8_highSurrogate 1 = .ok (.bipush 10, 2) := dk_16 10 (dk_at dksJ8_highSurrogate_0 1 rfl rfl)
theorem dJ8_highSurrogate_3 : decode cJ8_highSurrogate 3 = .ok (.iushr, 1) := dk_124 (dk_at dksJ8_highSurrogate_0 3 rfl rfl)
theorem dJ8_highSurrogate_4 : decode cJ8_highSurrogate 4 = .ok (.ldc 110, 2) := dk_18 110 (dk_at dksJ8_highSurrogate_0 4 rfl rfl)
theorem dJ8_highSurrogate_6 : decode cJ8_highSurrogate 6 = .ok (.iadd, 1) := dk_96 (dk_at dksJ8_highSurrogate_0 6 rfl rfl)
theorem dJ8_highSurrogate_7 : decode cJ8_highSurrogate 7 = .ok (.i2c, 1) := dk_146 (dk_at dksJ8_highSurrogate_0 7 rfl rfl)
theorem dJ8_highSurrogate_8 : decode cJ8_highSurrogate 8 = .ok (.ireturn, 1) := dk_172 (dk_at dksJ8_highSurrogate_0 8 rfl rfl)
abbrev cJ8_lowSurrogate : ByteArray := prog_31_method_29_code
def yJ8_lowSurrogate : MethodName := ⟨RJ8, "lowSurrogate", "(I)C"⟩
def dkwJ8_lowSurrogate_0 : List UInt8 := [26, 17, 3, 255, 126, 18, 76, 96, 146, 172]
abbrev dktJ8_lowSurrogate_0 : List UInt8 := dkwJ8_lowSurrogate_0 ++ []
theorem dksJ8_lowSurrogate_0 : cJ8_lowSurrogate.data.toList.drop 0 = dktJ8_lowSurrogate_0 := by decide +kernel
theorem dJ8_lowSurrogate_0 : decode cJ8_lowSurrogate 0 = .ok (.iload_n 0, 1) := dk_26 (dk_at dksJ8_lowSurrogate_0 0 rfl rfl)
theorem dJ8_lowSurrogate_1 : decode cJ8_lowSurrogate 1 = .ok (.sipush 1023, 3) := dk_17 3 255 (dk_at dksJ8_lowSurrogate_0 1 rfl rfl)
theorem dJ8_lowSurrogate_4 : decode cJ8_lowSurrogate 4 = .ok (.iand, 1) := dk_126 (dk_at dksJ8_lowSurrogate_0 4 rfl rfl)
theorem dJ8_lowSurrogate_5 : decode cJ8_lowSurrogate 5 = .ok (.ldc 76, 2) := dk_18 76 (dk_at dksJ8_lowSurrogate_0 5 rfl rfl)
theorem dJ8_lowSurrogate_7 : decode cJ8_lowSurrogate 7 = .ok (.iadd, 1) := dk_96 (dk_at dksJ8_lowSurrogate_0 7 rfl rfl)
theorem dJ8_lowSurrogate_8 : decode cJ8_lowSurrogate 8 = .ok (.i2c, 1) := dk_146 (dk_at dksJ8_lowSurrogate_0 8 rfl rfl)
theorem dJ8_lowSurrogate_9 : decode cJ8_lowSurrogate 9 = .ok (.ireturn, 1) := dk_172 (dk_at dksJ8_lowSurrogate_0 9 rfl rfl)
theorem q99 : (Jvm.Cond.initialized "java/lang/Character") ∈ lw_all := lw_g (lw_at lw_m1 26 rfl) rfl
theorem q811 : (Jvm.Cond.static ({ cls := "java/lang/Character", name := "isValidCodePoint", desc := "(I)Z" } : Jvm.MethodName)) ∈ lw_all := lw_g (lw_at lw_m4 18 rfl) rfl
theorem q812 : (Jvm.Cond.code ({ cls := "java/lang/Character", name := "isValidCodePoint", desc := "(I)Z" } : Jvm.MethodName) prog_31_method_11_code (2 : Nat) (Option.some Jvm.ClassFile.FieldType.boolean)) ∈ lw_all := lw_g (lw_at lw_m4 19 rfl) rfl
theorem q814 : (Jvm.Cond.static ({ cls := "java/lang/Character", name := "highSurrogate", desc := "(I)C" } : Jvm.MethodName)) ∈ lw_all := lw_g (lw_at lw_m4 21 rfl) rfl
theorem q815 : (Jvm.Cond.code ({ cls := "java/lang/Character", name := "highSurrogate", desc := "(I)C" } : Jvm.MethodName) prog_31_method_28_code (1 : Nat) (Option.some Jvm.ClassFile.FieldType.char)) ∈ lw_all := lw_g (lw_at lw_m4 22 rfl) rfl
theorem q816 : (Jvm.Cond.constant "java/lang/Character" (110 : Nat) (55232 : Int32)) ∈ lw_all := lw_g (lw_at lw_m4 23 rfl) rfl
theorem q818 : (Jvm.Cond.static ({ cls := "java/lang/Character", name := "lowSurrogate", desc := "(I)C" } : Jvm.MethodName)) ∈ lw_all := lw_g (lw_at lw_m4 25 rfl) rfl
theorem q819 : (Jvm.Cond.code ({ cls := "java/lang/Character", name := "lowSurrogate", desc := "(I)C" } : Jvm.MethodName) prog_31_method_29_code (1 : Nat) (Option.some Jvm.ClassFile.FieldType.char)) ∈ lw_all := lw_g (lw_at lw_m4 26 rfl) rfl
theorem q820 : (Jvm.Cond.constant "java/lang/Character" (76 : Nat) (56320 : Int32)) ∈ lw_all := lw_g (lw_at lw_m4 27 rfl) rfl
/-! OldLight$Named -/
set_option maxRecDepth 100000
def RX17 : String := "OldLight$Named"
def TX17 : u_T := fun k => match k with
  | _ => ("OldLight$Named", "name", "I", true)
def tyX17 : Nat → FieldType := fun k => match k with
  | _ => .int
abbrev wsX170 : List Cond := u_ws RX17 TX17 1
theorem nmX17 : ∀ a, a < 1 → ∀ b, b < 1 → a ≠ b → (TX17 a).2.1 ≠ (TX17 b).2.1 := by decide +kernel
theorem tyX17_ok : ∀ k, k < 1 → parseFieldDescriptor (TX17 k).2.2.1 = some (tyX17 k) := by decide +kernel
abbrev cX17_value : ByteArray := prog_13_method_2_code
def yX17_value : MethodName := ⟨RX17, "value", "(LOldLight$Facts;)I"⟩
def dkwX17_value_0 : List UInt8 := [43, 180, 0, 13, 42, 180, 0, 7, 46, 172]
abbrev dktX17_value_0 : List UInt8 := dkwX17_value_0 ++ []
theorem dksX17_value_0 : cX17_value.data.toList.drop 0 = dktX17_value_0 := by decide +kernel
theorem dX17_value_0 : decode cX17_value 0 = .ok (.aload_n 1, 1) := dk_43 (dk_at dksX17_value_0 0 rfl rfl)
theorem dX17_value_1 : decode cX17_value 1 = .ok (.getfield 13, 3) := dk_180 0 13 (dk_at dksX17_value_0 1 rfl rfl)
theorem dX17_value_4 : decode cX17_value 4 = .ok (.aload_n 0, 1) := dk_42 (dk_at dksX17_value_0 4 rfl rfl)
theorem dX17_value_5 : decode cX17_value 5 = .ok (.getfield 7, 3) := dk_180 0 7 (dk_at dksX17_value_0 5 rfl rfl)
theorem dX17_value_8 : decode cX17_value 8 = .ok (.iaload, 1) := dk_46 (dk_at dksX17_value_0 8 rfl rfl)
theorem dX17_value_9 : decode cX17_value 9 = .ok (.ireturn, 1) := dk_172 (dk_at dksX17_value_0 9 rfl rfl)
abbrev cX17_init : ByteArray := prog_13_method_1_code
def yX17_init : MethodName := ⟨RX17, "<init>", "(I)V"⟩
def dkwX17_init_0 : List UInt8 := [42, 183, 0, 1, 42, 27, 181, 0, 7, 177]
abbrev dktX17_init_0 : List UInt8 := dkwX17_init_0 ++ []
theorem dksX17_init_0 : cX17_init.data.toList.drop 0 = dktX17_init_0 := by decide +kernel
theorem dX17_init_0 : decode cX17_init 0 = .ok (.aload_n 0, 1) := dk_42 (dk_at dksX17_init_0 0 rfl rfl)
theorem dX17_init_1 : decode cX17_init 1 = .ok (.invokespecial 1, 3) := dk_183 0 1 (dk_at dksX17_init_0 1 rfl rfl)
theorem dX17_init_4 : decode cX17_init 4 = .ok (.aload_n 0, 1) := dk_42 (dk_at dksX17_init_0 4 rfl rfl)
theorem dX17_init_5 : decode cX17_init 5 = .ok (.iload_n 1, 1) := dk_27 (dk_at dksX17_init_0 5 rfl rfl)
theorem dX17_init_6 : decode cX17_init 6 = .ok (.putfield 7, 3) := dk_181 0 7 (dk_at dksX17_init_0 6 rfl rfl)
theorem dX17_init_9 : decode cX17_init 9 = .ok (.return_, 1) := dk_177 (dk_at dksX17_init_0 9 rfl rfl)
theorem q100 : (Jvm.Cond.initialized "OldLight$Named") ∈ lw_all := lw_g (lw_at lw_m1 27 rfl) rfl
theorem q204 : (Jvm.Cond.fieldLinkNest "OldLight$Named" (13 : Nat) "OldLight$Facts" "named" "[I" "OldLight") ∈ lw_tbl := lw_at lw_m1 131 rfl
theorem q405 : (Jvm.Cond.selects "OldLight$Named" ({ cls := "OldLight$Term", name := "value", desc := "(LOldLight$Facts;)I" } : Jvm.MethodName) ({ cls := "OldLight$Named", name := "value", desc := "(LOldLight$Facts;)I" } : Jvm.MethodName)) ∈ lw_all := lw_g (lw_at lw_m2 92 rfl) rfl
theorem q406 : (Jvm.Cond.instanceMethod ({ cls := "OldLight$Named", name := "value", desc := "(LOldLight$Facts;)I" } : Jvm.MethodName)) ∈ lw_all := lw_g (lw_at lw_m2 93 rfl) rfl
theorem q407 : (Jvm.Cond.code ({ cls := "OldLight$Named", name := "value", desc := "(LOldLight$Facts;)I" } : Jvm.MethodName) prog_13_method_2_code (2 : Nat) (Option.some Jvm.ClassFile.FieldType.int)) ∈ lw_all := lw_g (lw_at lw_m2 94 rfl) rfl
theorem q822 : (Jvm.Cond.instantiable "OldLight$Named" (1 : Nat)) ∈ lw_all := lw_g (lw_at lw_m4 29 rfl) rfl
theorem q824 : (Jvm.Cond.instanceMethod ({ cls := "OldLight$Named", name := "<init>", desc := "(I)V" } : Jvm.MethodName)) ∈ lw_all := lw_g (lw_at lw_m4 31 rfl) rfl
theorem q825 : (Jvm.Cond.code ({ cls := "OldLight$Named", name := "<init>", desc := "(I)V" } : Jvm.MethodName) prog_13_method_1_code (2 : Nat) (Option.none : Option Jvm.ClassFile.FieldType)) ∈ lw_all := lw_g (lw_at lw_m4 32 rfl) rfl
theorem q826 : (Jvm.Cond.methodLinkNest "OldLight$Named" (1 : Nat) ({ cls := "OldLight$Term", name := "<init>", desc := "()V" } : Jvm.MethodName) "OldLight") ∈ lw_tbl := lw_at lw_m4 33 rfl
theorem q830 : (Jvm.Cond.fieldLink "OldLight$Named" (7 : Nat) "OldLight$Named" "name" "I") ∈ lw_all := lw_g (lw_at lw_m4 37 rfl) rfl
theorem q831 : (Jvm.Cond.laysFinal "OldLight$Named" "OldLight$Named" "name" "I") ∈ lw_all := lw_g (lw_at lw_m4 38 rfl) rfl
theorem q832 : (Jvm.Cond.soleField "OldLight$Named" "name") ∈ lw_all := lw_g (lw_at lw_m4 39 rfl) rfl
theorem q833 : (Jvm.Cond.superclass "OldLight$Named" "OldLight$Term") ∈ lw_all := lw_g (lw_at lw_m4 40 rfl) rfl
theorem q1916 : (Jvm.Cond.castable "OldLight$Named" "OldLight$Term") ∈ lw_tbl := lw_at lw_m8 163 rfl
theorem in_X17 : ∀ w ∈ wsX170, w ∈ lw_all := lw_in wsX170 [831] (by decide +kernel) (by decide +kernel)
/-! OldLight$Fault -/
set_option maxRecDepth 100000
def RX18 : String := "OldLight$Fault"
def TX18 : u_T := fun k => match k with
  | 0 => ("java/lang/Throwable", "cause", "Ljava/lang/Throwable;", false)
  | 1 => ("java/lang/Throwable", "stackTrace", "[Ljava/lang/StackTraceElement;", false)
  | 2 => ("java/lang/Throwable", "suppressedExceptions", "Ljava/util/List;", false)
  | 3 => ("java/lang/Throwable", "detailMessage", "Ljava/lang/String;", false)
  | 4 => ("java/lang/Throwable", "backtrace", "Ljava/lang/Object;", false)
  | 5 => ("java/lang/Throwable", "depth", "I", false)
  | _ => ("OldLight$Fault", "place", "I", true)
def tyX18 : Nat → FieldType := fun k => match k with
  | 0 => .object "java/lang/Throwable"
  | 1 => .array (.object "java/lang/StackTraceElement")
  | 2 => .object "java/util/List"
  | 3 => .object "java/lang/String"
  | 4 => .object "java/lang/Object"
  | 5 => .int
  | _ => .int
abbrev wsX180 : List Cond := u_ws RX18 TX18 7
theorem nmX18 : ∀ a, a < 7 → ∀ b, b < 7 → a ≠ b → (TX18 a).2.1 ≠ (TX18 b).2.1 := by decide +kernel
theorem tyX18_ok : ∀ k, k < 7 → parseFieldDescriptor (TX18 k).2.2.1 = some (tyX18 k) := by decide +kernel
abbrev cX18_init : ByteArray := prog_7_method_1_code
def yX18_init : MethodName := ⟨RX18, "<init>", "(I)V"⟩
def dkwX18_init_0 : List UInt8 := [42, 1, 1, 3, 3, 183, 0, 1, 42, 27, 181, 0, 7, 177]
abbrev dktX18_init_0 : List UInt8 := dkwX18_init_0 ++ []
theorem dksX18_init_0 : cX18_init.data.toList.drop 0 = dktX18_init_0 := by decide +kernel
theorem dX18_init_0 : decode cX18_init 0 = .ok (.aload_n 0, 1) := dk_42 (dk_at dksX18_init_0 0 rfl rfl)
theorem dX18_init_1 : decode cX18_init 1 = .ok (.aconst_null, 1) := dk_1 (dk_at dksX18_init_0 1 rfl rfl)
theorem dX18_init_2 : decode cX18_init 2 = .ok (.aconst_null, 1) := dk_1 (dk_at dksX18_init_0 2 rfl rfl)
theorem dX18_init_3 : decode cX18_init 3 = .ok (.iconst 0, 1) := dk_3 (dk_at dksX18_init_0 3 rfl rfl)
theorem dX18_init_4 : decode cX18_init 4 = .ok (.iconst 0, 1) := dk_3 (dk_at dksX18_init_0 4 rfl rfl)
theorem dX18_init_5 : decode cX18_init 5 = .ok (.invokespecial 1, 3) := dk_183 0 1 (dk_at dksX18_init_0 5 rfl rfl)
theorem dX18_init_8 : decode cX18_init 8 = .ok (.aload_n 0, 1) := dk_42 (dk_at dksX18_init_0 8 rfl rfl)
theorem dX18_init_9 : decode cX18_init 9 = .ok (.iload_n 1, 1) := dk_27 (dk_at dksX18_init_0 9 rfl rfl)
theorem dX18_init_10 : decode cX18_init 10 = .ok (.putfield 7, 3) := dk_181 0 7 (dk_at dksX18_init_0 10 rfl rfl)
theorem dX18_init_13 : decode cX18_init 13 = .ok (.return_, 1) := dk_177 (dk_at dksX18_init_0 13 rfl rfl)
theorem q101 : (Jvm.Cond.initialized "OldLight$Fault") ∈ lw_all := lw_g (lw_at lw_m1 28 rfl) rfl
theorem q151 : (Jvm.Cond.selects "OldLight$Fault" ({ cls := "java/lang/Throwable", name := "fillInStackTrace", desc := "()Ljava/lang/Throwable;" } : Jvm.MethodName) ({ cls := "java/lang/Throwable", name := "fillInStackTrace", desc := "()Ljava/lang/Throwable;" } : Jvm.MethodName)) ∈ lw_all := lw_g (lw_at lw_m1 78 rfl) rfl
theorem q844 : (Jvm.Cond.instantiable "OldLight$Fault" (7 : Nat)) ∈ lw_all := lw_g (lw_at lw_m4 51 rfl) rfl
theorem q845 : (Jvm.Cond.castable "OldLight$Fault" "OldLight$Fault") ∈ lw_tbl := lw_at lw_m4 52 rfl
theorem q846 : (Jvm.Cond.selects "OldLight$Fault" ({ cls := "java/lang/Throwable", name := "fillInStackTrace", desc := "(I)Ljava/lang/Throwable;" } : Jvm.MethodName) ({ cls := "java/lang/Throwable", name := "fillInStackTrace", desc := "(I)Ljava/lang/Throwable;" } : Jvm.MethodName)) ∈ lw_all := lw_g (lw_at lw_m4 53 rfl) rfl
theorem q847 : (Jvm.Cond.lays "OldLight$Fault" "java/lang/Throwable" "cause" "Ljava/lang/Throwable;") ∈ lw_all := lw_g (lw_at lw_m4 54 rfl) rfl
theorem q848 : (Jvm.Cond.lays "OldLight$Fault" "java/lang/Throwable" "stackTrace" "[Ljava/lang/StackTraceElement;") ∈ lw_all := lw_g (lw_at lw_m4 55 rfl) rfl
theorem q849 : (Jvm.Cond.lays "OldLight$Fault" "java/lang/Throwable" "suppressedExceptions" "Ljava/util/List;") ∈ lw_all := lw_g (lw_at lw_m4 56 rfl) rfl
theorem q850 : (Jvm.Cond.lays "OldLight$Fault" "java/lang/Throwable" "detailMessage" "Ljava/lang/String;") ∈ lw_all := lw_g (lw_at lw_m4 57 rfl) rfl
theorem q851 : (Jvm.Cond.lays "OldLight$Fault" "java/lang/Throwable" "backtrace" "Ljava/lang/Object;") ∈ lw_all := lw_g (lw_at lw_m4 58 rfl) rfl
theorem q853 : (Jvm.Cond.instanceMethod ({ cls := "OldLight$Fault", name := "<init>", desc := "(I)V" } : Jvm.MethodName)) ∈ lw_all := lw_g (lw_at lw_m4 60 rfl) rfl
theorem q854 : (Jvm.Cond.code ({ cls := "OldLight$Fault", name := "<init>", desc := "(I)V" } : Jvm.MethodName) prog_7_method_1_code (2 : Nat) (Option.none : Option Jvm.ClassFile.FieldType)) ∈ lw_all := lw_g (lw_at lw_m4 61 rfl) rfl
theorem q855 : (Jvm.Cond.methodLink "OldLight$Fault" (1 : Nat) ({ cls := "java/lang/RuntimeException", name := "<init>", desc := "(Ljava/lang/String;Ljava/lang/Throwable;ZZ)V" } : Jvm.MethodName)) ∈ lw_all := lw_g (lw_at lw_m4 62 rfl) rfl
theorem q856 : (Jvm.Cond.fieldLink "OldLight$Fault" (7 : Nat) "OldLight$Fault" "place" "I") ∈ lw_all := lw_g (lw_at lw_m4 63 rfl) rfl
theorem q858 : (Jvm.Cond.laysFinal "OldLight$Fault" "OldLight$Fault" "place" "I") ∈ lw_all := lw_g (lw_at lw_m4 65 rfl) rfl
theorem q859 : (Jvm.Cond.soleField "OldLight$Fault" "place") ∈ lw_all := lw_g (lw_at lw_m4 66 rfl) rfl
theorem q860 : (Jvm.Cond.lays "OldLight$Fault" "java/lang/Throwable" "depth" "I") ∈ lw_all := lw_g (lw_at lw_m4 67 rfl) rfl
theorem q861 : (Jvm.Cond.superclass "OldLight$Fault" "java/lang/RuntimeException") ∈ lw_all := lw_g (lw_at lw_m4 68 rfl) rfl
theorem in_X18 : ∀ w ∈ wsX180, w ∈ lw_all := lw_in wsX180 [847, 848, 849, 850, 851, 860, 858] (by decide +kernel) (by decide +kernel)
/-! OldLight$Turned -/
set_option maxRecDepth 100000
def RX19 : String := "OldLight$Turned"
def TX19 : u_T := fun k => match k with
  | _ => ("OldLight$Turned", "of", "LOldLight$Term;", true)
def tyX19 : Nat → FieldType := fun k => match k with
  | _ => .object "OldLight$Term"
abbrev wsX190 : List Cond := u_ws RX19 TX19 1
theorem nmX19 : ∀ a, a < 1 → ∀ b, b < 1 → a ≠ b → (TX19 a).2.1 ≠ (TX19 b).2.1 := by decide +kernel
theorem tyX19_ok : ∀ k, k < 1 → parseFieldDescriptor (TX19 k).2.2.1 = some (tyX19 k) := by decide +kernel
abbrev cX19_value : ByteArray := prog_27_method_2_code
def yX19_value : MethodName := ⟨RX19, "value", "(LOldLight$Facts;)I"⟩
def dkwX19_value_0 : List UInt8 := [42, 180, 0, 7, 43, 182, 0, 13, 154, 0, 7, 4, 167, 0, 4, 3, 172]
abbrev dktX19_value_0 : List UInt8 := dkwX19_value_0 ++ []
theorem dksX19_value_0 : cX19_value.data.toList.drop 0 = dktX19_value_0 := by decide +kernel
theorem dX19_value_0 : decode cX19_value 0 = .ok (.aload_n 0, 1) := dk_42 (dk_at dksX19_value_0 0 rfl rfl)
theorem dX19_value_1 : decode cX19_value 1 = .ok (.getfield 7, 3) := dk_180 0 7 (dk_at dksX19_value_0 1 rfl rfl)
theorem dX19_value_4 : decode cX19_value 4 = .ok (.aload_n 1, 1) := dk_43 (dk_at dksX19_value_0 4 rfl rfl)
theorem dX19_value_5 : decode cX19_value 5 = .ok (.invokevirtual 13, 3) := dk_182 0 13 (dk_at dksX19_value_0 5 rfl rfl)
theorem dX19_value_8 : decode cX19_value 8 = .ok (.ifCond .ne 7, 3) := dk_154 0 7 (dk_at dksX19_value_0 8 rfl rfl)
theorem dX19_value_11 : decode cX19_value 11 = .ok (.iconst 1, 1) := dk_4 (dk_at dksX19_value_0 11 rfl rfl)
theorem dX19_value_12 : decode cX19_value 12 = .ok (.goto 4, 3) := dk_167 0 4 (dk_at dksX19_value_0 12 rfl rfl)
theorem dX19_value_15 : decode cX19_value 15 = .ok (.iconst 0, 1) := dk_3 (dk_at dksX19_value_0 15 rfl rfl)
theorem dX19_value_16 : decode cX19_value 16 = .ok (.ireturn, 1) := dk_172 (dk_at dksX19_value_0 16 rfl rfl)
abbrev cX19_init : ByteArray := prog_27_method_1_code
def yX19_init : MethodName := ⟨RX19, "<init>", "(LOldLight$Term;)V"⟩
def dkwX19_init_0 : List UInt8 := [42, 183, 0, 1, 42, 43, 181, 0, 7, 177]
abbrev dktX19_init_0 : List UInt8 := dkwX19_init_0 ++ []
theorem dksX19_init_0 : cX19_init.data.toList.drop 0 = dktX19_init_0 := by decide +kernel
theorem dX19_init_0 : decode cX19_init 0 = .ok (.aload_n 0, 1) := dk_42 (dk_at dksX19_init_0 0 rfl rfl)
theorem dX19_init_1 : decode cX19_init 1 = .ok (.invokespecial 1, 3) := dk_183 0 1 (dk_at dksX19_init_0 1 rfl rfl)
theorem dX19_init_4 : decode cX19_init 4 = .ok (.aload_n 0, 1) := dk_42 (dk_at dksX19_init_0 4 rfl rfl)
theorem dX19_init_5 : decode cX19_init 5 = .ok (.aload_n 1, 1) := dk_43 (dk_at dksX19_init_0 5 rfl rfl)
theorem dX19_init_6 : decode cX19_init 6 = .ok (.putfield 7, 3) := dk_181 0 7 (dk_at dksX19_init_0 6 rfl rfl)
theorem dX19_init_9 : decode cX19_init 9 = .ok (.return_, 1) := dk_177 (dk_at dksX19_init_0 9 rfl rfl)
theorem q102 : (Jvm.Cond.initialized "OldLight$Turned") ∈ lw_all := lw_g (lw_at lw_m1 29 rfl) rfl
theorem q408 : (Jvm.Cond.selects "OldLight$Turned" ({ cls := "OldLight$Term", name := "value", desc := "(LOldLight$Facts;)I" } : Jvm.MethodName) ({ cls := "OldLight$Turned", name := "value", desc := "(LOldLight$Facts;)I" } : Jvm.MethodName)) ∈ lw_all := lw_g (lw_at lw_m2 95 rfl) rfl
theorem q409 : (Jvm.Cond.instanceMethod ({ cls := "OldLight$Turned", name := "value", desc := "(LOldLight$Facts;)I" } : Jvm.MethodName)) ∈ lw_all := lw_g (lw_at lw_m2 96 rfl) rfl
theorem q410 : (Jvm.Cond.code ({ cls := "OldLight$Turned", name := "value", desc := "(LOldLight$Facts;)I" } : Jvm.MethodName) prog_27_method_2_code (2 : Nat) (Option.some Jvm.ClassFile.FieldType.int)) ∈ lw_all := lw_g (lw_at lw_m2 97 rfl) rfl
theorem q411 : (Jvm.Cond.methodLink "OldLight$Turned" (13 : Nat) ({ cls := "OldLight$Term", name := "value", desc := "(LOldLight$Facts;)I" } : Jvm.MethodName)) ∈ lw_all := lw_g (lw_at lw_m2 98 rfl) rfl
theorem q863 : (Jvm.Cond.instantiable "OldLight$Turned" (1 : Nat)) ∈ lw_all := lw_g (lw_at lw_m4 70 rfl) rfl
theorem q865 : (Jvm.Cond.instanceMethod ({ cls := "OldLight$Turned", name := "<init>", desc := "(LOldLight$Term;)V" } : Jvm.MethodName)) ∈ lw_all := lw_g (lw_at lw_m4 72 rfl) rfl
theorem q866 : (Jvm.Cond.code ({ cls := "OldLight$Turned", name := "<init>", desc := "(LOldLight$Term;)V" } : Jvm.MethodName) prog_27_method_1_code (2 : Nat) (Option.none : Option Jvm.ClassFile.FieldType)) ∈ lw_all := lw_g (lw_at lw_m4 73 rfl) rfl
theorem q867 : (Jvm.Cond.methodLinkNest "OldLight$Turned" (1 : Nat) ({ cls := "OldLight$Term", name := "<init>", desc := "()V" } : Jvm.MethodName) "OldLight") ∈ lw_tbl := lw_at lw_m4 74 rfl
theorem q868 : (Jvm.Cond.fieldLink "OldLight$Turned" (7 : Nat) "OldLight$Turned" "of" "LOldLight$Term;") ∈ lw_all := lw_g (lw_at lw_m4 75 rfl) rfl
theorem q869 : (Jvm.Cond.laysFinal "OldLight$Turned" "OldLight$Turned" "of" "LOldLight$Term;") ∈ lw_all := lw_g (lw_at lw_m4 76 rfl) rfl
theorem q870 : (Jvm.Cond.soleField "OldLight$Turned" "of") ∈ lw_all := lw_g (lw_at lw_m4 77 rfl) rfl
theorem q871 : (Jvm.Cond.superclass "OldLight$Turned" "OldLight$Term") ∈ lw_all := lw_g (lw_at lw_m4 78 rfl) rfl
theorem q1917 : (Jvm.Cond.castable "OldLight$Turned" "OldLight$Term") ∈ lw_tbl := lw_at lw_m8 164 rfl
theorem in_X19 : ∀ w ∈ wsX190, w ∈ lw_all := lw_in wsX190 [869] (by decide +kernel) (by decide +kernel)
/-! OldLight$Figure -/
set_option maxRecDepth 100000
def RX20 : String := "OldLight$Figure"
def TX20 : u_T := fun k => match k with
  | _ => ("OldLight$Figure", "v", "I", true)
def tyX20 : Nat → FieldType := fun k => match k with
  | _ => .int
abbrev wsX200 : List Cond := u_ws RX20 TX20 1
theorem nmX20 : ∀ a, a < 1 → ∀ b, b < 1 → a ≠ b → (TX20 a).2.1 ≠ (TX20 b).2.1 := by decide +kernel
theorem tyX20_ok : ∀ k, k < 1 → parseFieldDescriptor (TX20 k).2.2.1 = some (tyX20 k) := by decide +kernel
abbrev cX20_value : ByteArray := prog_8_method_2_code
def yX20_value : MethodName := ⟨RX20, "value", "(LOldLight$Facts;)I"⟩
theorem dX20_value_0 : decode cX20_value 0 = .ok (.aload_n 0, 1) := by decide +kernel
theorem dX20_value_1 : decode cX20_value 1 = .ok (.getfield 7, 3) := by decide +kernel
theorem dX20_value_4 : decode cX20_value 4 = .ok (.ireturn, 1) := by decide +kernel
abbrev cX20_init : ByteArray := prog_8_method_1_code
def yX20_init : MethodName := ⟨RX20, "<init>", "(I)V"⟩
def dkwX20_init_0 : List UInt8 := [42, 183, 0, 1, 42, 27, 181, 0, 7, 177]
abbrev dktX20_init_0 : List UInt8 := dkwX20_init_0 ++ []
theorem dksX20_init_0 : cX20_init.data.toList.drop 0 = dktX20_init_0 := by decide +kernel
theorem dX20_init_0 : decode cX20_init 0 = .ok (.aload_n 0, 1) := dk_42 (dk_at dksX20_init_0 0 rfl rfl)
theorem dX20_init_1 : decode cX20_init 1 = .ok (.invokespecial 1, 3) := dk_183 0 1 (dk_at dksX20_init_0 1 rfl rfl)
theorem dX20_init_4 : decode cX20_init 4 = .ok (.aload_n 0, 1) := dk_42 (dk_at dksX20_init_0 4 rfl rfl)
theorem dX20_init_5 : decode cX20_init 5 = .ok (.iload_n 1, 1) := dk_27 (dk_at dksX20_init_0 5 rfl rfl)
theorem dX20_init_6 : decode cX20_init 6 = .ok (.putfield 7, 3) := dk_181 0 7 (dk_at dksX20_init_0 6 rfl rfl)
theorem dX20_init_9 : decode cX20_init 9 = .ok (.return_, 1) := dk_177 (dk_at dksX20_init_0 9 rfl rfl)
theorem q103 : (Jvm.Cond.initialized "OldLight$Figure") ∈ lw_all := lw_g (lw_at lw_m1 30 rfl) rfl
theorem q402 : (Jvm.Cond.selects "OldLight$Figure" ({ cls := "OldLight$Term", name := "value", desc := "(LOldLight$Facts;)I" } : Jvm.MethodName) ({ cls := "OldLight$Figure", name := "value", desc := "(LOldLight$Facts;)I" } : Jvm.MethodName)) ∈ lw_all := lw_g (lw_at lw_m2 89 rfl) rfl
theorem q403 : (Jvm.Cond.instanceMethod ({ cls := "OldLight$Figure", name := "value", desc := "(LOldLight$Facts;)I" } : Jvm.MethodName)) ∈ lw_all := lw_g (lw_at lw_m2 90 rfl) rfl
theorem q404 : (Jvm.Cond.code ({ cls := "OldLight$Figure", name := "value", desc := "(LOldLight$Facts;)I" } : Jvm.MethodName) prog_8_method_2_code (2 : Nat) (Option.some Jvm.ClassFile.FieldType.int)) ∈ lw_all := lw_g (lw_at lw_m2 91 rfl) rfl
theorem q875 : (Jvm.Cond.instantiable "OldLight$Figure" (1 : Nat)) ∈ lw_all := lw_g (lw_at lw_m4 82 rfl) rfl
theorem q877 : (Jvm.Cond.instanceMethod ({ cls := "OldLight$Figure", name := "<init>", desc := "(I)V" } : Jvm.MethodName)) ∈ lw_all := lw_g (lw_at lw_m4 84 rfl) rfl
theorem q878 : (Jvm.Cond.code ({ cls := "OldLight$Figure", name := "<init>", desc := "(I)V" } : Jvm.MethodName) prog_8_method_1_code (2 : Nat) (Option.none : Option Jvm.ClassFile.FieldType)) ∈ lw_all := lw_g (lw_at lw_m4 85 rfl) rfl
theorem q879 : (Jvm.Cond.methodLinkNest "OldLight$Figure" (1 : Nat) ({ cls := "OldLight$Term", name := "<init>", desc := "()V" } : Jvm.MethodName) "OldLight") ∈ lw_tbl := lw_at lw_m4 86 rfl
theorem q880 : (Jvm.Cond.fieldLink "OldLight$Figure" (7 : Nat) "OldLight$Figure" "v" "I") ∈ lw_all := lw_g (lw_at lw_m4 87 rfl) rfl
theorem q881 : (Jvm.Cond.laysFinal "OldLight$Figure" "OldLight$Figure" "v" "I") ∈ lw_all := lw_g (lw_at lw_m4 88 rfl) rfl
theorem q882 : (Jvm.Cond.soleField "OldLight$Figure" "v") ∈ lw_all := lw_g (lw_at lw_m4 89 rfl) rfl
theorem q883 : (Jvm.Cond.superclass "OldLight$Figure" "OldLight$Term") ∈ lw_all := lw_g (lw_at lw_m4 90 rfl) rfl
theorem q1918 : (Jvm.Cond.castable "OldLight$Figure" "OldLight$Term") ∈ lw_tbl := lw_at lw_m8 165 rfl
theorem in_X20 : ∀ w ∈ wsX200, w ∈ lw_all := lw_in wsX200 [881] (by decide +kernel) (by decide +kernel)
/-! java/lang/Integer -/
set_option maxRecDepth 100000
def RJ9 : String := "java/lang/Integer"
abbrev cJ9_numberOfTrailingZeros : ByteArray := prog_33_method_48_code
def yJ9_numberOfTrailingZeros : MethodName := ⟨RJ9, "numberOfTrailingZeros", "(I)I"⟩
def dkwJ9_numberOfTrailingZeros_3 : List UInt8 := [5, 124, 59, 27, 26, 4, 124, 96, 172]
abbrev dktJ9_numberOfTrailingZeros_3 : List UInt8 := dkwJ9_numberOfTrailingZeros_3 ++ []
def dkwJ9_numberOfTrailingZeros_2 : List UInt8 := [124, 59, 26, 16, 16, 164, 0, 10, 132, 1, 4, 26, 7, 124, 59, 26, 7, 164, 0, 10, 132, 1, 2, 26]
abbrev dktJ9_numberOfTrailingZeros_2 : List UInt8 := dkwJ9_numberOfTrailingZeros_2 ++ dktJ9_numberOfTrailingZeros_3
def dkwJ9_numberOfTrailingZeros_1 : List UInt8 := [164, 0, 11, 132, 1, 16, 26, 16, 16, 124, 59, 26, 17, 1, 0, 164, 0, 11, 132, 1, 8, 26, 16, 8]
abbrev dktJ9_numberOfTrailingZeros_1 : List UInt8 := dkwJ9_numberOfTrailingZeros_1 ++ dktJ9_numberOfTrailingZeros_2
def dkwJ9_numberOfTrailingZeros_0 : List UInt8 := [26, 2, 130, 26, 4, 100, 126, 59, 26, 157, 0, 8, 26, 16, 32, 126, 172, 4, 60, 26, 19, 1, 8]
abbrev dktJ9_numberOfTrailingZeros_0 : List UInt8 := dkwJ9_numberOfTrailingZeros_0 ++ dktJ9_numberOfTrailingZeros_1
theorem dksJ9_numberOfTrailingZeros_0 : cJ9_numberOfTrailingZeros.data.toList.drop 0 = dktJ9_numberOfTrailingZeros_0 := by decide +kernel
theorem dksJ9_numberOfTrailingZeros_1 : cJ9_numberOfTrailingZeros.data.toList.drop 23 = dktJ9_numberOfTrailingZeros_1 := dk_seg dksJ9_numberOfTrailingZeros_0 23 rfl rfl
theorem dksJ9_numberOfTrailingZeros_2 : cJ9_numberOfTrailingZeros.data.toList.drop 47 = dktJ9_numberOfTrailingZeros_2 := dk_seg dksJ9_numberOfTrailingZeros_1 24 rfl rfl
theorem dksJ9_numberOfTrailingZeros_3 : cJ9_numberOfTrailingZeros.data.toList.drop 71 = dktJ9_numberOfTrailingZeros_3 := dk_seg dksJ9_numberOfTrailingZeros_2 24 rfl rfl
theorem dJ9_numberOfTrailingZeros_0 : decode cJ9_numberOfTrailingZeros 0 = .ok (.iload_n 0, 1) := dk_26 (dk_at dksJ9_numberOfTrailingZeros_0 0 rfl rfl)
theorem dJ9_numberOfTrailingZeros_1 : decode cJ9_numberOfTrailingZeros 1 = .ok (.iconst (-1), 1) := dk_2 (dk_at dksJ9_numberOfTrailingZeros_0 1 rfl rfl)
theorem dJ9_numberOfTrailingZeros_2 : decode cJ9_numberOfTrailingZeros 2 = .ok (.ixor, 1) := dk_130 (dk_at dksJ9_numberOfTrailingZeros_0 2 rfl rfl)
theorem dJ9_numberOfTrailingZeros_3 : decode cJ9_numberOfTrailingZeros 3 = .ok (.iload_n 0, 1) := dk_26 (dk_at dksJ9_numberOfTrailingZeros_0 3 rfl rfl)
theorem dJ9_numberOfTrailingZeros_4 : decode cJ9_numberOfTrailingZeros 4 = .ok (.iconst 1, 1) := dk_4 (dk_at dksJ9_numberOfTrailingZeros_0 4 rfl rfl)
theorem dJ9_numberOfTrailingZeros_5 : decode cJ9_numberOfTrailingZeros 5 = .ok (.isub, 1) := dk_100 (dk_at dksJ9_numberOfTrailingZeros_0 5 rfl rfl)
theorem dJ9_numberOfTrailingZeros_6 : decode cJ9_numberOfTrailingZeros 6 = .ok (.iand, 1) := dk_126 (dk_at dksJ9_numberOfTrailingZeros_0 6 rfl rfl)
theorem dJ9_numberOfTrailingZeros_7 : decode cJ9_numberOfTrailingZeros 7 = .ok (.istore_n 0, 1) := dk_59 (dk_at dksJ9_numberOfTrailingZeros_0 7 rfl rfl)
theorem dJ9_numberOfTrailingZeros_8 : decode cJ9_numberOfTrailingZeros 8 = .ok (.iload_n 0, 1) := dk_26 (dk_at dksJ9_numberOfTrailingZeros_0 8 rfl rfl)
theorem dJ9_numberOfTrailingZeros_9 : decode cJ9_numberOfTrailingZeros 9 = .ok (.ifCond .gt 8, 3) := dk_157 0 8 (dk_at dksJ9_numberOfTrailingZeros_0 9 rfl rfl)
theorem dJ9_numberOfTrailingZeros_12 : decode cJ9_numberOfTrailingZeros 12 = .ok (.iload_n 0, 1) := dk_26 (dk_at dksJ9_numberOfTrailingZeros_0 12 rfl rfl)
theorem dJ9_numberOfTrailingZeros_13 : decode cJ9_numberOfTrailingZeros 13 = .ok (.bipush 32, 2) := dk_16 32 (dk_at dksJ9_numberOfTrailingZeros_0 13 rfl rfl)
theorem dJ9_numberOfTrailingZeros_15 : decode cJ9_numberOfTrailingZeros 15 = .ok (.iand, 1) := dk_126 (dk_at dksJ9_numberOfTrailingZeros_0 15 rfl rfl)
theorem dJ9_numberOfTrailingZeros_16 : decode cJ9_numberOfTrailingZeros 16 = .ok (.ireturn, 1) := dk_172 (dk_at dksJ9_numberOfTrailingZeros_0 16 rfl rfl)
theorem dJ9_numberOfTrailingZeros_17 : decode cJ9_numberOfTrailingZeros 17 = .ok (.iconst 1, 1) := dk_4 (dk_at dksJ9_numberOfTrailingZeros_0 17 rfl rfl)
theorem dJ9_numberOfTrailingZeros_18 : decode cJ9_numberOfTrailingZeros 18 = .ok (.istore_n 1, 1) := dk_60 (dk_at dksJ9_numberOfTrailingZeros_0 18 rfl rfl)
theorem dJ9_numberOfTrailingZeros_19 : decode cJ9_numberOfTrailingZeros 19 = .ok (.iload_n 0, 1) := dk_26 (dk_at dksJ9_numberOfTrailingZeros_0 19 rfl rfl)
theorem dJ9_numberOfTrailingZeros_20 : decode cJ9_numberOfTrailingZeros 20 = .ok (.ldc_w 264, 3) := dk_19 1 8 (dk_at dksJ9_numberOfTrailingZeros_0 20 rfl rfl)
theorem dJ9_numberOfTrailingZeros_23 : decode cJ9_numberOfTrailingZeros 23 = .ok (.if_icmp .le 11, 3) := dk_164 0 11 (dk_at dksJ9_numberOfTrailingZeros_1 0 rfl rfl)
theorem dJ9_numberOfTrailingZeros_26 : decode cJ9_numberOfTrailingZeros 26 = .ok (.iinc 1 16, 3) := dk_132 1 16 (dk_at dksJ9_numberOfTrailingZeros_1 3 rfl rfl)
theorem dJ9_numberOfTrailingZeros_29 : decode cJ9_numberOfTrailingZeros 29 = .ok (.iload_n 0, 1) := dk_26 (dk_at dksJ9_numberOfTrailingZeros_1 6 rfl rfl)
theorem dJ9_numberOfTrailingZeros_30 : decode cJ9_numberOfTrailingZeros 30 = .ok (.bipush 16, 2) := dk_16 16 (dk_at dksJ9_numberOfTrailingZeros_1 7 rfl rfl)
theorem dJ9_numberOfTrailingZeros_32 : decode cJ9_numberOfTrailingZeros 32 = .ok (.iushr, 1) := dk_124 (dk_at dksJ9_numberOfTrailingZeros_1 9 rfl rfl)
theorem dJ9_numberOfTrailingZeros_33 : decode cJ9_numberOfTrailingZeros 33 = .ok (.istore_n 0, 1) := dk_59 (dk_at dksJ9_numberOfTrailingZeros_1 10 rfl rfl)
theorem dJ9_numberOfTrailingZeros_34 : decode cJ9_numberOfTrailingZeros 34 = .ok (.iload_n 0, 1) := dk_26 (dk_at dksJ9_numberOfTrailingZeros_1 11 rfl rfl)
theorem dJ9_numberOfTrailingZeros_35 : decode cJ9_numberOfTrailingZeros 35 = .ok (.sipush 256, 3) := dk_17 1 0 (dk_at dksJ9_numberOfTrailingZeros_1 12 rfl rfl)
theorem dJ9_numberOfTrailingZeros_38 : decode cJ9_numberOfTrailingZeros 38 = .ok (.if_icmp .le 11, 3) := dk_164 0 11 (dk_at dksJ9_numberOfTrailingZeros_1 15 rfl rfl)
theorem dJ9_numberOfTrailingZeros_41 : decode cJ9_numberOfTrailingZeros 41 = .ok (.iinc 1 8, 3) := dk_132 1 8 (dk_at dksJ9_numberOfTrailingZeros_1 18 rfl rfl)
theorem dJ9_numberOfTrailingZeros_44 : decode cJ9_numberOfTrailingZeros 44 = .ok (.iload_n 0, 1) := dk_26 (dk_at dksJ9_numberOfTrailingZeros_1 21 rfl rfl)
theorem dJ9_numberOfTrailingZeros_45 : decode cJ9_numberOfTrailingZeros 45 = .ok (.bipush 8, 2) := dk_16 8 (dk_at dksJ9_numberOfTrailingZeros_1 22 rfl rfl)
theorem dJ9_numberOfTrailingZeros_47 : decode cJ9_numberOfTrailingZeros 47 = .ok (.iushr, 1) := dk_124 (dk_at dksJ9_numberOfTrailingZeros_2 0 rfl rfl)
theorem dJ9_numberOfTrailingZeros_48 : decode cJ9_numberOfTrailingZeros 48 = .ok (.istore_n 0, 1) := dk_59 (dk_at dksJ9_numberOfTrailingZeros_2 1 rfl rfl)
theorem dJ9_numberOfTrailingZeros_49 : decode cJ9_numberOfTrailingZeros 49 = .ok (.iload_n 0, 1) := dk_26 (dk_at dksJ9_numberOfTrailingZeros_2 2 rfl rfl)
theorem dJ9_numberOfTrailingZeros_50 : decode cJ9_numberOfTrailingZeros 50 = .ok (.bipush 16, 2) := dk_16 16 (dk_at dksJ9_numberOfTrailingZeros_2 3 rfl rfl)
theorem dJ9_numberOfTrailingZeros_52 : decode cJ9_numberOfTrailingZeros 52 = .ok (.if_icmp .le 10, 3) := dk_164 0 10 (dk_at dksJ9_numberOfTrailingZeros_2 5 rfl rfl)
theorem dJ9_numberOfTrailingZeros_55 : decode cJ9_numberOfTrailingZeros 55 = .ok (.iinc 1 4, 3) := dk_132 1 4 (dk_at dksJ9_numberOfTrailingZeros_2 8 rfl rfl)
theorem dJ9_numberOfTrailingZeros_58 : decode cJ9_numberOfTrailingZeros 58 = .ok (.iload_n 0, 1) := dk_26 (dk_at dksJ9_numberOfTrailingZeros_2 11 rfl rfl)
theorem dJ9_numberOfTrailingZeros_59 : decode cJ9_numberOfTrailingZeros 59 = .ok (.iconst 4, 1) := dk_7 (dk_at dksJ9_numberOfTrailingZeros_2 12 rfl rfl)
theorem dJ9_numberOfTrailingZeros_60 : decode cJ9_numberOfTrailingZeros 60 = .ok (.iushr, 1) := dk_124 (dk_at dksJ9_numberOfTrailingZeros_2 13 rfl rfl)
theorem dJ9_numberOfTrailingZeros_61 : decode cJ9_numberOfTrailingZeros 61 = .ok (.istore_n 0, 1) := dk_59 (dk_at dksJ9_numberOfTrailingZeros_2 14 rfl rfl)
theorem dJ9_numberOfTrailingZeros_62 : decode cJ9_numberOfTrailingZeros 62 = .ok (.iload_n 0, 1) := dk_26 (dk_at dksJ9_numberOfTrailingZeros_2 15 rfl rfl)
theorem dJ9_numberOfTrailingZeros_63 : decode cJ9_numberOfTrailingZeros 63 = .ok (.iconst 4, 1) := dk_7 (dk_at dksJ9_numberOfTrailingZeros_2 16 rfl rfl)
theorem dJ9_numberOfTrailingZeros_64 : decode cJ9_numberOfTrailingZeros 64 = .ok (.if_icmp .le 10, 3) := dk_164 0 10 (dk_at dksJ9_numberOfTrailingZeros_2 17 rfl rfl)
theorem dJ9_numberOfTrailingZeros_67 : decode cJ9_numberOfTrailingZeros 67 = .ok (.iinc 1 2, 3) := dk_132 1 2 (dk_at dksJ9_numberOfTrailingZeros_2 20 rfl rfl)
theorem dJ9_numberOfTrailingZeros_70 : decode cJ9_numberOfTrailingZeros 70 = .ok (.iload_n 0, 1) := dk_26 (dk_at dksJ9_numberOfTrailingZeros_2 23 rfl rfl)
theorem dJ9_numberOfTrailingZeros_71 : decode cJ9_numberOfTrailingZeros 71 = .ok (.iconst 2, 1) := dk_5 (dk_at dksJ9_numberOfTrailingZeros_3 0 rfl rfl)
theorem dJ9_numberOfTrailingZeros_72 : decode cJ9_numberOfTrailingZeros 72 = .ok (.iushr, 1) := dk_124 (dk_at dksJ9_numberOfTrailingZeros_3 1 rfl rfl)
theorem dJ9_numberOfTrailingZeros_73 : decode cJ9_numberOfTrailingZeros 73 = .ok (.istore_n 0, 1) := dk_59 (dk_at dksJ9_numberOfTrailingZeros_3 2 rfl rfl)
theorem dJ9_numberOfTrailingZeros_74 : decode cJ9_numberOfTrailingZeros 74 = .ok (.iload_n 1, 1) := dk_27 (dk_at dksJ9_numberOfTrailingZeros_3 3 rfl rfl)
theorem dJ9_numberOfTrailingZeros_75 : decode cJ9_numberOfTrailingZeros 75 = .ok (.iload_n 0, 1) := dk_26 (dk_at dksJ9_numberOfTrailingZeros_3 4 rfl rfl)
theorem dJ9_numberOfTrailingZeros_76 : decode cJ9_numberOfTrailingZeros 76 = .ok (.iconst 1, 1) := dk_4 (dk_at dksJ9_numberOfTrailingZeros_3 5 rfl rfl)
theorem dJ9_numberOfTrailingZeros_77 : decode cJ9_numberOfTrailingZeros 77 = .ok (.iushr, 1) := dk_124 (dk_at dksJ9_numberOfTrailingZeros_3 6 rfl rfl)
theorem dJ9_numberOfTrailingZeros_78 : decode cJ9_numberOfTrailingZeros 78 = .ok (.iadd, 1) := dk_96 (dk_at dksJ9_numberOfTrailingZeros_3 7 rfl rfl)
theorem dJ9_numberOfTrailingZeros_79 : decode cJ9_numberOfTrailingZeros 79 = .ok (.ireturn, 1) := dk_172 (dk_at dksJ9_numberOfTrailingZeros_3 8 rfl rfl)
abbrev cJ9_bitCount : ByteArray := prog_33_method_49_code
def yJ9_bitCount : MethodName := ⟨RJ9, "bitCount", "(I)I"⟩
def dkwJ9_bitCount_2 : List UInt8 := [26, 16, 63, 126, 172]
abbrev dktJ9_bitCount_2 : List UInt8 := dkwJ9_bitCount_2 ++ []
def dkwJ9_bitCount_1 : List UInt8 := [26, 26, 7, 124, 96, 19, 1, 11, 126, 59, 26, 26, 16, 8, 124, 96, 59, 26, 26, 16, 16, 124, 96, 59]
abbrev dktJ9_bitCount_1 : List UInt8 := dkwJ9_bitCount_1 ++ dktJ9_bitCount_2
def dkwJ9_bitCount_0 : List UInt8 := [26, 26, 4, 124, 19, 1, 9, 126, 100, 59, 26, 19, 1, 10, 126, 26, 5, 124, 19, 1, 10, 126, 96, 59]
abbrev dktJ9_bitCount_0 : List UInt8 := dkwJ9_bitCount_0 ++ dktJ9_bitCount_1
theorem dksJ9_bitCount_0 : cJ9_bitCount.data.toList.drop 0 = dktJ9_bitCount_0 := by decide +kernel
theorem dksJ9_bitCount_1 : cJ9_bitCount.data.toList.drop 24 = dktJ9_bitCount_1 := dk_seg dksJ9_bitCount_0 24 rfl rfl
theorem dksJ9_bitCount_2 : cJ9_bitCount.data.toList.drop 48 = dktJ9_bitCount_2 := dk_seg dksJ9_bitCount_1 24 rfl rfl
theorem dJ9_bitCount_0 : decode cJ9_bitCount 0 = .ok (.iload_n 0, 1) := dk_26 (dk_at dksJ9_bitCount_0 0 rfl rfl)
theorem dJ9_bitCount_1 : decode cJ9_bitCount 1 = .ok (.iload_n 0, 1) := dk_26 (dk_at dksJ9_bitCount_0 1 rfl rfl)
theorem dJ9_bitCount_2 : decode cJ9_bitCount 2 = .ok (.iconst 1, 1) := dk_4 (dk_at dksJ9_bitCount_0 2 rfl rfl)
theorem dJ9_bitCount_3 : decode cJ9_bitCount 3 = .ok (.iushr, 1) := dk_124 (dk_at dksJ9_bitCount_0 3 rfl rfl)
theorem dJ9_bitCount_4 : decode cJ9_bitCount 4 = .ok (.ldc_w 265, 3) := dk_19 1 9 (dk_at dksJ9_bitCount_0 4 rfl rfl)
theorem dJ9_bitCount_7 : decode cJ9_bitCount 7 = .ok (.iand, 1) := dk_126 (dk_at dksJ9_bitCount_0 7 rfl rfl)
theorem dJ9_bitCount_8 : decode cJ9_bitCount 8 = .ok (.isub, 1) := dk_100 (dk_at dksJ9_bitCount_0 8 rfl rfl)
theorem dJ9_bitCount_9 : decode cJ9_bitCount 9 = .ok (.istore_n 0, 1) := dk_59 (dk_at dksJ9_bitCount_0 9 rfl rfl)
theorem dJ9_bitCount_10 : decode cJ9_bitCount 10 = .ok (.iload_n 0, 1) := dk_26 (dk_at dksJ9_bitCount_0 10 rfl rfl)
theorem dJ9_bitCount_11 : decode cJ9_bitCount 11 = .ok (.ldc_w 266, 3) := dk_19 1 10 (dk_at dksJ9_bitCount_0 11 rfl rfl)
theorem dJ9_bitCount_14 : decode cJ9_bitCount 14 = .ok (.iand, 1) := dk_126 (dk_at dksJ9_bitCount_0 14 rfl rfl)
theorem dJ9_bitCount_15 : decode cJ9_bitCount 15 = .ok (.iload_n 0, 1) := dk_26 (dk_at dksJ9_bitCount_0 15 rfl rfl)
theorem dJ9_bitCount_16 : decode cJ9_bitCount 16 = .ok (.iconst 2, 1) := dk_5 (dk_at dksJ9_bitCount_0 16 rfl rfl)
theorem dJ9_bitCount_17 : decode cJ9_bitCount 17 = .ok (.iushr, 1) := dk_124 (dk_at dksJ9_bitCount_0 17 rfl rfl)
theorem dJ9_bitCount_18 : decode cJ9_bitCount 18 = .ok (.ldc_w 266, 3) := dk_19 1 10 (dk_at dksJ9_bitCount_0 18 rfl rfl)
theorem dJ9_bitCount_21 : decode cJ9_bitCount 21 = .ok (.iand, 1) := dk_126 (dk_at dksJ9_bitCount_0 21 rfl rfl)
theorem dJ9_bitCount_22 : decode cJ9_bitCount 22 = .ok (.iadd, 1) := dk_96 (dk_at dksJ9_bitCount_0 22 rfl rfl)
theorem dJ9_bitCount_23 : decode cJ9_bitCount 23 = .ok (.istore_n 0, 1) := dk_59 (dk_at dksJ9_bitCount_0 23 rfl rfl)
theorem dJ9_bitCount_24 : decode cJ9_bitCount 24 = .ok (.iload_n 0, 1) := dk_26 (dk_at dksJ9_bitCount_1 0 rfl rfl)
theorem dJ9_bitCount_25 : decode cJ9_bitCount 25 = .ok (.iload_n 0, 1) := dk_26 (dk_at dksJ9_bitCount_1 1 rfl rfl)
theorem dJ9_bitCount_26 : decode cJ9_bitCount 26 = .ok (.iconst 4, 1) := dk_7 (dk_at dksJ9_bitCount_1 2 rfl rfl)
theorem dJ9_bitCount_27 : decode cJ9_bitCount 27 = .ok (.iushr, 1) := dk_124 (dk_at dksJ9_bitCount_1 3 rfl rfl)
theorem dJ9_bitCount_28 : decode cJ9_bitCount 28 = .ok (.iadd, 1) := dk_96 (dk_at dksJ9_bitCount_1 4 rfl rfl)
theorem dJ9_bitCount_29 : decode cJ9_bitCount 29 = .ok (.ldc_w 267, 3) := dk_19 1 11 (dk_at dksJ9_bitCount_1 5 rfl rfl)
theorem dJ9_bitCount_32 : decode cJ9_bitCount 32 = .ok (.iand, 1) := dk_126 (dk_at dksJ9_bitCount_1 8 rfl rfl)
theorem dJ9_bitCount_33 : decode cJ9_bitCount 33 = .ok (.istore_n 0, 1) := dk_59 (dk_at dksJ9_bitCount_1 9 rfl rfl)
theorem dJ9_bitCount_34 : decode cJ9_bitCount 34 = .ok (.iload_n 0, 1) := dk_26 (dk_at dksJ9_bitCount_1 10 rfl rfl)
theorem dJ9_bitCount_35 : decode cJ9_bitCount 35 = .ok (.iload_n 0, 1) := dk_26 (dk_at dksJ9_bitCount_1 11 rfl rfl)
theorem dJ9_bitCount_36 : decode cJ9_bitCount 36 = .ok (.bipush 8, 2) := dk_16 8 (dk_at dksJ9_bitCount_1 12 rfl rfl)
theorem dJ9_bitCount_38 : decode cJ9_bitCount 38 = .ok (.iushr, 1) := dk_124 (dk_at dksJ9_bitCount_1 14 rfl rfl)
theorem dJ9_bitCount_39 : decode cJ9_bitCount 39 = .ok (.iadd, 1) := dk_96 (dk_at dksJ9_bitCount_1 15 rfl rfl)
theorem dJ9_bitCount_40 : decode cJ9_bitCount 40 = .ok (.istore_n 0, 1) := dk_59 (dk_at dksJ9_bitCount_1 16 rfl rfl)
theorem dJ9_bitCount_41 : decode cJ9_bitCount 41 = .ok (.iload_n 0, 1) := dk_26 (dk_at dksJ9_bitCount_1 17 rfl rfl)
theorem dJ9_bitCount_42 : decode cJ9_bitCount 42 = .ok (.iload_n 0, 1) := dk_26 (dk_at dksJ9_bitCount_1 18 rfl rfl)
theorem dJ9_bitCount_43 : decode cJ9_bitCount 43 = .ok (.bipush 16, 2) := dk_16 16 (dk_at dksJ9_bitCount_1 19 rfl rfl)
theorem dJ9_bitCount_45 : decode cJ9_bitCount 45 = .ok (.iushr, 1) := dk_124 (dk_at dksJ9_bitCount_1 21 rfl rfl)
theorem dJ9_bitCount_46 : decode cJ9_bitCount 46 = .ok (.iadd, 1) := dk_96 (dk_at dksJ9_bitCount_1 22 rfl rfl)
theorem dJ9_bitCount_47 : decode cJ9_bitCount 47 = .ok (.istore_n 0, 1) := dk_59 (dk_at dksJ9_bitCount_1 23 rfl rfl)
theorem dJ9_bitCount_48 : decode cJ9_bitCount 48 = .ok (.iload_n 0, 1) := dk_26 (dk_at dksJ9_bitCount_2 0 rfl rfl)
theorem dJ9_bitCount_49 : decode cJ9_bitCount 49 = .ok (.bipush 63, 2) := dk_16 63 (dk_at dksJ9_bitCount_2 1 rfl rfl)
theorem dJ9_bitCount_51 : decode cJ9_bitCount 51 = .ok (.iand, 1) := dk_126 (dk_at dksJ9_bitCount_2 3 rfl rfl)
theorem dJ9_bitCount_52 : decode cJ9_bitCount 52 = .ok (.ireturn, 1) := dk_172 (dk_at dksJ9_bitCount_2 4 rfl rfl)
theorem q105 : (Jvm.Cond.initialized "java/lang/Integer") ∈ lw_all := lw_g (lw_at lw_m1 32 rfl) rfl
theorem q986 : (Jvm.Cond.static ({ cls := "java/lang/Integer", name := "numberOfTrailingZeros", desc := "(I)I" } : Jvm.MethodName)) ∈ lw_all := lw_g (lw_at lw_m4 193 rfl) rfl
theorem q987 : (Jvm.Cond.code ({ cls := "java/lang/Integer", name := "numberOfTrailingZeros", desc := "(I)I" } : Jvm.MethodName) prog_33_method_48_code (2 : Nat) (Option.some Jvm.ClassFile.FieldType.int)) ∈ lw_all := lw_g (lw_at lw_m4 194 rfl) rfl
theorem q988 : (Jvm.Cond.constant "java/lang/Integer" (264 : Nat) (65536 : Int32)) ∈ lw_all := lw_g (lw_at lw_m4 195 rfl) rfl
theorem q1051 : (Jvm.Cond.static ({ cls := "java/lang/Integer", name := "bitCount", desc := "(I)I" } : Jvm.MethodName)) ∈ lw_all := lw_g (lw_at lw_m5 18 rfl) rfl
theorem q1052 : (Jvm.Cond.code ({ cls := "java/lang/Integer", name := "bitCount", desc := "(I)I" } : Jvm.MethodName) prog_33_method_49_code (1 : Nat) (Option.some Jvm.ClassFile.FieldType.int)) ∈ lw_all := lw_g (lw_at lw_m5 19 rfl) rfl
theorem q1053 : (Jvm.Cond.constant "java/lang/Integer" (265 : Nat) (1431655765 : Int32)) ∈ lw_all := lw_g (lw_at lw_m5 20 rfl) rfl
theorem q1054 : (Jvm.Cond.constant "java/lang/Integer" (266 : Nat) (858993459 : Int32)) ∈ lw_all := lw_g (lw_at lw_m5 21 rfl) rfl
theorem q1055 : (Jvm.Cond.constant "java/lang/Integer" (267 : Nat) (252645135 : Int32)) ∈ lw_all := lw_g (lw_at lw_m5 22 rfl) rfl
/-! OldLight$Sheet -/
set_option maxRecDepth 100000
def RX21 : String := "OldLight$Sheet"
abbrev cX21_init : ByteArray := prog_17_method_1_code
def yX21_init : MethodName := ⟨RX21, "<init>", "()V"⟩
theorem dX21_init_0 : decode cX21_init 0 = .ok (.aload_n 0, 1) := by decide +kernel
theorem dX21_init_1 : decode cX21_init 1 = .ok (.invokespecial 1, 3) := by decide +kernel
theorem dX21_init_4 : decode cX21_init 4 = .ok (.return_, 1) := by decide +kernel
abbrev cX21_row : ByteArray := prog_17_method_6_code
def yX21_row : MethodName := ⟨RX21, "row", "()[I"⟩
def dkwX21_row_1 : List UInt8 := [132, 2, 1, 167, 255, 239, 43, 176]
abbrev dktX21_row_1 : List UInt8 := dkwX21_row_1 ++ []
def dkwX21_row_0 : List UInt8 := [42, 182, 0, 7, 188, 10, 76, 3, 61, 28, 43, 190, 162, 0, 17, 43, 28, 42, 28, 182, 0, 13, 79]
abbrev dktX21_row_0 : List UInt8 := dkwX21_row_0 ++ dktX21_row_1
theorem dksX21_row_0 : cX21_row.data.toList.drop 0 = dktX21_row_0 := by decide +kernel
theorem dksX21_row_1 : cX21_row.data.toList.drop 23 = dktX21_row_1 := dk_seg dksX21_row_0 23 rfl rfl
theorem dX21_row_0 : decode cX21_row 0 = .ok (.aload_n 0, 1) := dk_42 (dk_at dksX21_row_0 0 rfl rfl)
theorem dX21_row_1 : decode cX21_row 1 = .ok (.invokevirtual 7, 3) := dk_182 0 7 (dk_at dksX21_row_0 1 rfl rfl)
theorem dX21_row_4 : decode cX21_row 4 = .ok (.newarray .int, 2) := dk_188_10 (dk_at dksX21_row_0 4 rfl rfl)
theorem dX21_row_6 : decode cX21_row 6 = .ok (.astore_n 1, 1) := dk_76 (dk_at dksX21_row_0 6 rfl rfl)
theorem dX21_row_7 : decode cX21_row 7 = .ok (.iconst 0, 1) := dk_3 (dk_at dksX21_row_0 7 rfl rfl)
theorem dX21_row_8 : decode cX21_row 8 = .ok (.istore_n 2, 1) := dk_61 (dk_at dksX21_row_0 8 rfl rfl)
theorem dX21_row_9 : decode cX21_row 9 = .ok (.iload_n 2, 1) := dk_28 (dk_at dksX21_row_0 9 rfl rfl)
theorem dX21_row_10 : decode cX21_row 10 = .ok (.aload_n 1, 1) := dk_43 (dk_at dksX21_row_0 10 rfl rfl)
theorem dX21_row_11 : decode cX21_row 11 = .ok (.arraylength, 1) := dk_190 (dk_at dksX21_row_0 11 rfl rfl)
theorem dX21_row_12 : decode cX21_row 12 = .ok (.if_icmp .ge 17, 3) := dk_162 0 17 (dk_at dksX21_row_0 12 rfl rfl)
theorem dX21_row_15 : decode cX21_row 15 = .ok (.aload_n 1, 1) := dk_43 (dk_at dksX21_row_0 15 rfl rfl)
theorem dX21_row_16 : decode cX21_row 16 = .ok (.iload_n 2, 1) := dk_28 (dk_at dksX21_row_0 16 rfl rfl)
theorem dX21_row_17 : decode cX21_row 17 = .ok (.aload_n 0, 1) := dk_42 (dk_at dksX21_row_0 17 rfl rfl)
theorem dX21_row_18 : decode cX21_row 18 = .ok (.iload_n 2, 1) := dk_28 (dk_at dksX21_row_0 18 rfl rfl)
theorem dX21_row_19 : decode cX21_row 19 = .ok (.invokevirtual 13, 3) := dk_182 0 13 (dk_at dksX21_row_0 19 rfl rfl)
theorem dX21_row_22 : decode cX21_row 22 = .ok (.iastore, 1) := dk_79 (dk_at dksX21_row_0 22 rfl rfl)
theorem dX21_row_23 : decode cX21_row 23 = .ok (.iinc 2 1, 3) := dk_132 2 1 (dk_at dksX21_row_1 0 rfl rfl)
theorem dX21_row_26 : decode cX21_row 26 = .ok (.goto (-17), 3) := dk_167 255 239 (dk_at dksX21_row_1 3 rfl rfl)
theorem dX21_row_29 : decode cX21_row 29 = .ok (.aload_n 1, 1) := dk_43 (dk_at dksX21_row_1 6 rfl rfl)
theorem dX21_row_30 : decode cX21_row 30 = .ok (.areturn, 1) := dk_176 (dk_at dksX21_row_1 7 rfl rfl)
theorem q106 : (Jvm.Cond.initialized "OldLight$Sheet") ∈ lw_all := lw_g (lw_at lw_m1 33 rfl) rfl
theorem q1015 : (Jvm.Cond.declares ({ cls := "OldLight$Sheet", name := "size", desc := "()I" } : Jvm.MethodName)) ∈ lw_tbl := lw_at lw_m4 222 rfl
theorem q1016 : (Jvm.Cond.sameMethod "OldLight$Sheet" "OldLight$Sheet" "size" "()I") ∈ lw_all := lw_g (lw_at lw_m4 223 rfl) rfl
theorem q1031 : (Jvm.Cond.declares ({ cls := "OldLight$Sheet", name := "get", desc := "(I)I" } : Jvm.MethodName)) ∈ lw_tbl := lw_at lw_m4 238 rfl
theorem q1032 : (Jvm.Cond.sameMethod "OldLight$Sheet" "OldLight$Sheet" "get" "(I)I") ∈ lw_all := lw_g (lw_at lw_m4 239 rfl) rfl
theorem q1286 : (Jvm.Cond.instanceMethod ({ cls := "OldLight$Sheet", name := "<init>", desc := "()V" } : Jvm.MethodName)) ∈ lw_all := lw_g (lw_at lw_m6 13 rfl) rfl
theorem q1287 : (Jvm.Cond.code ({ cls := "OldLight$Sheet", name := "<init>", desc := "()V" } : Jvm.MethodName) prog_17_method_1_code (1 : Nat) (Option.none : Option Jvm.ClassFile.FieldType)) ∈ lw_all := lw_g (lw_at lw_m6 14 rfl) rfl
theorem q1288 : (Jvm.Cond.methodLink "OldLight$Sheet" (1 : Nat) ({ cls := "java/lang/Object", name := "<init>", desc := "()V" } : Jvm.MethodName)) ∈ lw_all := lw_g (lw_at lw_m6 15 rfl) rfl
theorem q1319 : (Jvm.Cond.declares ({ cls := "OldLight$Sheet", name := "put", desc := "(II)V" } : Jvm.MethodName)) ∈ lw_tbl := lw_at lw_m6 46 rfl
theorem q1320 : (Jvm.Cond.sameMethod "OldLight$Sheet" "OldLight$Sheet" "put" "(II)V") ∈ lw_all := lw_g (lw_at lw_m6 47 rfl) rfl
theorem q1335 : (Jvm.Cond.declares ({ cls := "OldLight$Sheet", name := "width", desc := "()I" } : Jvm.MethodName)) ∈ lw_tbl := lw_at lw_m6 62 rfl
theorem q1336 : (Jvm.Cond.sameMethod "OldLight$Sheet" "OldLight$Sheet" "width" "()I") ∈ lw_all := lw_g (lw_at lw_m6 63 rfl) rfl
theorem q1347 : (Jvm.Cond.instanceMethod ({ cls := "OldLight$Sheet", name := "row", desc := "()[I" } : Jvm.MethodName)) ∈ lw_all := lw_g (lw_at lw_m6 74 rfl) rfl
theorem q1348 : (Jvm.Cond.sameMethod "OldLight$Sheet" "OldLight$Sheet" "row" "()[I") ∈ lw_all := lw_g (lw_at lw_m6 75 rfl) rfl
theorem q1352 : (Jvm.Cond.code ({ cls := "OldLight$Sheet", name := "row", desc := "()[I" } : Jvm.MethodName) prog_17_method_6_code (3 : Nat) (Option.some (Jvm.ClassFile.FieldType.array Jvm.ClassFile.FieldType.int))) ∈ lw_all := lw_g (lw_at lw_m6 79 rfl) rfl
theorem q1353 : (Jvm.Cond.methodLink "OldLight$Sheet" (7 : Nat) ({ cls := "OldLight$Sheet", name := "size", desc := "()I" } : Jvm.MethodName)) ∈ lw_all := lw_g (lw_at lw_m6 80 rfl) rfl
theorem q1354 : (Jvm.Cond.methodLink "OldLight$Sheet" (13 : Nat) ({ cls := "OldLight$Sheet", name := "get", desc := "(I)I" } : Jvm.MethodName)) ∈ lw_all := lw_g (lw_at lw_m6 81 rfl) rfl
/-! OldLight$Bytes -/
set_option maxRecDepth 100000
def RX22 : String := "OldLight$Bytes"
def TX22 : u_T := fun k => match k with
  | _ => ("OldLight$Bytes", "row", "[B", true)
def tyX22 : Nat → FieldType := fun k => match k with
  | _ => .array .byte
abbrev wsX220 : List Cond := u_ws RX22 TX22 1
theorem nmX22 : ∀ a, a < 1 → ∀ b, b < 1 → a ≠ b → (TX22 a).2.1 ≠ (TX22 b).2.1 := by decide +kernel
theorem tyX22_ok : ∀ k, k < 1 → parseFieldDescriptor (TX22 k).2.2.1 = some (tyX22 k) := by decide +kernel
abbrev cX22_size : ByteArray := prog_3_method_2_code
def yX22_size : MethodName := ⟨RX22, "size", "()I"⟩
def dkwX22_size_0 : List UInt8 := [42, 180, 0, 7, 190, 172]
abbrev dktX22_size_0 : List UInt8 := dkwX22_size_0 ++ []
theorem dksX22_size_0 : cX22_size.data.toList.drop 0 = dktX22_size_0 := by decide +kernel
theorem dX22_size_0 : decode cX22_size 0 = .ok (.aload_n 0, 1) := dk_42 (dk_at dksX22_size_0 0 rfl rfl)
theorem dX22_size_1 : decode cX22_size 1 = .ok (.getfield 7, 3) := dk_180 0 7 (dk_at dksX22_size_0 1 rfl rfl)
theorem dX22_size_4 : decode cX22_size 4 = .ok (.arraylength, 1) := dk_190 (dk_at dksX22_size_0 4 rfl rfl)
theorem dX22_size_5 : decode cX22_size 5 = .ok (.ireturn, 1) := dk_172 (dk_at dksX22_size_0 5 rfl rfl)
abbrev cX22_get : ByteArray := prog_3_method_3_code
def yX22_get : MethodName := ⟨RX22, "get", "(I)I"⟩
def dkwX22_get_0 : List UInt8 := [42, 180, 0, 7, 27, 51, 172]
abbrev dktX22_get_0 : List UInt8 := dkwX22_get_0 ++ []
theorem dksX22_get_0 : cX22_get.data.toList.drop 0 = dktX22_get_0 := by decide +kernel
theorem dX22_get_0 : decode cX22_get 0 = .ok (.aload_n 0, 1) := dk_42 (dk_at dksX22_get_0 0 rfl rfl)
theorem dX22_get_1 : decode cX22_get 1 = .ok (.getfield 7, 3) := dk_180 0 7 (dk_at dksX22_get_0 1 rfl rfl)
theorem dX22_get_4 : decode cX22_get 4 = .ok (.iload_n 1, 1) := dk_27 (dk_at dksX22_get_0 4 rfl rfl)
theorem dX22_get_5 : decode cX22_get 5 = .ok (.baload, 1) := dk_51 (dk_at dksX22_get_0 5 rfl rfl)
theorem dX22_get_6 : decode cX22_get 6 = .ok (.ireturn, 1) := dk_172 (dk_at dksX22_get_0 6 rfl rfl)
abbrev cX22_init : ByteArray := prog_3_method_1_code
def yX22_init : MethodName := ⟨RX22, "<init>", "(I)V"⟩
def dkwX22_init_0 : List UInt8 := [42, 183, 0, 1, 42, 27, 188, 8, 181, 0, 7, 177]
abbrev dktX22_init_0 : List UInt8 := dkwX22_init_0 ++ []
theorem dksX22_init_0 : cX22_init.data.toList.drop 0 = dktX22_init_0 := by decide +kernel
theorem dX22_init_0 : decode cX22_init 0 = .ok (.aload_n 0, 1) := dk_42 (dk_at dksX22_init_0 0 rfl rfl)
theorem dX22_init_1 : decode cX22_init 1 = .ok (.invokespecial 1, 3) := dk_183 0 1 (dk_at dksX22_init_0 1 rfl rfl)
theorem dX22_init_4 : decode cX22_init 4 = .ok (.aload_n 0, 1) := dk_42 (dk_at dksX22_init_0 4 rfl rfl)
theorem dX22_init_5 : decode cX22_init 5 = .ok (.iload_n 1, 1) := dk_27 (dk_at dksX22_init_0 5 rfl rfl)
theorem dX22_init_6 : decode cX22_init 6 = .ok (.newarray .byte, 2) := dk_188_8 (dk_at dksX22_init_0 6 rfl rfl)
theorem dX22_init_8 : decode cX22_init 8 = .ok (.putfield 7, 3) := dk_181 0 7 (dk_at dksX22_init_0 8 rfl rfl)
theorem dX22_init_11 : decode cX22_init 11 = .ok (.return_, 1) := dk_177 (dk_at dksX22_init_0 11 rfl rfl)
abbrev cX22_put : ByteArray := prog_3_method_4_code
def yX22_put : MethodName := ⟨RX22, "put", "(II)V"⟩
def dkwX22_put_0 : List UInt8 := [42, 180, 0, 7, 27, 28, 145, 84, 177]
abbrev dktX22_put_0 : List UInt8 := dkwX22_put_0 ++ []
theorem dksX22_put_0 : cX22_put.data.toList.drop 0 = dktX22_put_0 := by decide +kernel
theorem dX22_put_0 : decode cX22_put 0 = .ok (.aload_n 0, 1) := dk_42 (dk_at dksX22_put_0 0 rfl rfl)
theorem dX22_put_1 : decode cX22_put 1 = .ok (.getfield 7, 3) := dk_180 0 7 (dk_at dksX22_put_0 1 rfl rfl)
theorem dX22_put_4 : decode cX22_put 4 = .ok (.iload_n 1, 1) := dk_27 (dk_at dksX22_put_0 4 rfl rfl)
theorem dX22_put_5 : decode cX22_put 5 = .ok (.iload_n 2, 1) := dk_28 (dk_at dksX22_put_0 5 rfl rfl)
theorem dX22_put_6 : decode cX22_put 6 = .ok (.i2b, 1) := dk_145 (dk_at dksX22_put_0 6 rfl rfl)
theorem dX22_put_7 : decode cX22_put 7 = .ok (.bastore, 1) := dk_84 (dk_at dksX22_put_0 7 rfl rfl)
theorem dX22_put_8 : decode cX22_put 8 = .ok (.return_, 1) := dk_177 (dk_at dksX22_put_0 8 rfl rfl)
abbrev cX22_width : ByteArray := prog_3_method_5_code
def yX22_width : MethodName := ⟨RX22, "width", "()I"⟩
theorem dX22_width_0 : decode cX22_width 0 = .ok (.bipush 8, 2) := by decide +kernel
theorem dX22_width_2 : decode cX22_width 2 = .ok (.ireturn, 1) := by decide +kernel
theorem q107 : (Jvm.Cond.initialized "OldLight$Bytes") ∈ lw_all := lw_g (lw_at lw_m1 34 rfl) rfl
theorem q1017 : (Jvm.Cond.selects "OldLight$Bytes" ({ cls := "OldLight$Sheet", name := "size", desc := "()I" } : Jvm.MethodName) ({ cls := "OldLight$Bytes", name := "size", desc := "()I" } : Jvm.MethodName)) ∈ lw_all := lw_g (lw_at lw_m4 224 rfl) rfl
theorem q1018 : (Jvm.Cond.instanceMethod ({ cls := "OldLight$Bytes", name := "size", desc := "()I" } : Jvm.MethodName)) ∈ lw_all := lw_g (lw_at lw_m4 225 rfl) rfl
theorem q1019 : (Jvm.Cond.code ({ cls := "OldLight$Bytes", name := "size", desc := "()I" } : Jvm.MethodName) prog_3_method_2_code (1 : Nat) (Option.some Jvm.ClassFile.FieldType.int)) ∈ lw_all := lw_g (lw_at lw_m4 226 rfl) rfl
theorem q1033 : (Jvm.Cond.selects "OldLight$Bytes" ({ cls := "OldLight$Sheet", name := "get", desc := "(I)I" } : Jvm.MethodName) ({ cls := "OldLight$Bytes", name := "get", desc := "(I)I" } : Jvm.MethodName)) ∈ lw_all := lw_g (lw_at lw_m5 0 rfl) rfl
theorem q1034 : (Jvm.Cond.instanceMethod ({ cls := "OldLight$Bytes", name := "get", desc := "(I)I" } : Jvm.MethodName)) ∈ lw_all := lw_g (lw_at lw_m5 1 rfl) rfl
theorem q1035 : (Jvm.Cond.code ({ cls := "OldLight$Bytes", name := "get", desc := "(I)I" } : Jvm.MethodName) prog_3_method_3_code (2 : Nat) (Option.some Jvm.ClassFile.FieldType.int)) ∈ lw_all := lw_g (lw_at lw_m5 2 rfl) rfl
theorem q1281 : (Jvm.Cond.instantiable "OldLight$Bytes" (1 : Nat)) ∈ lw_all := lw_g (lw_at lw_m6 8 rfl) rfl
theorem q1283 : (Jvm.Cond.instanceMethod ({ cls := "OldLight$Bytes", name := "<init>", desc := "(I)V" } : Jvm.MethodName)) ∈ lw_all := lw_g (lw_at lw_m6 10 rfl) rfl
theorem q1284 : (Jvm.Cond.code ({ cls := "OldLight$Bytes", name := "<init>", desc := "(I)V" } : Jvm.MethodName) prog_3_method_1_code (2 : Nat) (Option.none : Option Jvm.ClassFile.FieldType)) ∈ lw_all := lw_g (lw_at lw_m6 11 rfl) rfl
theorem q1285 : (Jvm.Cond.methodLinkNest "OldLight$Bytes" (1 : Nat) ({ cls := "OldLight$Sheet", name := "<init>", desc := "()V" } : Jvm.MethodName) "OldLight") ∈ lw_tbl := lw_at lw_m6 12 rfl
theorem q1289 : (Jvm.Cond.fieldLink "OldLight$Bytes" (7 : Nat) "OldLight$Bytes" "row" "[B") ∈ lw_all := lw_g (lw_at lw_m6 16 rfl) rfl
theorem q1290 : (Jvm.Cond.laysFinal "OldLight$Bytes" "OldLight$Bytes" "row" "[B") ∈ lw_all := lw_g (lw_at lw_m6 17 rfl) rfl
theorem q1291 : (Jvm.Cond.soleField "OldLight$Bytes" "row") ∈ lw_all := lw_g (lw_at lw_m6 18 rfl) rfl
theorem q1292 : (Jvm.Cond.superclass "OldLight$Bytes" "OldLight$Sheet") ∈ lw_all := lw_g (lw_at lw_m6 19 rfl) rfl
theorem q1321 : (Jvm.Cond.selects "OldLight$Bytes" ({ cls := "OldLight$Sheet", name := "put", desc := "(II)V" } : Jvm.MethodName) ({ cls := "OldLight$Bytes", name := "put", desc := "(II)V" } : Jvm.MethodName)) ∈ lw_all := lw_g (lw_at lw_m6 48 rfl) rfl
theorem q1322 : (Jvm.Cond.instanceMethod ({ cls := "OldLight$Bytes", name := "put", desc := "(II)V" } : Jvm.MethodName)) ∈ lw_all := lw_g (lw_at lw_m6 49 rfl) rfl
theorem q1323 : (Jvm.Cond.code ({ cls := "OldLight$Bytes", name := "put", desc := "(II)V" } : Jvm.MethodName) prog_3_method_4_code (3 : Nat) (Option.none : Option Jvm.ClassFile.FieldType)) ∈ lw_all := lw_g (lw_at lw_m6 50 rfl) rfl
theorem q1337 : (Jvm.Cond.selects "OldLight$Bytes" ({ cls := "OldLight$Sheet", name := "width", desc := "()I" } : Jvm.MethodName) ({ cls := "OldLight$Bytes", name := "width", desc := "()I" } : Jvm.MethodName)) ∈ lw_all := lw_g (lw_at lw_m6 64 rfl) rfl
theorem q1338 : (Jvm.Cond.instanceMethod ({ cls := "OldLight$Bytes", name := "width", desc := "()I" } : Jvm.MethodName)) ∈ lw_all := lw_g (lw_at lw_m6 65 rfl) rfl
theorem q1339 : (Jvm.Cond.code ({ cls := "OldLight$Bytes", name := "width", desc := "()I" } : Jvm.MethodName) prog_3_method_5_code (1 : Nat) (Option.some Jvm.ClassFile.FieldType.int)) ∈ lw_all := lw_g (lw_at lw_m6 66 rfl) rfl
theorem q1349 : (Jvm.Cond.selects "OldLight$Bytes" ({ cls := "OldLight$Sheet", name := "row", desc := "()[I" } : Jvm.MethodName) ({ cls := "OldLight$Sheet", name := "row", desc := "()[I" } : Jvm.MethodName)) ∈ lw_all := lw_g (lw_at lw_m6 76 rfl) rfl
theorem q1907 : (Jvm.Cond.castable "OldLight$Bytes" "OldLight$Sheet") ∈ lw_tbl := lw_at lw_m8 154 rfl
theorem in_X22 : ∀ w ∈ wsX220, w ∈ lw_all := lw_in wsX220 [1290] (by decide +kernel) (by decide +kernel)
/-! OldLight$Shorts -/
set_option maxRecDepth 100000
def RX23 : String := "OldLight$Shorts"
def TX23 : u_T := fun k => match k with
  | _ => ("OldLight$Shorts", "row", "[S", true)
def tyX23 : Nat → FieldType := fun k => match k with
  | _ => .array .short
abbrev wsX230 : List Cond := u_ws RX23 TX23 1
theorem nmX23 : ∀ a, a < 1 → ∀ b, b < 1 → a ≠ b → (TX23 a).2.1 ≠ (TX23 b).2.1 := by decide +kernel
theorem tyX23_ok : ∀ k, k < 1 → parseFieldDescriptor (TX23 k).2.2.1 = some (tyX23 k) := by decide +kernel
abbrev cX23_size : ByteArray := prog_20_method_2_code
def yX23_size : MethodName := ⟨RX23, "size", "()I"⟩
def dkwX23_size_0 : List UInt8 := [42, 180, 0, 7, 190, 172]
abbrev dktX23_size_0 : List UInt8 := dkwX23_size_0 ++ []
theorem dksX23_size_0 : cX23_size.data.toList.drop 0 = dktX23_size_0 := by decide +kernel
theorem dX23_size_0 : decode cX23_size 0 = .ok (.aload_n 0, 1) := dk_42 (dk_at dksX23_size_0 0 rfl rfl)
theorem dX23_size_1 : decode cX23_size 1 = .ok (.getfield 7, 3) := dk_180 0 7 (dk_at dksX23_size_0 1 rfl rfl)
theorem dX23_size_4 : decode cX23_size 4 = .ok (.arraylength, 1) := dk_190 (dk_at dksX23_size_0 4 rfl rfl)
theorem dX23_size_5 : decode cX23_size 5 = .ok (.ireturn, 1) := dk_172 (dk_at dksX23_size_0 5 rfl rfl)
abbrev cX23_get : ByteArray := prog_20_method_3_code
def yX23_get : MethodName := ⟨RX23, "get", "(I)I"⟩
def dkwX23_get_0 : List UInt8 := [42, 180, 0, 7, 27, 53, 172]
abbrev dktX23_get_0 : List UInt8 := dkwX23_get_0 ++ []
theorem dksX23_get_0 : cX23_get.data.toList.drop 0 = dktX23_get_0 := by decide +kernel
theorem dX23_get_0 : decode cX23_get 0 = .ok (.aload_n 0, 1) := dk_42 (dk_at dksX23_get_0 0 rfl rfl)
theorem dX23_get_1 : decode cX23_get 1 = .ok (.getfield 7, 3) := dk_180 0 7 (dk_at dksX23_get_0 1 rfl rfl)
theorem dX23_get_4 : decode cX23_get 4 = .ok (.iload_n 1, 1) := dk_27 (dk_at dksX23_get_0 4 rfl rfl)
theorem dX23_get_5 : decode cX23_get 5 = .ok (.saload, 1) := dk_53 (dk_at dksX23_get_0 5 rfl rfl)
theorem dX23_get_6 : decode cX23_get 6 = .ok (.ireturn, 1) := dk_172 (dk_at dksX23_get_0 6 rfl rfl)
abbrev cX23_init : ByteArray := prog_20_method_1_code
def yX23_init : MethodName := ⟨RX23, "<init>", "(I)V"⟩
def dkwX23_init_0 : List UInt8 := [42, 183, 0, 1, 42, 27, 188, 9, 181, 0, 7, 177]
abbrev dktX23_init_0 : List UInt8 := dkwX23_init_0 ++ []
theorem dksX23_init_0 : cX23_init.data.toList.drop 0 = dktX23_init_0 := by decide +kernel
theorem dX23_init_0 : decode cX23_init 0 = .ok (.aload_n 0, 1) := dk_42 (dk_at dksX23_init_0 0 rfl rfl)
theorem dX23_init_1 : decode cX23_init 1 = .ok (.invokespecial 1, 3) := dk_183 0 1 (dk_at dksX23_init_0 1 rfl rfl)
theorem dX23_init_4 : decode cX23_init 4 = .ok (.aload_n 0, 1) := dk_42 (dk_at dksX23_init_0 4 rfl rfl)
theorem dX23_init_5 : decode cX23_init 5 = .ok (.iload_n 1, 1) := dk_27 (dk_at dksX23_init_0 5 rfl rfl)
theorem dX23_init_6 : decode cX23_init 6 = .ok (.newarray .short, 2) := dk_188_9 (dk_at dksX23_init_0 6 rfl rfl)
theorem dX23_init_8 : decode cX23_init 8 = .ok (.putfield 7, 3) := dk_181 0 7 (dk_at dksX23_init_0 8 rfl rfl)
theorem dX23_init_11 : decode cX23_init 11 = .ok (.return_, 1) := dk_177 (dk_at dksX23_init_0 11 rfl rfl)
abbrev cX23_put : ByteArray := prog_20_method_4_code
def yX23_put : MethodName := ⟨RX23, "put", "(II)V"⟩
def dkwX23_put_0 : List UInt8 := [42, 180, 0, 7, 27, 28, 147, 86, 177]
abbrev dktX23_put_0 : List UInt8 := dkwX23_put_0 ++ []
theorem dksX23_put_0 : cX23_put.data.toList.drop 0 = dktX23_put_0 := by decide +kernel
theorem dX23_put_0 : decode cX23_put 0 = .ok (.aload_n 0, 1) := dk_42 (dk_at dksX23_put_0 0 rfl rfl)
theorem dX23_put_1 : decode cX23_put 1 = .ok (.getfield 7, 3) := dk_180 0 7 (dk_at dksX23_put_0 1 rfl rfl)
theorem dX23_put_4 : decode cX23_put 4 = .ok (.iload_n 1, 1) := dk_27 (dk_at dksX23_put_0 4 rfl rfl)
theorem dX23_put_5 : decode cX23_put 5 = .ok (.iload_n 2, 1) := dk_28 (dk_at dksX23_put_0 5 rfl rfl)
theorem dX23_put_6 : decode cX23_put 6 = .ok (.i2s, 1) := dk_147 (dk_at dksX23_put_0 6 rfl rfl)
theorem dX23_put_7 : decode cX23_put 7 = .ok (.sastore, 1) := dk_86 (dk_at dksX23_put_0 7 rfl rfl)
theorem dX23_put_8 : decode cX23_put 8 = .ok (.return_, 1) := dk_177 (dk_at dksX23_put_0 8 rfl rfl)
abbrev cX23_width : ByteArray := prog_20_method_5_code
def yX23_width : MethodName := ⟨RX23, "width", "()I"⟩
theorem dX23_width_0 : decode cX23_width 0 = .ok (.bipush 16, 2) := by decide +kernel
theorem dX23_width_2 : decode cX23_width 2 = .ok (.ireturn, 1) := by decide +kernel
theorem q108 : (Jvm.Cond.initialized "OldLight$Shorts") ∈ lw_all := lw_g (lw_at lw_m1 35 rfl) rfl
theorem q1023 : (Jvm.Cond.selects "OldLight$Shorts" ({ cls := "OldLight$Sheet", name := "size", desc := "()I" } : Jvm.MethodName) ({ cls := "OldLight$Shorts", name := "size", desc := "()I" } : Jvm.MethodName)) ∈ lw_all := lw_g (lw_at lw_m4 230 rfl) rfl
theorem q1024 : (Jvm.Cond.instanceMethod ({ cls := "OldLight$Shorts", name := "size", desc := "()I" } : Jvm.MethodName)) ∈ lw_all := lw_g (lw_at lw_m4 231 rfl) rfl
theorem q1025 : (Jvm.Cond.code ({ cls := "OldLight$Shorts", name := "size", desc := "()I" } : Jvm.MethodName) prog_20_method_2_code (1 : Nat) (Option.some Jvm.ClassFile.FieldType.int)) ∈ lw_all := lw_g (lw_at lw_m4 232 rfl) rfl
theorem q1039 : (Jvm.Cond.selects "OldLight$Shorts" ({ cls := "OldLight$Sheet", name := "get", desc := "(I)I" } : Jvm.MethodName) ({ cls := "OldLight$Shorts", name := "get", desc := "(I)I" } : Jvm.MethodName)) ∈ lw_all := lw_g (lw_at lw_m5 6 rfl) rfl
theorem q1040 : (Jvm.Cond.instanceMethod ({ cls := "OldLight$Shorts", name := "get", desc := "(I)I" } : Jvm.MethodName)) ∈ lw_all := lw_g (lw_at lw_m5 7 rfl) rfl
theorem q1041 : (Jvm.Cond.code ({ cls := "OldLight$Shorts", name := "get", desc := "(I)I" } : Jvm.MethodName) prog_20_method_3_code (2 : Nat) (Option.some Jvm.ClassFile.FieldType.int)) ∈ lw_all := lw_g (lw_at lw_m5 8 rfl) rfl
theorem q1294 : (Jvm.Cond.instantiable "OldLight$Shorts" (1 : Nat)) ∈ lw_all := lw_g (lw_at lw_m6 21 rfl) rfl
theorem q1296 : (Jvm.Cond.instanceMethod ({ cls := "OldLight$Shorts", name := "<init>", desc := "(I)V" } : Jvm.MethodName)) ∈ lw_all := lw_g (lw_at lw_m6 23 rfl) rfl
theorem q1297 : (Jvm.Cond.code ({ cls := "OldLight$Shorts", name := "<init>", desc := "(I)V" } : Jvm.MethodName) prog_20_method_1_code (2 : Nat) (Option.none : Option Jvm.ClassFile.FieldType)) ∈ lw_all := lw_g (lw_at lw_m6 24 rfl) rfl
theorem q1298 : (Jvm.Cond.methodLinkNest "OldLight$Shorts" (1 : Nat) ({ cls := "OldLight$Sheet", name := "<init>", desc := "()V" } : Jvm.MethodName) "OldLight") ∈ lw_tbl := lw_at lw_m6 25 rfl
theorem q1299 : (Jvm.Cond.fieldLink "OldLight$Shorts" (7 : Nat) "OldLight$Shorts" "row" "[S") ∈ lw_all := lw_g (lw_at lw_m6 26 rfl) rfl
theorem q1300 : (Jvm.Cond.laysFinal "OldLight$Shorts" "OldLight$Shorts" "row" "[S") ∈ lw_all := lw_g (lw_at lw_m6 27 rfl) rfl
theorem q1301 : (Jvm.Cond.soleField "OldLight$Shorts" "row") ∈ lw_all := lw_g (lw_at lw_m6 28 rfl) rfl
theorem q1302 : (Jvm.Cond.superclass "OldLight$Shorts" "OldLight$Sheet") ∈ lw_all := lw_g (lw_at lw_m6 29 rfl) rfl
theorem q1327 : (Jvm.Cond.selects "OldLight$Shorts" ({ cls := "OldLight$Sheet", name := "put", desc := "(II)V" } : Jvm.MethodName) ({ cls := "OldLight$Shorts", name := "put", desc := "(II)V" } : Jvm.MethodName)) ∈ lw_all := lw_g (lw_at lw_m6 54 rfl) rfl
theorem q1328 : (Jvm.Cond.instanceMethod ({ cls := "OldLight$Shorts", name := "put", desc := "(II)V" } : Jvm.MethodName)) ∈ lw_all := lw_g (lw_at lw_m6 55 rfl) rfl
theorem q1329 : (Jvm.Cond.code ({ cls := "OldLight$Shorts", name := "put", desc := "(II)V" } : Jvm.MethodName) prog_20_method_4_code (3 : Nat) (Option.none : Option Jvm.ClassFile.FieldType)) ∈ lw_all := lw_g (lw_at lw_m6 56 rfl) rfl
theorem q1343 : (Jvm.Cond.selects "OldLight$Shorts" ({ cls := "OldLight$Sheet", name := "width", desc := "()I" } : Jvm.MethodName) ({ cls := "OldLight$Shorts", name := "width", desc := "()I" } : Jvm.MethodName)) ∈ lw_all := lw_g (lw_at lw_m6 70 rfl) rfl
theorem q1344 : (Jvm.Cond.instanceMethod ({ cls := "OldLight$Shorts", name := "width", desc := "()I" } : Jvm.MethodName)) ∈ lw_all := lw_g (lw_at lw_m6 71 rfl) rfl
theorem q1345 : (Jvm.Cond.code ({ cls := "OldLight$Shorts", name := "width", desc := "()I" } : Jvm.MethodName) prog_20_method_5_code (1 : Nat) (Option.some Jvm.ClassFile.FieldType.int)) ∈ lw_all := lw_g (lw_at lw_m6 72 rfl) rfl
theorem q1351 : (Jvm.Cond.selects "OldLight$Shorts" ({ cls := "OldLight$Sheet", name := "row", desc := "()[I" } : Jvm.MethodName) ({ cls := "OldLight$Sheet", name := "row", desc := "()[I" } : Jvm.MethodName)) ∈ lw_all := lw_g (lw_at lw_m6 78 rfl) rfl
theorem q1909 : (Jvm.Cond.castable "OldLight$Shorts" "OldLight$Sheet") ∈ lw_tbl := lw_at lw_m8 156 rfl
theorem in_X23 : ∀ w ∈ wsX230, w ∈ lw_all := lw_in wsX230 [1300] (by decide +kernel) (by decide +kernel)
/-! OldLight$Ints -/
set_option maxRecDepth 100000
def RX24 : String := "OldLight$Ints"
def TX24 : u_T := fun k => match k with
  | _ => ("OldLight$Ints", "row", "[I", true)
def tyX24 : Nat → FieldType := fun k => match k with
  | _ => .array .int
abbrev wsX240 : List Cond := u_ws RX24 TX24 1
theorem nmX24 : ∀ a, a < 1 → ∀ b, b < 1 → a ≠ b → (TX24 a).2.1 ≠ (TX24 b).2.1 := by decide +kernel
theorem tyX24_ok : ∀ k, k < 1 → parseFieldDescriptor (TX24 k).2.2.1 = some (tyX24 k) := by decide +kernel
abbrev cX24_size : ByteArray := prog_11_method_2_code
def yX24_size : MethodName := ⟨RX24, "size", "()I"⟩
def dkwX24_size_0 : List UInt8 := [42, 180, 0, 7, 190, 172]
abbrev dktX24_size_0 : List UInt8 := dkwX24_size_0 ++ []
theorem dksX24_size_0 : cX24_size.data.toList.drop 0 = dktX24_size_0 := by decide +kernel
theorem dX24_size_0 : decode cX24_size 0 = .ok (.aload_n 0, 1) := dk_42 (dk_at dksX24_size_0 0 rfl rfl)
theorem dX24_size_1 : decode cX24_size 1 = .ok (.getfield 7, 3) := dk_180 0 7 (dk_at dksX24_size_0 1 rfl rfl)
theorem dX24_size_4 : decode cX24_size 4 = .ok (.arraylength, 1) := dk_190 (dk_at dksX24_size_0 4 rfl rfl)
theorem dX24_size_5 : decode cX24_size 5 = .ok (.ireturn, 1) := dk_172 (dk_at dksX24_size_0 5 rfl rfl)
abbrev cX24_get : ByteArray := prog_11_method_3_code
def yX24_get : MethodName := ⟨RX24, "get", "(I)I"⟩
def dkwX24_get_0 : List UInt8 := [42, 180, 0, 7, 27, 46, 172]
abbrev dktX24_get_0 : List UInt8 := dkwX24_get_0 ++ []
theorem dksX24_get_0 : cX24_get.data.toList.drop 0 = dktX24_get_0 := by decide +kernel
theorem dX24_get_0 : decode cX24_get 0 = .ok (.aload_n 0, 1) := dk_42 (dk_at dksX24_get_0 0 rfl rfl)
theorem dX24_get_1 : decode cX24_get 1 = .ok (.getfield 7, 3) := dk_180 0 7 (dk_at dksX24_get_0 1 rfl rfl)
theorem dX24_get_4 : decode cX24_get 4 = .ok (.iload_n 1, 1) := dk_27 (dk_at dksX24_get_0 4 rfl rfl)
theorem dX24_get_5 : decode cX24_get 5 = .ok (.iaload, 1) := dk_46 (dk_at dksX24_get_0 5 rfl rfl)
theorem dX24_get_6 : decode cX24_get 6 = .ok (.ireturn, 1) := dk_172 (dk_at dksX24_get_0 6 rfl rfl)
abbrev cX24_init : ByteArray := prog_11_method_1_code
def yX24_init : MethodName := ⟨RX24, "<init>", "(I)V"⟩
def dkwX24_init_0 : List UInt8 := [42, 183, 0, 1, 42, 27, 188, 10, 181, 0, 7, 177]
abbrev dktX24_init_0 : List UInt8 := dkwX24_init_0 ++ []
theorem dksX24_init_0 : cX24_init.data.toList.drop 0 = dktX24_init_0 := by decide +kernel
theorem dX24_init_0 : decode cX24_init 0 = .ok (.aload_n 0, 1) := dk_42 (dk_at dksX24_init_0 0 rfl rfl)
theorem dX24_init_1 : decode cX24_init 1 = .ok (.invokespecial 1, 3) := dk_183 0 1 (dk_at dksX24_init_0 1 rfl rfl)
theorem dX24_init_4 : decode cX24_init 4 = .ok (.aload_n 0, 1) := dk_42 (dk_at dksX24_init_0 4 rfl rfl)
theorem dX24_init_5 : decode cX24_init 5 = .ok (.iload_n 1, 1) := dk_27 (dk_at dksX24_init_0 5 rfl rfl)
theorem dX24_init_6 : decode cX24_init 6 = .ok (.newarray .int, 2) := dk_188_10 (dk_at dksX24_init_0 6 rfl rfl)
theorem dX24_init_8 : decode cX24_init 8 = .ok (.putfield 7, 3) := dk_181 0 7 (dk_at dksX24_init_0 8 rfl rfl)
theorem dX24_init_11 : decode cX24_init 11 = .ok (.return_, 1) := dk_177 (dk_at dksX24_init_0 11 rfl rfl)
abbrev cX24_put : ByteArray := prog_11_method_4_code
def yX24_put : MethodName := ⟨RX24, "put", "(II)V"⟩
def dkwX24_put_0 : List UInt8 := [42, 180, 0, 7, 27, 28, 79, 177]
abbrev dktX24_put_0 : List UInt8 := dkwX24_put_0 ++ []
theorem dksX24_put_0 : cX24_put.data.toList.drop 0 = dktX24_put_0 := by decide +kernel
theorem dX24_put_0 : decode cX24_put 0 = .ok (.aload_n 0, 1) := dk_42 (dk_at dksX24_put_0 0 rfl rfl)
theorem dX24_put_1 : decode cX24_put 1 = .ok (.getfield 7, 3) := dk_180 0 7 (dk_at dksX24_put_0 1 rfl rfl)
theorem dX24_put_4 : decode cX24_put 4 = .ok (.iload_n 1, 1) := dk_27 (dk_at dksX24_put_0 4 rfl rfl)
theorem dX24_put_5 : decode cX24_put 5 = .ok (.iload_n 2, 1) := dk_28 (dk_at dksX24_put_0 5 rfl rfl)
theorem dX24_put_6 : decode cX24_put 6 = .ok (.iastore, 1) := dk_79 (dk_at dksX24_put_0 6 rfl rfl)
theorem dX24_put_7 : decode cX24_put 7 = .ok (.return_, 1) := dk_177 (dk_at dksX24_put_0 7 rfl rfl)
abbrev cX24_width : ByteArray := prog_11_method_5_code
def yX24_width : MethodName := ⟨RX24, "width", "()I"⟩
theorem dX24_width_0 : decode cX24_width 0 = .ok (.bipush 32, 2) := by decide +kernel
theorem dX24_width_2 : decode cX24_width 2 = .ok (.ireturn, 1) := by decide +kernel
theorem q109 : (Jvm.Cond.initialized "OldLight$Ints") ∈ lw_all := lw_g (lw_at lw_m1 36 rfl) rfl
theorem q1020 : (Jvm.Cond.selects "OldLight$Ints" ({ cls := "OldLight$Sheet", name := "size", desc := "()I" } : Jvm.MethodName) ({ cls := "OldLight$Ints", name := "size", desc := "()I" } : Jvm.MethodName)) ∈ lw_all := lw_g (lw_at lw_m4 227 rfl) rfl
theorem q1021 : (Jvm.Cond.instanceMethod ({ cls := "OldLight$Ints", name := "size", desc := "()I" } : Jvm.MethodName)) ∈ lw_all := lw_g (lw_at lw_m4 228 rfl) rfl
theorem q1022 : (Jvm.Cond.code ({ cls := "OldLight$Ints", name := "size", desc := "()I" } : Jvm.MethodName) prog_11_method_2_code (1 : Nat) (Option.some Jvm.ClassFile.FieldType.int)) ∈ lw_all := lw_g (lw_at lw_m4 229 rfl) rfl
theorem q1036 : (Jvm.Cond.selects "OldLight$Ints" ({ cls := "OldLight$Sheet", name := "get", desc := "(I)I" } : Jvm.MethodName) ({ cls := "OldLight$Ints", name := "get", desc := "(I)I" } : Jvm.MethodName)) ∈ lw_all := lw_g (lw_at lw_m5 3 rfl) rfl
theorem q1037 : (Jvm.Cond.instanceMethod ({ cls := "OldLight$Ints", name := "get", desc := "(I)I" } : Jvm.MethodName)) ∈ lw_all := lw_g (lw_at lw_m5 4 rfl) rfl
theorem q1038 : (Jvm.Cond.code ({ cls := "OldLight$Ints", name := "get", desc := "(I)I" } : Jvm.MethodName) prog_11_method_3_code (2 : Nat) (Option.some Jvm.ClassFile.FieldType.int)) ∈ lw_all := lw_g (lw_at lw_m5 5 rfl) rfl
theorem q1305 : (Jvm.Cond.instantiable "OldLight$Ints" (1 : Nat)) ∈ lw_all := lw_g (lw_at lw_m6 32 rfl) rfl
theorem q1307 : (Jvm.Cond.instanceMethod ({ cls := "OldLight$Ints", name := "<init>", desc := "(I)V" } : Jvm.MethodName)) ∈ lw_all := lw_g (lw_at lw_m6 34 rfl) rfl
theorem q1308 : (Jvm.Cond.code ({ cls := "OldLight$Ints", name := "<init>", desc := "(I)V" } : Jvm.MethodName) prog_11_method_1_code (2 : Nat) (Option.none : Option Jvm.ClassFile.FieldType)) ∈ lw_all := lw_g (lw_at lw_m6 35 rfl) rfl
theorem q1309 : (Jvm.Cond.methodLinkNest "OldLight$Ints" (1 : Nat) ({ cls := "OldLight$Sheet", name := "<init>", desc := "()V" } : Jvm.MethodName) "OldLight") ∈ lw_tbl := lw_at lw_m6 36 rfl
theorem q1310 : (Jvm.Cond.fieldLink "OldLight$Ints" (7 : Nat) "OldLight$Ints" "row" "[I") ∈ lw_all := lw_g (lw_at lw_m6 37 rfl) rfl
theorem q1311 : (Jvm.Cond.laysFinal "OldLight$Ints" "OldLight$Ints" "row" "[I") ∈ lw_all := lw_g (lw_at lw_m6 38 rfl) rfl
theorem q1312 : (Jvm.Cond.soleField "OldLight$Ints" "row") ∈ lw_all := lw_g (lw_at lw_m6 39 rfl) rfl
theorem q1313 : (Jvm.Cond.superclass "OldLight$Ints" "OldLight$Sheet") ∈ lw_all := lw_g (lw_at lw_m6 40 rfl) rfl
theorem q1324 : (Jvm.Cond.selects "OldLight$Ints" ({ cls := "OldLight$Sheet", name := "put", desc := "(II)V" } : Jvm.MethodName) ({ cls := "OldLight$Ints", name := "put", desc := "(II)V" } : Jvm.MethodName)) ∈ lw_all := lw_g (lw_at lw_m6 51 rfl) rfl
theorem q1325 : (Jvm.Cond.instanceMethod ({ cls := "OldLight$Ints", name := "put", desc := "(II)V" } : Jvm.MethodName)) ∈ lw_all := lw_g (lw_at lw_m6 52 rfl) rfl
theorem q1326 : (Jvm.Cond.code ({ cls := "OldLight$Ints", name := "put", desc := "(II)V" } : Jvm.MethodName) prog_11_method_4_code (3 : Nat) (Option.none : Option Jvm.ClassFile.FieldType)) ∈ lw_all := lw_g (lw_at lw_m6 53 rfl) rfl
theorem q1340 : (Jvm.Cond.selects "OldLight$Ints" ({ cls := "OldLight$Sheet", name := "width", desc := "()I" } : Jvm.MethodName) ({ cls := "OldLight$Ints", name := "width", desc := "()I" } : Jvm.MethodName)) ∈ lw_all := lw_g (lw_at lw_m6 67 rfl) rfl
theorem q1341 : (Jvm.Cond.instanceMethod ({ cls := "OldLight$Ints", name := "width", desc := "()I" } : Jvm.MethodName)) ∈ lw_all := lw_g (lw_at lw_m6 68 rfl) rfl
theorem q1342 : (Jvm.Cond.code ({ cls := "OldLight$Ints", name := "width", desc := "()I" } : Jvm.MethodName) prog_11_method_5_code (1 : Nat) (Option.some Jvm.ClassFile.FieldType.int)) ∈ lw_all := lw_g (lw_at lw_m6 69 rfl) rfl
theorem q1350 : (Jvm.Cond.selects "OldLight$Ints" ({ cls := "OldLight$Sheet", name := "row", desc := "()[I" } : Jvm.MethodName) ({ cls := "OldLight$Sheet", name := "row", desc := "()[I" } : Jvm.MethodName)) ∈ lw_all := lw_g (lw_at lw_m6 77 rfl) rfl
theorem q1908 : (Jvm.Cond.castable "OldLight$Ints" "OldLight$Sheet") ∈ lw_tbl := lw_at lw_m8 155 rfl
theorem in_X24 : ∀ w ∈ wsX240, w ∈ lw_all := lw_in wsX240 [1311] (by decide +kernel) (by decide +kernel)
/-! java/lang/Object -/
set_option maxRecDepth 100000
def RJ10 : String := "java/lang/Object"
abbrev cJ10_init : ByteArray := object_method_1_code
def yJ10_init : MethodName := ⟨RJ10, "<init>", "()V"⟩
theorem dJ10_init_0 : decode cJ10_init 0 = .ok (.return_, 1) := by decide +kernel
theorem q116 : (Jvm.Cond.instanceMethod ({ cls := "java/lang/Object", name := "<init>", desc := "()V" } : Jvm.MethodName)) ∈ lw_all := lw_g (lw_at lw_m1 43 rfl) rfl
theorem q117 : (Jvm.Cond.code ({ cls := "java/lang/Object", name := "<init>", desc := "()V" } : Jvm.MethodName) object_method_1_code (1 : Nat) (Option.none : Option Jvm.ClassFile.FieldType)) ∈ lw_all := lw_g (lw_at lw_m1 44 rfl) rfl
