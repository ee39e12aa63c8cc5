/-! java/lang/Throwable -/
set_option maxRecDepth 100000
def RJ0 : String := "java/lang/Throwable"
def TJ0 : u_T := fun k => match k with
  | 0 => ("java/lang/Throwable", "cause", "Ljava/lang/Throwable;", false)
  | 1 => ("java/lang/Throwable", "stackTrace", "[Ljava/lang/StackTraceElement;", false)
  | 2 => ("java/lang/Throwable", "suppressedExceptions", "Ljava/util/List;", false)
  | 3 => ("java/lang/Throwable", "detailMessage", "Ljava/lang/String;", false)
  | _ => ("java/lang/Throwable", "backtrace", "Ljava/lang/Object;", false)
def tyJ0 : Nat → FieldType := fun k => match k with
  | 0 => .object "java/lang/Throwable"
  | 1 => .array (.object "java/lang/StackTraceElement")
  | 2 => .object "java/util/List"
  | 3 => .object "java/lang/String"
  | _ => .object "java/lang/Object"
abbrev wsJ00 : List Cond := u_ws RJ0 TJ0 5
theorem nmJ0 : ∀ a, a < 5 → ∀ b, b < 5 → a ≠ b → (TJ0 a).2.1 ≠ (TJ0 b).2.1 := by decide +kernel
theorem tyJ0_ok : ∀ k, k < 5 → parseFieldDescriptor (TJ0 k).2.2.1 = some (tyJ0 k) := by decide +kernel
abbrev cJ0_init : ByteArray := prog_30_method_1_code
def yJ0_init : MethodName := ⟨RJ0, "<init>", "()V"⟩
def dkwJ0_init_1 : List UInt8 := [182, 0, 27, 87, 177]
abbrev dktJ0_init_1 : List UInt8 := dkwJ0_init_1 ++ []
def dkwJ0_init_0 : List UInt8 := [42, 183, 0, 1, 42, 42, 181, 0, 7, 42, 178, 0, 13, 181, 0, 17, 42, 178, 0, 20, 181, 0, 24, 42]
abbrev dktJ0_init_0 : List UInt8 := dkwJ0_init_0 ++ dktJ0_init_1
theorem dksJ0_init_0 : cJ0_init.data.toList.drop 0 = dktJ0_init_0 := by decide +kernel
theorem dksJ0_init_1 : cJ0_init.data.toList.drop 24 = dktJ0_init_1 := dk_seg dksJ0_init_0 24 rfl rfl
theorem dJ0_init_0 : decode cJ0_init 0 = .ok (.aload_n 0, 1) := dk_42 (dk_at dksJ0_init_0 0 rfl rfl)
theorem dJ0_init_1 : decode cJ0_init 1 = .ok (.invokespecial 1, 3) := dk_183 0 1 (dk_at dksJ0_init_0 1 rfl rfl)
theorem dJ0_init_4 : decode cJ0_init 4 = .ok (.aload_n 0, 1) := dk_42 (dk_at dksJ0_init_0 4 rfl rfl)
theorem dJ0_init_5 : decode cJ0_init 5 = .ok (.aload_n 0, 1) := dk_42 (dk_at dksJ0_init_0 5 rfl rfl)
theorem dJ0_init_6 : decode cJ0_init 6 = .ok (.putfield 7, 3) := dk_181 0 7 (dk_at dksJ0_init_0 6 rfl rfl)
theorem dJ0_init_9 : decode cJ0_init 9 = .ok (.aload_n 0, 1) := dk_42 (dk_at dksJ0_init_0 9 rfl rfl)
theorem dJ0_init_10 : decode cJ0_init 10 = .ok (.getstatic 13, 3) := dk_178 0 13 (dk_at dksJ0_init_0 10 rfl rfl)
theorem dJ0_init_13 : decode cJ0_init 13 = .ok (.putfield 17, 3) := dk_181 0 17 (dk_at dksJ0_init_0 13 rfl rfl)
theorem dJ0_init_16 : decode cJ0_init 16 = .ok (.aload_n 0, 1) := dk_42 (dk_at dksJ0_init_0 16 rfl rfl)
theorem dJ0_init_17 : decode cJ0_init 17 = .ok (.getstatic 20, 3) := dk_178 0 20 (dk_at dksJ0_init_0 17 rfl rfl)
theorem dJ0_init_20 : decode cJ0_init 20 = .ok (.putfield 24, 3) := dk_181 0 24 (dk_at dksJ0_init_0 20 rfl rfl)
theorem dJ0_init_23 : decode cJ0_init 23 = .ok (.aload_n 0, 1) := dk_42 (dk_at dksJ0_init_0 23 rfl rfl)
theorem dJ0_init_24 : decode cJ0_init 24 = .ok (.invokevirtual 27, 3) := dk_182 0 27 (dk_at dksJ0_init_1 0 rfl rfl)
theorem dJ0_init_27 : decode cJ0_init 27 = .ok (.pop, 1) := dk_87 (dk_at dksJ0_init_1 3 rfl rfl)
theorem dJ0_init_28 : decode cJ0_init 28 = .ok (.return_, 1) := dk_177 (dk_at dksJ0_init_1 4 rfl rfl)
abbrev cJ0_init_2 : ByteArray := prog_30_method_5_code
def yJ0_init_2 : MethodName := ⟨RJ0, "<init>", "(Ljava/lang/String;Ljava/lang/Throwable;ZZ)V"⟩
def dkwJ0_init_2_2 : List UInt8 := [44, 181, 0, 7, 29, 154, 0, 8, 42, 1, 181, 0, 24, 177]
abbrev dktJ0_init_2_2 : List UInt8 := dkwJ0_init_2_2 ++ []
def dkwJ0_init_2_1 : List UInt8 := [21, 4, 153, 0, 11, 42, 182, 0, 27, 87, 167, 0, 8, 42, 1, 181, 0, 17, 42, 43, 181, 0, 31, 42]
abbrev dktJ0_init_2_1 : List UInt8 := dkwJ0_init_2_1 ++ dktJ0_init_2_2
def dkwJ0_init_2_0 : List UInt8 := [42, 183, 0, 1, 42, 42, 181, 0, 7, 42, 178, 0, 13, 181, 0, 17, 42, 178, 0, 20, 181, 0, 24]
abbrev dktJ0_init_2_0 : List UInt8 := dkwJ0_init_2_0 ++ dktJ0_init_2_1
theorem dksJ0_init_2_0 : cJ0_init_2.data.toList.drop 0 = dktJ0_init_2_0 := by decide +kernel
theorem dksJ0_init_2_1 : cJ0_init_2.data.toList.drop 23 = dktJ0_init_2_1 := dk_seg dksJ0_init_2_0 23 rfl rfl
theorem dksJ0_init_2_2 : cJ0_init_2.data.toList.drop 47 = dktJ0_init_2_2 := dk_seg dksJ0_init_2_1 24 rfl rfl
theorem dJ0_init_2_0 : decode cJ0_init_2 0 = .ok (.aload_n 0, 1) := dk_42 (dk_at dksJ0_init_2_0 0 rfl rfl)
theorem dJ0_init_2_1 : decode cJ0_init_2 1 = .ok (.invokespecial 1, 3) := dk_183 0 1 (dk_at dksJ0_init_2_0 1 rfl rfl)
theorem dJ0_init_2_4 : decode cJ0_init_2 4 = .ok (.aload_n 0, 1) := dk_42 (dk_at dksJ0_init_2_0 4 rfl rfl)
theorem dJ0_init_2_5 : decode cJ0_init_2 5 = .ok (.aload_n 0, 1) := dk_42 (dk_at dksJ0_init_2_0 5 rfl rfl)
theorem dJ0_init_2_6 : decode cJ0_init_2 6 = .ok (.putfield 7, 3) := dk_181 0 7 (dk_at dksJ0_init_2_0 6 rfl rfl)
theorem dJ0_init_2_9 : decode cJ0_init_2 9 = .ok (.aload_n 0, 1) := dk_42 (dk_at dksJ0_init_2_0 9 rfl rfl)
theorem dJ0_init_2_10 : decode cJ0_init_2 10 = .ok (.getstatic 13, 3) := dk_178 0 13 (dk_at dksJ0_init_2_0 10 rfl rfl)
theorem dJ0_init_2_13 : decode cJ0_init_2 13 = .ok (.putfield 17, 3) := dk_181 0 17 (dk_at dksJ0_init_2_0 13 rfl rfl)
theorem dJ0_init_2_16 : decode cJ0_init_2 16 = .ok (.aload_n 0, 1) := dk_42 (dk_at dksJ0_init_2_0 16 rfl rfl)
theorem dJ0_init_2_17 : decode cJ0_init_2 17 = .ok (.getstatic 20, 3) := dk_178 0 20 (dk_at dksJ0_init_2_0 17 rfl rfl)
theorem dJ0_init_2_20 : decode cJ0_init_2 20 = .ok (.putfield 24, 3) := dk_181 0 24 (dk_at dksJ0_init_2_0 20 rfl rfl)
theorem dJ0_init_2_23 : decode cJ0_init_2 23 = .ok (.iload 4, 2) := dk_21 4 (dk_at dksJ0_init_2_1 0 rfl rfl)
theorem dJ0_init_2_25 : decode cJ0_init_2 25 = .ok (.ifCond .eq 11, 3) := dk_153 0 11 (dk_at dksJ0_init_2_1 2 rfl rfl)
theorem dJ0_init_2_28 : decode cJ0_init_2 28 = .ok (.aload_n 0, 1) := dk_42 (dk_at dksJ0_init_2_1 5 rfl rfl)
theorem dJ0_init_2_29 : decode cJ0_init_2 29 = .ok (.invokevirtual 27, 3) := dk_182 0 27 (dk_at dksJ0_init_2_1 6 rfl rfl)
theorem dJ0_init_2_32 : decode cJ0_init_2 32 = .ok (.pop, 1) := dk_87 (dk_at dksJ0_init_2_1 9 rfl rfl)
theorem dJ0_init_2_33 : decode cJ0_init_2 33 = .ok (.goto 8, 3) := dk_167 0 8 (dk_at dksJ0_init_2_1 10 rfl rfl)
theorem dJ0_init_2_36 : decode cJ0_init_2 36 = .ok (.aload_n 0, 1) := dk_42 (dk_at dksJ0_init_2_1 13 rfl rfl)
theorem dJ0_init_2_37 : decode cJ0_init_2 37 = .ok (.aconst_null, 1) := dk_1 (dk_at dksJ0_init_2_1 14 rfl rfl)
theorem dJ0_init_2_38 : decode cJ0_init_2 38 = .ok (.putfield 17, 3) := dk_181 0 17 (dk_at dksJ0_init_2_1 15 rfl rfl)
theorem dJ0_init_2_41 : decode cJ0_init_2 41 = .ok (.aload_n 0, 1) := dk_42 (dk_at dksJ0_init_2_1 18 rfl rfl)
theorem dJ0_init_2_42 : decode cJ0_init_2 42 = .ok (.aload_n 1, 1) := dk_43 (dk_at dksJ0_init_2_1 19 rfl rfl)
theorem dJ0_init_2_43 : decode cJ0_init_2 43 = .ok (.putfield 31, 3) := dk_181 0 31 (dk_at dksJ0_init_2_1 20 rfl rfl)
theorem dJ0_init_2_46 : decode cJ0_init_2 46 = .ok (.aload_n 0, 1) := dk_42 (dk_at dksJ0_init_2_1 23 rfl rfl)
theorem dJ0_init_2_47 : decode cJ0_init_2 47 = .ok (.aload_n 2, 1) := dk_44 (dk_at dksJ0_init_2_2 0 rfl rfl)
theorem dJ0_init_2_48 : decode cJ0_init_2 48 = .ok (.putfield 7, 3) := dk_181 0 7 (dk_at dksJ0_init_2_2 1 rfl rfl)
theorem dJ0_init_2_51 : decode cJ0_init_2 51 = .ok (.iload_n 3, 1) := dk_29 (dk_at dksJ0_init_2_2 4 rfl rfl)
theorem dJ0_init_2_52 : decode cJ0_init_2 52 = .ok (.ifCond .ne 8, 3) := dk_154 0 8 (dk_at dksJ0_init_2_2 5 rfl rfl)
theorem dJ0_init_2_55 : decode cJ0_init_2 55 = .ok (.aload_n 0, 1) := dk_42 (dk_at dksJ0_init_2_2 8 rfl rfl)
theorem dJ0_init_2_56 : decode cJ0_init_2 56 = .ok (.aconst_null, 1) := dk_1 (dk_at dksJ0_init_2_2 9 rfl rfl)
theorem dJ0_init_2_57 : decode cJ0_init_2 57 = .ok (.putfield 24, 3) := dk_181 0 24 (dk_at dksJ0_init_2_2 10 rfl rfl)
theorem dJ0_init_2_60 : decode cJ0_init_2 60 = .ok (.return_, 1) := dk_177 (dk_at dksJ0_init_2_2 13 rfl rfl)
theorem q114 : (Jvm.Cond.initialized "java/lang/Throwable") ∈ lw_all := lw_g (lw_at lw_m1 2 rfl) rfl
theorem q165 : (Jvm.Cond.declares ({ cls := "java/lang/Throwable", name := "<init>", desc := "()V" } : Jvm.MethodName)) ∈ lw_tbl := lw_at lw_m1 53 rfl
theorem q166 : (Jvm.Cond.declares ({ cls := "java/lang/Throwable", name := "<init>", desc := "(Ljava/lang/String;)V" } : Jvm.MethodName)) ∈ lw_tbl := lw_at lw_m1 54 rfl
theorem q170 : (Jvm.Cond.lays "java/lang/Throwable" "java/lang/Throwable" "cause" "Ljava/lang/Throwable;") ∈ lw_all := lw_g (lw_at lw_m1 58 rfl) rfl
theorem q172 : (Jvm.Cond.lays "java/lang/Throwable" "java/lang/Throwable" "stackTrace" "[Ljava/lang/StackTraceElement;") ∈ lw_all := lw_g (lw_at lw_m1 60 rfl) rfl
theorem q174 : (Jvm.Cond.lays "java/lang/Throwable" "java/lang/Throwable" "suppressedExceptions" "Ljava/util/List;") ∈ lw_all := lw_g (lw_at lw_m1 62 rfl) rfl
theorem q176 : (Jvm.Cond.lays "java/lang/Throwable" "java/lang/Throwable" "detailMessage" "Ljava/lang/String;") ∈ lw_all := lw_g (lw_at lw_m1 64 rfl) rfl
theorem q178 : (Jvm.Cond.lays "java/lang/Throwable" "java/lang/Throwable" "backtrace" "Ljava/lang/Object;") ∈ lw_all := lw_g (lw_at lw_m1 66 rfl) rfl
theorem q179 : (Jvm.Cond.fieldLink "java/lang/Throwable" (198 : Nat) "java/lang/Throwable" "backtrace" "Ljava/lang/Object;") ∈ lw_all := lw_g (lw_at lw_m1 67 rfl) rfl
theorem q180 : (Jvm.Cond.superclass "java/lang/Throwable" "java/lang/Object") ∈ lw_all := lw_g (lw_at lw_m1 68 rfl) rfl
theorem q181 : (Jvm.Cond.instanceMethod ({ cls := "java/lang/Throwable", name := "<init>", desc := "()V" } : Jvm.MethodName)) ∈ lw_all := lw_g (lw_at lw_m1 69 rfl) rfl
theorem q182 : (Jvm.Cond.code ({ cls := "java/lang/Throwable", name := "<init>", desc := "()V" } : Jvm.MethodName) prog_30_method_1_code (1 : Nat) (Option.none : Option Jvm.ClassFile.FieldType)) ∈ lw_all := lw_g (lw_at lw_m1 70 rfl) rfl
theorem q183 : (Jvm.Cond.methodLink "java/lang/Throwable" (1 : Nat) ({ cls := "java/lang/Object", name := "<init>", desc := "()V" } : Jvm.MethodName)) ∈ lw_all := lw_g (lw_at lw_m1 71 rfl) rfl
theorem q184 : (Jvm.Cond.fieldLink "java/lang/Throwable" (13 : Nat) "java/lang/Throwable" "UNASSIGNED_STACK" "[Ljava/lang/StackTraceElement;") ∈ lw_all := lw_g (lw_at lw_m1 72 rfl) rfl
theorem q185 : (Jvm.Cond.laysStatic "java/lang/Throwable" "UNASSIGNED_STACK" "[Ljava/lang/StackTraceElement;") ∈ lw_tbl := lw_at lw_m1 73 rfl
theorem q186 : (Jvm.Cond.fieldLink "java/lang/Throwable" (20 : Nat) "java/lang/Throwable" "SUPPRESSED_SENTINEL" "Ljava/util/List;") ∈ lw_all := lw_g (lw_at lw_m1 74 rfl) rfl
theorem q187 : (Jvm.Cond.laysStatic "java/lang/Throwable" "SUPPRESSED_SENTINEL" "Ljava/util/List;") ∈ lw_tbl := lw_at lw_m1 75 rfl
theorem q188 : (Jvm.Cond.methodLink "java/lang/Throwable" (27 : Nat) ({ cls := "java/lang/Throwable", name := "fillInStackTrace", desc := "()Ljava/lang/Throwable;" } : Jvm.MethodName)) ∈ lw_all := lw_g (lw_at lw_m1 76 rfl) rfl
theorem q189 : (Jvm.Cond.instanceMethod ({ cls := "java/lang/Throwable", name := "fillInStackTrace", desc := "()Ljava/lang/Throwable;" } : Jvm.MethodName)) ∈ lw_all := lw_g (lw_at lw_m1 77 rfl) rfl
theorem q190 : (Jvm.Cond.sameMethod "java/lang/Throwable" "java/lang/Throwable" "fillInStackTrace" "()Ljava/lang/Throwable;") ∈ lw_all := lw_g (lw_at lw_m1 78 rfl) rfl
theorem q192 : (Jvm.Cond.codeSync ({ cls := "java/lang/Throwable", name := "fillInStackTrace", desc := "()Ljava/lang/Throwable;" } : Jvm.MethodName) prog_30_method_18_code (1 : Nat) (Option.some (Jvm.ClassFile.FieldType.object "java/lang/Throwable"))) ∈ lw_all := lw_g (lw_at lw_m1 80 rfl) rfl
theorem q193 : (Jvm.Cond.methodLink "java/lang/Throwable" (202 : Nat) ({ cls := "java/lang/Throwable", name := "fillInStackTrace", desc := "(I)Ljava/lang/Throwable;" } : Jvm.MethodName)) ∈ lw_all := lw_g (lw_at lw_m1 81 rfl) rfl
theorem q194 : (Jvm.Cond.privateMethod ({ cls := "java/lang/Throwable", name := "fillInStackTrace", desc := "(I)Ljava/lang/Throwable;" } : Jvm.MethodName)) ∈ lw_tbl := lw_at lw_m1 82 rfl
theorem q195 : (Jvm.Cond.instanceMethod ({ cls := "java/lang/Throwable", name := "fillInStackTrace", desc := "(I)Ljava/lang/Throwable;" } : Jvm.MethodName)) ∈ lw_all := lw_g (lw_at lw_m1 83 rfl) rfl
theorem q196 : (Jvm.Cond.instantiable "java/lang/Throwable" (6 : Nat)) ∈ lw_all := lw_g (lw_at lw_m1 84 rfl) rfl
theorem q197 : (Jvm.Cond.native ({ cls := "java/lang/Throwable", name := "fillInStackTrace", desc := "(I)Ljava/lang/Throwable;" } : Jvm.MethodName)) ∈ lw_all := lw_g (lw_at lw_m1 85 rfl) rfl
theorem q208 : (Jvm.Cond.instanceMethod ({ cls := "java/lang/Throwable", name := "<init>", desc := "(Ljava/lang/String;Ljava/lang/Throwable;ZZ)V" } : Jvm.MethodName)) ∈ lw_all := lw_g (lw_at lw_m1 96 rfl) rfl
theorem q209 : (Jvm.Cond.code ({ cls := "java/lang/Throwable", name := "<init>", desc := "(Ljava/lang/String;Ljava/lang/Throwable;ZZ)V" } : Jvm.MethodName) prog_30_method_5_code (5 : Nat) (Option.none : Option Jvm.ClassFile.FieldType)) ∈ lw_all := lw_g (lw_at lw_m1 97 rfl) rfl
theorem q210 : (Jvm.Cond.fieldLink "java/lang/Throwable" (198 : Nat) "java/lang/Throwable" "backtrace" "Ljava/lang/Object;") ∈ lw_all := lw_g (lw_at lw_m1 98 rfl) rfl
theorem q211 : (Jvm.Cond.fieldLink "java/lang/Throwable" (31 : Nat) "java/lang/Throwable" "detailMessage" "Ljava/lang/String;") ∈ lw_all := lw_g (lw_at lw_m1 99 rfl) rfl
theorem q212 : (Jvm.Cond.fieldLink "java/lang/Throwable" (7 : Nat) "java/lang/Throwable" "cause" "Ljava/lang/Throwable;") ∈ lw_all := lw_g (lw_at lw_m1 100 rfl) rfl
theorem q213 : (Jvm.Cond.fieldLink "java/lang/Throwable" (17 : Nat) "java/lang/Throwable" "stackTrace" "[Ljava/lang/StackTraceElement;") ∈ lw_all := lw_g (lw_at lw_m1 101 rfl) rfl
theorem q214 : (Jvm.Cond.fieldLink "java/lang/Throwable" (24 : Nat) "java/lang/Throwable" "suppressedExceptions" "Ljava/util/List;") ∈ lw_all := lw_g (lw_at lw_m1 102 rfl) rfl
theorem q215 : (Jvm.Cond.soleField "java/lang/Throwable" "backtrace") ∈ lw_all := lw_g (lw_at lw_m1 103 rfl) rfl
theorem q216 : (Jvm.Cond.soleField "java/lang/Throwable" "detailMessage") ∈ lw_all := lw_g (lw_at lw_m1 104 rfl) rfl
theorem q217 : (Jvm.Cond.soleField "java/lang/Throwable" "cause") ∈ lw_all := lw_g (lw_at lw_m1 105 rfl) rfl
theorem q218 : (Jvm.Cond.soleField "java/lang/Throwable" "stackTrace") ∈ lw_all := lw_g (lw_at lw_m1 106 rfl) rfl
theorem q220 : (Jvm.Cond.soleField "java/lang/Throwable" "depth") ∈ lw_all := lw_g (lw_at lw_m1 108 rfl) rfl
theorem q221 : (Jvm.Cond.soleField "java/lang/Throwable" "suppressedExceptions") ∈ lw_all := lw_g (lw_at lw_m1 109 rfl) rfl
theorem q2063 : (Jvm.Cond.sameMethod "java/lang/Throwable" "java/lang/Throwable" "fillInStackTrace" "(I)Ljava/lang/Throwable;") ∈ lw_all := lw_g (lw_at lw_m9 31 rfl) rfl
theorem q2119 : (Jvm.Cond.castable "java/lang/Throwable" "java/lang/Object") ∈ lw_tbl := lw_at lw_m9 87 rfl
theorem in_J0 : ∀ w ∈ wsJ00, w ∈ lw_all := lw_in wsJ00 [170, 172, 174, 176, 178] (by decide +kernel) (by decide +kernel)
/-! java/lang/Exception -/
set_option maxRecDepth 100000
def RJ1 : String := "java/lang/Exception"
abbrev cJ1_init : ByteArray := prog_26_method_5_code
def yJ1_init : MethodName := ⟨RJ1, "<init>", "(Ljava/lang/String;Ljava/lang/Throwable;ZZ)V"⟩
def dkwJ1_init_0 : List UInt8 := [42, 43, 44, 29, 21, 4, 183, 0, 16, 177]
abbrev dktJ1_init_0 : List UInt8 := dkwJ1_init_0 ++ []
theorem dksJ1_init_0 : cJ1_init.data.toList.drop 0 = dktJ1_init_0 := by decide +kernel
theorem dJ1_init_0 : decode cJ1_init 0 = .ok (.aload_n 0, 1) := dk_42 (dk_at dksJ1_init_0 0 rfl rfl)
theorem dJ1_init_1 : decode cJ1_init 1 = .ok (.aload_n 1, 1) := dk_43 (dk_at dksJ1_init_0 1 rfl rfl)
theorem dJ1_init_2 : decode cJ1_init 2 = .ok (.aload_n 2, 1) := dk_44 (dk_at dksJ1_init_0 2 rfl rfl)
theorem dJ1_init_3 : decode cJ1_init 3 = .ok (.iload_n 3, 1) := dk_29 (dk_at dksJ1_init_0 3 rfl rfl)
theorem dJ1_init_4 : decode cJ1_init 4 = .ok (.iload 4, 2) := dk_21 4 (dk_at dksJ1_init_0 4 rfl rfl)
theorem dJ1_init_6 : decode cJ1_init 6 = .ok (.invokespecial 16, 3) := dk_183 0 16 (dk_at dksJ1_init_0 6 rfl rfl)
theorem dJ1_init_9 : decode cJ1_init 9 = .ok (.return_, 1) := dk_177 (dk_at dksJ1_init_0 9 rfl rfl)
theorem q115 : (Jvm.Cond.initialized "java/lang/Exception") ∈ lw_all := lw_g (lw_at lw_m1 3 rfl) rfl
theorem q163 : (Jvm.Cond.declares ({ cls := "java/lang/Exception", name := "<init>", desc := "()V" } : Jvm.MethodName)) ∈ lw_tbl := lw_at lw_m1 51 rfl
theorem q164 : (Jvm.Cond.declares ({ cls := "java/lang/Exception", name := "<init>", desc := "(Ljava/lang/String;)V" } : Jvm.MethodName)) ∈ lw_tbl := lw_at lw_m1 52 rfl
theorem q205 : (Jvm.Cond.instanceMethod ({ cls := "java/lang/Exception", name := "<init>", desc := "(Ljava/lang/String;Ljava/lang/Throwable;ZZ)V" } : Jvm.MethodName)) ∈ lw_all := lw_g (lw_at lw_m1 93 rfl) rfl
theorem q206 : (Jvm.Cond.code ({ cls := "java/lang/Exception", name := "<init>", desc := "(Ljava/lang/String;Ljava/lang/Throwable;ZZ)V" } : Jvm.MethodName) prog_26_method_5_code (5 : Nat) (Option.none : Option Jvm.ClassFile.FieldType)) ∈ lw_all := lw_g (lw_at lw_m1 94 rfl) rfl
theorem q207 : (Jvm.Cond.methodLink "java/lang/Exception" (16 : Nat) ({ cls := "java/lang/Throwable", name := "<init>", desc := "(Ljava/lang/String;Ljava/lang/Throwable;ZZ)V" } : Jvm.MethodName)) ∈ lw_all := lw_g (lw_at lw_m1 95 rfl) rfl
/-! java/lang/RuntimeException -/
set_option maxRecDepth 100000
def RJ2 : String := "java/lang/RuntimeException"
abbrev cJ2_init : ByteArray := prog_28_method_5_code
def yJ2_init : MethodName := ⟨RJ2, "<init>", "(Ljava/lang/String;Ljava/lang/Throwable;ZZ)V"⟩
def dkwJ2_init_0 : List UInt8 := [42, 43, 44, 29, 21, 4, 183, 0, 16, 177]
abbrev dktJ2_init_0 : List UInt8 := dkwJ2_init_0 ++ []
theorem dksJ2_init_0 : cJ2_init.data.toList.drop 0 = dktJ2_init_0 := by decide +kernel
theorem dJ2_init_0 : decode cJ2_init 0 = .ok (.aload_n 0, 1) := dk_42 (dk_at dksJ2_init_0 0 rfl rfl)
theorem dJ2_init_1 : decode cJ2_init 1 = .ok (.aload_n 1, 1) := dk_43 (dk_at dksJ2_init_0 1 rfl rfl)
theorem dJ2_init_2 : decode cJ2_init 2 = .ok (.aload_n 2, 1) := dk_44 (dk_at dksJ2_init_0 2 rfl rfl)
theorem dJ2_init_3 : decode cJ2_init 3 = .ok (.iload_n 3, 1) := dk_29 (dk_at dksJ2_init_0 3 rfl rfl)
theorem dJ2_init_4 : decode cJ2_init 4 = .ok (.iload 4, 2) := dk_21 4 (dk_at dksJ2_init_0 4 rfl rfl)
theorem dJ2_init_6 : decode cJ2_init 6 = .ok (.invokespecial 16, 3) := dk_183 0 16 (dk_at dksJ2_init_0 6 rfl rfl)
theorem dJ2_init_9 : decode cJ2_init 9 = .ok (.return_, 1) := dk_177 (dk_at dksJ2_init_0 9 rfl rfl)
theorem q116 : (Jvm.Cond.initialized "java/lang/RuntimeException") ∈ lw_all := lw_g (lw_at lw_m1 4 rfl) rfl
theorem q161 : (Jvm.Cond.declares ({ cls := "java/lang/RuntimeException", name := "<init>", desc := "()V" } : Jvm.MethodName)) ∈ lw_tbl := lw_at lw_m1 49 rfl
theorem q162 : (Jvm.Cond.declares ({ cls := "java/lang/RuntimeException", name := "<init>", desc := "(Ljava/lang/String;)V" } : Jvm.MethodName)) ∈ lw_tbl := lw_at lw_m1 50 rfl
theorem q202 : (Jvm.Cond.instanceMethod ({ cls := "java/lang/RuntimeException", name := "<init>", desc := "(Ljava/lang/String;Ljava/lang/Throwable;ZZ)V" } : Jvm.MethodName)) ∈ lw_all := lw_g (lw_at lw_m1 90 rfl) rfl
theorem q203 : (Jvm.Cond.code ({ cls := "java/lang/RuntimeException", name := "<init>", desc := "(Ljava/lang/String;Ljava/lang/Throwable;ZZ)V" } : Jvm.MethodName) prog_28_method_5_code (5 : Nat) (Option.none : Option Jvm.ClassFile.FieldType)) ∈ lw_all := lw_g (lw_at lw_m1 91 rfl) rfl
theorem q204 : (Jvm.Cond.methodLink "java/lang/RuntimeException" (16 : Nat) ({ cls := "java/lang/Exception", name := "<init>", desc := "(Ljava/lang/String;Ljava/lang/Throwable;ZZ)V" } : Jvm.MethodName)) ∈ lw_all := lw_g (lw_at lw_m1 92 rfl) rfl
/-! java/lang/Math -/
set_option maxRecDepth 100000
def RJ3 : String := "java/lang/Math"
abbrev cJ3_max : ByteArray := prog_27_method_65_code
def yJ3_max : MethodName := ⟨RJ3, "max", "(II)I"⟩
def dkwJ3_max_0 : List UInt8 := [26, 27, 161, 0, 7, 26, 167, 0, 4, 27, 172]
abbrev dktJ3_max_0 : List UInt8 := dkwJ3_max_0 ++ []
theorem dksJ3_max_0 : cJ3_max.data.toList.drop 0 = dktJ3_max_0 := by decide +kernel
theorem dJ3_max_0 : decode cJ3_max 0 = .ok (.iload_n 0, 1) := dk_26 (dk_at dksJ3_max_0 0 rfl rfl)
theorem dJ3_max_1 : decode cJ3_max 1 = .ok (.iload_n 1, 1) := dk_27 (dk_at dksJ3_max_0 1 rfl rfl)
theorem dJ3_max_2 : decode cJ3_max 2 = .ok (.if_icmp .lt 7, 3) := dk_161 0 7 (dk_at dksJ3_max_0 2 rfl rfl)
theorem dJ3_max_5 : decode cJ3_max 5 = .ok (.iload_n 0, 1) := dk_26 (dk_at dksJ3_max_0 5 rfl rfl)
theorem dJ3_max_6 : decode cJ3_max 6 = .ok (.goto 4, 3) := dk_167 0 4 (dk_at dksJ3_max_0 6 rfl rfl)
theorem dJ3_max_9 : decode cJ3_max 9 = .ok (.iload_n 1, 1) := dk_27 (dk_at dksJ3_max_0 9 rfl rfl)
theorem dJ3_max_10 : decode cJ3_max 10 = .ok (.ireturn, 1) := dk_172 (dk_at dksJ3_max_0 10 rfl rfl)
abbrev cJ3_min : ByteArray := prog_27_method_69_code
def yJ3_min : MethodName := ⟨RJ3, "min", "(II)I"⟩
def dkwJ3_min_0 : List UInt8 := [26, 27, 163, 0, 7, 26, 167, 0, 4, 27, 172]
abbrev dktJ3_min_0 : List UInt8 := dkwJ3_min_0 ++ []
theorem dksJ3_min_0 : cJ3_min.data.toList.drop 0 = dktJ3_min_0 := by decide +kernel
theorem dJ3_min_0 : decode cJ3_min 0 = .ok (.iload_n 0, 1) := dk_26 (dk_at dksJ3_min_0 0 rfl rfl)
theorem dJ3_min_1 : decode cJ3_min 1 = .ok (.iload_n 1, 1) := dk_27 (dk_at dksJ3_min_0 1 rfl rfl)
theorem dJ3_min_2 : decode cJ3_min 2 = .ok (.if_icmp .gt 7, 3) := dk_163 0 7 (dk_at dksJ3_min_0 2 rfl rfl)
theorem dJ3_min_5 : decode cJ3_min 5 = .ok (.iload_n 0, 1) := dk_26 (dk_at dksJ3_min_0 5 rfl rfl)
theorem dJ3_min_6 : decode cJ3_min 6 = .ok (.goto 4, 3) := dk_167 0 4 (dk_at dksJ3_min_0 6 rfl rfl)
theorem dJ3_min_9 : decode cJ3_min 9 = .ok (.iload_n 1, 1) := dk_27 (dk_at dksJ3_min_0 9 rfl rfl)
theorem dJ3_min_10 : decode cJ3_min 10 = .ok (.ireturn, 1) := dk_172 (dk_at dksJ3_min_0 10 rfl rfl)
abbrev cJ3_abs : ByteArray := prog_27_method_59_code
def yJ3_abs : MethodName := ⟨RJ3, "abs", "(I)I"⟩
def dkwJ3_abs_0 : List UInt8 := [26, 156, 0, 8, 26, 116, 167, 0, 4, 26, 172]
abbrev dktJ3_abs_0 : List UInt8 := dkwJ3_abs_0 ++ []
theorem dksJ3_abs_0 : cJ3_abs.data.toList.drop 0 = dktJ3_abs_0 := by decide +kernel
theorem dJ3_abs_0 : decode cJ3_abs 0 = .ok (.iload_n 0, 1) := dk_26 (dk_at dksJ3_abs_0 0 rfl rfl)
theorem dJ3_abs_1 : decode cJ3_abs 1 = .ok (.ifCond .ge 8, 3) := dk_156 0 8 (dk_at dksJ3_abs_0 1 rfl rfl)
theorem dJ3_abs_4 : decode cJ3_abs 4 = .ok (.iload_n 0, 1) := dk_26 (dk_at dksJ3_abs_0 4 rfl rfl)
theorem dJ3_abs_5 : decode cJ3_abs 5 = .ok (.ineg, 1) := dk_116 (dk_at dksJ3_abs_0 5 rfl rfl)
theorem dJ3_abs_6 : decode cJ3_abs 6 = .ok (.goto 4, 3) := dk_167 0 4 (dk_at dksJ3_abs_0 6 rfl rfl)
theorem dJ3_abs_9 : decode cJ3_abs 9 = .ok (.iload_n 0, 1) := dk_26 (dk_at dksJ3_abs_0 9 rfl rfl)
theorem dJ3_abs_10 : decode cJ3_abs 10 = .ok (.ireturn, 1) := dk_172 (dk_at dksJ3_abs_0 10 rfl rfl)
theorem q130 : (Jvm.Cond.initialized "java/lang/Math") ∈ lw_all := lw_g (lw_at lw_m1 18 rfl) rfl
theorem q687 : (Jvm.Cond.static ({ cls := "java/lang/Math", name := "max", desc := "(II)I" } : Jvm.MethodName)) ∈ lw_all := lw_g (lw_at lw_m3 95 rfl) rfl
theorem q688 : (Jvm.Cond.code ({ cls := "java/lang/Math", name := "max", desc := "(II)I" } : Jvm.MethodName) prog_27_method_65_code (2 : Nat) (Option.some Jvm.ClassFile.FieldType.int)) ∈ lw_all := lw_g (lw_at lw_m3 96 rfl) rfl
theorem q727 : (Jvm.Cond.static ({ cls := "java/lang/Math", name := "min", desc := "(II)I" } : Jvm.MethodName)) ∈ lw_all := lw_g (lw_at lw_m3 135 rfl) rfl
theorem q728 : (Jvm.Cond.code ({ cls := "java/lang/Math", name := "min", desc := "(II)I" } : Jvm.MethodName) prog_27_method_69_code (2 : Nat) (Option.some Jvm.ClassFile.FieldType.int)) ∈ lw_all := lw_g (lw_at lw_m3 136 rfl) rfl
theorem q861 : (Jvm.Cond.static ({ cls := "java/lang/Math", name := "abs", desc := "(I)I" } : Jvm.MethodName)) ∈ lw_all := lw_g (lw_at lw_m4 29 rfl) rfl
theorem q862 : (Jvm.Cond.code ({ cls := "java/lang/Math", name := "abs", desc := "(I)I" } : Jvm.MethodName) prog_27_method_59_code (1 : Nat) (Option.some Jvm.ClassFile.FieldType.int)) ∈ lw_all := lw_g (lw_at lw_m4 30 rfl) rfl
/-! java/lang/Object -/
set_option maxRecDepth 100000
def RJ4 : String := "java/lang/Object"
abbrev cJ4_init : ByteArray := object_method_1_code
def yJ4_init : MethodName := ⟨RJ4, "<init>", "()V"⟩
theorem dJ4_init_0 : decode cJ4_init 0 = .ok (.return_, 1) := by decide +kernel
theorem q154 : (Jvm.Cond.instanceMethod ({ cls := "java/lang/Object", name := "<init>", desc := "()V" } : Jvm.MethodName)) ∈ lw_all := lw_g (lw_at lw_m1 42 rfl) rfl
theorem q155 : (Jvm.Cond.code ({ cls := "java/lang/Object", name := "<init>", desc := "()V" } : Jvm.MethodName) object_method_1_code (1 : Nat) (Option.none : Option Jvm.ClassFile.FieldType)) ∈ lw_all := lw_g (lw_at lw_m1 43 rfl) rfl
/-! NailedByWord$Fault -/
set_option maxRecDepth 100000
def RX1 : String := "NailedByWord$Fault"
def TX1 : u_T := fun k => match k with
  | 0 => ("java/lang/Throwable", "cause", "Ljava/lang/Throwable;", false)
  | 1 => ("java/lang/Throwable", "stackTrace", "[Ljava/lang/StackTraceElement;", false)
  | 2 => ("java/lang/Throwable", "suppressedExceptions", "Ljava/util/List;", false)
  | 3 => ("java/lang/Throwable", "detailMessage", "Ljava/lang/String;", false)
  | 4 => ("java/lang/Throwable", "backtrace", "Ljava/lang/Object;", false)
  | _ => ("java/lang/Throwable", "depth", "I", false)
def tyX1 : Nat → FieldType := fun k => match k with
  | 0 => .object "java/lang/Throwable"
  | 1 => .array (.object "java/lang/StackTraceElement")
  | 2 => .object "java/util/List"
  | 3 => .object "java/lang/String"
  | 4 => .object "java/lang/Object"
  | _ => .int
abbrev wsX10 : List Cond := u_ws RX1 TX1 6
theorem nmX1 : ∀ a, a < 6 → ∀ b, b < 6 → a ≠ b → (TX1 a).2.1 ≠ (TX1 b).2.1 := by decide +kernel
theorem tyX1_ok : ∀ k, k < 6 → parseFieldDescriptor (TX1 k).2.2.1 = some (tyX1 k) := by decide +kernel
abbrev cX1_init : ByteArray := prog_6_method_1_code
def yX1_init : MethodName := ⟨RX1, "<init>", "()V"⟩
def dkwX1_init_0 : List UInt8 := [42, 1, 1, 3, 3, 183, 0, 1, 177]
abbrev dktX1_init_0 : List UInt8 := dkwX1_init_0 ++ []
theorem dksX1_init_0 : cX1_init.data.toList.drop 0 = dktX1_init_0 := by decide +kernel
theorem dX1_init_0 : decode cX1_init 0 = .ok (.aload_n 0, 1) := dk_42 (dk_at dksX1_init_0 0 rfl rfl)
theorem dX1_init_1 : decode cX1_init 1 = .ok (.aconst_null, 1) := dk_1 (dk_at dksX1_init_0 1 rfl rfl)
theorem dX1_init_2 : decode cX1_init 2 = .ok (.aconst_null, 1) := dk_1 (dk_at dksX1_init_0 2 rfl rfl)
theorem dX1_init_3 : decode cX1_init 3 = .ok (.iconst 0, 1) := dk_3 (dk_at dksX1_init_0 3 rfl rfl)
theorem dX1_init_4 : decode cX1_init 4 = .ok (.iconst 0, 1) := dk_3 (dk_at dksX1_init_0 4 rfl rfl)
theorem dX1_init_5 : decode cX1_init 5 = .ok (.invokespecial 1, 3) := dk_183 0 1 (dk_at dksX1_init_0 5 rfl rfl)
theorem dX1_init_8 : decode cX1_init 8 = .ok (.return_, 1) := dk_177 (dk_at dksX1_init_0 8 rfl rfl)
theorem q117 : (Jvm.Cond.initialized "NailedByWord$Fault") ∈ lw_all := lw_g (lw_at lw_m1 5 rfl) rfl
theorem q159 : (Jvm.Cond.instantiable "NailedByWord$Fault" (6 : Nat)) ∈ lw_all := lw_g (lw_at lw_m1 47 rfl) rfl
theorem q160 : (Jvm.Cond.castable "NailedByWord$Fault" "NailedByWord$Fault") ∈ lw_tbl := lw_at lw_m1 48 rfl
theorem q167 : (Jvm.Cond.selects "NailedByWord$Fault" ({ cls := "java/lang/Throwable", name := "fillInStackTrace", desc := "(I)Ljava/lang/Throwable;" } : Jvm.MethodName) ({ cls := "java/lang/Throwable", name := "fillInStackTrace", desc := "(I)Ljava/lang/Throwable;" } : Jvm.MethodName)) ∈ lw_all := lw_g (lw_at lw_m1 55 rfl) rfl
theorem q168 : (Jvm.Cond.selects "NailedByWord$Fault" ({ cls := "java/lang/Throwable", name := "fillInStackTrace", desc := "()Ljava/lang/Throwable;" } : Jvm.MethodName) ({ cls := "java/lang/Throwable", name := "fillInStackTrace", desc := "()Ljava/lang/Throwable;" } : Jvm.MethodName)) ∈ lw_all := lw_g (lw_at lw_m1 56 rfl) rfl
theorem q169 : (Jvm.Cond.lays "NailedByWord$Fault" "java/lang/Throwable" "cause" "Ljava/lang/Throwable;") ∈ lw_all := lw_g (lw_at lw_m1 57 rfl) rfl
theorem q171 : (Jvm.Cond.lays "NailedByWord$Fault" "java/lang/Throwable" "stackTrace" "[Ljava/lang/StackTraceElement;") ∈ lw_all := lw_g (lw_at lw_m1 59 rfl) rfl
theorem q173 : (Jvm.Cond.lays "NailedByWord$Fault" "java/lang/Throwable" "suppressedExceptions" "Ljava/util/List;") ∈ lw_all := lw_g (lw_at lw_m1 61 rfl) rfl
theorem q175 : (Jvm.Cond.lays "NailedByWord$Fault" "java/lang/Throwable" "detailMessage" "Ljava/lang/String;") ∈ lw_all := lw_g (lw_at lw_m1 63 rfl) rfl
theorem q177 : (Jvm.Cond.lays "NailedByWord$Fault" "java/lang/Throwable" "backtrace" "Ljava/lang/Object;") ∈ lw_all := lw_g (lw_at lw_m1 65 rfl) rfl
theorem q199 : (Jvm.Cond.instanceMethod ({ cls := "NailedByWord$Fault", name := "<init>", desc := "()V" } : Jvm.MethodName)) ∈ lw_all := lw_g (lw_at lw_m1 87 rfl) rfl
theorem q200 : (Jvm.Cond.code ({ cls := "NailedByWord$Fault", name := "<init>", desc := "()V" } : Jvm.MethodName) prog_6_method_1_code (1 : Nat) (Option.none : Option Jvm.ClassFile.FieldType)) ∈ lw_all := lw_g (lw_at lw_m1 88 rfl) rfl
theorem q201 : (Jvm.Cond.methodLink "NailedByWord$Fault" (1 : Nat) ({ cls := "java/lang/RuntimeException", name := "<init>", desc := "(Ljava/lang/String;Ljava/lang/Throwable;ZZ)V" } : Jvm.MethodName)) ∈ lw_all := lw_g (lw_at lw_m1 89 rfl) rfl
theorem q219 : (Jvm.Cond.lays "NailedByWord$Fault" "java/lang/Throwable" "depth" "I") ∈ lw_all := lw_g (lw_at lw_m1 107 rfl) rfl
theorem q222 : (Jvm.Cond.superclass "NailedByWord$Fault" "java/lang/RuntimeException") ∈ lw_all := lw_g (lw_at lw_m1 110 rfl) rfl
theorem q2099 : (Jvm.Cond.castable "NailedByWord$Fault" "java/lang/Object") ∈ lw_tbl := lw_at lw_m9 67 rfl
theorem in_X1 : ∀ w ∈ wsX10, w ∈ lw_all := lw_in wsX10 [169, 171, 173, 175, 177, 219] (by decide +kernel) (by decide +kernel)
/-! NailedByWord$Held -/
set_option maxRecDepth 100000
def RX2 : String := "NailedByWord$Held"
def TX2 : u_T := fun k => match k with
  | _ => ("NailedByWord$Held", "v", "I", false)
def tyX2 : Nat → FieldType := fun k => match k with
  | _ => .int
abbrev wsX20 : List Cond := u_ws RX2 TX2 1
theorem nmX2 : ∀ a, a < 1 → ∀ b, b < 1 → a ≠ b → (TX2 a).2.1 ≠ (TX2 b).2.1 := by decide +kernel
theorem tyX2_ok : ∀ k, k < 1 → parseFieldDescriptor (TX2 k).2.2.1 = some (tyX2 k) := by decide +kernel
abbrev cX2_init : ByteArray := prog_9_method_1_code
def yX2_init : MethodName := ⟨RX2, "<init>", "()V"⟩
theorem dX2_init_0 : decode cX2_init 0 = .ok (.aload_n 0, 1) := by decide +kernel
theorem dX2_init_1 : decode cX2_init 1 = .ok (.invokespecial 1, 3) := by decide +kernel
theorem dX2_init_4 : decode cX2_init 4 = .ok (.return_, 1) := by decide +kernel
theorem q118 : (Jvm.Cond.initialized "NailedByWord$Held") ∈ lw_all := lw_g (lw_at lw_m1 6 rfl) rfl
theorem q232 : (Jvm.Cond.instantiable "NailedByWord$Held" (1 : Nat)) ∈ lw_all := lw_g (lw_at lw_m1 120 rfl) rfl
theorem q234 : (Jvm.Cond.instanceMethod ({ cls := "NailedByWord$Held", name := "<init>", desc := "()V" } : Jvm.MethodName)) ∈ lw_all := lw_g (lw_at lw_m1 122 rfl) rfl
theorem q235 : (Jvm.Cond.code ({ cls := "NailedByWord$Held", name := "<init>", desc := "()V" } : Jvm.MethodName) prog_9_method_1_code (1 : Nat) (Option.none : Option Jvm.ClassFile.FieldType)) ∈ lw_all := lw_g (lw_at lw_m1 123 rfl) rfl
theorem q236 : (Jvm.Cond.methodLink "NailedByWord$Held" (1 : Nat) ({ cls := "java/lang/Object", name := "<init>", desc := "()V" } : Jvm.MethodName)) ∈ lw_all := lw_g (lw_at lw_m1 124 rfl) rfl
theorem q239 : (Jvm.Cond.lays "NailedByWord$Held" "NailedByWord$Held" "v" "I") ∈ lw_all := lw_g (lw_at lw_m1 127 rfl) rfl
theorem q240 : (Jvm.Cond.soleField "NailedByWord$Held" "v") ∈ lw_all := lw_g (lw_at lw_m1 128 rfl) rfl
theorem q241 : (Jvm.Cond.superclass "NailedByWord$Held" "java/lang/Object") ∈ lw_all := lw_g (lw_at lw_m1 129 rfl) rfl
theorem q2100 : (Jvm.Cond.castable "NailedByWord$Held" "java/lang/Object") ∈ lw_tbl := lw_at lw_m9 68 rfl
theorem in_X2 : ∀ w ∈ wsX20, w ∈ lw_all := lw_in wsX20 [239] (by decide +kernel) (by decide +kernel)
/-! NailedByWord$Torn -/
set_option maxRecDepth 100000
def RX3 : String := "NailedByWord$Torn"
def TX3 : u_T := fun k => match k with
  | 0 => ("java/lang/Throwable", "cause", "Ljava/lang/Throwable;", false)
  | 1 => ("java/lang/Throwable", "stackTrace", "[Ljava/lang/StackTraceElement;", false)
  | 2 => ("java/lang/Throwable", "suppressedExceptions", "Ljava/util/List;", false)
  | 3 => ("java/lang/Throwable", "detailMessage", "Ljava/lang/String;", false)
  | 4 => ("java/lang/Throwable", "backtrace", "Ljava/lang/Object;", false)
  | _ => ("java/lang/Throwable", "depth", "I", false)
def tyX3 : Nat → FieldType := fun k => match k with
  | 0 => .object "java/lang/Throwable"
  | 1 => .array (.object "java/lang/StackTraceElement")
  | 2 => .object "java/util/List"
  | 3 => .object "java/lang/String"
  | 4 => .object "java/lang/Object"
  | _ => .int
abbrev wsX30 : List Cond := u_ws RX3 TX3 6
theorem nmX3 : ∀ a, a < 6 → ∀ b, b < 6 → a ≠ b → (TX3 a).2.1 ≠ (TX3 b).2.1 := by decide +kernel
theorem tyX3_ok : ∀ k, k < 6 → parseFieldDescriptor (TX3 k).2.2.1 = some (tyX3 k) := by decide +kernel
abbrev cX3_init : ByteArray := prog_22_method_1_code
def yX3_init : MethodName := ⟨RX3, "<init>", "()V"⟩
def dkwX3_init_0 : List UInt8 := [42, 1, 1, 3, 3, 183, 0, 1, 177]
abbrev dktX3_init_0 : List UInt8 := dkwX3_init_0 ++ []
theorem dksX3_init_0 : cX3_init.data.toList.drop 0 = dktX3_init_0 := by decide +kernel
theorem dX3_init_0 : decode cX3_init 0 = .ok (.aload_n 0, 1) := dk_42 (dk_at dksX3_init_0 0 rfl rfl)
theorem dX3_init_1 : decode cX3_init 1 = .ok (.aconst_null, 1) := dk_1 (dk_at dksX3_init_0 1 rfl rfl)
theorem dX3_init_2 : decode cX3_init 2 = .ok (.aconst_null, 1) := dk_1 (dk_at dksX3_init_0 2 rfl rfl)
theorem dX3_init_3 : decode cX3_init 3 = .ok (.iconst 0, 1) := dk_3 (dk_at dksX3_init_0 3 rfl rfl)
theorem dX3_init_4 : decode cX3_init 4 = .ok (.iconst 0, 1) := dk_3 (dk_at dksX3_init_0 4 rfl rfl)
theorem dX3_init_5 : decode cX3_init 5 = .ok (.invokespecial 1, 3) := dk_183 0 1 (dk_at dksX3_init_0 5 rfl rfl)
theorem dX3_init_8 : decode cX3_init 8 = .ok (.return_, 1) := dk_177 (dk_at dksX3_init_0 8 rfl rfl)
theorem q119 : (Jvm.Cond.initialized "NailedByWord$Torn") ∈ lw_all := lw_g (lw_at lw_m1 7 rfl) rfl
theorem q191 : (Jvm.Cond.selects "NailedByWord$Torn" ({ cls := "java/lang/Throwable", name := "fillInStackTrace", desc := "()Ljava/lang/Throwable;" } : Jvm.MethodName) ({ cls := "java/lang/Throwable", name := "fillInStackTrace", desc := "()Ljava/lang/Throwable;" } : Jvm.MethodName)) ∈ lw_all := lw_g (lw_at lw_m1 79 rfl) rfl
theorem q243 : (Jvm.Cond.instantiable "NailedByWord$Torn" (6 : Nat)) ∈ lw_all := lw_g (lw_at lw_m1 131 rfl) rfl
theorem q244 : (Jvm.Cond.castable "NailedByWord$Torn" "NailedByWord$Torn") ∈ lw_tbl := lw_at lw_m1 132 rfl
theorem q245 : (Jvm.Cond.selects "NailedByWord$Torn" ({ cls := "java/lang/Throwable", name := "fillInStackTrace", desc := "(I)Ljava/lang/Throwable;" } : Jvm.MethodName) ({ cls := "java/lang/Throwable", name := "fillInStackTrace", desc := "(I)Ljava/lang/Throwable;" } : Jvm.MethodName)) ∈ lw_all := lw_g (lw_at lw_m1 133 rfl) rfl
theorem q246 : (Jvm.Cond.lays "NailedByWord$Torn" "java/lang/Throwable" "cause" "Ljava/lang/Throwable;") ∈ lw_all := lw_g (lw_at lw_m1 134 rfl) rfl
theorem q247 : (Jvm.Cond.lays "NailedByWord$Torn" "java/lang/Throwable" "stackTrace" "[Ljava/lang/StackTraceElement;") ∈ lw_all := lw_g (lw_at lw_m1 135 rfl) rfl
theorem q248 : (Jvm.Cond.lays "NailedByWord$Torn" "java/lang/Throwable" "suppressedExceptions" "Ljava/util/List;") ∈ lw_all := lw_g (lw_at lw_m1 136 rfl) rfl
theorem q249 : (Jvm.Cond.lays "NailedByWord$Torn" "java/lang/Throwable" "detailMessage" "Ljava/lang/String;") ∈ lw_all := lw_g (lw_at lw_m1 137 rfl) rfl
theorem q250 : (Jvm.Cond.lays "NailedByWord$Torn" "java/lang/Throwable" "backtrace" "Ljava/lang/Object;") ∈ lw_all := lw_g (lw_at lw_m1 138 rfl) rfl
theorem q252 : (Jvm.Cond.instanceMethod ({ cls := "NailedByWord$Torn", name := "<init>", desc := "()V" } : Jvm.MethodName)) ∈ lw_all := lw_g (lw_at lw_m1 140 rfl) rfl
theorem q253 : (Jvm.Cond.code ({ cls := "NailedByWord$Torn", name := "<init>", desc := "()V" } : Jvm.MethodName) prog_22_method_1_code (1 : Nat) (Option.none : Option Jvm.ClassFile.FieldType)) ∈ lw_all := lw_g (lw_at lw_m1 141 rfl) rfl
theorem q254 : (Jvm.Cond.methodLink "NailedByWord$Torn" (1 : Nat) ({ cls := "java/lang/RuntimeException", name := "<init>", desc := "(Ljava/lang/String;Ljava/lang/Throwable;ZZ)V" } : Jvm.MethodName)) ∈ lw_all := lw_g (lw_at lw_m1 142 rfl) rfl
theorem q255 : (Jvm.Cond.lays "NailedByWord$Torn" "java/lang/Throwable" "depth" "I") ∈ lw_all := lw_g (lw_at lw_m1 143 rfl) rfl
theorem q256 : (Jvm.Cond.superclass "NailedByWord$Torn" "java/lang/RuntimeException") ∈ lw_all := lw_g (lw_at lw_m1 144 rfl) rfl
theorem q2101 : (Jvm.Cond.castable "NailedByWord$Torn" "java/lang/Object") ∈ lw_tbl := lw_at lw_m9 69 rfl
theorem in_X3 : ∀ w ∈ wsX30, w ∈ lw_all := lw_in wsX30 [246, 247, 248, 249, 250, 255] (by decide +kernel) (by decide +kernel)
/-! NailedByWord$Change -/
set_option maxRecDepth 100000
def RX4 : String := "NailedByWord$Change"
def TX4 : u_T := fun k => match k with
  | 0 => ("NailedByWord$Change", "of", "LNailedByWord$Held;", false)
  | 1 => ("NailedByWord$Change", "was", "I", false)
  | _ => ("NailedByWord$Change", "is", "I", false)
def tyX4 : Nat → FieldType := fun k => match k with
  | 0 => .object "NailedByWord$Held"
  | 1 => .int
  | _ => .int
abbrev wsX40 : List Cond := u_ws RX4 TX4 3
theorem nmX4 : ∀ a, a < 3 → ∀ b, b < 3 → a ≠ b → (TX4 a).2.1 ≠ (TX4 b).2.1 := by decide +kernel
theorem tyX4_ok : ∀ k, k < 3 → parseFieldDescriptor (TX4 k).2.2.1 = some (tyX4 k) := by decide +kernel
abbrev cX4_init : ByteArray := prog_4_method_1_code
def yX4_init : MethodName := ⟨RX4, "<init>", "()V"⟩
theorem dX4_init_0 : decode cX4_init 0 = .ok (.aload_n 0, 1) := by decide +kernel
theorem dX4_init_1 : decode cX4_init 1 = .ok (.invokespecial 1, 3) := by decide +kernel
theorem dX4_init_4 : decode cX4_init 4 = .ok (.return_, 1) := by decide +kernel
theorem q120 : (Jvm.Cond.initialized "NailedByWord$Change") ∈ lw_all := lw_g (lw_at lw_m1 8 rfl) rfl
theorem q261 : (Jvm.Cond.instantiable "NailedByWord$Change" (3 : Nat)) ∈ lw_all := lw_g (lw_at lw_m1 149 rfl) rfl
theorem q263 : (Jvm.Cond.instanceMethod ({ cls := "NailedByWord$Change", name := "<init>", desc := "()V" } : Jvm.MethodName)) ∈ lw_all := lw_g (lw_at lw_m1 151 rfl) rfl
theorem q264 : (Jvm.Cond.code ({ cls := "NailedByWord$Change", name := "<init>", desc := "()V" } : Jvm.MethodName) prog_4_method_1_code (1 : Nat) (Option.none : Option Jvm.ClassFile.FieldType)) ∈ lw_all := lw_g (lw_at lw_m1 152 rfl) rfl
theorem q265 : (Jvm.Cond.methodLink "NailedByWord$Change" (1 : Nat) ({ cls := "java/lang/Object", name := "<init>", desc := "()V" } : Jvm.MethodName)) ∈ lw_all := lw_g (lw_at lw_m1 153 rfl) rfl
theorem q269 : (Jvm.Cond.lays "NailedByWord$Change" "NailedByWord$Change" "of" "LNailedByWord$Held;") ∈ lw_all := lw_g (lw_at lw_m1 157 rfl) rfl
theorem q270 : (Jvm.Cond.soleField "NailedByWord$Change" "of") ∈ lw_all := lw_g (lw_at lw_m1 158 rfl) rfl
theorem q271 : (Jvm.Cond.lays "NailedByWord$Change" "NailedByWord$Change" "was" "I") ∈ lw_all := lw_g (lw_at lw_m1 159 rfl) rfl
theorem q272 : (Jvm.Cond.soleField "NailedByWord$Change" "was") ∈ lw_all := lw_g (lw_at lw_m1 160 rfl) rfl
theorem q273 : (Jvm.Cond.lays "NailedByWord$Change" "NailedByWord$Change" "is" "I") ∈ lw_all := lw_g (lw_at lw_m1 161 rfl) rfl
theorem q274 : (Jvm.Cond.soleField "NailedByWord$Change" "is") ∈ lw_all := lw_g (lw_at lw_m1 162 rfl) rfl
theorem q275 : (Jvm.Cond.superclass "NailedByWord$Change" "java/lang/Object") ∈ lw_all := lw_g (lw_at lw_m1 163 rfl) rfl
theorem q2102 : (Jvm.Cond.castable "NailedByWord$Change" "java/lang/Object") ∈ lw_tbl := lw_at lw_m9 70 rfl
theorem in_X4 : ∀ w ∈ wsX40, w ∈ lw_all := lw_in wsX40 [269, 271, 273] (by decide +kernel) (by decide +kernel)
/-! NailedByWord$Person -/
set_option maxRecDepth 100000
def RX6 : String := "NailedByWord$Person"
def TX6 : u_T := fun k => match k with
  | 0 => ("NailedByWord$Person", "place", "LNailedByWord$Held;", true)
  | _ => ("NailedByWord$Person", "boots", "LNailedByWord$Held;", true)
def tyX6 : Nat → FieldType := fun k => match k with
  | 0 => .object "NailedByWord$Held"
  | _ => .object "NailedByWord$Held"
abbrev wsX60 : List Cond := u_ws RX6 TX6 2
theorem nmX6 : ∀ a, a < 2 → ∀ b, b < 2 → a ≠ b → (TX6 a).2.1 ≠ (TX6 b).2.1 := by decide +kernel
theorem tyX6_ok : ∀ k, k < 2 → parseFieldDescriptor (TX6 k).2.2.1 = some (tyX6 k) := by decide +kernel
abbrev cX6_init : ByteArray := prog_15_method_1_code
def yX6_init : MethodName := ⟨RX6, "<init>", "(I)V"⟩
def dkwX6_init_0 : List UInt8 := [42, 183, 0, 1, 42, 6, 184, 0, 7, 181, 0, 13, 42, 27, 184, 0, 7, 181, 0, 19, 177]
abbrev dktX6_init_0 : List UInt8 := dkwX6_init_0 ++ []
theorem dksX6_init_0 : cX6_init.data.toList.drop 0 = dktX6_init_0 := by decide +kernel
theorem dX6_init_0 : decode cX6_init 0 = .ok (.aload_n 0, 1) := dk_42 (dk_at dksX6_init_0 0 rfl rfl)
theorem dX6_init_1 : decode cX6_init 1 = .ok (.invokespecial 1, 3) := dk_183 0 1 (dk_at dksX6_init_0 1 rfl rfl)
theorem dX6_init_4 : decode cX6_init 4 = .ok (.aload_n 0, 1) := dk_42 (dk_at dksX6_init_0 4 rfl rfl)
theorem dX6_init_5 : decode cX6_init 5 = .ok (.iconst 3, 1) := dk_6 (dk_at dksX6_init_0 5 rfl rfl)
theorem dX6_init_6 : decode cX6_init 6 = .ok (.invokestatic 7, 3) := dk_184 0 7 (dk_at dksX6_init_0 6 rfl rfl)
theorem dX6_init_9 : decode cX6_init 9 = .ok (.putfield 13, 3) := dk_181 0 13 (dk_at dksX6_init_0 9 rfl rfl)
theorem dX6_init_12 : decode cX6_init 12 = .ok (.aload_n 0, 1) := dk_42 (dk_at dksX6_init_0 12 rfl rfl)
theorem dX6_init_13 : decode cX6_init 13 = .ok (.iload_n 1, 1) := dk_27 (dk_at dksX6_init_0 13 rfl rfl)
theorem dX6_init_14 : decode cX6_init 14 = .ok (.invokestatic 7, 3) := dk_184 0 7 (dk_at dksX6_init_0 14 rfl rfl)
theorem dX6_init_17 : decode cX6_init 17 = .ok (.putfield 19, 3) := dk_181 0 19 (dk_at dksX6_init_0 17 rfl rfl)
theorem dX6_init_20 : decode cX6_init 20 = .ok (.return_, 1) := dk_177 (dk_at dksX6_init_0 20 rfl rfl)
theorem q122 : (Jvm.Cond.initialized "NailedByWord$Person") ∈ lw_all := lw_g (lw_at lw_m1 10 rfl) rfl
theorem q437 : (Jvm.Cond.instantiable "NailedByWord$Person" (2 : Nat)) ∈ lw_all := lw_g (lw_at lw_m2 85 rfl) rfl
theorem q439 : (Jvm.Cond.instanceMethod ({ cls := "NailedByWord$Person", name := "<init>", desc := "(I)V" } : Jvm.MethodName)) ∈ lw_all := lw_g (lw_at lw_m2 87 rfl) rfl
theorem q440 : (Jvm.Cond.code ({ cls := "NailedByWord$Person", name := "<init>", desc := "(I)V" } : Jvm.MethodName) prog_15_method_1_code (2 : Nat) (Option.none : Option Jvm.ClassFile.FieldType)) ∈ lw_all := lw_g (lw_at lw_m2 88 rfl) rfl
theorem q441 : (Jvm.Cond.methodLink "NailedByWord$Person" (1 : Nat) ({ cls := "java/lang/Object", name := "<init>", desc := "()V" } : Jvm.MethodName)) ∈ lw_all := lw_g (lw_at lw_m2 89 rfl) rfl
theorem q442 : (Jvm.Cond.methodLinkNest "NailedByWord$Person" (7 : Nat) ({ cls := "NailedByWord", name := "heldAt", desc := "(I)LNailedByWord$Held;" } : Jvm.MethodName) "NailedByWord") ∈ lw_tbl := lw_at lw_m2 90 rfl
theorem q443 : (Jvm.Cond.fieldLink "NailedByWord$Person" (19 : Nat) "NailedByWord$Person" "place" "LNailedByWord$Held;") ∈ lw_all := lw_g (lw_at lw_m2 91 rfl) rfl
theorem q445 : (Jvm.Cond.fieldLink "NailedByWord$Person" (13 : Nat) "NailedByWord$Person" "boots" "LNailedByWord$Held;") ∈ lw_all := lw_g (lw_at lw_m2 93 rfl) rfl
theorem q447 : (Jvm.Cond.laysFinal "NailedByWord$Person" "NailedByWord$Person" "place" "LNailedByWord$Held;") ∈ lw_all := lw_g (lw_at lw_m2 95 rfl) rfl
theorem q448 : (Jvm.Cond.soleField "NailedByWord$Person" "place") ∈ lw_all := lw_g (lw_at lw_m2 96 rfl) rfl
theorem q449 : (Jvm.Cond.laysFinal "NailedByWord$Person" "NailedByWord$Person" "boots" "LNailedByWord$Held;") ∈ lw_all := lw_g (lw_at lw_m2 97 rfl) rfl
theorem q450 : (Jvm.Cond.soleField "NailedByWord$Person" "boots") ∈ lw_all := lw_g (lw_at lw_m2 98 rfl) rfl
theorem q451 : (Jvm.Cond.superclass "NailedByWord$Person" "java/lang/Object") ∈ lw_all := lw_g (lw_at lw_m2 99 rfl) rfl
theorem q2104 : (Jvm.Cond.castable "NailedByWord$Person" "java/lang/Object") ∈ lw_tbl := lw_at lw_m9 72 rfl
theorem in_X6 : ∀ w ∈ wsX60, w ∈ lw_all := lw_in wsX60 [447, 449] (by decide +kernel) (by decide +kernel)
/-! NailedByWord$Promise -/
set_option maxRecDepth 100000
def RX7 : String := "NailedByWord$Promise"
def TX7 : u_T := fun k => match k with
  | 0 => ("NailedByWord$Promise", "by", "I", true)
  | 1 => ("NailedByWord$Promise", "to", "I", true)
  | _ => ("NailedByWord$Promise", "numbers", "[LNailedByWord$Held;", true)
def tyX7 : Nat → FieldType := fun k => match k with
  | 0 => .int
  | 1 => .int
  | _ => .array (.object "NailedByWord$Held")
abbrev wsX70 : List Cond := u_ws RX7 TX7 3
theorem nmX7 : ∀ a, a < 3 → ∀ b, b < 3 → a ≠ b → (TX7 a).2.1 ≠ (TX7 b).2.1 := by decide +kernel
theorem tyX7_ok : ∀ k, k < 3 → parseFieldDescriptor (TX7 k).2.2.1 = some (tyX7 k) := by decide +kernel
abbrev cX7_init : ByteArray := prog_17_method_1_code
def yX7_init : MethodName := ⟨RX7, "<init>", "(IIIIII)V"⟩
def dkwX7_init_3 : List UInt8 := [42, 180, 0, 11, 5, 50, 21, 5, 181, 0, 28, 42, 180, 0, 11, 6, 50, 21, 6, 181, 0, 28, 177]
abbrev dktX7_init_3 : List UInt8 := dkwX7_init_3 ++ []
def dkwX7_init_2 : List UInt8 := [167, 255, 236, 42, 180, 0, 11, 3, 50, 29, 181, 0, 28, 42, 180, 0, 11, 4, 50, 21, 4, 181, 0, 28]
abbrev dktX7_init_2 : List UInt8 := dkwX7_init_2 ++ dktX7_init_3
def dkwX7_init_1 : List UInt8 := [54, 7, 21, 7, 8, 163, 0, 20, 42, 180, 0, 11, 21, 7, 3, 184, 0, 24, 83, 132, 7, 1]
abbrev dktX7_init_1 : List UInt8 := dkwX7_init_1 ++ dktX7_init_2
def dkwX7_init_0 : List UInt8 := [42, 183, 0, 3, 42, 16, 6, 189, 0, 9, 181, 0, 11, 42, 27, 181, 0, 17, 42, 28, 181, 0, 21, 3]
abbrev dktX7_init_0 : List UInt8 := dkwX7_init_0 ++ dktX7_init_1
theorem dksX7_init_0 : cX7_init.data.toList.drop 0 = dktX7_init_0 := by decide +kernel
theorem dksX7_init_1 : cX7_init.data.toList.drop 24 = dktX7_init_1 := dk_seg dksX7_init_0 24 rfl rfl
theorem dksX7_init_2 : cX7_init.data.toList.drop 46 = dktX7_init_2 := dk_seg dksX7_init_1 22 rfl rfl
theorem dksX7_init_3 : cX7_init.data.toList.drop 70 = dktX7_init_3 := dk_seg dksX7_init_2 24 rfl rfl
theorem dX7_init_0 : decode cX7_init 0 = .ok (.aload_n 0, 1) := dk_42 (dk_at dksX7_init_0 0 rfl rfl)
theorem dX7_init_1 : decode cX7_init 1 = .ok (.invokespecial 3, 3) := dk_183 0 3 (dk_at dksX7_init_0 1 rfl rfl)
theorem dX7_init_4 : decode cX7_init 4 = .ok (.aload_n 0, 1) := dk_42 (dk_at dksX7_init_0 4 rfl rfl)
theorem dX7_init_5 : decode cX7_init 5 = .ok (.bipush 6, 2) := dk_16 6 (dk_at dksX7_init_0 5 rfl rfl)
theorem dX7_init_7 : decode cX7_init 7 = .ok (.anewarray 9, 3) := dk_189 0 9 (dk_at dksX7_init_0 7 rfl rfl)
theorem dX7_init_10 : decode cX7_init 10 = .ok (.putfield 11, 3) := dk_181 0 11 (dk_at dksX7_init_0 10 rfl rfl)
theorem dX7_init_13 : decode cX7_init 13 = .ok (.aload_n 0, 1) := dk_42 (dk_at dksX7_init_0 13 rfl rfl)
theorem dX7_init_14 : decode cX7_init 14 = .ok (.iload_n 1, 1) := dk_27 (dk_at dksX7_init_0 14 rfl rfl)
theorem dX7_init_15 : decode cX7_init 15 = .ok (.putfield 17, 3) := dk_181 0 17 (dk_at dksX7_init_0 15 rfl rfl)
theorem dX7_init_18 : decode cX7_init 18 = .ok (.aload_n 0, 1) := dk_42 (dk_at dksX7_init_0 18 rfl rfl)
theorem dX7_init_19 : decode cX7_init 19 = .ok (.iload_n 2, 1) := dk_28 (dk_at dksX7_init_0 19 rfl rfl)
theorem dX7_init_20 : decode cX7_init 20 = .ok (.putfield 21, 3) := dk_181 0 21 (dk_at dksX7_init_0 20 rfl rfl)
theorem dX7_init_23 : decode cX7_init 23 = .ok (.iconst 0, 1) := dk_3 (dk_at dksX7_init_0 23 rfl rfl)
theorem dX7_init_24 : decode cX7_init 24 = .ok (.istore 7, 2) := dk_54 7 (dk_at dksX7_init_1 0 rfl rfl)
theorem dX7_init_26 : decode cX7_init 26 = .ok (.iload 7, 2) := dk_21 7 (dk_at dksX7_init_1 2 rfl rfl)
theorem dX7_init_28 : decode cX7_init 28 = .ok (.iconst 5, 1) := dk_8 (dk_at dksX7_init_1 4 rfl rfl)
theorem dX7_init_29 : decode cX7_init 29 = .ok (.if_icmp .gt 20, 3) := dk_163 0 20 (dk_at dksX7_init_1 5 rfl rfl)
theorem dX7_init_32 : decode cX7_init 32 = .ok (.aload_n 0, 1) := dk_42 (dk_at dksX7_init_1 8 rfl rfl)
theorem dX7_init_33 : decode cX7_init 33 = .ok (.getfield 11, 3) := dk_180 0 11 (dk_at dksX7_init_1 9 rfl rfl)
theorem dX7_init_36 : decode cX7_init 36 = .ok (.iload 7, 2) := dk_21 7 (dk_at dksX7_init_1 12 rfl rfl)
theorem dX7_init_38 : decode cX7_init 38 = .ok (.iconst 0, 1) := dk_3 (dk_at dksX7_init_1 14 rfl rfl)
theorem dX7_init_39 : decode cX7_init 39 = .ok (.invokestatic 24, 3) := dk_184 0 24 (dk_at dksX7_init_1 15 rfl rfl)
theorem dX7_init_42 : decode cX7_init 42 = .ok (.aastore, 1) := dk_83 (dk_at dksX7_init_1 18 rfl rfl)
theorem dX7_init_43 : decode cX7_init 43 = .ok (.iinc 7 1, 3) := dk_132 7 1 (dk_at dksX7_init_1 19 rfl rfl)
theorem dX7_init_46 : decode cX7_init 46 = .ok (.goto (-20), 3) := dk_167 255 236 (dk_at dksX7_init_2 0 rfl rfl)
theorem dX7_init_49 : decode cX7_init 49 = .ok (.aload_n 0, 1) := dk_42 (dk_at dksX7_init_2 3 rfl rfl)
theorem dX7_init_50 : decode cX7_init 50 = .ok (.getfield 11, 3) := dk_180 0 11 (dk_at dksX7_init_2 4 rfl rfl)
theorem dX7_init_53 : decode cX7_init 53 = .ok (.iconst 0, 1) := dk_3 (dk_at dksX7_init_2 7 rfl rfl)
theorem dX7_init_54 : decode cX7_init 54 = .ok (.aaload, 1) := dk_50 (dk_at dksX7_init_2 8 rfl rfl)
theorem dX7_init_55 : decode cX7_init 55 = .ok (.iload_n 3, 1) := dk_29 (dk_at dksX7_init_2 9 rfl rfl)
theorem dX7_init_56 : decode cX7_init 56 = .ok (.putfield 28, 3) := dk_181 0 28 (dk_at dksX7_init_2 10 rfl rfl)
theorem dX7_init_59 : decode cX7_init 59 = .ok (.aload_n 0, 1) := dk_42 (dk_at dksX7_init_2 13 rfl rfl)
theorem dX7_init_60 : decode cX7_init 60 = .ok (.getfield 11, 3) := dk_180 0 11 (dk_at dksX7_init_2 14 rfl rfl)
theorem dX7_init_63 : decode cX7_init 63 = .ok (.iconst 1, 1) := dk_4 (dk_at dksX7_init_2 17 rfl rfl)
theorem dX7_init_64 : decode cX7_init 64 = .ok (.aaload, 1) := dk_50 (dk_at dksX7_init_2 18 rfl rfl)
theorem dX7_init_65 : decode cX7_init 65 = .ok (.iload 4, 2) := dk_21 4 (dk_at dksX7_init_2 19 rfl rfl)
theorem dX7_init_67 : decode cX7_init 67 = .ok (.putfield 28, 3) := dk_181 0 28 (dk_at dksX7_init_2 21 rfl rfl)
theorem dX7_init_70 : decode cX7_init 70 = .ok (.aload_n 0, 1) := dk_42 (dk_at dksX7_init_3 0 rfl rfl)
theorem dX7_init_71 : decode cX7_init 71 = .ok (.getfield 11, 3) := dk_180 0 11 (dk_at dksX7_init_3 1 rfl rfl)
theorem dX7_init_74 : decode cX7_init 74 = .ok (.iconst 2, 1) := dk_5 (dk_at dksX7_init_3 4 rfl rfl)
theorem dX7_init_75 : decode cX7_init 75 = .ok (.aaload, 1) := dk_50 (dk_at dksX7_init_3 5 rfl rfl)
theorem dX7_init_76 : decode cX7_init 76 = .ok (.iload 5, 2) := dk_21 5 (dk_at dksX7_init_3 6 rfl rfl)
theorem dX7_init_78 : decode cX7_init 78 = .ok (.putfield 28, 3) := dk_181 0 28 (dk_at dksX7_init_3 8 rfl rfl)
theorem dX7_init_81 : decode cX7_init 81 = .ok (.aload_n 0, 1) := dk_42 (dk_at dksX7_init_3 11 rfl rfl)
theorem dX7_init_82 : decode cX7_init 82 = .ok (.getfield 11, 3) := dk_180 0 11 (dk_at dksX7_init_3 12 rfl rfl)
theorem dX7_init_85 : decode cX7_init 85 = .ok (.iconst 3, 1) := dk_6 (dk_at dksX7_init_3 15 rfl rfl)
theorem dX7_init_86 : decode cX7_init 86 = .ok (.aaload, 1) := dk_50 (dk_at dksX7_init_3 16 rfl rfl)
theorem dX7_init_87 : decode cX7_init 87 = .ok (.iload 6, 2) := dk_21 6 (dk_at dksX7_init_3 17 rfl rfl)
theorem dX7_init_89 : decode cX7_init 89 = .ok (.putfield 28, 3) := dk_181 0 28 (dk_at dksX7_init_3 19 rfl rfl)
theorem dX7_init_92 : decode cX7_init 92 = .ok (.return_, 1) := dk_177 (dk_at dksX7_init_3 22 rfl rfl)
abbrev cX7_of : ByteArray := prog_17_method_2_code
def yX7_of : MethodName := ⟨RX7, "of", "(I)I"⟩
def dkwX7_of_0 : List UInt8 := [42, 180, 0, 11, 27, 5, 100, 50, 180, 0, 28, 172]
abbrev dktX7_of_0 : List UInt8 := dkwX7_of_0 ++ []
theorem dksX7_of_0 : cX7_of.data.toList.drop 0 = dktX7_of_0 := by decide +kernel
theorem dX7_of_0 : decode cX7_of 0 = .ok (.aload_n 0, 1) := dk_42 (dk_at dksX7_of_0 0 rfl rfl)
theorem dX7_of_1 : decode cX7_of 1 = .ok (.getfield 11, 3) := dk_180 0 11 (dk_at dksX7_of_0 1 rfl rfl)
theorem dX7_of_4 : decode cX7_of 4 = .ok (.iload_n 1, 1) := dk_27 (dk_at dksX7_of_0 4 rfl rfl)
theorem dX7_of_5 : decode cX7_of 5 = .ok (.iconst 2, 1) := dk_5 (dk_at dksX7_of_0 5 rfl rfl)
theorem dX7_of_6 : decode cX7_of 6 = .ok (.isub, 1) := dk_100 (dk_at dksX7_of_0 6 rfl rfl)
theorem dX7_of_7 : decode cX7_of 7 = .ok (.aaload, 1) := dk_50 (dk_at dksX7_of_0 7 rfl rfl)
theorem dX7_of_8 : decode cX7_of 8 = .ok (.getfield 28, 3) := dk_180 0 28 (dk_at dksX7_of_0 8 rfl rfl)
theorem dX7_of_11 : decode cX7_of 11 = .ok (.ireturn, 1) := dk_172 (dk_at dksX7_of_0 11 rfl rfl)
theorem q123 : (Jvm.Cond.initialized "NailedByWord$Promise") ∈ lw_all := lw_g (lw_at lw_m1 11 rfl) rfl
theorem q237 : (Jvm.Cond.fieldLinkNest "NailedByWord$Promise" (28 : Nat) "NailedByWord$Held" "v" "I" "NailedByWord") ∈ lw_tbl := lw_at lw_m1 125 rfl
theorem q473 : (Jvm.Cond.instantiable "NailedByWord$Promise" (3 : Nat)) ∈ lw_all := lw_g (lw_at lw_m2 121 rfl) rfl
theorem q475 : (Jvm.Cond.instanceMethod ({ cls := "NailedByWord$Promise", name := "<init>", desc := "(IIIIII)V" } : Jvm.MethodName)) ∈ lw_all := lw_g (lw_at lw_m2 123 rfl) rfl
theorem q476 : (Jvm.Cond.code ({ cls := "NailedByWord$Promise", name := "<init>", desc := "(IIIIII)V" } : Jvm.MethodName) prog_17_method_1_code (8 : Nat) (Option.none : Option Jvm.ClassFile.FieldType)) ∈ lw_all := lw_g (lw_at lw_m2 124 rfl) rfl
theorem q477 : (Jvm.Cond.methodLink "NailedByWord$Promise" (3 : Nat) ({ cls := "java/lang/Object", name := "<init>", desc := "()V" } : Jvm.MethodName)) ∈ lw_all := lw_g (lw_at lw_m2 125 rfl) rfl
theorem q478 : (Jvm.Cond.classLink "NailedByWord$Promise" (9 : Nat) "NailedByWord$Held") ∈ lw_all := lw_g (lw_at lw_m2 126 rfl) rfl
theorem q480 : (Jvm.Cond.methodLinkNest "NailedByWord$Promise" (24 : Nat) ({ cls := "NailedByWord", name := "heldAt", desc := "(I)LNailedByWord$Held;" } : Jvm.MethodName) "NailedByWord") ∈ lw_tbl := lw_at lw_m2 128 rfl
theorem q481 : (Jvm.Cond.fieldLink "NailedByWord$Promise" (17 : Nat) "NailedByWord$Promise" "by" "I") ∈ lw_all := lw_g (lw_at lw_m2 129 rfl) rfl
theorem q483 : (Jvm.Cond.fieldLink "NailedByWord$Promise" (21 : Nat) "NailedByWord$Promise" "to" "I") ∈ lw_all := lw_g (lw_at lw_m2 131 rfl) rfl
theorem q485 : (Jvm.Cond.fieldLink "NailedByWord$Promise" (11 : Nat) "NailedByWord$Promise" "numbers" "[LNailedByWord$Held;") ∈ lw_all := lw_g (lw_at lw_m2 133 rfl) rfl
theorem q487 : (Jvm.Cond.laysFinal "NailedByWord$Promise" "NailedByWord$Promise" "by" "I") ∈ lw_all := lw_g (lw_at lw_m2 135 rfl) rfl
theorem q488 : (Jvm.Cond.soleField "NailedByWord$Promise" "by") ∈ lw_all := lw_g (lw_at lw_m2 136 rfl) rfl
theorem q489 : (Jvm.Cond.laysFinal "NailedByWord$Promise" "NailedByWord$Promise" "to" "I") ∈ lw_all := lw_g (lw_at lw_m2 137 rfl) rfl
theorem q490 : (Jvm.Cond.soleField "NailedByWord$Promise" "to") ∈ lw_all := lw_g (lw_at lw_m2 138 rfl) rfl
theorem q491 : (Jvm.Cond.laysFinal "NailedByWord$Promise" "NailedByWord$Promise" "numbers" "[LNailedByWord$Held;") ∈ lw_all := lw_g (lw_at lw_m2 139 rfl) rfl
theorem q492 : (Jvm.Cond.soleField "NailedByWord$Promise" "numbers") ∈ lw_all := lw_g (lw_at lw_m2 140 rfl) rfl
theorem q493 : (Jvm.Cond.superclass "NailedByWord$Promise" "java/lang/Object") ∈ lw_all := lw_g (lw_at lw_m2 141 rfl) rfl
theorem q679 : (Jvm.Cond.instanceMethod ({ cls := "NailedByWord$Promise", name := "of", desc := "(I)I" } : Jvm.MethodName)) ∈ lw_all := lw_g (lw_at lw_m3 87 rfl) rfl
theorem q680 : (Jvm.Cond.selects "NailedByWord$Promise" ({ cls := "NailedByWord$Promise", name := "of", desc := "(I)I" } : Jvm.MethodName) ({ cls := "NailedByWord$Promise", name := "of", desc := "(I)I" } : Jvm.MethodName)) ∈ lw_all := lw_g (lw_at lw_m3 88 rfl) rfl
theorem q681 : (Jvm.Cond.code ({ cls := "NailedByWord$Promise", name := "of", desc := "(I)I" } : Jvm.MethodName) prog_17_method_2_code (2 : Nat) (Option.some Jvm.ClassFile.FieldType.int)) ∈ lw_all := lw_g (lw_at lw_m3 89 rfl) rfl
theorem q2105 : (Jvm.Cond.castable "NailedByWord$Promise" "java/lang/Object") ∈ lw_tbl := lw_at lw_m9 73 rfl
theorem in_X7 : ∀ w ∈ wsX70, w ∈ lw_all := lw_in wsX70 [487, 489, 491] (by decide +kernel) (by decide +kernel)
/-! NailedByWord$Line -/
set_option maxRecDepth 100000
def RX8 : String := "NailedByWord$Line"
def TX8 : u_T := fun k => match k with
  | 0 => ("NailedByWord$Line", "asked", "LNailedByWord$Term;", false)
  | 1 => ("NailedByWord$Line", "counts", "LNailedByWord$Term;", false)
  | _ => ("NailedByWord$Line", "next", "LNailedByWord$Line;", false)
def tyX8 : Nat → FieldType := fun k => match k with
  | 0 => .object "NailedByWord$Term"
  | 1 => .object "NailedByWord$Term"
  | _ => .object "NailedByWord$Line"
abbrev wsX80 : List Cond := u_ws RX8 TX8 3
theorem nmX8 : ∀ a, a < 3 → ∀ b, b < 3 → a ≠ b → (TX8 a).2.1 ≠ (TX8 b).2.1 := by decide +kernel
theorem tyX8_ok : ∀ k, k < 3 → parseFieldDescriptor (TX8 k).2.2.1 = some (tyX8 k) := by decide +kernel
abbrev cX8_init : ByteArray := prog_13_method_1_code
def yX8_init : MethodName := ⟨RX8, "<init>", "()V"⟩
theorem dX8_init_0 : decode cX8_init 0 = .ok (.aload_n 0, 1) := by decide +kernel
theorem dX8_init_1 : decode cX8_init 1 = .ok (.invokespecial 1, 3) := by decide +kernel
theorem dX8_init_4 : decode cX8_init 4 = .ok (.return_, 1) := by decide +kernel
theorem q124 : (Jvm.Cond.initialized "NailedByWord$Line") ∈ lw_all := lw_g (lw_at lw_m1 12 rfl) rfl
theorem q555 : (Jvm.Cond.instantiable "NailedByWord$Line" (3 : Nat)) ∈ lw_all := lw_g (lw_at lw_m2 203 rfl) rfl
theorem q557 : (Jvm.Cond.instanceMethod ({ cls := "NailedByWord$Line", name := "<init>", desc := "()V" } : Jvm.MethodName)) ∈ lw_all := lw_g (lw_at lw_m2 205 rfl) rfl
theorem q558 : (Jvm.Cond.code ({ cls := "NailedByWord$Line", name := "<init>", desc := "()V" } : Jvm.MethodName) prog_13_method_1_code (1 : Nat) (Option.none : Option Jvm.ClassFile.FieldType)) ∈ lw_all := lw_g (lw_at lw_m2 206 rfl) rfl
theorem q559 : (Jvm.Cond.methodLink "NailedByWord$Line" (1 : Nat) ({ cls := "java/lang/Object", name := "<init>", desc := "()V" } : Jvm.MethodName)) ∈ lw_all := lw_g (lw_at lw_m2 207 rfl) rfl
theorem q563 : (Jvm.Cond.lays "NailedByWord$Line" "NailedByWord$Line" "asked" "LNailedByWord$Term;") ∈ lw_all := lw_g (lw_at lw_m2 211 rfl) rfl
theorem q564 : (Jvm.Cond.soleField "NailedByWord$Line" "asked") ∈ lw_all := lw_g (lw_at lw_m2 212 rfl) rfl
theorem q565 : (Jvm.Cond.lays "NailedByWord$Line" "NailedByWord$Line" "counts" "LNailedByWord$Term;") ∈ lw_all := lw_g (lw_at lw_m2 213 rfl) rfl
theorem q566 : (Jvm.Cond.soleField "NailedByWord$Line" "counts") ∈ lw_all := lw_g (lw_at lw_m2 214 rfl) rfl
theorem q567 : (Jvm.Cond.lays "NailedByWord$Line" "NailedByWord$Line" "next" "LNailedByWord$Line;") ∈ lw_all := lw_g (lw_at lw_m2 215 rfl) rfl
theorem q568 : (Jvm.Cond.soleField "NailedByWord$Line" "next") ∈ lw_all := lw_g (lw_at lw_m2 216 rfl) rfl
theorem q569 : (Jvm.Cond.superclass "NailedByWord$Line" "java/lang/Object") ∈ lw_all := lw_g (lw_at lw_m2 217 rfl) rfl
theorem q2106 : (Jvm.Cond.castable "NailedByWord$Line" "java/lang/Object") ∈ lw_tbl := lw_at lw_m9 74 rfl
theorem in_X8 : ∀ w ∈ wsX80, w ∈ lw_all := lw_in wsX80 [563, 565, 567] (by decide +kernel) (by decide +kernel)
/-! NailedByWord$Term -/
set_option maxRecDepth 100000
def RX9 : String := "NailedByWord$Term"
abbrev cX9_init : ByteArray := prog_21_method_1_code
def yX9_init : MethodName := ⟨RX9, "<init>", "()V"⟩
theorem dX9_init_0 : decode cX9_init 0 = .ok (.aload_n 0, 1) := by decide +kernel
theorem dX9_init_1 : decode cX9_init 1 = .ok (.invokespecial 1, 3) := by decide +kernel
theorem dX9_init_4 : decode cX9_init 4 = .ok (.return_, 1) := by decide +kernel
theorem q125 : (Jvm.Cond.initialized "NailedByWord$Term") ∈ lw_all := lw_g (lw_at lw_m1 13 rfl) rfl
theorem q610 : (Jvm.Cond.instanceMethod ({ cls := "NailedByWord$Term", name := "<init>", desc := "()V" } : Jvm.MethodName)) ∈ lw_all := lw_g (lw_at lw_m3 18 rfl) rfl
theorem q611 : (Jvm.Cond.code ({ cls := "NailedByWord$Term", name := "<init>", desc := "()V" } : Jvm.MethodName) prog_21_method_1_code (1 : Nat) (Option.none : Option Jvm.ClassFile.FieldType)) ∈ lw_all := lw_g (lw_at lw_m3 19 rfl) rfl
theorem q612 : (Jvm.Cond.methodLink "NailedByWord$Term" (1 : Nat) ({ cls := "java/lang/Object", name := "<init>", desc := "()V" } : Jvm.MethodName)) ∈ lw_all := lw_g (lw_at lw_m3 20 rfl) rfl
theorem q708 : (Jvm.Cond.declares ({ cls := "NailedByWord$Term", name := "value", desc := "()I" } : Jvm.MethodName)) ∈ lw_tbl := lw_at lw_m3 116 rfl
theorem q709 : (Jvm.Cond.sameMethod "NailedByWord$Term" "NailedByWord$Term" "value" "()I") ∈ lw_all := lw_g (lw_at lw_m3 117 rfl) rfl
/-! NailedByWord$Figure -/
set_option maxRecDepth 100000
def RX10 : String := "NailedByWord$Figure"
def TX10 : u_T := fun k => match k with
  | _ => ("NailedByWord$Figure", "v", "I", true)
def tyX10 : Nat → FieldType := fun k => match k with
  | _ => .int
abbrev wsX100 : List Cond := u_ws RX10 TX10 1
theorem nmX10 : ∀ a, a < 1 → ∀ b, b < 1 → a ≠ b → (TX10 a).2.1 ≠ (TX10 b).2.1 := by decide +kernel
theorem tyX10_ok : ∀ k, k < 1 → parseFieldDescriptor (TX10 k).2.2.1 = some (tyX10 k) := by decide +kernel
abbrev cX10_init : ByteArray := prog_7_method_1_code
def yX10_init : MethodName := ⟨RX10, "<init>", "(I)V"⟩
def dkwX10_init_0 : List UInt8 := [42, 183, 0, 1, 42, 27, 181, 0, 7, 177]
abbrev dktX10_init_0 : List UInt8 := dkwX10_init_0 ++ []
theorem dksX10_init_0 : cX10_init.data.toList.drop 0 = dktX10_init_0 := by decide +kernel
theorem dX10_init_0 : decode cX10_init 0 = .ok (.aload_n 0, 1) := dk_42 (dk_at dksX10_init_0 0 rfl rfl)
theorem dX10_init_1 : decode cX10_init 1 = .ok (.invokespecial 1, 3) := dk_183 0 1 (dk_at dksX10_init_0 1 rfl rfl)
theorem dX10_init_4 : decode cX10_init 4 = .ok (.aload_n 0, 1) := dk_42 (dk_at dksX10_init_0 4 rfl rfl)
theorem dX10_init_5 : decode cX10_init 5 = .ok (.iload_n 1, 1) := dk_27 (dk_at dksX10_init_0 5 rfl rfl)
theorem dX10_init_6 : decode cX10_init 6 = .ok (.putfield 7, 3) := dk_181 0 7 (dk_at dksX10_init_0 6 rfl rfl)
theorem dX10_init_9 : decode cX10_init 9 = .ok (.return_, 1) := dk_177 (dk_at dksX10_init_0 9 rfl rfl)
abbrev cX10_value : ByteArray := prog_7_method_2_code
def yX10_value : MethodName := ⟨RX10, "value", "()I"⟩
theorem dX10_value_0 : decode cX10_value 0 = .ok (.aload_n 0, 1) := by decide +kernel
theorem dX10_value_1 : decode cX10_value 1 = .ok (.getfield 7, 3) := by decide +kernel
theorem dX10_value_4 : decode cX10_value 4 = .ok (.ireturn, 1) := by decide +kernel
theorem q126 : (Jvm.Cond.initialized "NailedByWord$Figure") ∈ lw_all := lw_g (lw_at lw_m1 14 rfl) rfl
theorem q605 : (Jvm.Cond.instantiable "NailedByWord$Figure" (1 : Nat)) ∈ lw_all := lw_g (lw_at lw_m3 13 rfl) rfl
theorem q607 : (Jvm.Cond.instanceMethod ({ cls := "NailedByWord$Figure", name := "<init>", desc := "(I)V" } : Jvm.MethodName)) ∈ lw_all := lw_g (lw_at lw_m3 15 rfl) rfl
theorem q608 : (Jvm.Cond.code ({ cls := "NailedByWord$Figure", name := "<init>", desc := "(I)V" } : Jvm.MethodName) prog_7_method_1_code (2 : Nat) (Option.none : Option Jvm.ClassFile.FieldType)) ∈ lw_all := lw_g (lw_at lw_m3 16 rfl) rfl
theorem q609 : (Jvm.Cond.methodLinkNest "NailedByWord$Figure" (1 : Nat) ({ cls := "NailedByWord$Term", name := "<init>", desc := "()V" } : Jvm.MethodName) "NailedByWord") ∈ lw_tbl := lw_at lw_m3 17 rfl
theorem q613 : (Jvm.Cond.fieldLink "NailedByWord$Figure" (7 : Nat) "NailedByWord$Figure" "v" "I") ∈ lw_all := lw_g (lw_at lw_m3 21 rfl) rfl
theorem q614 : (Jvm.Cond.laysFinal "NailedByWord$Figure" "NailedByWord$Figure" "v" "I") ∈ lw_all := lw_g (lw_at lw_m3 22 rfl) rfl
theorem q615 : (Jvm.Cond.soleField "NailedByWord$Figure" "v") ∈ lw_all := lw_g (lw_at lw_m3 23 rfl) rfl
theorem q616 : (Jvm.Cond.superclass "NailedByWord$Figure" "NailedByWord$Term") ∈ lw_all := lw_g (lw_at lw_m3 24 rfl) rfl
theorem q714 : (Jvm.Cond.instanceMethod ({ cls := "NailedByWord$Figure", name := "value", desc := "()I" } : Jvm.MethodName)) ∈ lw_all := lw_g (lw_at lw_m3 122 rfl) rfl
theorem q715 : (Jvm.Cond.code ({ cls := "NailedByWord$Figure", name := "value", desc := "()I" } : Jvm.MethodName) prog_7_method_2_code (1 : Nat) (Option.some Jvm.ClassFile.FieldType.int)) ∈ lw_all := lw_g (lw_at lw_m3 123 rfl) rfl
theorem q723 : (Jvm.Cond.selects "NailedByWord$Figure" ({ cls := "NailedByWord$Term", name := "value", desc := "()I" } : Jvm.MethodName) ({ cls := "NailedByWord$Figure", name := "value", desc := "()I" } : Jvm.MethodName)) ∈ lw_all := lw_g (lw_at lw_m3 131 rfl) rfl
theorem q2107 : (Jvm.Cond.castable "NailedByWord$Figure" "java/lang/Object") ∈ lw_tbl := lw_at lw_m9 75 rfl
theorem in_X10 : ∀ w ∈ wsX100, w ∈ lw_all := lw_in wsX100 [614] (by decide +kernel) (by decide +kernel)
/-! NailedByWord$Named -/
set_option maxRecDepth 100000
def RX11 : String := "NailedByWord$Named"
def TX11 : u_T := fun k => match k with
  | 0 => ("NailedByWord$Named", "name", "I", true)
  | _ => ("NailedByWord$Named", "this$0", "LNailedByWord;", true)
def tyX11 : Nat → FieldType := fun k => match k with
  | 0 => .int
  | _ => .object "NailedByWord"
abbrev wsX110 : List Cond := u_ws RX11 TX11 2
theorem nmX11 : ∀ a, a < 2 → ∀ b, b < 2 → a ≠ b → (TX11 a).2.1 ≠ (TX11 b).2.1 := by decide +kernel
theorem tyX11_ok : ∀ k, k < 2 → parseFieldDescriptor (TX11 k).2.2.1 = some (tyX11 k) := by decide +kernel
abbrev cX11_init : ByteArray := prog_14_method_1_code
def yX11_init : MethodName := ⟨RX11, "<init>", "(LNailedByWord;I)V"⟩
def dkwX11_init_0 : List UInt8 := [42, 43, 181, 0, 1, 42, 183, 0, 7, 42, 28, 181, 0, 13, 177]
abbrev dktX11_init_0 : List UInt8 := dkwX11_init_0 ++ []
theorem dksX11_init_0 : cX11_init.data.toList.drop 0 = dktX11_init_0 := by decide +kernel
theorem dX11_init_0 : decode cX11_init 0 = .ok (.aload_n 0, 1) := dk_42 (dk_at dksX11_init_0 0 rfl rfl)
theorem dX11_init_1 : decode cX11_init 1 = .ok (.aload_n 1, 1) := dk_43 (dk_at dksX11_init_0 1 rfl rfl)
theorem dX11_init_2 : decode cX11_init 2 = .ok (.putfield 1, 3) := dk_181 0 1 (dk_at dksX11_init_0 2 rfl rfl)
theorem dX11_init_5 : decode cX11_init 5 = .ok (.aload_n 0, 1) := dk_42 (dk_at dksX11_init_0 5 rfl rfl)
theorem dX11_init_6 : decode cX11_init 6 = .ok (.invokespecial 7, 3) := dk_183 0 7 (dk_at dksX11_init_0 6 rfl rfl)
theorem dX11_init_9 : decode cX11_init 9 = .ok (.aload_n 0, 1) := dk_42 (dk_at dksX11_init_0 9 rfl rfl)
theorem dX11_init_10 : decode cX11_init 10 = .ok (.iload_n 2, 1) := dk_28 (dk_at dksX11_init_0 10 rfl rfl)
theorem dX11_init_11 : decode cX11_init 11 = .ok (.putfield 13, 3) := dk_181 0 13 (dk_at dksX11_init_0 11 rfl rfl)
theorem dX11_init_14 : decode cX11_init 14 = .ok (.return_, 1) := dk_177 (dk_at dksX11_init_0 14 rfl rfl)
abbrev cX11_value : ByteArray := prog_14_method_2_code
def yX11_value : MethodName := ⟨RX11, "value", "()I"⟩
def dkwX11_value_0 : List UInt8 := [42, 180, 0, 1, 180, 0, 17, 42, 180, 0, 13, 46, 172]
abbrev dktX11_value_0 : List UInt8 := dkwX11_value_0 ++ []
theorem dksX11_value_0 : cX11_value.data.toList.drop 0 = dktX11_value_0 := by decide +kernel
theorem dX11_value_0 : decode cX11_value 0 = .ok (.aload_n 0, 1) := dk_42 (dk_at dksX11_value_0 0 rfl rfl)
theorem dX11_value_1 : decode cX11_value 1 = .ok (.getfield 1, 3) := dk_180 0 1 (dk_at dksX11_value_0 1 rfl rfl)
theorem dX11_value_4 : decode cX11_value 4 = .ok (.getfield 17, 3) := dk_180 0 17 (dk_at dksX11_value_0 4 rfl rfl)
theorem dX11_value_7 : decode cX11_value 7 = .ok (.aload_n 0, 1) := dk_42 (dk_at dksX11_value_0 7 rfl rfl)
theorem dX11_value_8 : decode cX11_value 8 = .ok (.getfield 13, 3) := dk_180 0 13 (dk_at dksX11_value_0 8 rfl rfl)
theorem dX11_value_11 : decode cX11_value 11 = .ok (.iaload, 1) := dk_46 (dk_at dksX11_value_0 11 rfl rfl)
theorem dX11_value_12 : decode cX11_value 12 = .ok (.ireturn, 1) := dk_172 (dk_at dksX11_value_0 12 rfl rfl)
theorem q127 : (Jvm.Cond.initialized "NailedByWord$Named") ∈ lw_all := lw_g (lw_at lw_m1 15 rfl) rfl
theorem q290 : (Jvm.Cond.fieldLinkNest "NailedByWord$Named" (17 : Nat) "NailedByWord" "names" "[I" "NailedByWord") ∈ lw_tbl := lw_at lw_m1 178 rfl
theorem q621 : (Jvm.Cond.instantiable "NailedByWord$Named" (2 : Nat)) ∈ lw_all := lw_g (lw_at lw_m3 29 rfl) rfl
theorem q623 : (Jvm.Cond.instanceMethod ({ cls := "NailedByWord$Named", name := "<init>", desc := "(LNailedByWord;I)V" } : Jvm.MethodName)) ∈ lw_all := lw_g (lw_at lw_m3 31 rfl) rfl
theorem q624 : (Jvm.Cond.code ({ cls := "NailedByWord$Named", name := "<init>", desc := "(LNailedByWord;I)V" } : Jvm.MethodName) prog_14_method_1_code (3 : Nat) (Option.none : Option Jvm.ClassFile.FieldType)) ∈ lw_all := lw_g (lw_at lw_m3 32 rfl) rfl
theorem q625 : (Jvm.Cond.methodLinkNest "NailedByWord$Named" (7 : Nat) ({ cls := "NailedByWord$Term", name := "<init>", desc := "()V" } : Jvm.MethodName) "NailedByWord") ∈ lw_tbl := lw_at lw_m3 33 rfl
theorem q626 : (Jvm.Cond.fieldLink "NailedByWord$Named" (13 : Nat) "NailedByWord$Named" "name" "I") ∈ lw_all := lw_g (lw_at lw_m3 34 rfl) rfl
theorem q627 : (Jvm.Cond.fieldLink "NailedByWord$Named" (1 : Nat) "NailedByWord$Named" "this$0" "LNailedByWord;") ∈ lw_all := lw_g (lw_at lw_m3 35 rfl) rfl
theorem q628 : (Jvm.Cond.laysFinal "NailedByWord$Named" "NailedByWord$Named" "name" "I") ∈ lw_all := lw_g (lw_at lw_m3 36 rfl) rfl
theorem q629 : (Jvm.Cond.soleField "NailedByWord$Named" "name") ∈ lw_all := lw_g (lw_at lw_m3 37 rfl) rfl
theorem q630 : (Jvm.Cond.laysFinal "NailedByWord$Named" "NailedByWord$Named" "this$0" "LNailedByWord;") ∈ lw_all := lw_g (lw_at lw_m3 38 rfl) rfl
theorem q631 : (Jvm.Cond.soleField "NailedByWord$Named" "this$0") ∈ lw_all := lw_g (lw_at lw_m3 39 rfl) rfl
theorem q632 : (Jvm.Cond.superclass "NailedByWord$Named" "NailedByWord$Term") ∈ lw_all := lw_g (lw_at lw_m3 40 rfl) rfl
theorem q716 : (Jvm.Cond.instanceMethod ({ cls := "NailedByWord$Named", name := "value", desc := "()I" } : Jvm.MethodName)) ∈ lw_all := lw_g (lw_at lw_m3 124 rfl) rfl
theorem q717 : (Jvm.Cond.code ({ cls := "NailedByWord$Named", name := "value", desc := "()I" } : Jvm.MethodName) prog_14_method_2_code (1 : Nat) (Option.some Jvm.ClassFile.FieldType.int)) ∈ lw_all := lw_g (lw_at lw_m3 125 rfl) rfl
theorem q724 : (Jvm.Cond.selects "NailedByWord$Named" ({ cls := "NailedByWord$Term", name := "value", desc := "()I" } : Jvm.MethodName) ({ cls := "NailedByWord$Named", name := "value", desc := "()I" } : Jvm.MethodName)) ∈ lw_all := lw_g (lw_at lw_m3 132 rfl) rfl
theorem q2108 : (Jvm.Cond.castable "NailedByWord$Named" "java/lang/Object") ∈ lw_tbl := lw_at lw_m9 76 rfl
theorem in_X11 : ∀ w ∈ wsX110, w ∈ lw_all := lw_in wsX110 [628, 630] (by decide +kernel) (by decide +kernel)
/-! NailedByWord$Signed -/
set_option maxRecDepth 100000
def RX12 : String := "NailedByWord$Signed"
def TX12 : u_T := fun k => match k with
  | 0 => ("NailedByWord$Signed", "sign", "I", true)
  | _ => ("NailedByWord$Signed", "of", "LNailedByWord$Term;", true)
def tyX12 : Nat → FieldType := fun k => match k with
  | 0 => .int
  | _ => .object "NailedByWord$Term"
abbrev wsX120 : List Cond := u_ws RX12 TX12 2
theorem nmX12 : ∀ a, a < 2 → ∀ b, b < 2 → a ≠ b → (TX12 a).2.1 ≠ (TX12 b).2.1 := by decide +kernel
theorem tyX12_ok : ∀ k, k < 2 → parseFieldDescriptor (TX12 k).2.2.1 = some (tyX12 k) := by decide +kernel
abbrev cX12_init : ByteArray := prog_18_method_1_code
def yX12_init : MethodName := ⟨RX12, "<init>", "(ILNailedByWord$Term;)V"⟩
def dkwX12_init_0 : List UInt8 := [42, 183, 0, 1, 42, 27, 181, 0, 7, 42, 44, 181, 0, 13, 177]
abbrev dktX12_init_0 : List UInt8 := dkwX12_init_0 ++ []
theorem dksX12_init_0 : cX12_init.data.toList.drop 0 = dktX12_init_0 := by decide +kernel
theorem dX12_init_0 : decode cX12_init 0 = .ok (.aload_n 0, 1) := dk_42 (dk_at dksX12_init_0 0 rfl rfl)
theorem dX12_init_1 : decode cX12_init 1 = .ok (.invokespecial 1, 3) := dk_183 0 1 (dk_at dksX12_init_0 1 rfl rfl)
theorem dX12_init_4 : decode cX12_init 4 = .ok (.aload_n 0, 1) := dk_42 (dk_at dksX12_init_0 4 rfl rfl)
theorem dX12_init_5 : decode cX12_init 5 = .ok (.iload_n 1, 1) := dk_27 (dk_at dksX12_init_0 5 rfl rfl)
theorem dX12_init_6 : decode cX12_init 6 = .ok (.putfield 7, 3) := dk_181 0 7 (dk_at dksX12_init_0 6 rfl rfl)
theorem dX12_init_9 : decode cX12_init 9 = .ok (.aload_n 0, 1) := dk_42 (dk_at dksX12_init_0 9 rfl rfl)
theorem dX12_init_10 : decode cX12_init 10 = .ok (.aload_n 2, 1) := dk_44 (dk_at dksX12_init_0 10 rfl rfl)
theorem dX12_init_11 : decode cX12_init 11 = .ok (.putfield 13, 3) := dk_181 0 13 (dk_at dksX12_init_0 11 rfl rfl)
theorem dX12_init_14 : decode cX12_init 14 = .ok (.return_, 1) := dk_177 (dk_at dksX12_init_0 14 rfl rfl)
abbrev cX12_value : ByteArray := prog_18_method_2_code
def yX12_value : MethodName := ⟨RX12, "value", "()I"⟩
def dkwX12_value_1 : List UInt8 := [184, 0, 21, 167, 0, 11, 42, 180, 0, 13, 182, 0, 17, 116, 172]
abbrev dktX12_value_1 : List UInt8 := dkwX12_value_1 ++ []
def dkwX12_value_0 : List UInt8 := [42, 180, 0, 7, 16, 33, 160, 0, 24, 42, 180, 0, 13, 182, 0, 17, 154, 0, 7, 4, 167, 0, 4, 3]
abbrev dktX12_value_0 : List UInt8 := dkwX12_value_0 ++ dktX12_value_1
theorem dksX12_value_0 : cX12_value.data.toList.drop 0 = dktX12_value_0 := by decide +kernel
theorem dksX12_value_1 : cX12_value.data.toList.drop 24 = dktX12_value_1 := dk_seg dksX12_value_0 24 rfl rfl
theorem dX12_value_0 : decode cX12_value 0 = .ok (.aload_n 0, 1) := dk_42 (dk_at dksX12_value_0 0 rfl rfl)
theorem dX12_value_1 : decode cX12_value 1 = .ok (.getfield 7, 3) := dk_180 0 7 (dk_at dksX12_value_0 1 rfl rfl)
theorem dX12_value_4 : decode cX12_value 4 = .ok (.bipush 33, 2) := dk_16 33 (dk_at dksX12_value_0 4 rfl rfl)
theorem dX12_value_6 : decode cX12_value 6 = .ok (.if_icmp .ne 24, 3) := dk_160 0 24 (dk_at dksX12_value_0 6 rfl rfl)
theorem dX12_value_9 : decode cX12_value 9 = .ok (.aload_n 0, 1) := dk_42 (dk_at dksX12_value_0 9 rfl rfl)
theorem dX12_value_10 : decode cX12_value 10 = .ok (.getfield 13, 3) := dk_180 0 13 (dk_at dksX12_value_0 10 rfl rfl)
theorem dX12_value_13 : decode cX12_value 13 = .ok (.invokevirtual 17, 3) := dk_182 0 17 (dk_at dksX12_value_0 13 rfl rfl)
theorem dX12_value_16 : decode cX12_value 16 = .ok (.ifCond .ne 7, 3) := dk_154 0 7 (dk_at dksX12_value_0 16 rfl rfl)
theorem dX12_value_19 : decode cX12_value 19 = .ok (.iconst 1, 1) := dk_4 (dk_at dksX12_value_0 19 rfl rfl)
theorem dX12_value_20 : decode cX12_value 20 = .ok (.goto 4, 3) := dk_167 0 4 (dk_at dksX12_value_0 20 rfl rfl)
theorem dX12_value_23 : decode cX12_value 23 = .ok (.iconst 0, 1) := dk_3 (dk_at dksX12_value_0 23 rfl rfl)
theorem dX12_value_24 : decode cX12_value 24 = .ok (.invokestatic 21, 3) := dk_184 0 21 (dk_at dksX12_value_1 0 rfl rfl)
theorem dX12_value_27 : decode cX12_value 27 = .ok (.goto 11, 3) := dk_167 0 11 (dk_at dksX12_value_1 3 rfl rfl)
theorem dX12_value_30 : decode cX12_value 30 = .ok (.aload_n 0, 1) := dk_42 (dk_at dksX12_value_1 6 rfl rfl)
theorem dX12_value_31 : decode cX12_value 31 = .ok (.getfield 13, 3) := dk_180 0 13 (dk_at dksX12_value_1 7 rfl rfl)
theorem dX12_value_34 : decode cX12_value 34 = .ok (.invokevirtual 17, 3) := dk_182 0 17 (dk_at dksX12_value_1 10 rfl rfl)
theorem dX12_value_37 : decode cX12_value 37 = .ok (.ineg, 1) := dk_116 (dk_at dksX12_value_1 13 rfl rfl)
theorem dX12_value_38 : decode cX12_value 38 = .ok (.ireturn, 1) := dk_172 (dk_at dksX12_value_1 14 rfl rfl)
theorem q128 : (Jvm.Cond.initialized "NailedByWord$Signed") ∈ lw_all := lw_g (lw_at lw_m1 16 rfl) rfl
theorem q634 : (Jvm.Cond.instantiable "NailedByWord$Signed" (2 : Nat)) ∈ lw_all := lw_g (lw_at lw_m3 42 rfl) rfl
theorem q636 : (Jvm.Cond.instanceMethod ({ cls := "NailedByWord$Signed", name := "<init>", desc := "(ILNailedByWord$Term;)V" } : Jvm.MethodName)) ∈ lw_all := lw_g (lw_at lw_m3 44 rfl) rfl
theorem q637 : (Jvm.Cond.code ({ cls := "NailedByWord$Signed", name := "<init>", desc := "(ILNailedByWord$Term;)V" } : Jvm.MethodName) prog_18_method_1_code (3 : Nat) (Option.none : Option Jvm.ClassFile.FieldType)) ∈ lw_all := lw_g (lw_at lw_m3 45 rfl) rfl
theorem q638 : (Jvm.Cond.methodLinkNest "NailedByWord$Signed" (1 : Nat) ({ cls := "NailedByWord$Term", name := "<init>", desc := "()V" } : Jvm.MethodName) "NailedByWord") ∈ lw_tbl := lw_at lw_m3 46 rfl
theorem q639 : (Jvm.Cond.fieldLink "NailedByWord$Signed" (7 : Nat) "NailedByWord$Signed" "sign" "I") ∈ lw_all := lw_g (lw_at lw_m3 47 rfl) rfl
theorem q640 : (Jvm.Cond.fieldLink "NailedByWord$Signed" (13 : Nat) "NailedByWord$Signed" "of" "LNailedByWord$Term;") ∈ lw_all := lw_g (lw_at lw_m3 48 rfl) rfl
theorem q641 : (Jvm.Cond.laysFinal "NailedByWord$Signed" "NailedByWord$Signed" "sign" "I") ∈ lw_all := lw_g (lw_at lw_m3 49 rfl) rfl
theorem q642 : (Jvm.Cond.soleField "NailedByWord$Signed" "sign") ∈ lw_all := lw_g (lw_at lw_m3 50 rfl) rfl
theorem q643 : (Jvm.Cond.laysFinal "NailedByWord$Signed" "NailedByWord$Signed" "of" "LNailedByWord$Term;") ∈ lw_all := lw_g (lw_at lw_m3 51 rfl) rfl
theorem q644 : (Jvm.Cond.soleField "NailedByWord$Signed" "of") ∈ lw_all := lw_g (lw_at lw_m3 52 rfl) rfl
theorem q645 : (Jvm.Cond.superclass "NailedByWord$Signed" "NailedByWord$Term") ∈ lw_all := lw_g (lw_at lw_m3 53 rfl) rfl
theorem q718 : (Jvm.Cond.instanceMethod ({ cls := "NailedByWord$Signed", name := "value", desc := "()I" } : Jvm.MethodName)) ∈ lw_all := lw_g (lw_at lw_m3 126 rfl) rfl
theorem q719 : (Jvm.Cond.code ({ cls := "NailedByWord$Signed", name := "value", desc := "()I" } : Jvm.MethodName) prog_18_method_2_code (1 : Nat) (Option.some Jvm.ClassFile.FieldType.int)) ∈ lw_all := lw_g (lw_at lw_m3 127 rfl) rfl
theorem q720 : (Jvm.Cond.methodLink "NailedByWord$Signed" (17 : Nat) ({ cls := "NailedByWord$Term", name := "value", desc := "()I" } : Jvm.MethodName)) ∈ lw_all := lw_g (lw_at lw_m3 128 rfl) rfl
theorem q721 : (Jvm.Cond.methodLinkNest "NailedByWord$Signed" (21 : Nat) ({ cls := "NailedByWord", name := "bit", desc := "(Z)I" } : Jvm.MethodName) "NailedByWord") ∈ lw_tbl := lw_at lw_m3 129 rfl
theorem q725 : (Jvm.Cond.selects "NailedByWord$Signed" ({ cls := "NailedByWord$Term", name := "value", desc := "()I" } : Jvm.MethodName) ({ cls := "NailedByWord$Signed", name := "value", desc := "()I" } : Jvm.MethodName)) ∈ lw_all := lw_g (lw_at lw_m3 133 rfl) rfl
theorem q2109 : (Jvm.Cond.castable "NailedByWord$Signed" "java/lang/Object") ∈ lw_tbl := lw_at lw_m9 77 rfl
theorem in_X12 : ∀ w ∈ wsX120, w ∈ lw_all := lw_in wsX120 [641, 643] (by decide +kernel) (by decide +kernel)
/-! NailedByWord$Both -/
set_option maxRecDepth 100000
def RX13 : String := "NailedByWord$Both"
def TX13 : u_T := fun k => match k with
  | 0 => ("NailedByWord$Both", "sign", "I", true)
  | 1 => ("NailedByWord$Both", "left", "LNailedByWord$Term;", true)
  | _ => ("NailedByWord$Both", "right", "LNailedByWord$Term;", true)
def tyX13 : Nat → FieldType := fun k => match k with
  | 0 => .int
  | 1 => .object "NailedByWord$Term"
  | _ => .object "NailedByWord$Term"
abbrev wsX130 : List Cond := u_ws RX13 TX13 3
theorem nmX13 : ∀ a, a < 3 → ∀ b, b < 3 → a ≠ b → (TX13 a).2.1 ≠ (TX13 b).2.1 := by decide +kernel
theorem tyX13_ok : ∀ k, k < 3 → parseFieldDescriptor (TX13 k).2.2.1 = some (tyX13 k) := by decide +kernel
abbrev cX13_init : ByteArray := prog_3_method_1_code
def yX13_init : MethodName := ⟨RX13, "<init>", "(ILNailedByWord$Term;LNailedByWord$Term;)V"⟩
def dkwX13_init_0 : List UInt8 := [42, 183, 0, 1, 42, 27, 181, 0, 7, 42, 44, 181, 0, 13, 42, 45, 181, 0, 17, 177]
abbrev dktX13_init_0 : List UInt8 := dkwX13_init_0 ++ []
theorem dksX13_init_0 : cX13_init.data.toList.drop 0 = dktX13_init_0 := by decide +kernel
theorem dX13_init_0 : decode cX13_init 0 = .ok (.aload_n 0, 1) := dk_42 (dk_at dksX13_init_0 0 rfl rfl)
theorem dX13_init_1 : decode cX13_init 1 = .ok (.invokespecial 1, 3) := dk_183 0 1 (dk_at dksX13_init_0 1 rfl rfl)
theorem dX13_init_4 : decode cX13_init 4 = .ok (.aload_n 0, 1) := dk_42 (dk_at dksX13_init_0 4 rfl rfl)
theorem dX13_init_5 : decode cX13_init 5 = .ok (.iload_n 1, 1) := dk_27 (dk_at dksX13_init_0 5 rfl rfl)
theorem dX13_init_6 : decode cX13_init 6 = .ok (.putfield 7, 3) := dk_181 0 7 (dk_at dksX13_init_0 6 rfl rfl)
theorem dX13_init_9 : decode cX13_init 9 = .ok (.aload_n 0, 1) := dk_42 (dk_at dksX13_init_0 9 rfl rfl)
theorem dX13_init_10 : decode cX13_init 10 = .ok (.aload_n 2, 1) := dk_44 (dk_at dksX13_init_0 10 rfl rfl)
theorem dX13_init_11 : decode cX13_init 11 = .ok (.putfield 13, 3) := dk_181 0 13 (dk_at dksX13_init_0 11 rfl rfl)
theorem dX13_init_14 : decode cX13_init 14 = .ok (.aload_n 0, 1) := dk_42 (dk_at dksX13_init_0 14 rfl rfl)
theorem dX13_init_15 : decode cX13_init 15 = .ok (.aload_n 3, 1) := dk_45 (dk_at dksX13_init_0 15 rfl rfl)
theorem dX13_init_16 : decode cX13_init 16 = .ok (.putfield 17, 3) := dk_181 0 17 (dk_at dksX13_init_0 16 rfl rfl)
theorem dX13_init_19 : decode cX13_init 19 = .ok (.return_, 1) := dk_177 (dk_at dksX13_init_0 19 rfl rfl)
abbrev cX13_value : ByteArray := prog_3_method_2_code
def yX13_value : MethodName := ⟨RX13, "value", "()I"⟩
def dkwX13_value_6 : List UInt8 := [3, 167, 0, 6, 27, 28, 108, 172, 28, 154, 0, 7, 3, 167, 0, 6, 27, 28, 112, 172]
abbrev dktX13_value_6 : List UInt8 := dkwX13_value_6 ++ []
def dkwX13_value_5 : List UInt8 := [167, 0, 4, 3, 184, 0, 24, 172, 27, 28, 96, 172, 27, 28, 100, 172, 27, 28, 104, 172, 28, 154, 0, 7]
abbrev dktX13_value_5 : List UInt8 := dkwX13_value_5 ++ dktX13_value_6
def dkwX13_value_4 : List UInt8 := [184, 0, 24, 172, 27, 28, 160, 0, 7, 4, 167, 0, 4, 3, 184, 0, 24, 172, 27, 28, 164, 0, 7, 4]
abbrev dktX13_value_4 : List UInt8 := dkwX13_value_4 ++ dktX13_value_5
def dkwX13_value_3 : List UInt8 := [153, 0, 7, 4, 167, 0, 4, 3, 184, 0, 24, 172, 27, 28, 162, 0, 7, 4, 167, 0, 4, 3]
abbrev dktX13_value_3 : List UInt8 := dkwX13_value_3 ++ dktX13_value_4
def dkwX13_value_2 : List UInt8 := [27, 154, 0, 7, 28, 153, 0, 7, 4, 167, 0, 4, 3, 184, 0, 24, 172, 27, 153, 0, 11, 28]
abbrev dktX13_value_2 : List UInt8 := dkwX13_value_2 ++ dktX13_value_3
def dkwX13_value_1 : List UInt8 := [171, 0, 0, 0, 0, 0, 0, 184, 0, 0, 0, 9, 0, 0, 0, 38, 0, 0, 0, 101, 0, 0, 0, 42, 0, 0, 0, 168, 0, 0, 0, 43, 0, 0, 0, 160, 0, 0, 0, 45, 0, 0, 0, 164, 0, 0, 0, 47, 0, 0, 0, 172, 0, 0, 0, 60, 0, 0, 0, 118, 0, 0, 0, 61, 0, 0, 0, 132, 0, 0, 0, 62, 0, 0, 0, 146, 0, 0, 0, 124, 0, 0, 0, 84]
abbrev dktX13_value_1 : List UInt8 := dkwX13_value_1 ++ dktX13_value_2
def dkwX13_value_0 : List UInt8 := [42, 180, 0, 13, 182, 0, 20, 60, 42, 180, 0, 17, 182, 0, 20, 61, 42, 180, 0, 7]
abbrev dktX13_value_0 : List UInt8 := dkwX13_value_0 ++ dktX13_value_1
theorem dksX13_value_0 : cX13_value.data.toList.drop 0 = dktX13_value_0 := by decide +kernel
theorem dksX13_value_1 : cX13_value.data.toList.drop 20 = dktX13_value_1 := dk_seg dksX13_value_0 20 rfl rfl
theorem dksX13_value_2 : cX13_value.data.toList.drop 104 = dktX13_value_2 := dk_seg dksX13_value_1 84 rfl rfl
theorem dksX13_value_3 : cX13_value.data.toList.drop 126 = dktX13_value_3 := dk_seg dksX13_value_2 22 rfl rfl
theorem dksX13_value_4 : cX13_value.data.toList.drop 148 = dktX13_value_4 := dk_seg dksX13_value_3 22 rfl rfl
theorem dksX13_value_5 : cX13_value.data.toList.drop 172 = dktX13_value_5 := dk_seg dksX13_value_4 24 rfl rfl
theorem dksX13_value_6 : cX13_value.data.toList.drop 196 = dktX13_value_6 := dk_seg dksX13_value_5 24 rfl rfl
theorem dX13_value_0 : decode cX13_value 0 = .ok (.aload_n 0, 1) := dk_42 (dk_at dksX13_value_0 0 rfl rfl)
theorem dX13_value_1 : decode cX13_value 1 = .ok (.getfield 13, 3) := dk_180 0 13 (dk_at dksX13_value_0 1 rfl rfl)
theorem dX13_value_4 : decode cX13_value 4 = .ok (.invokevirtual 20, 3) := dk_182 0 20 (dk_at dksX13_value_0 4 rfl rfl)
theorem dX13_value_7 : decode cX13_value 7 = .ok (.istore_n 1, 1) := dk_60 (dk_at dksX13_value_0 7 rfl rfl)
theorem dX13_value_8 : decode cX13_value 8 = .ok (.aload_n 0, 1) := dk_42 (dk_at dksX13_value_0 8 rfl rfl)
theorem dX13_value_9 : decode cX13_value 9 = .ok (.getfield 17, 3) := dk_180 0 17 (dk_at dksX13_value_0 9 rfl rfl)
theorem dX13_value_12 : decode cX13_value 12 = .ok (.invokevirtual 20, 3) := dk_182 0 20 (dk_at dksX13_value_0 12 rfl rfl)
theorem dX13_value_15 : decode cX13_value 15 = .ok (.istore_n 2, 1) := dk_61 (dk_at dksX13_value_0 15 rfl rfl)
theorem dX13_value_16 : decode cX13_value 16 = .ok (.aload_n 0, 1) := dk_42 (dk_at dksX13_value_0 16 rfl rfl)
theorem dX13_value_17 : decode cX13_value 17 = .ok (.getfield 7, 3) := dk_180 0 7 (dk_at dksX13_value_0 17 rfl rfl)
theorem dX13_value_20 : decode cX13_value 20 = .ok (.lookupswitch 184 #[(38, 101), (42, 168), (43, 160), (45, 164), (47, 172), (60, 118), (61, 132), (62, 146), (124, 84)], 84) := by decide +kernel
theorem dX13_value_104 : decode cX13_value 104 = .ok (.iload_n 1, 1) := dk_27 (dk_at dksX13_value_2 0 rfl rfl)
theorem dX13_value_105 : decode cX13_value 105 = .ok (.ifCond .ne 7, 3) := dk_154 0 7 (dk_at dksX13_value_2 1 rfl rfl)
theorem dX13_value_108 : decode cX13_value 108 = .ok (.iload_n 2, 1) := dk_28 (dk_at dksX13_value_2 4 rfl rfl)
theorem dX13_value_109 : decode cX13_value 109 = .ok (.ifCond .eq 7, 3) := dk_153 0 7 (dk_at dksX13_value_2 5 rfl rfl)
theorem dX13_value_112 : decode cX13_value 112 = .ok (.iconst 1, 1) := dk_4 (dk_at dksX13_value_2 8 rfl rfl)
theorem dX13_value_113 : decode cX13_value 113 = .ok (.goto 4, 3) := dk_167 0 4 (dk_at dksX13_value_2 9 rfl rfl)
theorem dX13_value_116 : decode cX13_value 116 = .ok (.iconst 0, 1) := dk_3 (dk_at dksX13_value_2 12 rfl rfl)
theorem dX13_value_117 : decode cX13_value 117 = .ok (.invokestatic 24, 3) := dk_184 0 24 (dk_at dksX13_value_2 13 rfl rfl)
theorem dX13_value_120 : decode cX13_value 120 = .ok (.ireturn, 1) := dk_172 (dk_at dksX13_value_2 16 rfl rfl)
theorem dX13_value_121 : decode cX13_value 121 = .ok (.iload_n 1, 1) := dk_27 (dk_at dksX13_value_2 17 rfl rfl)
theorem dX13_value_122 : decode cX13_value 122 = .ok (.ifCond .eq 11, 3) := dk_153 0 11 (dk_at dksX13_value_2 18 rfl rfl)
theorem dX13_value_125 : decode cX13_value 125 = .ok (.iload_n 2, 1) := dk_28 (dk_at dksX13_value_2 21 rfl rfl)
theorem dX13_value_126 : decode cX13_value 126 = .ok (.ifCond .eq 7, 3) := dk_153 0 7 (dk_at dksX13_value_3 0 rfl rfl)
theorem dX13_value_129 : decode cX13_value 129 = .ok (.iconst 1, 1) := dk_4 (dk_at dksX13_value_3 3 rfl rfl)
theorem dX13_value_130 : decode cX13_value 130 = .ok (.goto 4, 3) := dk_167 0 4 (dk_at dksX13_value_3 4 rfl rfl)
theorem dX13_value_133 : decode cX13_value 133 = .ok (.iconst 0, 1) := dk_3 (dk_at dksX13_value_3 7 rfl rfl)
theorem dX13_value_134 : decode cX13_value 134 = .ok (.invokestatic 24, 3) := dk_184 0 24 (dk_at dksX13_value_3 8 rfl rfl)
theorem dX13_value_137 : decode cX13_value 137 = .ok (.ireturn, 1) := dk_172 (dk_at dksX13_value_3 11 rfl rfl)
theorem dX13_value_138 : decode cX13_value 138 = .ok (.iload_n 1, 1) := dk_27 (dk_at dksX13_value_3 12 rfl rfl)
theorem dX13_value_139 : decode cX13_value 139 = .ok (.iload_n 2, 1) := dk_28 (dk_at dksX13_value_3 13 rfl rfl)
theorem dX13_value_140 : decode cX13_value 140 = .ok (.if_icmp .ge 7, 3) := dk_162 0 7 (dk_at dksX13_value_3 14 rfl rfl)
theorem dX13_value_143 : decode cX13_value 143 = .ok (.iconst 1, 1) := dk_4 (dk_at dksX13_value_3 17 rfl rfl)
theorem dX13_value_144 : decode cX13_value 144 = .ok (.goto 4, 3) := dk_167 0 4 (dk_at dksX13_value_3 18 rfl rfl)
theorem dX13_value_147 : decode cX13_value 147 = .ok (.iconst 0, 1) := dk_3 (dk_at dksX13_value_3 21 rfl rfl)
theorem dX13_value_148 : decode cX13_value 148 = .ok (.invokestatic 24, 3) := dk_184 0 24 (dk_at dksX13_value_4 0 rfl rfl)
theorem dX13_value_151 : decode cX13_value 151 = .ok (.ireturn, 1) := dk_172 (dk_at dksX13_value_4 3 rfl rfl)
theorem dX13_value_152 : decode cX13_value 152 = .ok (.iload_n 1, 1) := dk_27 (dk_at dksX13_value_4 4 rfl rfl)
theorem dX13_value_153 : decode cX13_value 153 = .ok (.iload_n 2, 1) := dk_28 (dk_at dksX13_value_4 5 rfl rfl)
theorem dX13_value_154 : decode cX13_value 154 = .ok (.if_icmp .ne 7, 3) := dk_160 0 7 (dk_at dksX13_value_4 6 rfl rfl)
theorem dX13_value_157 : decode cX13_value 157 = .ok (.iconst 1, 1) := dk_4 (dk_at dksX13_value_4 9 rfl rfl)
theorem dX13_value_158 : decode cX13_value 158 = .ok (.goto 4, 3) := dk_167 0 4 (dk_at dksX13_value_4 10 rfl rfl)
theorem dX13_value_161 : decode cX13_value 161 = .ok (.iconst 0, 1) := dk_3 (dk_at dksX13_value_4 13 rfl rfl)
theorem dX13_value_162 : decode cX13_value 162 = .ok (.invokestatic 24, 3) := dk_184 0 24 (dk_at dksX13_value_4 14 rfl rfl)
theorem dX13_value_165 : decode cX13_value 165 = .ok (.ireturn, 1) := dk_172 (dk_at dksX13_value_4 17 rfl rfl)
theorem dX13_value_166 : decode cX13_value 166 = .ok (.iload_n 1, 1) := dk_27 (dk_at dksX13_value_4 18 rfl rfl)
theorem dX13_value_167 : decode cX13_value 167 = .ok (.iload_n 2, 1) := dk_28 (dk_at dksX13_value_4 19 rfl rfl)
theorem dX13_value_168 : decode cX13_value 168 = .ok (.if_icmp .le 7, 3) := dk_164 0 7 (dk_at dksX13_value_4 20 rfl rfl)
theorem dX13_value_171 : decode cX13_value 171 = .ok (.iconst 1, 1) := dk_4 (dk_at dksX13_value_4 23 rfl rfl)
theorem dX13_value_172 : decode cX13_value 172 = .ok (.goto 4, 3) := dk_167 0 4 (dk_at dksX13_value_5 0 rfl rfl)
theorem dX13_value_175 : decode cX13_value 175 = .ok (.iconst 0, 1) := dk_3 (dk_at dksX13_value_5 3 rfl rfl)
theorem dX13_value_176 : decode cX13_value 176 = .ok (.invokestatic 24, 3) := dk_184 0 24 (dk_at dksX13_value_5 4 rfl rfl)
theorem dX13_value_179 : decode cX13_value 179 = .ok (.ireturn, 1) := dk_172 (dk_at dksX13_value_5 7 rfl rfl)
theorem dX13_value_180 : decode cX13_value 180 = .ok (.iload_n 1, 1) := dk_27 (dk_at dksX13_value_5 8 rfl rfl)
theorem dX13_value_181 : decode cX13_value 181 = .ok (.iload_n 2, 1) := dk_28 (dk_at dksX13_value_5 9 rfl rfl)
theorem dX13_value_182 : decode cX13_value 182 = .ok (.iadd, 1) := dk_96 (dk_at dksX13_value_5 10 rfl rfl)
theorem dX13_value_183 : decode cX13_value 183 = .ok (.ireturn, 1) := dk_172 (dk_at dksX13_value_5 11 rfl rfl)
theorem dX13_value_184 : decode cX13_value 184 = .ok (.iload_n 1, 1) := dk_27 (dk_at dksX13_value_5 12 rfl rfl)
theorem dX13_value_185 : decode cX13_value 185 = .ok (.iload_n 2, 1) := dk_28 (dk_at dksX13_value_5 13 rfl rfl)
theorem dX13_value_186 : decode cX13_value 186 = .ok (.isub, 1) := dk_100 (dk_at dksX13_value_5 14 rfl rfl)
theorem dX13_value_187 : decode cX13_value 187 = .ok (.ireturn, 1) := dk_172 (dk_at dksX13_value_5 15 rfl rfl)
theorem dX13_value_188 : decode cX13_value 188 = .ok (.iload_n 1, 1) := dk_27 (dk_at dksX13_value_5 16 rfl rfl)
theorem dX13_value_189 : decode cX13_value 189 = .ok (.iload_n 2, 1) := dk_28 (dk_at dksX13_value_5 17 rfl rfl)
theorem dX13_value_190 : decode cX13_value 190 = .ok (.imul, 1) := dk_104 (dk_at dksX13_value_5 18 rfl rfl)
theorem dX13_value_191 : decode cX13_value 191 = .ok (.ireturn, 1) := dk_172 (dk_at dksX13_value_5 19 rfl rfl)
theorem dX13_value_192 : decode cX13_value 192 = .ok (.iload_n 2, 1) := dk_28 (dk_at dksX13_value_5 20 rfl rfl)
theorem dX13_value_193 : decode cX13_value 193 = .ok (.ifCond .ne 7, 3) := dk_154 0 7 (dk_at dksX13_value_5 21 rfl rfl)
theorem dX13_value_196 : decode cX13_value 196 = .ok (.iconst 0, 1) := dk_3 (dk_at dksX13_value_6 0 rfl rfl)
theorem dX13_value_197 : decode cX13_value 197 = .ok (.goto 6, 3) := dk_167 0 6 (dk_at dksX13_value_6 1 rfl rfl)
theorem dX13_value_200 : decode cX13_value 200 = .ok (.iload_n 1, 1) := dk_27 (dk_at dksX13_value_6 4 rfl rfl)
theorem dX13_value_201 : decode cX13_value 201 = .ok (.iload_n 2, 1) := dk_28 (dk_at dksX13_value_6 5 rfl rfl)
theorem dX13_value_202 : decode cX13_value 202 = .ok (.idiv, 1) := dk_108 (dk_at dksX13_value_6 6 rfl rfl)
theorem dX13_value_203 : decode cX13_value 203 = .ok (.ireturn, 1) := dk_172 (dk_at dksX13_value_6 7 rfl rfl)
theorem dX13_value_204 : decode cX13_value 204 = .ok (.iload_n 2, 1) := dk_28 (dk_at dksX13_value_6 8 rfl rfl)
theorem dX13_value_205 : decode cX13_value 205 = .ok (.ifCond .ne 7, 3) := dk_154 0 7 (dk_at dksX13_value_6 9 rfl rfl)
theorem dX13_value_208 : decode cX13_value 208 = .ok (.iconst 0, 1) := dk_3 (dk_at dksX13_value_6 12 rfl rfl)
theorem dX13_value_209 : decode cX13_value 209 = .ok (.goto 6, 3) := dk_167 0 6 (dk_at dksX13_value_6 13 rfl rfl)
theorem dX13_value_212 : decode cX13_value 212 = .ok (.iload_n 1, 1) := dk_27 (dk_at dksX13_value_6 16 rfl rfl)
theorem dX13_value_213 : decode cX13_value 213 = .ok (.iload_n 2, 1) := dk_28 (dk_at dksX13_value_6 17 rfl rfl)
theorem dX13_value_214 : decode cX13_value 214 = .ok (.irem, 1) := dk_112 (dk_at dksX13_value_6 18 rfl rfl)
theorem dX13_value_215 : decode cX13_value 215 = .ok (.ireturn, 1) := dk_172 (dk_at dksX13_value_6 19 rfl rfl)
theorem q129 : (Jvm.Cond.initialized "NailedByWord$Both") ∈ lw_all := lw_g (lw_at lw_m1 17 rfl) rfl
theorem q655 : (Jvm.Cond.instantiable "NailedByWord$Both" (3 : Nat)) ∈ lw_all := lw_g (lw_at lw_m3 63 rfl) rfl
theorem q657 : (Jvm.Cond.instanceMethod ({ cls := "NailedByWord$Both", name := "<init>", desc := "(ILNailedByWord$Term;LNailedByWord$Term;)V" } : Jvm.MethodName)) ∈ lw_all := lw_g (lw_at lw_m3 65 rfl) rfl
theorem q658 : (Jvm.Cond.code ({ cls := "NailedByWord$Both", name := "<init>", desc := "(ILNailedByWord$Term;LNailedByWord$Term;)V" } : Jvm.MethodName) prog_3_method_1_code (4 : Nat) (Option.none : Option Jvm.ClassFile.FieldType)) ∈ lw_all := lw_g (lw_at lw_m3 66 rfl) rfl
theorem q659 : (Jvm.Cond.methodLinkNest "NailedByWord$Both" (1 : Nat) ({ cls := "NailedByWord$Term", name := "<init>", desc := "()V" } : Jvm.MethodName) "NailedByWord") ∈ lw_tbl := lw_at lw_m3 67 rfl
theorem q660 : (Jvm.Cond.fieldLink "NailedByWord$Both" (7 : Nat) "NailedByWord$Both" "sign" "I") ∈ lw_all := lw_g (lw_at lw_m3 68 rfl) rfl
theorem q661 : (Jvm.Cond.fieldLink "NailedByWord$Both" (13 : Nat) "NailedByWord$Both" "left" "LNailedByWord$Term;") ∈ lw_all := lw_g (lw_at lw_m3 69 rfl) rfl
theorem q662 : (Jvm.Cond.fieldLink "NailedByWord$Both" (17 : Nat) "NailedByWord$Both" "right" "LNailedByWord$Term;") ∈ lw_all := lw_g (lw_at lw_m3 70 rfl) rfl
theorem q663 : (Jvm.Cond.laysFinal "NailedByWord$Both" "NailedByWord$Both" "sign" "I") ∈ lw_all := lw_g (lw_at lw_m3 71 rfl) rfl
theorem q664 : (Jvm.Cond.soleField "NailedByWord$Both" "sign") ∈ lw_all := lw_g (lw_at lw_m3 72 rfl) rfl
theorem q665 : (Jvm.Cond.laysFinal "NailedByWord$Both" "NailedByWord$Both" "left" "LNailedByWord$Term;") ∈ lw_all := lw_g (lw_at lw_m3 73 rfl) rfl
theorem q666 : (Jvm.Cond.soleField "NailedByWord$Both" "left") ∈ lw_all := lw_g (lw_at lw_m3 74 rfl) rfl
theorem q667 : (Jvm.Cond.laysFinal "NailedByWord$Both" "NailedByWord$Both" "right" "LNailedByWord$Term;") ∈ lw_all := lw_g (lw_at lw_m3 75 rfl) rfl
theorem q668 : (Jvm.Cond.soleField "NailedByWord$Both" "right") ∈ lw_all := lw_g (lw_at lw_m3 76 rfl) rfl
theorem q669 : (Jvm.Cond.superclass "NailedByWord$Both" "NailedByWord$Term") ∈ lw_all := lw_g (lw_at lw_m3 77 rfl) rfl
theorem q710 : (Jvm.Cond.selects "NailedByWord$Both" ({ cls := "NailedByWord$Term", name := "value", desc := "()I" } : Jvm.MethodName) ({ cls := "NailedByWord$Both", name := "value", desc := "()I" } : Jvm.MethodName)) ∈ lw_all := lw_g (lw_at lw_m3 118 rfl) rfl
theorem q711 : (Jvm.Cond.instanceMethod ({ cls := "NailedByWord$Both", name := "value", desc := "()I" } : Jvm.MethodName)) ∈ lw_all := lw_g (lw_at lw_m3 119 rfl) rfl
theorem q712 : (Jvm.Cond.code ({ cls := "NailedByWord$Both", name := "value", desc := "()I" } : Jvm.MethodName) prog_3_method_2_code (3 : Nat) (Option.some Jvm.ClassFile.FieldType.int)) ∈ lw_all := lw_g (lw_at lw_m3 120 rfl) rfl
theorem q713 : (Jvm.Cond.methodLink "NailedByWord$Both" (20 : Nat) ({ cls := "NailedByWord$Term", name := "value", desc := "()I" } : Jvm.MethodName)) ∈ lw_all := lw_g (lw_at lw_m3 121 rfl) rfl
theorem q722 : (Jvm.Cond.methodLinkNest "NailedByWord$Both" (24 : Nat) ({ cls := "NailedByWord", name := "bit", desc := "(Z)I" } : Jvm.MethodName) "NailedByWord") ∈ lw_tbl := lw_at lw_m3 130 rfl
theorem q2110 : (Jvm.Cond.castable "NailedByWord$Both" "java/lang/Object") ∈ lw_tbl := lw_at lw_m9 78 rfl
theorem in_X13 : ∀ w ∈ wsX130, w ∈ lw_all := lw_in wsX130 [663, 665, 667] (by decide +kernel) (by decide +kernel)
/-! NailedByWord$Body -/
set_option maxRecDepth 100000
def RX14 : String := "NailedByWord$Body"
def TX14 : u_T := fun k => match k with
  | 0 => ("NailedByWord$Body", "number", "I", true)
  | _ => ("NailedByWord$Body", "this$0", "LNailedByWord;", true)
def tyX14 : Nat → FieldType := fun k => match k with
  | 0 => .int
  | _ => .object "NailedByWord"
abbrev wsX140 : List Cond := u_ws RX14 TX14 2
theorem nmX14 : ∀ a, a < 2 → ∀ b, b < 2 → a ≠ b → (TX14 a).2.1 ≠ (TX14 b).2.1 := by decide +kernel
theorem tyX14_ok : ∀ k, k < 2 → parseFieldDescriptor (TX14 k).2.2.1 = some (tyX14 k) := by decide +kernel
abbrev cX14_init : ByteArray := prog_2_method_1_code
def yX14_init : MethodName := ⟨RX14, "<init>", "(LNailedByWord;I)V"⟩
def dkwX14_init_0 : List UInt8 := [42, 43, 181, 0, 3, 42, 183, 0, 9, 42, 28, 181, 0, 15, 177]
abbrev dktX14_init_0 : List UInt8 := dkwX14_init_0 ++ []
theorem dksX14_init_0 : cX14_init.data.toList.drop 0 = dktX14_init_0 := by decide +kernel
theorem dX14_init_0 : decode cX14_init 0 = .ok (.aload_n 0, 1) := dk_42 (dk_at dksX14_init_0 0 rfl rfl)
theorem dX14_init_1 : decode cX14_init 1 = .ok (.aload_n 1, 1) := dk_43 (dk_at dksX14_init_0 1 rfl rfl)
theorem dX14_init_2 : decode cX14_init 2 = .ok (.putfield 3, 3) := dk_181 0 3 (dk_at dksX14_init_0 2 rfl rfl)
theorem dX14_init_5 : decode cX14_init 5 = .ok (.aload_n 0, 1) := dk_42 (dk_at dksX14_init_0 5 rfl rfl)
theorem dX14_init_6 : decode cX14_init 6 = .ok (.invokespecial 9, 3) := dk_183 0 9 (dk_at dksX14_init_0 6 rfl rfl)
theorem dX14_init_9 : decode cX14_init 9 = .ok (.aload_n 0, 1) := dk_42 (dk_at dksX14_init_0 9 rfl rfl)
theorem dX14_init_10 : decode cX14_init 10 = .ok (.iload_n 2, 1) := dk_28 (dk_at dksX14_init_0 10 rfl rfl)
theorem dX14_init_11 : decode cX14_init 11 = .ok (.putfield 15, 3) := dk_181 0 15 (dk_at dksX14_init_0 11 rfl rfl)
theorem dX14_init_14 : decode cX14_init 14 = .ok (.return_, 1) := dk_177 (dk_at dksX14_init_0 14 rfl rfl)
abbrev cX14_begins : ByteArray := prog_2_method_5_code
def yX14_begins : MethodName := ⟨RX14, "begins", "(I)V"⟩
def dkwX14_begins_1 : List UInt8 := [180, 0, 19, 27, 79, 42, 180, 0, 3, 89, 180, 0, 19, 4, 96, 181, 0, 19, 177]
abbrev dktX14_begins_1 : List UInt8 := dkwX14_begins_1 ++ []
def dkwX14_begins_0 : List UInt8 := [42, 180, 0, 3, 180, 0, 19, 16, 24, 162, 0, 19, 42, 180, 0, 3, 180, 0, 22, 42, 180, 0, 3]
abbrev dktX14_begins_0 : List UInt8 := dkwX14_begins_0 ++ dktX14_begins_1
theorem dksX14_begins_0 : cX14_begins.data.toList.drop 0 = dktX14_begins_0 := by decide +kernel
theorem dksX14_begins_1 : cX14_begins.data.toList.drop 23 = dktX14_begins_1 := dk_seg dksX14_begins_0 23 rfl rfl
theorem dX14_begins_0 : decode cX14_begins 0 = .ok (.aload_n 0, 1) := dk_42 (dk_at dksX14_begins_0 0 rfl rfl)
theorem dX14_begins_1 : decode cX14_begins 1 = .ok (.getfield 3, 3) := dk_180 0 3 (dk_at dksX14_begins_0 1 rfl rfl)
theorem dX14_begins_4 : decode cX14_begins 4 = .ok (.getfield 19, 3) := dk_180 0 19 (dk_at dksX14_begins_0 4 rfl rfl)
theorem dX14_begins_7 : decode cX14_begins 7 = .ok (.bipush 24, 2) := dk_16 24 (dk_at dksX14_begins_0 7 rfl rfl)
theorem dX14_begins_9 : decode cX14_begins 9 = .ok (.if_icmp .ge 19, 3) := dk_162 0 19 (dk_at dksX14_begins_0 9 rfl rfl)
theorem dX14_begins_12 : decode cX14_begins 12 = .ok (.aload_n 0, 1) := dk_42 (dk_at dksX14_begins_0 12 rfl rfl)
theorem dX14_begins_13 : decode cX14_begins 13 = .ok (.getfield 3, 3) := dk_180 0 3 (dk_at dksX14_begins_0 13 rfl rfl)
theorem dX14_begins_16 : decode cX14_begins 16 = .ok (.getfield 22, 3) := dk_180 0 22 (dk_at dksX14_begins_0 16 rfl rfl)
theorem dX14_begins_19 : decode cX14_begins 19 = .ok (.aload_n 0, 1) := dk_42 (dk_at dksX14_begins_0 19 rfl rfl)
theorem dX14_begins_20 : decode cX14_begins 20 = .ok (.getfield 3, 3) := dk_180 0 3 (dk_at dksX14_begins_0 20 rfl rfl)
theorem dX14_begins_23 : decode cX14_begins 23 = .ok (.getfield 19, 3) := dk_180 0 19 (dk_at dksX14_begins_1 0 rfl rfl)
theorem dX14_begins_26 : decode cX14_begins 26 = .ok (.iload_n 1, 1) := dk_27 (dk_at dksX14_begins_1 3 rfl rfl)
theorem dX14_begins_27 : decode cX14_begins 27 = .ok (.iastore, 1) := dk_79 (dk_at dksX14_begins_1 4 rfl rfl)
theorem dX14_begins_28 : decode cX14_begins 28 = .ok (.aload_n 0, 1) := dk_42 (dk_at dksX14_begins_1 5 rfl rfl)
theorem dX14_begins_29 : decode cX14_begins 29 = .ok (.getfield 3, 3) := dk_180 0 3 (dk_at dksX14_begins_1 6 rfl rfl)
theorem dX14_begins_32 : decode cX14_begins 32 = .ok (.dup, 1) := dk_89 (dk_at dksX14_begins_1 9 rfl rfl)
theorem dX14_begins_33 : decode cX14_begins 33 = .ok (.getfield 19, 3) := dk_180 0 19 (dk_at dksX14_begins_1 10 rfl rfl)
theorem dX14_begins_36 : decode cX14_begins 36 = .ok (.iconst 1, 1) := dk_4 (dk_at dksX14_begins_1 13 rfl rfl)
theorem dX14_begins_37 : decode cX14_begins 37 = .ok (.iadd, 1) := dk_96 (dk_at dksX14_begins_1 14 rfl rfl)
theorem dX14_begins_38 : decode cX14_begins 38 = .ok (.putfield 19, 3) := dk_181 0 19 (dk_at dksX14_begins_1 15 rfl rfl)
theorem dX14_begins_41 : decode cX14_begins 41 = .ok (.return_, 1) := dk_177 (dk_at dksX14_begins_1 18 rfl rfl)
abbrev cX14_number : ByteArray := prog_2_method_4_code
def yX14_number : MethodName := ⟨RX14, "number", "()I"⟩
theorem dX14_number_0 : decode cX14_number 0 = .ok (.aload_n 0, 1) := by decide +kernel
theorem dX14_number_1 : decode cX14_number 1 = .ok (.getfield 15, 3) := by decide +kernel
theorem dX14_number_4 : decode cX14_number 4 = .ok (.ireturn, 1) := by decide +kernel
abbrev cX14_pulls : ByteArray := prog_2_method_6_code
def yX14_pulls : MethodName := ⟨RX14, "pulls", "(I)I"⟩
def dkwX14_pulls_0 : List UInt8 := [42, 16, 10, 182, 0, 26, 42, 27, 182, 0, 30, 5, 104, 172]
abbrev dktX14_pulls_0 : List UInt8 := dkwX14_pulls_0 ++ []
theorem dksX14_pulls_0 : cX14_pulls.data.toList.drop 0 = dktX14_pulls_0 := by decide +kernel
theorem dX14_pulls_0 : decode cX14_pulls 0 = .ok (.aload_n 0, 1) := dk_42 (dk_at dksX14_pulls_0 0 rfl rfl)
theorem dX14_pulls_1 : decode cX14_pulls 1 = .ok (.bipush 10, 2) := dk_16 10 (dk_at dksX14_pulls_0 1 rfl rfl)
theorem dX14_pulls_3 : decode cX14_pulls 3 = .ok (.invokevirtual 26, 3) := dk_182 0 26 (dk_at dksX14_pulls_0 3 rfl rfl)
theorem dX14_pulls_6 : decode cX14_pulls 6 = .ok (.aload_n 0, 1) := dk_42 (dk_at dksX14_pulls_0 6 rfl rfl)
theorem dX14_pulls_7 : decode cX14_pulls 7 = .ok (.iload_n 1, 1) := dk_27 (dk_at dksX14_pulls_0 7 rfl rfl)
theorem dX14_pulls_8 : decode cX14_pulls 8 = .ok (.invokevirtual 30, 3) := dk_182 0 30 (dk_at dksX14_pulls_0 8 rfl rfl)
theorem dX14_pulls_11 : decode cX14_pulls 11 = .ok (.iconst 2, 1) := dk_5 (dk_at dksX14_pulls_0 11 rfl rfl)
theorem dX14_pulls_12 : decode cX14_pulls 12 = .ok (.imul, 1) := dk_104 (dk_at dksX14_pulls_0 12 rfl rfl)
theorem dX14_pulls_13 : decode cX14_pulls 13 = .ok (.ireturn, 1) := dk_172 (dk_at dksX14_pulls_0 13 rfl rfl)
abbrev cX14_frees : ByteArray := prog_2_method_7_code
def yX14_frees : MethodName := ⟨RX14, "frees", "(I)I"⟩
def dkwX14_frees_0 : List UInt8 := [42, 16, 11, 182, 0, 26, 27, 42, 180, 0, 15, 130, 172]
abbrev dktX14_frees_0 : List UInt8 := dkwX14_frees_0 ++ []
theorem dksX14_frees_0 : cX14_frees.data.toList.drop 0 = dktX14_frees_0 := by decide +kernel
theorem dX14_frees_0 : decode cX14_frees 0 = .ok (.aload_n 0, 1) := dk_42 (dk_at dksX14_frees_0 0 rfl rfl)
theorem dX14_frees_1 : decode cX14_frees 1 = .ok (.bipush 11, 2) := dk_16 11 (dk_at dksX14_frees_0 1 rfl rfl)
theorem dX14_frees_3 : decode cX14_frees 3 = .ok (.invokevirtual 26, 3) := dk_182 0 26 (dk_at dksX14_frees_0 3 rfl rfl)
theorem dX14_frees_6 : decode cX14_frees 6 = .ok (.iload_n 1, 1) := dk_27 (dk_at dksX14_frees_0 6 rfl rfl)
theorem dX14_frees_7 : decode cX14_frees 7 = .ok (.aload_n 0, 1) := dk_42 (dk_at dksX14_frees_0 7 rfl rfl)
theorem dX14_frees_8 : decode cX14_frees 8 = .ok (.getfield 15, 3) := dk_180 0 15 (dk_at dksX14_frees_0 8 rfl rfl)
theorem dX14_frees_11 : decode cX14_frees 11 = .ok (.ixor, 1) := dk_130 (dk_at dksX14_frees_0 11 rfl rfl)
theorem dX14_frees_12 : decode cX14_frees 12 = .ok (.ireturn, 1) := dk_172 (dk_at dksX14_frees_0 12 rfl rfl)
abbrev cX14_isUnder : ByteArray := prog_2_method_3_code
def yX14_isUnder : MethodName := ⟨RX14, "isUnder", "(I)Z"⟩
def dkwX14_isUnder_0 : List UInt8 := [27, 154, 0, 7, 4, 167, 0, 4, 3, 172]
abbrev dktX14_isUnder_0 : List UInt8 := dkwX14_isUnder_0 ++ []
theorem dksX14_isUnder_0 : cX14_isUnder.data.toList.drop 0 = dktX14_isUnder_0 := by decide +kernel
theorem dX14_isUnder_0 : decode cX14_isUnder 0 = .ok (.iload_n 1, 1) := dk_27 (dk_at dksX14_isUnder_0 0 rfl rfl)
theorem dX14_isUnder_1 : decode cX14_isUnder 1 = .ok (.ifCond .ne 7, 3) := dk_154 0 7 (dk_at dksX14_isUnder_0 1 rfl rfl)
theorem dX14_isUnder_4 : decode cX14_isUnder 4 = .ok (.iconst 1, 1) := dk_4 (dk_at dksX14_isUnder_0 4 rfl rfl)
theorem dX14_isUnder_5 : decode cX14_isUnder 5 = .ok (.goto 4, 3) := dk_167 0 4 (dk_at dksX14_isUnder_0 5 rfl rfl)
theorem dX14_isUnder_8 : decode cX14_isUnder 8 = .ok (.iconst 0, 1) := dk_3 (dk_at dksX14_isUnder_0 8 rfl rfl)
theorem dX14_isUnder_9 : decode cX14_isUnder 9 = .ok (.ireturn, 1) := dk_172 (dk_at dksX14_isUnder_0 9 rfl rfl)
abbrev cX14_kind : ByteArray := prog_2_method_2_code
def yX14_kind : MethodName := ⟨RX14, "kind", "()I"⟩
theorem dX14_kind_0 : decode cX14_kind 0 = .ok (.iconst 0, 1) := by decide +kernel
theorem dX14_kind_1 : decode cX14_kind 1 = .ok (.ireturn, 1) := by decide +kernel
theorem q132 : (Jvm.Cond.initialized "NailedByWord$Body") ∈ lw_all := lw_g (lw_at lw_m1 20 rfl) rfl
theorem q321 : (Jvm.Cond.fieldLinkNest "NailedByWord$Body" (22 : Nat) "NailedByWord" "trace" "[I" "NailedByWord") ∈ lw_tbl := lw_at lw_m1 209 rfl
theorem q323 : (Jvm.Cond.fieldLinkNest "NailedByWord$Body" (19 : Nat) "NailedByWord" "ran" "I" "NailedByWord") ∈ lw_tbl := lw_at lw_m1 211 rfl
theorem q947 : (Jvm.Cond.instanceMethod ({ cls := "NailedByWord$Body", name := "<init>", desc := "(LNailedByWord;I)V" } : Jvm.MethodName)) ∈ lw_all := lw_g (lw_at lw_m4 115 rfl) rfl
theorem q948 : (Jvm.Cond.code ({ cls := "NailedByWord$Body", name := "<init>", desc := "(LNailedByWord;I)V" } : Jvm.MethodName) prog_2_method_1_code (3 : Nat) (Option.none : Option Jvm.ClassFile.FieldType)) ∈ lw_all := lw_g (lw_at lw_m4 116 rfl) rfl
theorem q949 : (Jvm.Cond.methodLink "NailedByWord$Body" (9 : Nat) ({ cls := "java/lang/Object", name := "<init>", desc := "()V" } : Jvm.MethodName)) ∈ lw_all := lw_g (lw_at lw_m4 117 rfl) rfl
theorem q951 : (Jvm.Cond.fieldLink "NailedByWord$Body" (15 : Nat) "NailedByWord$Body" "number" "I") ∈ lw_all := lw_g (lw_at lw_m4 119 rfl) rfl
theorem q952 : (Jvm.Cond.fieldLink "NailedByWord$Body" (3 : Nat) "NailedByWord$Body" "this$0" "LNailedByWord;") ∈ lw_all := lw_g (lw_at lw_m4 120 rfl) rfl
theorem q956 : (Jvm.Cond.soleField "NailedByWord$Body" "number") ∈ lw_all := lw_g (lw_at lw_m4 124 rfl) rfl
theorem q958 : (Jvm.Cond.soleField "NailedByWord$Body" "this$0") ∈ lw_all := lw_g (lw_at lw_m4 126 rfl) rfl
theorem q1037 : (Jvm.Cond.instantiable "NailedByWord$Body" (2 : Nat)) ∈ lw_all := lw_g (lw_at lw_m4 205 rfl) rfl
theorem q1039 : (Jvm.Cond.laysFinal "NailedByWord$Body" "NailedByWord$Body" "number" "I") ∈ lw_all := lw_g (lw_at lw_m4 207 rfl) rfl
theorem q1040 : (Jvm.Cond.laysFinal "NailedByWord$Body" "NailedByWord$Body" "this$0" "LNailedByWord;") ∈ lw_all := lw_g (lw_at lw_m4 208 rfl) rfl
theorem q1041 : (Jvm.Cond.superclass "NailedByWord$Body" "java/lang/Object") ∈ lw_all := lw_g (lw_at lw_m4 209 rfl) rfl
theorem q1051 : (Jvm.Cond.unhidden "NailedByWord$Body" "holds" "(I)I") ∈ lw_tbl := lw_at lw_m4 219 rfl
theorem q1057 : (Jvm.Cond.declares ({ cls := "NailedByWord$Body", name := "begins", desc := "(I)V" } : Jvm.MethodName)) ∈ lw_tbl := lw_at lw_m4 225 rfl
theorem q1059 : (Jvm.Cond.instanceMethod ({ cls := "NailedByWord$Body", name := "begins", desc := "(I)V" } : Jvm.MethodName)) ∈ lw_all := lw_g (lw_at lw_m4 227 rfl) rfl
theorem q1060 : (Jvm.Cond.code ({ cls := "NailedByWord$Body", name := "begins", desc := "(I)V" } : Jvm.MethodName) prog_2_method_5_code (2 : Nat) (Option.none : Option Jvm.ClassFile.FieldType)) ∈ lw_all := lw_g (lw_at lw_m4 228 rfl) rfl
theorem q1074 : (Jvm.Cond.castable "NailedByWord$Body" "NailedByWord$Holds") ∈ lw_tbl := lw_at lw_m5 2 rfl
theorem q1075 : (Jvm.Cond.selects "NailedByWord$Body" ({ cls := "NailedByWord$Holds", name := "begins", desc := "(I)V" } : Jvm.MethodName) ({ cls := "NailedByWord$Body", name := "begins", desc := "(I)V" } : Jvm.MethodName)) ∈ lw_all := lw_g (lw_at lw_m5 3 rfl) rfl
theorem q1076 : (Jvm.Cond.unhidden "NailedByWord$Body" "begins" "(I)V") ∈ lw_tbl := lw_at lw_m5 4 rfl
theorem q1077 : (Jvm.Cond.publicMethod ({ cls := "NailedByWord$Body", name := "begins", desc := "(I)V" } : Jvm.MethodName)) ∈ lw_tbl := lw_at lw_m5 5 rfl
theorem q1103 : (Jvm.Cond.selects "NailedByWord$Body" ({ cls := "NailedByWord$Holds", name := "number", desc := "()I" } : Jvm.MethodName) ({ cls := "NailedByWord$Body", name := "number", desc := "()I" } : Jvm.MethodName)) ∈ lw_all := lw_g (lw_at lw_m5 31 rfl) rfl
theorem q1104 : (Jvm.Cond.unhidden "NailedByWord$Body" "number" "()I") ∈ lw_tbl := lw_at lw_m5 32 rfl
theorem q1105 : (Jvm.Cond.instanceMethod ({ cls := "NailedByWord$Body", name := "number", desc := "()I" } : Jvm.MethodName)) ∈ lw_all := lw_g (lw_at lw_m5 33 rfl) rfl
theorem q1106 : (Jvm.Cond.publicMethod ({ cls := "NailedByWord$Body", name := "number", desc := "()I" } : Jvm.MethodName)) ∈ lw_tbl := lw_at lw_m5 34 rfl
theorem q1107 : (Jvm.Cond.code ({ cls := "NailedByWord$Body", name := "number", desc := "()I" } : Jvm.MethodName) prog_2_method_4_code (1 : Nat) (Option.some Jvm.ClassFile.FieldType.int)) ∈ lw_all := lw_g (lw_at lw_m5 35 rfl) rfl
theorem q1136 : (Jvm.Cond.instanceMethod ({ cls := "NailedByWord$Body", name := "pulls", desc := "(I)I" } : Jvm.MethodName)) ∈ lw_all := lw_g (lw_at lw_m5 64 rfl) rfl
theorem q1137 : (Jvm.Cond.selects "NailedByWord$Body" ({ cls := "NailedByWord$Body", name := "pulls", desc := "(I)I" } : Jvm.MethodName) ({ cls := "NailedByWord$Body", name := "pulls", desc := "(I)I" } : Jvm.MethodName)) ∈ lw_all := lw_g (lw_at lw_m5 65 rfl) rfl
theorem q1138 : (Jvm.Cond.sameMethod "NailedByWord$Body" "NailedByWord$Body" "pulls" "(I)I") ∈ lw_all := lw_g (lw_at lw_m5 66 rfl) rfl
theorem q1144 : (Jvm.Cond.declares ({ cls := "NailedByWord$Body", name := "pulls", desc := "(I)I" } : Jvm.MethodName)) ∈ lw_tbl := lw_at lw_m5 72 rfl
theorem q1145 : (Jvm.Cond.code ({ cls := "NailedByWord$Body", name := "pulls", desc := "(I)I" } : Jvm.MethodName) prog_2_method_6_code (2 : Nat) (Option.some Jvm.ClassFile.FieldType.int)) ∈ lw_all := lw_g (lw_at lw_m5 73 rfl) rfl
theorem q1146 : (Jvm.Cond.methodLink "NailedByWord$Body" (26 : Nat) ({ cls := "NailedByWord$Body", name := "begins", desc := "(I)V" } : Jvm.MethodName)) ∈ lw_all := lw_g (lw_at lw_m5 74 rfl) rfl
theorem q1149 : (Jvm.Cond.declares ({ cls := "NailedByWord$Body", name := "frees", desc := "(I)I" } : Jvm.MethodName)) ∈ lw_tbl := lw_at lw_m5 77 rfl
theorem q1151 : (Jvm.Cond.instanceMethod ({ cls := "NailedByWord$Body", name := "frees", desc := "(I)I" } : Jvm.MethodName)) ∈ lw_all := lw_g (lw_at lw_m5 79 rfl) rfl
theorem q1152 : (Jvm.Cond.code ({ cls := "NailedByWord$Body", name := "frees", desc := "(I)I" } : Jvm.MethodName) prog_2_method_7_code (2 : Nat) (Option.some Jvm.ClassFile.FieldType.int)) ∈ lw_all := lw_g (lw_at lw_m5 80 rfl) rfl
theorem q1186 : (Jvm.Cond.unhidden "NailedByWord$Body" "tells" "(I)I") ∈ lw_tbl := lw_at lw_m5 114 rfl
theorem q1201 : (Jvm.Cond.castable "NailedByWord$Body" "NailedByWord$Tells") ∈ lw_tbl := lw_at lw_m5 129 rfl
theorem q1202 : (Jvm.Cond.selects "NailedByWord$Body" ({ cls := "NailedByWord$Tells", name := "begins", desc := "(I)V" } : Jvm.MethodName) ({ cls := "NailedByWord$Body", name := "begins", desc := "(I)V" } : Jvm.MethodName)) ∈ lw_all := lw_g (lw_at lw_m5 130 rfl) rfl
theorem q1221 : (Jvm.Cond.selects "NailedByWord$Body" ({ cls := "NailedByWord$Tells", name := "pulls", desc := "(I)I" } : Jvm.MethodName) ({ cls := "NailedByWord$Body", name := "pulls", desc := "(I)I" } : Jvm.MethodName)) ∈ lw_all := lw_g (lw_at lw_m5 149 rfl) rfl
theorem q1222 : (Jvm.Cond.unhidden "NailedByWord$Body" "pulls" "(I)I") ∈ lw_tbl := lw_at lw_m5 150 rfl
theorem q1223 : (Jvm.Cond.publicMethod ({ cls := "NailedByWord$Body", name := "pulls", desc := "(I)I" } : Jvm.MethodName)) ∈ lw_tbl := lw_at lw_m5 151 rfl
theorem q1245 : (Jvm.Cond.selects "NailedByWord$Body" ({ cls := "NailedByWord$Tells", name := "frees", desc := "(I)I" } : Jvm.MethodName) ({ cls := "NailedByWord$Body", name := "frees", desc := "(I)I" } : Jvm.MethodName)) ∈ lw_all := lw_g (lw_at lw_m5 173 rfl) rfl
theorem q1246 : (Jvm.Cond.unhidden "NailedByWord$Body" "frees" "(I)I") ∈ lw_tbl := lw_at lw_m5 174 rfl
theorem q1247 : (Jvm.Cond.publicMethod ({ cls := "NailedByWord$Body", name := "frees", desc := "(I)I" } : Jvm.MethodName)) ∈ lw_tbl := lw_at lw_m5 175 rfl
theorem q1311 : (Jvm.Cond.instanceMethod ({ cls := "NailedByWord$Body", name := "isUnder", desc := "(I)Z" } : Jvm.MethodName)) ∈ lw_all := lw_g (lw_at lw_m5 239 rfl) rfl
theorem q1312 : (Jvm.Cond.selects "NailedByWord$Body" ({ cls := "NailedByWord$Body", name := "isUnder", desc := "(I)Z" } : Jvm.MethodName) ({ cls := "NailedByWord$Body", name := "isUnder", desc := "(I)Z" } : Jvm.MethodName)) ∈ lw_all := lw_g (lw_at lw_m6 0 rfl) rfl
theorem q1313 : (Jvm.Cond.sameMethod "NailedByWord$Body" "NailedByWord$Body" "isUnder" "(I)Z") ∈ lw_all := lw_g (lw_at lw_m6 1 rfl) rfl
theorem q1321 : (Jvm.Cond.code ({ cls := "NailedByWord$Body", name := "isUnder", desc := "(I)Z" } : Jvm.MethodName) prog_2_method_3_code (2 : Nat) (Option.some Jvm.ClassFile.FieldType.boolean)) ∈ lw_all := lw_g (lw_at lw_m6 9 rfl) rfl
theorem q1344 : (Jvm.Cond.instanceMethod ({ cls := "NailedByWord$Body", name := "kind", desc := "()I" } : Jvm.MethodName)) ∈ lw_all := lw_g (lw_at lw_m6 32 rfl) rfl
theorem q1345 : (Jvm.Cond.selects "NailedByWord$Body" ({ cls := "NailedByWord$Body", name := "kind", desc := "()I" } : Jvm.MethodName) ({ cls := "NailedByWord$Body", name := "kind", desc := "()I" } : Jvm.MethodName)) ∈ lw_all := lw_g (lw_at lw_m6 33 rfl) rfl
theorem q1346 : (Jvm.Cond.sameMethod "NailedByWord$Body" "NailedByWord$Body" "kind" "()I") ∈ lw_all := lw_g (lw_at lw_m6 34 rfl) rfl
theorem q1368 : (Jvm.Cond.code ({ cls := "NailedByWord$Body", name := "kind", desc := "()I" } : Jvm.MethodName) prog_2_method_2_code (1 : Nat) (Option.some Jvm.ClassFile.FieldType.int)) ∈ lw_all := lw_g (lw_at lw_m6 56 rfl) rfl
theorem q2065 : (Jvm.Cond.sameMethod "NailedByWord$Body" "NailedByWord$Body" "begins" "(I)V") ∈ lw_all := lw_g (lw_at lw_m9 33 rfl) rfl
theorem q2066 : (Jvm.Cond.selects "NailedByWord$Body" ({ cls := "NailedByWord$Body", name := "begins", desc := "(I)V" } : Jvm.MethodName) ({ cls := "NailedByWord$Body", name := "begins", desc := "(I)V" } : Jvm.MethodName)) ∈ lw_all := lw_g (lw_at lw_m9 34 rfl) rfl
theorem q2075 : (Jvm.Cond.sameMethod "NailedByWord$Body" "NailedByWord$Body" "frees" "(I)I") ∈ lw_all := lw_g (lw_at lw_m9 43 rfl) rfl
theorem q2076 : (Jvm.Cond.selects "NailedByWord$Body" ({ cls := "NailedByWord$Body", name := "frees", desc := "(I)I" } : Jvm.MethodName) ({ cls := "NailedByWord$Body", name := "frees", desc := "(I)I" } : Jvm.MethodName)) ∈ lw_all := lw_g (lw_at lw_m9 44 rfl) rfl
theorem q2118 : (Jvm.Cond.castable "NailedByWord$Body" "java/lang/Object") ∈ lw_tbl := lw_at lw_m9 86 rfl
theorem in_X14 : ∀ w ∈ wsX140, w ∈ lw_all := lw_in wsX140 [1039, 1040] (by decide +kernel) (by decide +kernel)
/-! NailedByWord$SoleTack -/
set_option maxRecDepth 100000
def RX15 : String := "NailedByWord$SoleTack"
def TX15 : u_T := fun k => match k with
  | 0 => ("NailedByWord$Body", "number", "I", true)
  | 1 => ("NailedByWord$Body", "this$0", "LNailedByWord;", true)
  | _ => ("NailedByWord$SoleTack", "this$0", "LNailedByWord;", true)
def tyX15 : Nat → FieldType := fun k => match k with
  | 0 => .int
  | 1 => .object "NailedByWord"
  | _ => .object "NailedByWord"
abbrev wsX150 : List Cond := u_ws RX15 TX15 3
-- two fields of one name: no nmX15
theorem tyX15_ok : ∀ k, k < 3 → parseFieldDescriptor (TX15 k).2.2.1 = some (tyX15 k) := by decide +kernel
abbrev cX15_init : ByteArray := prog_19_method_1_code
def yX15_init : MethodName := ⟨RX15, "<init>", "(LNailedByWord;I)V"⟩
def dkwX15_init_0 : List UInt8 := [42, 43, 181, 0, 3, 42, 43, 28, 183, 0, 9, 177]
abbrev dktX15_init_0 : List UInt8 := dkwX15_init_0 ++ []
theorem dksX15_init_0 : cX15_init.data.toList.drop 0 = dktX15_init_0 := by decide +kernel
theorem dX15_init_0 : decode cX15_init 0 = .ok (.aload_n 0, 1) := dk_42 (dk_at dksX15_init_0 0 rfl rfl)
theorem dX15_init_1 : decode cX15_init 1 = .ok (.aload_n 1, 1) := dk_43 (dk_at dksX15_init_0 1 rfl rfl)
theorem dX15_init_2 : decode cX15_init 2 = .ok (.putfield 3, 3) := dk_181 0 3 (dk_at dksX15_init_0 2 rfl rfl)
theorem dX15_init_5 : decode cX15_init 5 = .ok (.aload_n 0, 1) := dk_42 (dk_at dksX15_init_0 5 rfl rfl)
theorem dX15_init_6 : decode cX15_init 6 = .ok (.aload_n 1, 1) := dk_43 (dk_at dksX15_init_0 6 rfl rfl)
theorem dX15_init_7 : decode cX15_init 7 = .ok (.iload_n 2, 1) := dk_28 (dk_at dksX15_init_0 7 rfl rfl)
theorem dX15_init_8 : decode cX15_init 8 = .ok (.invokespecial 9, 3) := dk_183 0 9 (dk_at dksX15_init_0 8 rfl rfl)
theorem dX15_init_11 : decode cX15_init 11 = .ok (.return_, 1) := dk_177 (dk_at dksX15_init_0 11 rfl rfl)
abbrev cX15_holds : ByteArray := prog_19_method_4_code
def yX15_holds : MethodName := ⟨RX15, "holds", "(I)I"⟩
def dkwX15_holds_0 : List UInt8 := [42, 16, 20, 182, 0, 19, 42, 27, 183, 0, 23, 6, 96, 172]
abbrev dktX15_holds_0 : List UInt8 := dkwX15_holds_0 ++ []
theorem dksX15_holds_0 : cX15_holds.data.toList.drop 0 = dktX15_holds_0 := by decide +kernel
theorem dX15_holds_0 : decode cX15_holds 0 = .ok (.aload_n 0, 1) := dk_42 (dk_at dksX15_holds_0 0 rfl rfl)
theorem dX15_holds_1 : decode cX15_holds 1 = .ok (.bipush 20, 2) := dk_16 20 (dk_at dksX15_holds_0 1 rfl rfl)
theorem dX15_holds_3 : decode cX15_holds 3 = .ok (.invokevirtual 19, 3) := dk_182 0 19 (dk_at dksX15_holds_0 3 rfl rfl)
theorem dX15_holds_6 : decode cX15_holds 6 = .ok (.aload_n 0, 1) := dk_42 (dk_at dksX15_holds_0 6 rfl rfl)
theorem dX15_holds_7 : decode cX15_holds 7 = .ok (.iload_n 1, 1) := dk_27 (dk_at dksX15_holds_0 7 rfl rfl)
theorem dX15_holds_8 : decode cX15_holds 8 = .ok (.invokespecial 23, 3) := dk_183 0 23 (dk_at dksX15_holds_0 8 rfl rfl)
theorem dX15_holds_11 : decode cX15_holds 11 = .ok (.iconst 3, 1) := dk_6 (dk_at dksX15_holds_0 11 rfl rfl)
theorem dX15_holds_12 : decode cX15_holds 12 = .ok (.iadd, 1) := dk_96 (dk_at dksX15_holds_0 12 rfl rfl)
theorem dX15_holds_13 : decode cX15_holds 13 = .ok (.ireturn, 1) := dk_172 (dk_at dksX15_holds_0 13 rfl rfl)
abbrev cX15_isUnder : ByteArray := prog_19_method_3_code
def yX15_isUnder : MethodName := ⟨RX15, "isUnder", "(I)Z"⟩
def dkwX15_isUnder_0 : List UInt8 := [27, 4, 159, 0, 11, 42, 27, 183, 0, 15, 153, 0, 7, 4, 167, 0, 4, 3, 172]
abbrev dktX15_isUnder_0 : List UInt8 := dkwX15_isUnder_0 ++ []
theorem dksX15_isUnder_0 : cX15_isUnder.data.toList.drop 0 = dktX15_isUnder_0 := by decide +kernel
theorem dX15_isUnder_0 : decode cX15_isUnder 0 = .ok (.iload_n 1, 1) := dk_27 (dk_at dksX15_isUnder_0 0 rfl rfl)
theorem dX15_isUnder_1 : decode cX15_isUnder 1 = .ok (.iconst 1, 1) := dk_4 (dk_at dksX15_isUnder_0 1 rfl rfl)
theorem dX15_isUnder_2 : decode cX15_isUnder 2 = .ok (.if_icmp .eq 11, 3) := dk_159 0 11 (dk_at dksX15_isUnder_0 2 rfl rfl)
theorem dX15_isUnder_5 : decode cX15_isUnder 5 = .ok (.aload_n 0, 1) := dk_42 (dk_at dksX15_isUnder_0 5 rfl rfl)
theorem dX15_isUnder_6 : decode cX15_isUnder 6 = .ok (.iload_n 1, 1) := dk_27 (dk_at dksX15_isUnder_0 6 rfl rfl)
theorem dX15_isUnder_7 : decode cX15_isUnder 7 = .ok (.invokespecial 15, 3) := dk_183 0 15 (dk_at dksX15_isUnder_0 7 rfl rfl)
theorem dX15_isUnder_10 : decode cX15_isUnder 10 = .ok (.ifCond .eq 7, 3) := dk_153 0 7 (dk_at dksX15_isUnder_0 10 rfl rfl)
theorem dX15_isUnder_13 : decode cX15_isUnder 13 = .ok (.iconst 1, 1) := dk_4 (dk_at dksX15_isUnder_0 13 rfl rfl)
theorem dX15_isUnder_14 : decode cX15_isUnder 14 = .ok (.goto 4, 3) := dk_167 0 4 (dk_at dksX15_isUnder_0 14 rfl rfl)
theorem dX15_isUnder_17 : decode cX15_isUnder 17 = .ok (.iconst 0, 1) := dk_3 (dk_at dksX15_isUnder_0 17 rfl rfl)
theorem dX15_isUnder_18 : decode cX15_isUnder 18 = .ok (.ireturn, 1) := dk_172 (dk_at dksX15_isUnder_0 18 rfl rfl)
abbrev cX15_kind : ByteArray := prog_19_method_2_code
def yX15_kind : MethodName := ⟨RX15, "kind", "()I"⟩
theorem dX15_kind_0 : decode cX15_kind 0 = .ok (.iconst 1, 1) := by decide +kernel
theorem dX15_kind_1 : decode cX15_kind 1 = .ok (.ireturn, 1) := by decide +kernel
theorem q133 : (Jvm.Cond.initialized "NailedByWord$SoleTack") ∈ lw_all := lw_g (lw_at lw_m1 21 rfl) rfl
theorem q942 : (Jvm.Cond.instantiable "NailedByWord$SoleTack" (3 : Nat)) ∈ lw_all := lw_g (lw_at lw_m4 110 rfl) rfl
theorem q944 : (Jvm.Cond.instanceMethod ({ cls := "NailedByWord$SoleTack", name := "<init>", desc := "(LNailedByWord;I)V" } : Jvm.MethodName)) ∈ lw_all := lw_g (lw_at lw_m4 112 rfl) rfl
theorem q945 : (Jvm.Cond.code ({ cls := "NailedByWord$SoleTack", name := "<init>", desc := "(LNailedByWord;I)V" } : Jvm.MethodName) prog_19_method_1_code (3 : Nat) (Option.none : Option Jvm.ClassFile.FieldType)) ∈ lw_all := lw_g (lw_at lw_m4 113 rfl) rfl
theorem q946 : (Jvm.Cond.methodLink "NailedByWord$SoleTack" (9 : Nat) ({ cls := "NailedByWord$Body", name := "<init>", desc := "(LNailedByWord;I)V" } : Jvm.MethodName)) ∈ lw_all := lw_g (lw_at lw_m4 114 rfl) rfl
theorem q950 : (Jvm.Cond.fieldLink "NailedByWord$SoleTack" (3 : Nat) "NailedByWord$SoleTack" "this$0" "LNailedByWord;") ∈ lw_all := lw_g (lw_at lw_m4 118 rfl) rfl
theorem q953 : (Jvm.Cond.laysFinal "NailedByWord$SoleTack" "NailedByWord$SoleTack" "this$0" "LNailedByWord;") ∈ lw_all := lw_g (lw_at lw_m4 121 rfl) rfl
theorem q954 : (Jvm.Cond.soleField "NailedByWord$SoleTack" "this$0") ∈ lw_all := lw_g (lw_at lw_m4 122 rfl) rfl
theorem q955 : (Jvm.Cond.laysFinal "NailedByWord$SoleTack" "NailedByWord$Body" "number" "I") ∈ lw_all := lw_g (lw_at lw_m4 123 rfl) rfl
theorem q957 : (Jvm.Cond.laysFinal "NailedByWord$SoleTack" "NailedByWord$Body" "this$0" "LNailedByWord;") ∈ lw_all := lw_g (lw_at lw_m4 125 rfl) rfl
theorem q959 : (Jvm.Cond.superclass "NailedByWord$SoleTack" "NailedByWord$Body") ∈ lw_all := lw_g (lw_at lw_m4 127 rfl) rfl
theorem q1093 : (Jvm.Cond.castable "NailedByWord$SoleTack" "NailedByWord$Holds") ∈ lw_tbl := lw_at lw_m5 21 rfl
theorem q1094 : (Jvm.Cond.selects "NailedByWord$SoleTack" ({ cls := "NailedByWord$Holds", name := "begins", desc := "(I)V" } : Jvm.MethodName) ({ cls := "NailedByWord$Body", name := "begins", desc := "(I)V" } : Jvm.MethodName)) ∈ lw_all := lw_g (lw_at lw_m5 22 rfl) rfl
theorem q1095 : (Jvm.Cond.unhidden "NailedByWord$SoleTack" "begins" "(I)V") ∈ lw_tbl := lw_at lw_m5 23 rfl
theorem q1118 : (Jvm.Cond.selects "NailedByWord$SoleTack" ({ cls := "NailedByWord$Holds", name := "number", desc := "()I" } : Jvm.MethodName) ({ cls := "NailedByWord$Body", name := "number", desc := "()I" } : Jvm.MethodName)) ∈ lw_all := lw_g (lw_at lw_m5 46 rfl) rfl
theorem q1119 : (Jvm.Cond.unhidden "NailedByWord$SoleTack" "number" "()I") ∈ lw_tbl := lw_at lw_m5 47 rfl
theorem q1124 : (Jvm.Cond.instanceMethod ({ cls := "NailedByWord$SoleTack", name := "holds", desc := "(I)I" } : Jvm.MethodName)) ∈ lw_all := lw_g (lw_at lw_m5 52 rfl) rfl
theorem q1125 : (Jvm.Cond.code ({ cls := "NailedByWord$SoleTack", name := "holds", desc := "(I)I" } : Jvm.MethodName) prog_19_method_4_code (2 : Nat) (Option.some Jvm.ClassFile.FieldType.int)) ∈ lw_all := lw_g (lw_at lw_m5 53 rfl) rfl
theorem q1126 : (Jvm.Cond.methodLink "NailedByWord$SoleTack" (19 : Nat) ({ cls := "NailedByWord$SoleTack", name := "begins", desc := "(I)V" } : Jvm.MethodName)) ∈ lw_all := lw_g (lw_at lw_m5 54 rfl) rfl
theorem q1127 : (Jvm.Cond.sameMethod "NailedByWord$SoleTack" "NailedByWord$Body" "begins" "(I)V") ∈ lw_all := lw_g (lw_at lw_m5 55 rfl) rfl
theorem q1129 : (Jvm.Cond.selects "NailedByWord$SoleTack" ({ cls := "NailedByWord$SoleTack", name := "begins", desc := "(I)V" } : Jvm.MethodName) ({ cls := "NailedByWord$Body", name := "begins", desc := "(I)V" } : Jvm.MethodName)) ∈ lw_all := lw_g (lw_at lw_m5 57 rfl) rfl
theorem q1132 : (Jvm.Cond.selects "NailedByWord$SoleTack" ({ cls := "NailedByWord$Holds", name := "holds", desc := "(I)I" } : Jvm.MethodName) ({ cls := "NailedByWord$SoleTack", name := "holds", desc := "(I)I" } : Jvm.MethodName)) ∈ lw_all := lw_g (lw_at lw_m5 60 rfl) rfl
theorem q1172 : (Jvm.Cond.selects "NailedByWord$SoleTack" ({ cls := "NailedByWord$Body", name := "pulls", desc := "(I)I" } : Jvm.MethodName) ({ cls := "NailedByWord$Body", name := "pulls", desc := "(I)I" } : Jvm.MethodName)) ∈ lw_all := lw_g (lw_at lw_m5 100 rfl) rfl
theorem q1213 : (Jvm.Cond.castable "NailedByWord$SoleTack" "NailedByWord$Tells") ∈ lw_tbl := lw_at lw_m5 141 rfl
theorem q1214 : (Jvm.Cond.selects "NailedByWord$SoleTack" ({ cls := "NailedByWord$Tells", name := "begins", desc := "(I)V" } : Jvm.MethodName) ({ cls := "NailedByWord$Body", name := "begins", desc := "(I)V" } : Jvm.MethodName)) ∈ lw_all := lw_g (lw_at lw_m5 142 rfl) rfl
theorem q1237 : (Jvm.Cond.selects "NailedByWord$SoleTack" ({ cls := "NailedByWord$Tells", name := "pulls", desc := "(I)I" } : Jvm.MethodName) ({ cls := "NailedByWord$Body", name := "pulls", desc := "(I)I" } : Jvm.MethodName)) ∈ lw_all := lw_g (lw_at lw_m5 165 rfl) rfl
theorem q1238 : (Jvm.Cond.unhidden "NailedByWord$SoleTack" "pulls" "(I)I") ∈ lw_tbl := lw_at lw_m5 166 rfl
theorem q1259 : (Jvm.Cond.selects "NailedByWord$SoleTack" ({ cls := "NailedByWord$Tells", name := "frees", desc := "(I)I" } : Jvm.MethodName) ({ cls := "NailedByWord$Body", name := "frees", desc := "(I)I" } : Jvm.MethodName)) ∈ lw_all := lw_g (lw_at lw_m5 187 rfl) rfl
theorem q1260 : (Jvm.Cond.unhidden "NailedByWord$SoleTack" "frees" "(I)I") ∈ lw_tbl := lw_at lw_m5 188 rfl
theorem q1266 : (Jvm.Cond.unhidden "NailedByWord$SoleTack" "tells" "(I)I") ∈ lw_tbl := lw_at lw_m5 194 rfl
theorem q1333 : (Jvm.Cond.instanceMethod ({ cls := "NailedByWord$SoleTack", name := "isUnder", desc := "(I)Z" } : Jvm.MethodName)) ∈ lw_all := lw_g (lw_at lw_m6 21 rfl) rfl
theorem q1334 : (Jvm.Cond.code ({ cls := "NailedByWord$SoleTack", name := "isUnder", desc := "(I)Z" } : Jvm.MethodName) prog_19_method_3_code (2 : Nat) (Option.some Jvm.ClassFile.FieldType.boolean)) ∈ lw_all := lw_g (lw_at lw_m6 22 rfl) rfl
theorem q1335 : (Jvm.Cond.methodLink "NailedByWord$SoleTack" (15 : Nat) ({ cls := "NailedByWord$Body", name := "isUnder", desc := "(I)Z" } : Jvm.MethodName)) ∈ lw_all := lw_g (lw_at lw_m6 23 rfl) rfl
theorem q1338 : (Jvm.Cond.selects "NailedByWord$SoleTack" ({ cls := "NailedByWord$Body", name := "isUnder", desc := "(I)Z" } : Jvm.MethodName) ({ cls := "NailedByWord$SoleTack", name := "isUnder", desc := "(I)Z" } : Jvm.MethodName)) ∈ lw_all := lw_g (lw_at lw_m6 26 rfl) rfl
theorem q1362 : (Jvm.Cond.selects "NailedByWord$SoleTack" ({ cls := "NailedByWord$Body", name := "kind", desc := "()I" } : Jvm.MethodName) ({ cls := "NailedByWord$SoleTack", name := "kind", desc := "()I" } : Jvm.MethodName)) ∈ lw_all := lw_g (lw_at lw_m6 50 rfl) rfl
theorem q1363 : (Jvm.Cond.instanceMethod ({ cls := "NailedByWord$SoleTack", name := "kind", desc := "()I" } : Jvm.MethodName)) ∈ lw_all := lw_g (lw_at lw_m6 51 rfl) rfl
theorem q1364 : (Jvm.Cond.code ({ cls := "NailedByWord$SoleTack", name := "kind", desc := "()I" } : Jvm.MethodName) prog_19_method_2_code (1 : Nat) (Option.some Jvm.ClassFile.FieldType.int)) ∈ lw_all := lw_g (lw_at lw_m6 52 rfl) rfl
theorem q2072 : (Jvm.Cond.selects "NailedByWord$SoleTack" ({ cls := "NailedByWord$Body", name := "begins", desc := "(I)V" } : Jvm.MethodName) ({ cls := "NailedByWord$Body", name := "begins", desc := "(I)V" } : Jvm.MethodName)) ∈ lw_all := lw_g (lw_at lw_m9 40 rfl) rfl
theorem q2082 : (Jvm.Cond.selects "NailedByWord$SoleTack" ({ cls := "NailedByWord$Body", name := "frees", desc := "(I)I" } : Jvm.MethodName) ({ cls := "NailedByWord$Body", name := "frees", desc := "(I)I" } : Jvm.MethodName)) ∈ lw_all := lw_g (lw_at lw_m9 50 rfl) rfl
theorem q2087 : (Jvm.Cond.sameMethod "NailedByWord$SoleTack" "NailedByWord$SoleTack" "isUnder" "(I)Z") ∈ lw_all := lw_g (lw_at lw_m9 55 rfl) rfl
theorem q2096 : (Jvm.Cond.castable "NailedByWord$SoleTack" "NailedByWord$Body") ∈ lw_tbl := lw_at lw_m9 64 rfl
theorem q2111 : (Jvm.Cond.castable "NailedByWord$SoleTack" "java/lang/Object") ∈ lw_tbl := lw_at lw_m9 79 rfl
theorem in_X15 : ∀ w ∈ wsX150, w ∈ lw_all := lw_in wsX150 [955, 957, 953] (by decide +kernel) (by decide +kernel)
/-! NailedByWord$LaceTack -/
set_option maxRecDepth 100000
def RX16 : String := "NailedByWord$LaceTack"
def TX16 : u_T := fun k => match k with
  | 0 => ("NailedByWord$Body", "number", "I", true)
  | 1 => ("NailedByWord$Body", "this$0", "LNailedByWord;", true)
  | _ => ("NailedByWord$LaceTack", "this$0", "LNailedByWord;", true)
def tyX16 : Nat → FieldType := fun k => match k with
  | 0 => .int
  | 1 => .object "NailedByWord"
  | _ => .object "NailedByWord"
abbrev wsX160 : List Cond := u_ws RX16 TX16 3
-- two fields of one name: no nmX16
theorem tyX16_ok : ∀ k, k < 3 → parseFieldDescriptor (TX16 k).2.2.1 = some (tyX16 k) := by decide +kernel
abbrev cX16_init : ByteArray := prog_12_method_1_code
def yX16_init : MethodName := ⟨RX16, "<init>", "(LNailedByWord;I)V"⟩
def dkwX16_init_0 : List UInt8 := [42, 43, 181, 0, 3, 42, 43, 28, 183, 0, 9, 177]
abbrev dktX16_init_0 : List UInt8 := dkwX16_init_0 ++ []
theorem dksX16_init_0 : cX16_init.data.toList.drop 0 = dktX16_init_0 := by decide +kernel
theorem dX16_init_0 : decode cX16_init 0 = .ok (.aload_n 0, 1) := dk_42 (dk_at dksX16_init_0 0 rfl rfl)
theorem dX16_init_1 : decode cX16_init 1 = .ok (.aload_n 1, 1) := dk_43 (dk_at dksX16_init_0 1 rfl rfl)
theorem dX16_init_2 : decode cX16_init 2 = .ok (.putfield 3, 3) := dk_181 0 3 (dk_at dksX16_init_0 2 rfl rfl)
theorem dX16_init_5 : decode cX16_init 5 = .ok (.aload_n 0, 1) := dk_42 (dk_at dksX16_init_0 5 rfl rfl)
theorem dX16_init_6 : decode cX16_init 6 = .ok (.aload_n 1, 1) := dk_43 (dk_at dksX16_init_0 6 rfl rfl)
theorem dX16_init_7 : decode cX16_init 7 = .ok (.iload_n 2, 1) := dk_28 (dk_at dksX16_init_0 7 rfl rfl)
theorem dX16_init_8 : decode cX16_init 8 = .ok (.invokespecial 9, 3) := dk_183 0 9 (dk_at dksX16_init_0 8 rfl rfl)
theorem dX16_init_11 : decode cX16_init 11 = .ok (.return_, 1) := dk_177 (dk_at dksX16_init_0 11 rfl rfl)
abbrev cX16_pulls : ByteArray := prog_12_method_4_code
def yX16_pulls : MethodName := ⟨RX16, "pulls", "(I)I"⟩
def dkwX16_pulls_0 : List UInt8 := [42, 16, 30, 182, 0, 19, 42, 27, 183, 0, 23, 116, 172]
abbrev dktX16_pulls_0 : List UInt8 := dkwX16_pulls_0 ++ []
theorem dksX16_pulls_0 : cX16_pulls.data.toList.drop 0 = dktX16_pulls_0 := by decide +kernel
theorem dX16_pulls_0 : decode cX16_pulls 0 = .ok (.aload_n 0, 1) := dk_42 (dk_at dksX16_pulls_0 0 rfl rfl)
theorem dX16_pulls_1 : decode cX16_pulls 1 = .ok (.bipush 30, 2) := dk_16 30 (dk_at dksX16_pulls_0 1 rfl rfl)
theorem dX16_pulls_3 : decode cX16_pulls 3 = .ok (.invokevirtual 19, 3) := dk_182 0 19 (dk_at dksX16_pulls_0 3 rfl rfl)
theorem dX16_pulls_6 : decode cX16_pulls 6 = .ok (.aload_n 0, 1) := dk_42 (dk_at dksX16_pulls_0 6 rfl rfl)
theorem dX16_pulls_7 : decode cX16_pulls 7 = .ok (.iload_n 1, 1) := dk_27 (dk_at dksX16_pulls_0 7 rfl rfl)
theorem dX16_pulls_8 : decode cX16_pulls 8 = .ok (.invokespecial 23, 3) := dk_183 0 23 (dk_at dksX16_pulls_0 8 rfl rfl)
theorem dX16_pulls_11 : decode cX16_pulls 11 = .ok (.ineg, 1) := dk_116 (dk_at dksX16_pulls_0 11 rfl rfl)
theorem dX16_pulls_12 : decode cX16_pulls 12 = .ok (.ireturn, 1) := dk_172 (dk_at dksX16_pulls_0 12 rfl rfl)
abbrev cX16_isUnder : ByteArray := prog_12_method_3_code
def yX16_isUnder : MethodName := ⟨RX16, "isUnder", "(I)Z"⟩
def dkwX16_isUnder_0 : List UInt8 := [27, 5, 159, 0, 11, 42, 27, 183, 0, 15, 153, 0, 7, 4, 167, 0, 4, 3, 172]
abbrev dktX16_isUnder_0 : List UInt8 := dkwX16_isUnder_0 ++ []
theorem dksX16_isUnder_0 : cX16_isUnder.data.toList.drop 0 = dktX16_isUnder_0 := by decide +kernel
theorem dX16_isUnder_0 : decode cX16_isUnder 0 = .ok (.iload_n 1, 1) := dk_27 (dk_at dksX16_isUnder_0 0 rfl rfl)
theorem dX16_isUnder_1 : decode cX16_isUnder 1 = .ok (.iconst 2, 1) := dk_5 (dk_at dksX16_isUnder_0 1 rfl rfl)
theorem dX16_isUnder_2 : decode cX16_isUnder 2 = .ok (.if_icmp .eq 11, 3) := dk_159 0 11 (dk_at dksX16_isUnder_0 2 rfl rfl)
theorem dX16_isUnder_5 : decode cX16_isUnder 5 = .ok (.aload_n 0, 1) := dk_42 (dk_at dksX16_isUnder_0 5 rfl rfl)
theorem dX16_isUnder_6 : decode cX16_isUnder 6 = .ok (.iload_n 1, 1) := dk_27 (dk_at dksX16_isUnder_0 6 rfl rfl)
theorem dX16_isUnder_7 : decode cX16_isUnder 7 = .ok (.invokespecial 15, 3) := dk_183 0 15 (dk_at dksX16_isUnder_0 7 rfl rfl)
theorem dX16_isUnder_10 : decode cX16_isUnder 10 = .ok (.ifCond .eq 7, 3) := dk_153 0 7 (dk_at dksX16_isUnder_0 10 rfl rfl)
theorem dX16_isUnder_13 : decode cX16_isUnder 13 = .ok (.iconst 1, 1) := dk_4 (dk_at dksX16_isUnder_0 13 rfl rfl)
theorem dX16_isUnder_14 : decode cX16_isUnder 14 = .ok (.goto 4, 3) := dk_167 0 4 (dk_at dksX16_isUnder_0 14 rfl rfl)
theorem dX16_isUnder_17 : decode cX16_isUnder 17 = .ok (.iconst 0, 1) := dk_3 (dk_at dksX16_isUnder_0 17 rfl rfl)
theorem dX16_isUnder_18 : decode cX16_isUnder 18 = .ok (.ireturn, 1) := dk_172 (dk_at dksX16_isUnder_0 18 rfl rfl)
abbrev cX16_kind : ByteArray := prog_12_method_2_code
def yX16_kind : MethodName := ⟨RX16, "kind", "()I"⟩
theorem dX16_kind_0 : decode cX16_kind 0 = .ok (.iconst 2, 1) := by decide +kernel
theorem dX16_kind_1 : decode cX16_kind 1 = .ok (.ireturn, 1) := by decide +kernel
theorem q134 : (Jvm.Cond.initialized "NailedByWord$LaceTack") ∈ lw_all := lw_g (lw_at lw_m1 22 rfl) rfl
theorem q961 : (Jvm.Cond.instantiable "NailedByWord$LaceTack" (3 : Nat)) ∈ lw_all := lw_g (lw_at lw_m4 129 rfl) rfl
theorem q963 : (Jvm.Cond.instanceMethod ({ cls := "NailedByWord$LaceTack", name := "<init>", desc := "(LNailedByWord;I)V" } : Jvm.MethodName)) ∈ lw_all := lw_g (lw_at lw_m4 131 rfl) rfl
theorem q964 : (Jvm.Cond.code ({ cls := "NailedByWord$LaceTack", name := "<init>", desc := "(LNailedByWord;I)V" } : Jvm.MethodName) prog_12_method_1_code (3 : Nat) (Option.none : Option Jvm.ClassFile.FieldType)) ∈ lw_all := lw_g (lw_at lw_m4 132 rfl) rfl
theorem q965 : (Jvm.Cond.methodLink "NailedByWord$LaceTack" (9 : Nat) ({ cls := "NailedByWord$Body", name := "<init>", desc := "(LNailedByWord;I)V" } : Jvm.MethodName)) ∈ lw_all := lw_g (lw_at lw_m4 133 rfl) rfl
theorem q966 : (Jvm.Cond.fieldLink "NailedByWord$LaceTack" (3 : Nat) "NailedByWord$LaceTack" "this$0" "LNailedByWord;") ∈ lw_all := lw_g (lw_at lw_m4 134 rfl) rfl
theorem q967 : (Jvm.Cond.laysFinal "NailedByWord$LaceTack" "NailedByWord$LaceTack" "this$0" "LNailedByWord;") ∈ lw_all := lw_g (lw_at lw_m4 135 rfl) rfl
theorem q968 : (Jvm.Cond.soleField "NailedByWord$LaceTack" "this$0") ∈ lw_all := lw_g (lw_at lw_m4 136 rfl) rfl
theorem q969 : (Jvm.Cond.laysFinal "NailedByWord$LaceTack" "NailedByWord$Body" "number" "I") ∈ lw_all := lw_g (lw_at lw_m4 137 rfl) rfl
theorem q970 : (Jvm.Cond.laysFinal "NailedByWord$LaceTack" "NailedByWord$Body" "this$0" "LNailedByWord;") ∈ lw_all := lw_g (lw_at lw_m4 138 rfl) rfl
theorem q971 : (Jvm.Cond.superclass "NailedByWord$LaceTack" "NailedByWord$Body") ∈ lw_all := lw_g (lw_at lw_m4 139 rfl) rfl
theorem q1087 : (Jvm.Cond.castable "NailedByWord$LaceTack" "NailedByWord$Holds") ∈ lw_tbl := lw_at lw_m5 15 rfl
theorem q1088 : (Jvm.Cond.selects "NailedByWord$LaceTack" ({ cls := "NailedByWord$Holds", name := "begins", desc := "(I)V" } : Jvm.MethodName) ({ cls := "NailedByWord$Body", name := "begins", desc := "(I)V" } : Jvm.MethodName)) ∈ lw_all := lw_g (lw_at lw_m5 16 rfl) rfl
theorem q1089 : (Jvm.Cond.unhidden "NailedByWord$LaceTack" "begins" "(I)V") ∈ lw_tbl := lw_at lw_m5 17 rfl
theorem q1114 : (Jvm.Cond.selects "NailedByWord$LaceTack" ({ cls := "NailedByWord$Holds", name := "number", desc := "()I" } : Jvm.MethodName) ({ cls := "NailedByWord$Body", name := "number", desc := "()I" } : Jvm.MethodName)) ∈ lw_all := lw_g (lw_at lw_m5 42 rfl) rfl
theorem q1115 : (Jvm.Cond.unhidden "NailedByWord$LaceTack" "number" "()I") ∈ lw_tbl := lw_at lw_m5 43 rfl
theorem q1130 : (Jvm.Cond.unhidden "NailedByWord$LaceTack" "holds" "(I)I") ∈ lw_tbl := lw_at lw_m5 58 rfl
theorem q1161 : (Jvm.Cond.instanceMethod ({ cls := "NailedByWord$LaceTack", name := "pulls", desc := "(I)I" } : Jvm.MethodName)) ∈ lw_all := lw_g (lw_at lw_m5 89 rfl) rfl
theorem q1162 : (Jvm.Cond.code ({ cls := "NailedByWord$LaceTack", name := "pulls", desc := "(I)I" } : Jvm.MethodName) prog_12_method_4_code (2 : Nat) (Option.some Jvm.ClassFile.FieldType.int)) ∈ lw_all := lw_g (lw_at lw_m5 90 rfl) rfl
theorem q1163 : (Jvm.Cond.methodLink "NailedByWord$LaceTack" (19 : Nat) ({ cls := "NailedByWord$LaceTack", name := "begins", desc := "(I)V" } : Jvm.MethodName)) ∈ lw_all := lw_g (lw_at lw_m5 91 rfl) rfl
theorem q1164 : (Jvm.Cond.sameMethod "NailedByWord$LaceTack" "NailedByWord$Body" "begins" "(I)V") ∈ lw_all := lw_g (lw_at lw_m5 92 rfl) rfl
theorem q1166 : (Jvm.Cond.selects "NailedByWord$LaceTack" ({ cls := "NailedByWord$LaceTack", name := "begins", desc := "(I)V" } : Jvm.MethodName) ({ cls := "NailedByWord$Body", name := "begins", desc := "(I)V" } : Jvm.MethodName)) ∈ lw_all := lw_g (lw_at lw_m5 94 rfl) rfl
theorem q1168 : (Jvm.Cond.methodLink "NailedByWord$LaceTack" (23 : Nat) ({ cls := "NailedByWord$Body", name := "pulls", desc := "(I)I" } : Jvm.MethodName)) ∈ lw_all := lw_g (lw_at lw_m5 96 rfl) rfl
theorem q1170 : (Jvm.Cond.selects "NailedByWord$LaceTack" ({ cls := "NailedByWord$Body", name := "pulls", desc := "(I)I" } : Jvm.MethodName) ({ cls := "NailedByWord$LaceTack", name := "pulls", desc := "(I)I" } : Jvm.MethodName)) ∈ lw_all := lw_g (lw_at lw_m5 98 rfl) rfl
theorem q1178 : (Jvm.Cond.sameMethod "NailedByWord$LaceTack" "NailedByWord$Body" "frees" "(I)I") ∈ lw_all := lw_g (lw_at lw_m5 106 rfl) rfl
theorem q1209 : (Jvm.Cond.castable "NailedByWord$LaceTack" "NailedByWord$Tells") ∈ lw_tbl := lw_at lw_m5 137 rfl
theorem q1210 : (Jvm.Cond.selects "NailedByWord$LaceTack" ({ cls := "NailedByWord$Tells", name := "begins", desc := "(I)V" } : Jvm.MethodName) ({ cls := "NailedByWord$Body", name := "begins", desc := "(I)V" } : Jvm.MethodName)) ∈ lw_all := lw_g (lw_at lw_m5 138 rfl) rfl
theorem q1232 : (Jvm.Cond.selects "NailedByWord$LaceTack" ({ cls := "NailedByWord$Tells", name := "pulls", desc := "(I)I" } : Jvm.MethodName) ({ cls := "NailedByWord$LaceTack", name := "pulls", desc := "(I)I" } : Jvm.MethodName)) ∈ lw_all := lw_g (lw_at lw_m5 160 rfl) rfl
theorem q1233 : (Jvm.Cond.unhidden "NailedByWord$LaceTack" "pulls" "(I)I") ∈ lw_tbl := lw_at lw_m5 161 rfl
theorem q1234 : (Jvm.Cond.publicMethod ({ cls := "NailedByWord$LaceTack", name := "pulls", desc := "(I)I" } : Jvm.MethodName)) ∈ lw_tbl := lw_at lw_m5 162 rfl
theorem q1255 : (Jvm.Cond.selects "NailedByWord$LaceTack" ({ cls := "NailedByWord$Tells", name := "frees", desc := "(I)I" } : Jvm.MethodName) ({ cls := "NailedByWord$Body", name := "frees", desc := "(I)I" } : Jvm.MethodName)) ∈ lw_all := lw_g (lw_at lw_m5 183 rfl) rfl
theorem q1256 : (Jvm.Cond.unhidden "NailedByWord$LaceTack" "frees" "(I)I") ∈ lw_tbl := lw_at lw_m5 184 rfl
theorem q1264 : (Jvm.Cond.unhidden "NailedByWord$LaceTack" "tells" "(I)I") ∈ lw_tbl := lw_at lw_m5 192 rfl
theorem q1326 : (Jvm.Cond.instanceMethod ({ cls := "NailedByWord$LaceTack", name := "isUnder", desc := "(I)Z" } : Jvm.MethodName)) ∈ lw_all := lw_g (lw_at lw_m6 14 rfl) rfl
theorem q1327 : (Jvm.Cond.code ({ cls := "NailedByWord$LaceTack", name := "isUnder", desc := "(I)Z" } : Jvm.MethodName) prog_12_method_3_code (2 : Nat) (Option.some Jvm.ClassFile.FieldType.boolean)) ∈ lw_all := lw_g (lw_at lw_m6 15 rfl) rfl
theorem q1328 : (Jvm.Cond.methodLink "NailedByWord$LaceTack" (15 : Nat) ({ cls := "NailedByWord$Body", name := "isUnder", desc := "(I)Z" } : Jvm.MethodName)) ∈ lw_all := lw_g (lw_at lw_m6 16 rfl) rfl
theorem q1336 : (Jvm.Cond.selects "NailedByWord$LaceTack" ({ cls := "NailedByWord$Body", name := "isUnder", desc := "(I)Z" } : Jvm.MethodName) ({ cls := "NailedByWord$LaceTack", name := "isUnder", desc := "(I)Z" } : Jvm.MethodName)) ∈ lw_all := lw_g (lw_at lw_m6 24 rfl) rfl
theorem q1356 : (Jvm.Cond.selects "NailedByWord$LaceTack" ({ cls := "NailedByWord$Body", name := "kind", desc := "()I" } : Jvm.MethodName) ({ cls := "NailedByWord$LaceTack", name := "kind", desc := "()I" } : Jvm.MethodName)) ∈ lw_all := lw_g (lw_at lw_m6 44 rfl) rfl
theorem q1357 : (Jvm.Cond.instanceMethod ({ cls := "NailedByWord$LaceTack", name := "kind", desc := "()I" } : Jvm.MethodName)) ∈ lw_all := lw_g (lw_at lw_m6 45 rfl) rfl
theorem q1358 : (Jvm.Cond.code ({ cls := "NailedByWord$LaceTack", name := "kind", desc := "()I" } : Jvm.MethodName) prog_12_method_2_code (1 : Nat) (Option.some Jvm.ClassFile.FieldType.int)) ∈ lw_all := lw_g (lw_at lw_m6 46 rfl) rfl
theorem q2070 : (Jvm.Cond.selects "NailedByWord$LaceTack" ({ cls := "NailedByWord$Body", name := "begins", desc := "(I)V" } : Jvm.MethodName) ({ cls := "NailedByWord$Body", name := "begins", desc := "(I)V" } : Jvm.MethodName)) ∈ lw_all := lw_g (lw_at lw_m9 38 rfl) rfl
theorem q2074 : (Jvm.Cond.sameMethod "NailedByWord$LaceTack" "NailedByWord$LaceTack" "pulls" "(I)I") ∈ lw_all := lw_g (lw_at lw_m9 42 rfl) rfl
theorem q2080 : (Jvm.Cond.selects "NailedByWord$LaceTack" ({ cls := "NailedByWord$Body", name := "frees", desc := "(I)I" } : Jvm.MethodName) ({ cls := "NailedByWord$Body", name := "frees", desc := "(I)I" } : Jvm.MethodName)) ∈ lw_all := lw_g (lw_at lw_m9 48 rfl) rfl
theorem q2086 : (Jvm.Cond.sameMethod "NailedByWord$LaceTack" "NailedByWord$LaceTack" "isUnder" "(I)Z") ∈ lw_all := lw_g (lw_at lw_m9 54 rfl) rfl
theorem q2094 : (Jvm.Cond.castable "NailedByWord$LaceTack" "NailedByWord$Body") ∈ lw_tbl := lw_at lw_m9 62 rfl
theorem q2112 : (Jvm.Cond.castable "NailedByWord$LaceTack" "java/lang/Object") ∈ lw_tbl := lw_at lw_m9 80 rfl
theorem in_X16 : ∀ w ∈ wsX160, w ∈ lw_all := lw_in wsX160 [969, 970, 967] (by decide +kernel) (by decide +kernel)
/-! NailedByWord$HeelTack -/
set_option maxRecDepth 100000
def RX17 : String := "NailedByWord$HeelTack"
def TX17 : u_T := fun k => match k with
  | 0 => ("NailedByWord$Body", "number", "I", true)
  | 1 => ("NailedByWord$Body", "this$0", "LNailedByWord;", true)
  | 2 => ("NailedByWord$LaceTack", "this$0", "LNailedByWord;", true)
  | _ => ("NailedByWord$HeelTack", "this$0", "LNailedByWord;", true)
def tyX17 : Nat → FieldType := fun k => match k with
  | 0 => .int
  | 1 => .object "NailedByWord"
  | 2 => .object "NailedByWord"
  | _ => .object "NailedByWord"
abbrev wsX170 : List Cond := u_ws RX17 TX17 4
-- two fields of one name: no nmX17
theorem tyX17_ok : ∀ k, k < 4 → parseFieldDescriptor (TX17 k).2.2.1 = some (tyX17 k) := by decide +kernel
abbrev cX17_init : ByteArray := prog_8_method_1_code
def yX17_init : MethodName := ⟨RX17, "<init>", "(LNailedByWord;I)V"⟩
def dkwX17_init_0 : List UInt8 := [42, 43, 181, 0, 3, 42, 43, 28, 183, 0, 9, 177]
abbrev dktX17_init_0 : List UInt8 := dkwX17_init_0 ++ []
theorem dksX17_init_0 : cX17_init.data.toList.drop 0 = dktX17_init_0 := by decide +kernel
theorem dX17_init_0 : decode cX17_init 0 = .ok (.aload_n 0, 1) := dk_42 (dk_at dksX17_init_0 0 rfl rfl)
theorem dX17_init_1 : decode cX17_init 1 = .ok (.aload_n 1, 1) := dk_43 (dk_at dksX17_init_0 1 rfl rfl)
theorem dX17_init_2 : decode cX17_init 2 = .ok (.putfield 3, 3) := dk_181 0 3 (dk_at dksX17_init_0 2 rfl rfl)
theorem dX17_init_5 : decode cX17_init 5 = .ok (.aload_n 0, 1) := dk_42 (dk_at dksX17_init_0 5 rfl rfl)
theorem dX17_init_6 : decode cX17_init 6 = .ok (.aload_n 1, 1) := dk_43 (dk_at dksX17_init_0 6 rfl rfl)
theorem dX17_init_7 : decode cX17_init 7 = .ok (.iload_n 2, 1) := dk_28 (dk_at dksX17_init_0 7 rfl rfl)
theorem dX17_init_8 : decode cX17_init 8 = .ok (.invokespecial 9, 3) := dk_183 0 9 (dk_at dksX17_init_0 8 rfl rfl)
theorem dX17_init_11 : decode cX17_init 11 = .ok (.return_, 1) := dk_177 (dk_at dksX17_init_0 11 rfl rfl)
abbrev cX17_pulls : ByteArray := prog_8_method_5_code
def yX17_pulls : MethodName := ⟨RX17, "pulls", "(I)I"⟩
def dkwX17_pulls_0 : List UInt8 := [42, 16, 41, 182, 0, 19, 42, 27, 4, 96, 183, 0, 27, 172]
abbrev dktX17_pulls_0 : List UInt8 := dkwX17_pulls_0 ++ []
theorem dksX17_pulls_0 : cX17_pulls.data.toList.drop 0 = dktX17_pulls_0 := by decide +kernel
theorem dX17_pulls_0 : decode cX17_pulls 0 = .ok (.aload_n 0, 1) := dk_42 (dk_at dksX17_pulls_0 0 rfl rfl)
theorem dX17_pulls_1 : decode cX17_pulls 1 = .ok (.bipush 41, 2) := dk_16 41 (dk_at dksX17_pulls_0 1 rfl rfl)
theorem dX17_pulls_3 : decode cX17_pulls 3 = .ok (.invokevirtual 19, 3) := dk_182 0 19 (dk_at dksX17_pulls_0 3 rfl rfl)
theorem dX17_pulls_6 : decode cX17_pulls 6 = .ok (.aload_n 0, 1) := dk_42 (dk_at dksX17_pulls_0 6 rfl rfl)
theorem dX17_pulls_7 : decode cX17_pulls 7 = .ok (.iload_n 1, 1) := dk_27 (dk_at dksX17_pulls_0 7 rfl rfl)
theorem dX17_pulls_8 : decode cX17_pulls 8 = .ok (.iconst 1, 1) := dk_4 (dk_at dksX17_pulls_0 8 rfl rfl)
theorem dX17_pulls_9 : decode cX17_pulls 9 = .ok (.iadd, 1) := dk_96 (dk_at dksX17_pulls_0 9 rfl rfl)
theorem dX17_pulls_10 : decode cX17_pulls 10 = .ok (.invokespecial 27, 3) := dk_183 0 27 (dk_at dksX17_pulls_0 10 rfl rfl)
theorem dX17_pulls_13 : decode cX17_pulls 13 = .ok (.ireturn, 1) := dk_172 (dk_at dksX17_pulls_0 13 rfl rfl)
abbrev cX17_frees : ByteArray := prog_8_method_4_code
def yX17_frees : MethodName := ⟨RX17, "frees", "(I)I"⟩
def dkwX17_frees_0 : List UInt8 := [42, 16, 40, 182, 0, 19, 42, 27, 183, 0, 23, 6, 104, 172]
abbrev dktX17_frees_0 : List UInt8 := dkwX17_frees_0 ++ []
theorem dksX17_frees_0 : cX17_frees.data.toList.drop 0 = dktX17_frees_0 := by decide +kernel
theorem dX17_frees_0 : decode cX17_frees 0 = .ok (.aload_n 0, 1) := dk_42 (dk_at dksX17_frees_0 0 rfl rfl)
theorem dX17_frees_1 : decode cX17_frees 1 = .ok (.bipush 40, 2) := dk_16 40 (dk_at dksX17_frees_0 1 rfl rfl)
theorem dX17_frees_3 : decode cX17_frees 3 = .ok (.invokevirtual 19, 3) := dk_182 0 19 (dk_at dksX17_frees_0 3 rfl rfl)
theorem dX17_frees_6 : decode cX17_frees 6 = .ok (.aload_n 0, 1) := dk_42 (dk_at dksX17_frees_0 6 rfl rfl)
theorem dX17_frees_7 : decode cX17_frees 7 = .ok (.iload_n 1, 1) := dk_27 (dk_at dksX17_frees_0 7 rfl rfl)
theorem dX17_frees_8 : decode cX17_frees 8 = .ok (.invokespecial 23, 3) := dk_183 0 23 (dk_at dksX17_frees_0 8 rfl rfl)
theorem dX17_frees_11 : decode cX17_frees 11 = .ok (.iconst 3, 1) := dk_6 (dk_at dksX17_frees_0 11 rfl rfl)
theorem dX17_frees_12 : decode cX17_frees 12 = .ok (.imul, 1) := dk_104 (dk_at dksX17_frees_0 12 rfl rfl)
theorem dX17_frees_13 : decode cX17_frees 13 = .ok (.ireturn, 1) := dk_172 (dk_at dksX17_frees_0 13 rfl rfl)
abbrev cX17_isUnder : ByteArray := prog_8_method_3_code
def yX17_isUnder : MethodName := ⟨RX17, "isUnder", "(I)Z"⟩
def dkwX17_isUnder_0 : List UInt8 := [27, 6, 159, 0, 11, 42, 27, 183, 0, 15, 153, 0, 7, 4, 167, 0, 4, 3, 172]
abbrev dktX17_isUnder_0 : List UInt8 := dkwX17_isUnder_0 ++ []
theorem dksX17_isUnder_0 : cX17_isUnder.data.toList.drop 0 = dktX17_isUnder_0 := by decide +kernel
theorem dX17_isUnder_0 : decode cX17_isUnder 0 = .ok (.iload_n 1, 1) := dk_27 (dk_at dksX17_isUnder_0 0 rfl rfl)
theorem dX17_isUnder_1 : decode cX17_isUnder 1 = .ok (.iconst 3, 1) := dk_6 (dk_at dksX17_isUnder_0 1 rfl rfl)
theorem dX17_isUnder_2 : decode cX17_isUnder 2 = .ok (.if_icmp .eq 11, 3) := dk_159 0 11 (dk_at dksX17_isUnder_0 2 rfl rfl)
theorem dX17_isUnder_5 : decode cX17_isUnder 5 = .ok (.aload_n 0, 1) := dk_42 (dk_at dksX17_isUnder_0 5 rfl rfl)
theorem dX17_isUnder_6 : decode cX17_isUnder 6 = .ok (.iload_n 1, 1) := dk_27 (dk_at dksX17_isUnder_0 6 rfl rfl)
theorem dX17_isUnder_7 : decode cX17_isUnder 7 = .ok (.invokespecial 15, 3) := dk_183 0 15 (dk_at dksX17_isUnder_0 7 rfl rfl)
theorem dX17_isUnder_10 : decode cX17_isUnder 10 = .ok (.ifCond .eq 7, 3) := dk_153 0 7 (dk_at dksX17_isUnder_0 10 rfl rfl)
theorem dX17_isUnder_13 : decode cX17_isUnder 13 = .ok (.iconst 1, 1) := dk_4 (dk_at dksX17_isUnder_0 13 rfl rfl)
theorem dX17_isUnder_14 : decode cX17_isUnder 14 = .ok (.goto 4, 3) := dk_167 0 4 (dk_at dksX17_isUnder_0 14 rfl rfl)
theorem dX17_isUnder_17 : decode cX17_isUnder 17 = .ok (.iconst 0, 1) := dk_3 (dk_at dksX17_isUnder_0 17 rfl rfl)
theorem dX17_isUnder_18 : decode cX17_isUnder 18 = .ok (.ireturn, 1) := dk_172 (dk_at dksX17_isUnder_0 18 rfl rfl)
abbrev cX17_kind : ByteArray := prog_8_method_2_code
def yX17_kind : MethodName := ⟨RX17, "kind", "()I"⟩
theorem dX17_kind_0 : decode cX17_kind 0 = .ok (.iconst 3, 1) := by decide +kernel
theorem dX17_kind_1 : decode cX17_kind 1 = .ok (.ireturn, 1) := by decide +kernel
theorem q135 : (Jvm.Cond.initialized "NailedByWord$HeelTack") ∈ lw_all := lw_g (lw_at lw_m1 23 rfl) rfl
theorem q973 : (Jvm.Cond.instantiable "NailedByWord$HeelTack" (4 : Nat)) ∈ lw_all := lw_g (lw_at lw_m4 141 rfl) rfl
theorem q975 : (Jvm.Cond.instanceMethod ({ cls := "NailedByWord$HeelTack", name := "<init>", desc := "(LNailedByWord;I)V" } : Jvm.MethodName)) ∈ lw_all := lw_g (lw_at lw_m4 143 rfl) rfl
theorem q976 : (Jvm.Cond.code ({ cls := "NailedByWord$HeelTack", name := "<init>", desc := "(LNailedByWord;I)V" } : Jvm.MethodName) prog_8_method_1_code (3 : Nat) (Option.none : Option Jvm.ClassFile.FieldType)) ∈ lw_all := lw_g (lw_at lw_m4 144 rfl) rfl
theorem q977 : (Jvm.Cond.methodLink "NailedByWord$HeelTack" (9 : Nat) ({ cls := "NailedByWord$LaceTack", name := "<init>", desc := "(LNailedByWord;I)V" } : Jvm.MethodName)) ∈ lw_all := lw_g (lw_at lw_m4 145 rfl) rfl
theorem q978 : (Jvm.Cond.fieldLink "NailedByWord$HeelTack" (3 : Nat) "NailedByWord$HeelTack" "this$0" "LNailedByWord;") ∈ lw_all := lw_g (lw_at lw_m4 146 rfl) rfl
theorem q979 : (Jvm.Cond.laysFinal "NailedByWord$HeelTack" "NailedByWord$HeelTack" "this$0" "LNailedByWord;") ∈ lw_all := lw_g (lw_at lw_m4 147 rfl) rfl
theorem q980 : (Jvm.Cond.soleField "NailedByWord$HeelTack" "this$0") ∈ lw_all := lw_g (lw_at lw_m4 148 rfl) rfl
theorem q981 : (Jvm.Cond.laysFinal "NailedByWord$HeelTack" "NailedByWord$LaceTack" "this$0" "LNailedByWord;") ∈ lw_all := lw_g (lw_at lw_m4 149 rfl) rfl
theorem q982 : (Jvm.Cond.laysFinal "NailedByWord$HeelTack" "NailedByWord$Body" "number" "I") ∈ lw_all := lw_g (lw_at lw_m4 150 rfl) rfl
theorem q983 : (Jvm.Cond.laysFinal "NailedByWord$HeelTack" "NailedByWord$Body" "this$0" "LNailedByWord;") ∈ lw_all := lw_g (lw_at lw_m4 151 rfl) rfl
theorem q984 : (Jvm.Cond.superclass "NailedByWord$HeelTack" "NailedByWord$LaceTack") ∈ lw_all := lw_g (lw_at lw_m4 152 rfl) rfl
theorem q1081 : (Jvm.Cond.castable "NailedByWord$HeelTack" "NailedByWord$Holds") ∈ lw_tbl := lw_at lw_m5 9 rfl
theorem q1082 : (Jvm.Cond.selects "NailedByWord$HeelTack" ({ cls := "NailedByWord$Holds", name := "begins", desc := "(I)V" } : Jvm.MethodName) ({ cls := "NailedByWord$Body", name := "begins", desc := "(I)V" } : Jvm.MethodName)) ∈ lw_all := lw_g (lw_at lw_m5 10 rfl) rfl
theorem q1083 : (Jvm.Cond.unhidden "NailedByWord$HeelTack" "begins" "(I)V") ∈ lw_tbl := lw_at lw_m5 11 rfl
theorem q1110 : (Jvm.Cond.selects "NailedByWord$HeelTack" ({ cls := "NailedByWord$Holds", name := "number", desc := "()I" } : Jvm.MethodName) ({ cls := "NailedByWord$Body", name := "number", desc := "()I" } : Jvm.MethodName)) ∈ lw_all := lw_g (lw_at lw_m5 38 rfl) rfl
theorem q1111 : (Jvm.Cond.unhidden "NailedByWord$HeelTack" "number" "()I") ∈ lw_tbl := lw_at lw_m5 39 rfl
theorem q1122 : (Jvm.Cond.unhidden "NailedByWord$HeelTack" "holds" "(I)I") ∈ lw_tbl := lw_at lw_m5 50 rfl
theorem q1153 : (Jvm.Cond.selects "NailedByWord$HeelTack" ({ cls := "NailedByWord$Body", name := "pulls", desc := "(I)I" } : Jvm.MethodName) ({ cls := "NailedByWord$HeelTack", name := "pulls", desc := "(I)I" } : Jvm.MethodName)) ∈ lw_all := lw_g (lw_at lw_m5 81 rfl) rfl
theorem q1154 : (Jvm.Cond.instanceMethod ({ cls := "NailedByWord$HeelTack", name := "pulls", desc := "(I)I" } : Jvm.MethodName)) ∈ lw_all := lw_g (lw_at lw_m5 82 rfl) rfl
theorem q1155 : (Jvm.Cond.code ({ cls := "NailedByWord$HeelTack", name := "pulls", desc := "(I)I" } : Jvm.MethodName) prog_8_method_5_code (2 : Nat) (Option.some Jvm.ClassFile.FieldType.int)) ∈ lw_all := lw_g (lw_at lw_m5 83 rfl) rfl
theorem q1156 : (Jvm.Cond.methodLink "NailedByWord$HeelTack" (19 : Nat) ({ cls := "NailedByWord$HeelTack", name := "begins", desc := "(I)V" } : Jvm.MethodName)) ∈ lw_all := lw_g (lw_at lw_m5 84 rfl) rfl
theorem q1157 : (Jvm.Cond.sameMethod "NailedByWord$HeelTack" "NailedByWord$Body" "begins" "(I)V") ∈ lw_all := lw_g (lw_at lw_m5 85 rfl) rfl
theorem q1158 : (Jvm.Cond.selects "NailedByWord$HeelTack" ({ cls := "NailedByWord$HeelTack", name := "begins", desc := "(I)V" } : Jvm.MethodName) ({ cls := "NailedByWord$Body", name := "begins", desc := "(I)V" } : Jvm.MethodName)) ∈ lw_all := lw_g (lw_at lw_m5 86 rfl) rfl
theorem q1160 : (Jvm.Cond.methodLink "NailedByWord$HeelTack" (27 : Nat) ({ cls := "NailedByWord$LaceTack", name := "pulls", desc := "(I)I" } : Jvm.MethodName)) ∈ lw_all := lw_g (lw_at lw_m5 88 rfl) rfl
theorem q1165 : (Jvm.Cond.selects "NailedByWord$HeelTack" ({ cls := "NailedByWord$LaceTack", name := "begins", desc := "(I)V" } : Jvm.MethodName) ({ cls := "NailedByWord$Body", name := "begins", desc := "(I)V" } : Jvm.MethodName)) ∈ lw_all := lw_g (lw_at lw_m5 93 rfl) rfl
theorem q1175 : (Jvm.Cond.instanceMethod ({ cls := "NailedByWord$HeelTack", name := "frees", desc := "(I)I" } : Jvm.MethodName)) ∈ lw_all := lw_g (lw_at lw_m5 103 rfl) rfl
theorem q1176 : (Jvm.Cond.code ({ cls := "NailedByWord$HeelTack", name := "frees", desc := "(I)I" } : Jvm.MethodName) prog_8_method_4_code (2 : Nat) (Option.some Jvm.ClassFile.FieldType.int)) ∈ lw_all := lw_g (lw_at lw_m5 104 rfl) rfl
theorem q1177 : (Jvm.Cond.methodLink "NailedByWord$HeelTack" (23 : Nat) ({ cls := "NailedByWord$LaceTack", name := "frees", desc := "(I)I" } : Jvm.MethodName)) ∈ lw_all := lw_g (lw_at lw_m5 105 rfl) rfl
theorem q1188 : (Jvm.Cond.unhidden "NailedByWord$HeelTack" "tells" "(I)I") ∈ lw_tbl := lw_at lw_m5 116 rfl
theorem q1205 : (Jvm.Cond.castable "NailedByWord$HeelTack" "NailedByWord$Tells") ∈ lw_tbl := lw_at lw_m5 133 rfl
theorem q1206 : (Jvm.Cond.selects "NailedByWord$HeelTack" ({ cls := "NailedByWord$Tells", name := "begins", desc := "(I)V" } : Jvm.MethodName) ({ cls := "NailedByWord$Body", name := "begins", desc := "(I)V" } : Jvm.MethodName)) ∈ lw_all := lw_g (lw_at lw_m5 134 rfl) rfl
theorem q1227 : (Jvm.Cond.selects "NailedByWord$HeelTack" ({ cls := "NailedByWord$Tells", name := "pulls", desc := "(I)I" } : Jvm.MethodName) ({ cls := "NailedByWord$HeelTack", name := "pulls", desc := "(I)I" } : Jvm.MethodName)) ∈ lw_all := lw_g (lw_at lw_m5 155 rfl) rfl
theorem q1228 : (Jvm.Cond.unhidden "NailedByWord$HeelTack" "pulls" "(I)I") ∈ lw_tbl := lw_at lw_m5 156 rfl
theorem q1229 : (Jvm.Cond.publicMethod ({ cls := "NailedByWord$HeelTack", name := "pulls", desc := "(I)I" } : Jvm.MethodName)) ∈ lw_tbl := lw_at lw_m5 157 rfl
theorem q1250 : (Jvm.Cond.selects "NailedByWord$HeelTack" ({ cls := "NailedByWord$Tells", name := "frees", desc := "(I)I" } : Jvm.MethodName) ({ cls := "NailedByWord$HeelTack", name := "frees", desc := "(I)I" } : Jvm.MethodName)) ∈ lw_all := lw_g (lw_at lw_m5 178 rfl) rfl
theorem q1251 : (Jvm.Cond.unhidden "NailedByWord$HeelTack" "frees" "(I)I") ∈ lw_tbl := lw_at lw_m5 179 rfl
theorem q1252 : (Jvm.Cond.publicMethod ({ cls := "NailedByWord$HeelTack", name := "frees", desc := "(I)I" } : Jvm.MethodName)) ∈ lw_tbl := lw_at lw_m5 180 rfl
theorem q1322 : (Jvm.Cond.selects "NailedByWord$HeelTack" ({ cls := "NailedByWord$Body", name := "isUnder", desc := "(I)Z" } : Jvm.MethodName) ({ cls := "NailedByWord$HeelTack", name := "isUnder", desc := "(I)Z" } : Jvm.MethodName)) ∈ lw_all := lw_g (lw_at lw_m6 10 rfl) rfl
theorem q1323 : (Jvm.Cond.instanceMethod ({ cls := "NailedByWord$HeelTack", name := "isUnder", desc := "(I)Z" } : Jvm.MethodName)) ∈ lw_all := lw_g (lw_at lw_m6 11 rfl) rfl
theorem q1324 : (Jvm.Cond.code ({ cls := "NailedByWord$HeelTack", name := "isUnder", desc := "(I)Z" } : Jvm.MethodName) prog_8_method_3_code (2 : Nat) (Option.some Jvm.ClassFile.FieldType.boolean)) ∈ lw_all := lw_g (lw_at lw_m6 12 rfl) rfl
theorem q1325 : (Jvm.Cond.methodLink "NailedByWord$HeelTack" (15 : Nat) ({ cls := "NailedByWord$LaceTack", name := "isUnder", desc := "(I)Z" } : Jvm.MethodName)) ∈ lw_all := lw_g (lw_at lw_m6 13 rfl) rfl
theorem q1350 : (Jvm.Cond.selects "NailedByWord$HeelTack" ({ cls := "NailedByWord$Body", name := "kind", desc := "()I" } : Jvm.MethodName) ({ cls := "NailedByWord$HeelTack", name := "kind", desc := "()I" } : Jvm.MethodName)) ∈ lw_all := lw_g (lw_at lw_m6 38 rfl) rfl
theorem q1351 : (Jvm.Cond.instanceMethod ({ cls := "NailedByWord$HeelTack", name := "kind", desc := "()I" } : Jvm.MethodName)) ∈ lw_all := lw_g (lw_at lw_m6 39 rfl) rfl
theorem q1352 : (Jvm.Cond.code ({ cls := "NailedByWord$HeelTack", name := "kind", desc := "()I" } : Jvm.MethodName) prog_8_method_2_code (1 : Nat) (Option.some Jvm.ClassFile.FieldType.int)) ∈ lw_all := lw_g (lw_at lw_m6 40 rfl) rfl
theorem q2068 : (Jvm.Cond.selects "NailedByWord$HeelTack" ({ cls := "NailedByWord$Body", name := "begins", desc := "(I)V" } : Jvm.MethodName) ({ cls := "NailedByWord$Body", name := "begins", desc := "(I)V" } : Jvm.MethodName)) ∈ lw_all := lw_g (lw_at lw_m9 36 rfl) rfl
theorem q2078 : (Jvm.Cond.selects "NailedByWord$HeelTack" ({ cls := "NailedByWord$Body", name := "frees", desc := "(I)I" } : Jvm.MethodName) ({ cls := "NailedByWord$HeelTack", name := "frees", desc := "(I)I" } : Jvm.MethodName)) ∈ lw_all := lw_g (lw_at lw_m9 46 rfl) rfl
theorem q2084 : (Jvm.Cond.sameMethod "NailedByWord$HeelTack" "NailedByWord$HeelTack" "frees" "(I)I") ∈ lw_all := lw_g (lw_at lw_m9 52 rfl) rfl
theorem q2088 : (Jvm.Cond.sameMethod "NailedByWord$HeelTack" "NailedByWord$HeelTack" "isUnder" "(I)Z") ∈ lw_all := lw_g (lw_at lw_m9 56 rfl) rfl
theorem q2092 : (Jvm.Cond.castable "NailedByWord$HeelTack" "NailedByWord$Body") ∈ lw_tbl := lw_at lw_m9 60 rfl
theorem q2113 : (Jvm.Cond.castable "NailedByWord$HeelTack" "java/lang/Object") ∈ lw_tbl := lw_at lw_m9 81 rfl
theorem in_X17 : ∀ w ∈ wsX170, w ∈ lw_all := lw_in wsX170 [982, 983, 981, 979] (by decide +kernel) (by decide +kernel)
/-! NailedByWord$JarTack -/
set_option maxRecDepth 100000
def RX18 : String := "NailedByWord$JarTack"
def TX18 : u_T := fun k => match k with
  | 0 => ("NailedByWord$Body", "number", "I", true)
  | 1 => ("NailedByWord$Body", "this$0", "LNailedByWord;", true)
  | 2 => ("NailedByWord$SoleTack", "this$0", "LNailedByWord;", true)
  | _ => ("NailedByWord$JarTack", "this$0", "LNailedByWord;", true)
def tyX18 : Nat → FieldType := fun k => match k with
  | 0 => .int
  | 1 => .object "NailedByWord"
  | 2 => .object "NailedByWord"
  | _ => .object "NailedByWord"
abbrev wsX180 : List Cond := u_ws RX18 TX18 4
-- two fields of one name: no nmX18
theorem tyX18_ok : ∀ k, k < 4 → parseFieldDescriptor (TX18 k).2.2.1 = some (tyX18 k) := by decide +kernel
abbrev cX18_init : ByteArray := prog_11_method_1_code
def yX18_init : MethodName := ⟨RX18, "<init>", "(LNailedByWord;I)V"⟩
def dkwX18_init_0 : List UInt8 := [42, 43, 181, 0, 3, 42, 43, 28, 183, 0, 9, 177]
abbrev dktX18_init_0 : List UInt8 := dkwX18_init_0 ++ []
theorem dksX18_init_0 : cX18_init.data.toList.drop 0 = dktX18_init_0 := by decide +kernel
theorem dX18_init_0 : decode cX18_init 0 = .ok (.aload_n 0, 1) := dk_42 (dk_at dksX18_init_0 0 rfl rfl)
theorem dX18_init_1 : decode cX18_init 1 = .ok (.aload_n 1, 1) := dk_43 (dk_at dksX18_init_0 1 rfl rfl)
theorem dX18_init_2 : decode cX18_init 2 = .ok (.putfield 3, 3) := dk_181 0 3 (dk_at dksX18_init_0 2 rfl rfl)
theorem dX18_init_5 : decode cX18_init 5 = .ok (.aload_n 0, 1) := dk_42 (dk_at dksX18_init_0 5 rfl rfl)
theorem dX18_init_6 : decode cX18_init 6 = .ok (.aload_n 1, 1) := dk_43 (dk_at dksX18_init_0 6 rfl rfl)
theorem dX18_init_7 : decode cX18_init 7 = .ok (.iload_n 2, 1) := dk_28 (dk_at dksX18_init_0 7 rfl rfl)
theorem dX18_init_8 : decode cX18_init 8 = .ok (.invokespecial 9, 3) := dk_183 0 9 (dk_at dksX18_init_0 8 rfl rfl)
theorem dX18_init_11 : decode cX18_init 11 = .ok (.return_, 1) := dk_177 (dk_at dksX18_init_0 11 rfl rfl)
abbrev cX18_tells : ByteArray := prog_11_method_4_code
def yX18_tells : MethodName := ⟨RX18, "tells", "(I)I"⟩
def dkwX18_tells_0 : List UInt8 := [42, 16, 50, 182, 0, 19, 42, 27, 183, 0, 23, 8, 130, 172]
abbrev dktX18_tells_0 : List UInt8 := dkwX18_tells_0 ++ []
theorem dksX18_tells_0 : cX18_tells.data.toList.drop 0 = dktX18_tells_0 := by decide +kernel
theorem dX18_tells_0 : decode cX18_tells 0 = .ok (.aload_n 0, 1) := dk_42 (dk_at dksX18_tells_0 0 rfl rfl)
theorem dX18_tells_1 : decode cX18_tells 1 = .ok (.bipush 50, 2) := dk_16 50 (dk_at dksX18_tells_0 1 rfl rfl)
theorem dX18_tells_3 : decode cX18_tells 3 = .ok (.invokevirtual 19, 3) := dk_182 0 19 (dk_at dksX18_tells_0 3 rfl rfl)
theorem dX18_tells_6 : decode cX18_tells 6 = .ok (.aload_n 0, 1) := dk_42 (dk_at dksX18_tells_0 6 rfl rfl)
theorem dX18_tells_7 : decode cX18_tells 7 = .ok (.iload_n 1, 1) := dk_27 (dk_at dksX18_tells_0 7 rfl rfl)
theorem dX18_tells_8 : decode cX18_tells 8 = .ok (.invokespecial 23, 3) := dk_183 0 23 (dk_at dksX18_tells_0 8 rfl rfl)
theorem dX18_tells_11 : decode cX18_tells 11 = .ok (.iconst 5, 1) := dk_8 (dk_at dksX18_tells_0 11 rfl rfl)
theorem dX18_tells_12 : decode cX18_tells 12 = .ok (.ixor, 1) := dk_130 (dk_at dksX18_tells_0 12 rfl rfl)
theorem dX18_tells_13 : decode cX18_tells 13 = .ok (.ireturn, 1) := dk_172 (dk_at dksX18_tells_0 13 rfl rfl)
abbrev cX18_isUnder : ByteArray := prog_11_method_3_code
def yX18_isUnder : MethodName := ⟨RX18, "isUnder", "(I)Z"⟩
def dkwX18_isUnder_0 : List UInt8 := [27, 7, 159, 0, 11, 42, 27, 183, 0, 15, 153, 0, 7, 4, 167, 0, 4, 3, 172]
abbrev dktX18_isUnder_0 : List UInt8 := dkwX18_isUnder_0 ++ []
theorem dksX18_isUnder_0 : cX18_isUnder.data.toList.drop 0 = dktX18_isUnder_0 := by decide +kernel
theorem dX18_isUnder_0 : decode cX18_isUnder 0 = .ok (.iload_n 1, 1) := dk_27 (dk_at dksX18_isUnder_0 0 rfl rfl)
theorem dX18_isUnder_1 : decode cX18_isUnder 1 = .ok (.iconst 4, 1) := dk_7 (dk_at dksX18_isUnder_0 1 rfl rfl)
theorem dX18_isUnder_2 : decode cX18_isUnder 2 = .ok (.if_icmp .eq 11, 3) := dk_159 0 11 (dk_at dksX18_isUnder_0 2 rfl rfl)
theorem dX18_isUnder_5 : decode cX18_isUnder 5 = .ok (.aload_n 0, 1) := dk_42 (dk_at dksX18_isUnder_0 5 rfl rfl)
theorem dX18_isUnder_6 : decode cX18_isUnder 6 = .ok (.iload_n 1, 1) := dk_27 (dk_at dksX18_isUnder_0 6 rfl rfl)
theorem dX18_isUnder_7 : decode cX18_isUnder 7 = .ok (.invokespecial 15, 3) := dk_183 0 15 (dk_at dksX18_isUnder_0 7 rfl rfl)
theorem dX18_isUnder_10 : decode cX18_isUnder 10 = .ok (.ifCond .eq 7, 3) := dk_153 0 7 (dk_at dksX18_isUnder_0 10 rfl rfl)
theorem dX18_isUnder_13 : decode cX18_isUnder 13 = .ok (.iconst 1, 1) := dk_4 (dk_at dksX18_isUnder_0 13 rfl rfl)
theorem dX18_isUnder_14 : decode cX18_isUnder 14 = .ok (.goto 4, 3) := dk_167 0 4 (dk_at dksX18_isUnder_0 14 rfl rfl)
theorem dX18_isUnder_17 : decode cX18_isUnder 17 = .ok (.iconst 0, 1) := dk_3 (dk_at dksX18_isUnder_0 17 rfl rfl)
theorem dX18_isUnder_18 : decode cX18_isUnder 18 = .ok (.ireturn, 1) := dk_172 (dk_at dksX18_isUnder_0 18 rfl rfl)
abbrev cX18_kind : ByteArray := prog_11_method_2_code
def yX18_kind : MethodName := ⟨RX18, "kind", "()I"⟩
theorem dX18_kind_0 : decode cX18_kind 0 = .ok (.iconst 4, 1) := by decide +kernel
theorem dX18_kind_1 : decode cX18_kind 1 = .ok (.ireturn, 1) := by decide +kernel
theorem q136 : (Jvm.Cond.initialized "NailedByWord$JarTack") ∈ lw_all := lw_g (lw_at lw_m1 24 rfl) rfl
theorem q986 : (Jvm.Cond.instantiable "NailedByWord$JarTack" (4 : Nat)) ∈ lw_all := lw_g (lw_at lw_m4 154 rfl) rfl
theorem q988 : (Jvm.Cond.instanceMethod ({ cls := "NailedByWord$JarTack", name := "<init>", desc := "(LNailedByWord;I)V" } : Jvm.MethodName)) ∈ lw_all := lw_g (lw_at lw_m4 156 rfl) rfl
theorem q989 : (Jvm.Cond.code ({ cls := "NailedByWord$JarTack", name := "<init>", desc := "(LNailedByWord;I)V" } : Jvm.MethodName) prog_11_method_1_code (3 : Nat) (Option.none : Option Jvm.ClassFile.FieldType)) ∈ lw_all := lw_g (lw_at lw_m4 157 rfl) rfl
theorem q990 : (Jvm.Cond.methodLink "NailedByWord$JarTack" (9 : Nat) ({ cls := "NailedByWord$SoleTack", name := "<init>", desc := "(LNailedByWord;I)V" } : Jvm.MethodName)) ∈ lw_all := lw_g (lw_at lw_m4 158 rfl) rfl
theorem q991 : (Jvm.Cond.fieldLink "NailedByWord$JarTack" (3 : Nat) "NailedByWord$JarTack" "this$0" "LNailedByWord;") ∈ lw_all := lw_g (lw_at lw_m4 159 rfl) rfl
theorem q992 : (Jvm.Cond.laysFinal "NailedByWord$JarTack" "NailedByWord$JarTack" "this$0" "LNailedByWord;") ∈ lw_all := lw_g (lw_at lw_m4 160 rfl) rfl
theorem q993 : (Jvm.Cond.soleField "NailedByWord$JarTack" "this$0") ∈ lw_all := lw_g (lw_at lw_m4 161 rfl) rfl
theorem q994 : (Jvm.Cond.laysFinal "NailedByWord$JarTack" "NailedByWord$SoleTack" "this$0" "LNailedByWord;") ∈ lw_all := lw_g (lw_at lw_m4 162 rfl) rfl
theorem q995 : (Jvm.Cond.laysFinal "NailedByWord$JarTack" "NailedByWord$Body" "number" "I") ∈ lw_all := lw_g (lw_at lw_m4 163 rfl) rfl
theorem q996 : (Jvm.Cond.laysFinal "NailedByWord$JarTack" "NailedByWord$Body" "this$0" "LNailedByWord;") ∈ lw_all := lw_g (lw_at lw_m4 164 rfl) rfl
theorem q997 : (Jvm.Cond.superclass "NailedByWord$JarTack" "NailedByWord$SoleTack") ∈ lw_all := lw_g (lw_at lw_m4 165 rfl) rfl
theorem q1084 : (Jvm.Cond.castable "NailedByWord$JarTack" "NailedByWord$Holds") ∈ lw_tbl := lw_at lw_m5 12 rfl
theorem q1085 : (Jvm.Cond.selects "NailedByWord$JarTack" ({ cls := "NailedByWord$Holds", name := "begins", desc := "(I)V" } : Jvm.MethodName) ({ cls := "NailedByWord$Body", name := "begins", desc := "(I)V" } : Jvm.MethodName)) ∈ lw_all := lw_g (lw_at lw_m5 13 rfl) rfl
theorem q1086 : (Jvm.Cond.unhidden "NailedByWord$JarTack" "begins" "(I)V") ∈ lw_tbl := lw_at lw_m5 14 rfl
theorem q1112 : (Jvm.Cond.selects "NailedByWord$JarTack" ({ cls := "NailedByWord$Holds", name := "number", desc := "()I" } : Jvm.MethodName) ({ cls := "NailedByWord$Body", name := "number", desc := "()I" } : Jvm.MethodName)) ∈ lw_all := lw_g (lw_at lw_m5 40 rfl) rfl
theorem q1113 : (Jvm.Cond.unhidden "NailedByWord$JarTack" "number" "()I") ∈ lw_tbl := lw_at lw_m5 41 rfl
theorem q1123 : (Jvm.Cond.selects "NailedByWord$JarTack" ({ cls := "NailedByWord$Holds", name := "holds", desc := "(I)I" } : Jvm.MethodName) ({ cls := "NailedByWord$SoleTack", name := "holds", desc := "(I)I" } : Jvm.MethodName)) ∈ lw_all := lw_g (lw_at lw_m5 51 rfl) rfl
theorem q1128 : (Jvm.Cond.selects "NailedByWord$JarTack" ({ cls := "NailedByWord$SoleTack", name := "begins", desc := "(I)V" } : Jvm.MethodName) ({ cls := "NailedByWord$Body", name := "begins", desc := "(I)V" } : Jvm.MethodName)) ∈ lw_all := lw_g (lw_at lw_m5 56 rfl) rfl
theorem q1169 : (Jvm.Cond.selects "NailedByWord$JarTack" ({ cls := "NailedByWord$Body", name := "pulls", desc := "(I)I" } : Jvm.MethodName) ({ cls := "NailedByWord$Body", name := "pulls", desc := "(I)I" } : Jvm.MethodName)) ∈ lw_all := lw_g (lw_at lw_m5 97 rfl) rfl
theorem q1189 : (Jvm.Cond.selects "NailedByWord$JarTack" ({ cls := "NailedByWord$Tells", name := "tells", desc := "(I)I" } : Jvm.MethodName) ({ cls := "NailedByWord$JarTack", name := "tells", desc := "(I)I" } : Jvm.MethodName)) ∈ lw_all := lw_g (lw_at lw_m5 117 rfl) rfl
theorem q1190 : (Jvm.Cond.instanceMethod ({ cls := "NailedByWord$JarTack", name := "tells", desc := "(I)I" } : Jvm.MethodName)) ∈ lw_all := lw_g (lw_at lw_m5 118 rfl) rfl
theorem q1191 : (Jvm.Cond.code ({ cls := "NailedByWord$JarTack", name := "tells", desc := "(I)I" } : Jvm.MethodName) prog_11_method_4_code (2 : Nat) (Option.some Jvm.ClassFile.FieldType.int)) ∈ lw_all := lw_g (lw_at lw_m5 119 rfl) rfl
theorem q1192 : (Jvm.Cond.methodLink "NailedByWord$JarTack" (19 : Nat) ({ cls := "NailedByWord$JarTack", name := "begins", desc := "(I)V" } : Jvm.MethodName)) ∈ lw_all := lw_g (lw_at lw_m5 120 rfl) rfl
theorem q1193 : (Jvm.Cond.sameMethod "NailedByWord$JarTack" "NailedByWord$Body" "begins" "(I)V") ∈ lw_all := lw_g (lw_at lw_m5 121 rfl) rfl
theorem q1194 : (Jvm.Cond.selects "NailedByWord$JarTack" ({ cls := "NailedByWord$JarTack", name := "begins", desc := "(I)V" } : Jvm.MethodName) ({ cls := "NailedByWord$Body", name := "begins", desc := "(I)V" } : Jvm.MethodName)) ∈ lw_all := lw_g (lw_at lw_m5 122 rfl) rfl
theorem q1207 : (Jvm.Cond.castable "NailedByWord$JarTack" "NailedByWord$Tells") ∈ lw_tbl := lw_at lw_m5 135 rfl
theorem q1208 : (Jvm.Cond.selects "NailedByWord$JarTack" ({ cls := "NailedByWord$Tells", name := "begins", desc := "(I)V" } : Jvm.MethodName) ({ cls := "NailedByWord$Body", name := "begins", desc := "(I)V" } : Jvm.MethodName)) ∈ lw_all := lw_g (lw_at lw_m5 136 rfl) rfl
theorem q1230 : (Jvm.Cond.selects "NailedByWord$JarTack" ({ cls := "NailedByWord$Tells", name := "pulls", desc := "(I)I" } : Jvm.MethodName) ({ cls := "NailedByWord$Body", name := "pulls", desc := "(I)I" } : Jvm.MethodName)) ∈ lw_all := lw_g (lw_at lw_m5 158 rfl) rfl
theorem q1231 : (Jvm.Cond.unhidden "NailedByWord$JarTack" "pulls" "(I)I") ∈ lw_tbl := lw_at lw_m5 159 rfl
theorem q1253 : (Jvm.Cond.selects "NailedByWord$JarTack" ({ cls := "NailedByWord$Tells", name := "frees", desc := "(I)I" } : Jvm.MethodName) ({ cls := "NailedByWord$Body", name := "frees", desc := "(I)I" } : Jvm.MethodName)) ∈ lw_all := lw_g (lw_at lw_m5 181 rfl) rfl
theorem q1254 : (Jvm.Cond.unhidden "NailedByWord$JarTack" "frees" "(I)I") ∈ lw_tbl := lw_at lw_m5 182 rfl
theorem q1329 : (Jvm.Cond.selects "NailedByWord$JarTack" ({ cls := "NailedByWord$Body", name := "isUnder", desc := "(I)Z" } : Jvm.MethodName) ({ cls := "NailedByWord$JarTack", name := "isUnder", desc := "(I)Z" } : Jvm.MethodName)) ∈ lw_all := lw_g (lw_at lw_m6 17 rfl) rfl
theorem q1330 : (Jvm.Cond.instanceMethod ({ cls := "NailedByWord$JarTack", name := "isUnder", desc := "(I)Z" } : Jvm.MethodName)) ∈ lw_all := lw_g (lw_at lw_m6 18 rfl) rfl
theorem q1331 : (Jvm.Cond.code ({ cls := "NailedByWord$JarTack", name := "isUnder", desc := "(I)Z" } : Jvm.MethodName) prog_11_method_3_code (2 : Nat) (Option.some Jvm.ClassFile.FieldType.boolean)) ∈ lw_all := lw_g (lw_at lw_m6 19 rfl) rfl
theorem q1332 : (Jvm.Cond.methodLink "NailedByWord$JarTack" (15 : Nat) ({ cls := "NailedByWord$SoleTack", name := "isUnder", desc := "(I)Z" } : Jvm.MethodName)) ∈ lw_all := lw_g (lw_at lw_m6 20 rfl) rfl
theorem q1353 : (Jvm.Cond.selects "NailedByWord$JarTack" ({ cls := "NailedByWord$Body", name := "kind", desc := "()I" } : Jvm.MethodName) ({ cls := "NailedByWord$JarTack", name := "kind", desc := "()I" } : Jvm.MethodName)) ∈ lw_all := lw_g (lw_at lw_m6 41 rfl) rfl
theorem q1354 : (Jvm.Cond.instanceMethod ({ cls := "NailedByWord$JarTack", name := "kind", desc := "()I" } : Jvm.MethodName)) ∈ lw_all := lw_g (lw_at lw_m6 42 rfl) rfl
theorem q1355 : (Jvm.Cond.code ({ cls := "NailedByWord$JarTack", name := "kind", desc := "()I" } : Jvm.MethodName) prog_11_method_2_code (1 : Nat) (Option.some Jvm.ClassFile.FieldType.int)) ∈ lw_all := lw_g (lw_at lw_m6 43 rfl) rfl
theorem q2069 : (Jvm.Cond.selects "NailedByWord$JarTack" ({ cls := "NailedByWord$Body", name := "begins", desc := "(I)V" } : Jvm.MethodName) ({ cls := "NailedByWord$Body", name := "begins", desc := "(I)V" } : Jvm.MethodName)) ∈ lw_all := lw_g (lw_at lw_m9 37 rfl) rfl
theorem q2079 : (Jvm.Cond.selects "NailedByWord$JarTack" ({ cls := "NailedByWord$Body", name := "frees", desc := "(I)I" } : Jvm.MethodName) ({ cls := "NailedByWord$Body", name := "frees", desc := "(I)I" } : Jvm.MethodName)) ∈ lw_all := lw_g (lw_at lw_m9 47 rfl) rfl
theorem q2093 : (Jvm.Cond.castable "NailedByWord$JarTack" "NailedByWord$Body") ∈ lw_tbl := lw_at lw_m9 61 rfl
theorem q2114 : (Jvm.Cond.castable "NailedByWord$JarTack" "java/lang/Object") ∈ lw_tbl := lw_at lw_m9 82 rfl
theorem in_X18 : ∀ w ∈ wsX180, w ∈ lw_all := lw_in wsX180 [995, 996, 994, 992] (by decide +kernel) (by decide +kernel)
/-! NailedByWord$VergerTack -/
set_option maxRecDepth 100000
def RX19 : String := "NailedByWord$VergerTack"
def TX19 : u_T := fun k => match k with
  | 0 => ("NailedByWord$Body", "number", "I", true)
  | 1 => ("NailedByWord$Body", "this$0", "LNailedByWord;", true)
  | 2 => ("NailedByWord$LaceTack", "this$0", "LNailedByWord;", true)
  | 3 => ("NailedByWord$HeelTack", "this$0", "LNailedByWord;", true)
  | _ => ("NailedByWord$VergerTack", "this$0", "LNailedByWord;", true)
def tyX19 : Nat → FieldType := fun k => match k with
  | 0 => .int
  | 1 => .object "NailedByWord"
  | 2 => .object "NailedByWord"
  | 3 => .object "NailedByWord"
  | _ => .object "NailedByWord"
abbrev wsX190 : List Cond := u_ws RX19 TX19 5
-- two fields of one name: no nmX19
theorem tyX19_ok : ∀ k, k < 5 → parseFieldDescriptor (TX19 k).2.2.1 = some (tyX19 k) := by decide +kernel
abbrev cX19_init : ByteArray := prog_23_method_1_code
def yX19_init : MethodName := ⟨RX19, "<init>", "(LNailedByWord;I)V"⟩
def dkwX19_init_0 : List UInt8 := [42, 43, 181, 0, 3, 42, 43, 28, 183, 0, 9, 177]
abbrev dktX19_init_0 : List UInt8 := dkwX19_init_0 ++ []
theorem dksX19_init_0 : cX19_init.data.toList.drop 0 = dktX19_init_0 := by decide +kernel
theorem dX19_init_0 : decode cX19_init 0 = .ok (.aload_n 0, 1) := dk_42 (dk_at dksX19_init_0 0 rfl rfl)
theorem dX19_init_1 : decode cX19_init 1 = .ok (.aload_n 1, 1) := dk_43 (dk_at dksX19_init_0 1 rfl rfl)
theorem dX19_init_2 : decode cX19_init 2 = .ok (.putfield 3, 3) := dk_181 0 3 (dk_at dksX19_init_0 2 rfl rfl)
theorem dX19_init_5 : decode cX19_init 5 = .ok (.aload_n 0, 1) := dk_42 (dk_at dksX19_init_0 5 rfl rfl)
theorem dX19_init_6 : decode cX19_init 6 = .ok (.aload_n 1, 1) := dk_43 (dk_at dksX19_init_0 6 rfl rfl)
theorem dX19_init_7 : decode cX19_init 7 = .ok (.iload_n 2, 1) := dk_28 (dk_at dksX19_init_0 7 rfl rfl)
theorem dX19_init_8 : decode cX19_init 8 = .ok (.invokespecial 9, 3) := dk_183 0 9 (dk_at dksX19_init_0 8 rfl rfl)
theorem dX19_init_11 : decode cX19_init 11 = .ok (.return_, 1) := dk_177 (dk_at dksX19_init_0 11 rfl rfl)
abbrev cX19_frees : ByteArray := prog_23_method_4_code
def yX19_frees : MethodName := ⟨RX19, "frees", "(I)I"⟩
def dkwX19_frees_0 : List UInt8 := [42, 16, 60, 182, 0, 19, 42, 27, 183, 0, 23, 61, 28, 42, 5, 182, 0, 27, 100, 172]
abbrev dktX19_frees_0 : List UInt8 := dkwX19_frees_0 ++ []
theorem dksX19_frees_0 : cX19_frees.data.toList.drop 0 = dktX19_frees_0 := by decide +kernel
theorem dX19_frees_0 : decode cX19_frees 0 = .ok (.aload_n 0, 1) := dk_42 (dk_at dksX19_frees_0 0 rfl rfl)
theorem dX19_frees_1 : decode cX19_frees 1 = .ok (.bipush 60, 2) := dk_16 60 (dk_at dksX19_frees_0 1 rfl rfl)
theorem dX19_frees_3 : decode cX19_frees 3 = .ok (.invokevirtual 19, 3) := dk_182 0 19 (dk_at dksX19_frees_0 3 rfl rfl)
theorem dX19_frees_6 : decode cX19_frees 6 = .ok (.aload_n 0, 1) := dk_42 (dk_at dksX19_frees_0 6 rfl rfl)
theorem dX19_frees_7 : decode cX19_frees 7 = .ok (.iload_n 1, 1) := dk_27 (dk_at dksX19_frees_0 7 rfl rfl)
theorem dX19_frees_8 : decode cX19_frees 8 = .ok (.invokespecial 23, 3) := dk_183 0 23 (dk_at dksX19_frees_0 8 rfl rfl)
theorem dX19_frees_11 : decode cX19_frees 11 = .ok (.istore_n 2, 1) := dk_61 (dk_at dksX19_frees_0 11 rfl rfl)
theorem dX19_frees_12 : decode cX19_frees 12 = .ok (.iload_n 2, 1) := dk_28 (dk_at dksX19_frees_0 12 rfl rfl)
theorem dX19_frees_13 : decode cX19_frees 13 = .ok (.aload_n 0, 1) := dk_42 (dk_at dksX19_frees_0 13 rfl rfl)
theorem dX19_frees_14 : decode cX19_frees 14 = .ok (.iconst 2, 1) := dk_5 (dk_at dksX19_frees_0 14 rfl rfl)
theorem dX19_frees_15 : decode cX19_frees 15 = .ok (.invokevirtual 27, 3) := dk_182 0 27 (dk_at dksX19_frees_0 15 rfl rfl)
theorem dX19_frees_18 : decode cX19_frees 18 = .ok (.isub, 1) := dk_100 (dk_at dksX19_frees_0 18 rfl rfl)
theorem dX19_frees_19 : decode cX19_frees 19 = .ok (.ireturn, 1) := dk_172 (dk_at dksX19_frees_0 19 rfl rfl)
abbrev cX19_tells : ByteArray := prog_23_method_5_code
def yX19_tells : MethodName := ⟨RX19, "tells", "(I)I"⟩
def dkwX19_tells_0 : List UInt8 := [42, 16, 61, 182, 0, 19, 42, 27, 183, 0, 30, 4, 96, 172]
abbrev dktX19_tells_0 : List UInt8 := dkwX19_tells_0 ++ []
theorem dksX19_tells_0 : cX19_tells.data.toList.drop 0 = dktX19_tells_0 := by decide +kernel
theorem dX19_tells_0 : decode cX19_tells 0 = .ok (.aload_n 0, 1) := dk_42 (dk_at dksX19_tells_0 0 rfl rfl)
theorem dX19_tells_1 : decode cX19_tells 1 = .ok (.bipush 61, 2) := dk_16 61 (dk_at dksX19_tells_0 1 rfl rfl)
theorem dX19_tells_3 : decode cX19_tells 3 = .ok (.invokevirtual 19, 3) := dk_182 0 19 (dk_at dksX19_tells_0 3 rfl rfl)
theorem dX19_tells_6 : decode cX19_tells 6 = .ok (.aload_n 0, 1) := dk_42 (dk_at dksX19_tells_0 6 rfl rfl)
theorem dX19_tells_7 : decode cX19_tells 7 = .ok (.iload_n 1, 1) := dk_27 (dk_at dksX19_tells_0 7 rfl rfl)
theorem dX19_tells_8 : decode cX19_tells 8 = .ok (.invokespecial 30, 3) := dk_183 0 30 (dk_at dksX19_tells_0 8 rfl rfl)
theorem dX19_tells_11 : decode cX19_tells 11 = .ok (.iconst 1, 1) := dk_4 (dk_at dksX19_tells_0 11 rfl rfl)
theorem dX19_tells_12 : decode cX19_tells 12 = .ok (.iadd, 1) := dk_96 (dk_at dksX19_tells_0 12 rfl rfl)
theorem dX19_tells_13 : decode cX19_tells 13 = .ok (.ireturn, 1) := dk_172 (dk_at dksX19_tells_0 13 rfl rfl)
abbrev cX19_isUnder : ByteArray := prog_23_method_3_code
def yX19_isUnder : MethodName := ⟨RX19, "isUnder", "(I)Z"⟩
def dkwX19_isUnder_0 : List UInt8 := [27, 8, 159, 0, 11, 42, 27, 183, 0, 15, 153, 0, 7, 4, 167, 0, 4, 3, 172]
abbrev dktX19_isUnder_0 : List UInt8 := dkwX19_isUnder_0 ++ []
theorem dksX19_isUnder_0 : cX19_isUnder.data.toList.drop 0 = dktX19_isUnder_0 := by decide +kernel
theorem dX19_isUnder_0 : decode cX19_isUnder 0 = .ok (.iload_n 1, 1) := dk_27 (dk_at dksX19_isUnder_0 0 rfl rfl)
theorem dX19_isUnder_1 : decode cX19_isUnder 1 = .ok (.iconst 5, 1) := dk_8 (dk_at dksX19_isUnder_0 1 rfl rfl)
theorem dX19_isUnder_2 : decode cX19_isUnder 2 = .ok (.if_icmp .eq 11, 3) := dk_159 0 11 (dk_at dksX19_isUnder_0 2 rfl rfl)
theorem dX19_isUnder_5 : decode cX19_isUnder 5 = .ok (.aload_n 0, 1) := dk_42 (dk_at dksX19_isUnder_0 5 rfl rfl)
theorem dX19_isUnder_6 : decode cX19_isUnder 6 = .ok (.iload_n 1, 1) := dk_27 (dk_at dksX19_isUnder_0 6 rfl rfl)
theorem dX19_isUnder_7 : decode cX19_isUnder 7 = .ok (.invokespecial 15, 3) := dk_183 0 15 (dk_at dksX19_isUnder_0 7 rfl rfl)
theorem dX19_isUnder_10 : decode cX19_isUnder 10 = .ok (.ifCond .eq 7, 3) := dk_153 0 7 (dk_at dksX19_isUnder_0 10 rfl rfl)
theorem dX19_isUnder_13 : decode cX19_isUnder 13 = .ok (.iconst 1, 1) := dk_4 (dk_at dksX19_isUnder_0 13 rfl rfl)
theorem dX19_isUnder_14 : decode cX19_isUnder 14 = .ok (.goto 4, 3) := dk_167 0 4 (dk_at dksX19_isUnder_0 14 rfl rfl)
theorem dX19_isUnder_17 : decode cX19_isUnder 17 = .ok (.iconst 0, 1) := dk_3 (dk_at dksX19_isUnder_0 17 rfl rfl)
theorem dX19_isUnder_18 : decode cX19_isUnder 18 = .ok (.ireturn, 1) := dk_172 (dk_at dksX19_isUnder_0 18 rfl rfl)
abbrev cX19_kind : ByteArray := prog_23_method_2_code
def yX19_kind : MethodName := ⟨RX19, "kind", "()I"⟩
theorem dX19_kind_0 : decode cX19_kind 0 = .ok (.iconst 5, 1) := by decide +kernel
theorem dX19_kind_1 : decode cX19_kind 1 = .ok (.ireturn, 1) := by decide +kernel
theorem q137 : (Jvm.Cond.initialized "NailedByWord$VergerTack") ∈ lw_all := lw_g (lw_at lw_m1 25 rfl) rfl
theorem q999 : (Jvm.Cond.instantiable "NailedByWord$VergerTack" (5 : Nat)) ∈ lw_all := lw_g (lw_at lw_m4 167 rfl) rfl
theorem q1001 : (Jvm.Cond.instanceMethod ({ cls := "NailedByWord$VergerTack", name := "<init>", desc := "(LNailedByWord;I)V" } : Jvm.MethodName)) ∈ lw_all := lw_g (lw_at lw_m4 169 rfl) rfl
theorem q1002 : (Jvm.Cond.code ({ cls := "NailedByWord$VergerTack", name := "<init>", desc := "(LNailedByWord;I)V" } : Jvm.MethodName) prog_23_method_1_code (3 : Nat) (Option.none : Option Jvm.ClassFile.FieldType)) ∈ lw_all := lw_g (lw_at lw_m4 170 rfl) rfl
theorem q1003 : (Jvm.Cond.methodLink "NailedByWord$VergerTack" (9 : Nat) ({ cls := "NailedByWord$HeelTack", name := "<init>", desc := "(LNailedByWord;I)V" } : Jvm.MethodName)) ∈ lw_all := lw_g (lw_at lw_m4 171 rfl) rfl
theorem q1004 : (Jvm.Cond.fieldLink "NailedByWord$VergerTack" (3 : Nat) "NailedByWord$VergerTack" "this$0" "LNailedByWord;") ∈ lw_all := lw_g (lw_at lw_m4 172 rfl) rfl
theorem q1005 : (Jvm.Cond.laysFinal "NailedByWord$VergerTack" "NailedByWord$VergerTack" "this$0" "LNailedByWord;") ∈ lw_all := lw_g (lw_at lw_m4 173 rfl) rfl
theorem q1006 : (Jvm.Cond.soleField "NailedByWord$VergerTack" "this$0") ∈ lw_all := lw_g (lw_at lw_m4 174 rfl) rfl
theorem q1007 : (Jvm.Cond.laysFinal "NailedByWord$VergerTack" "NailedByWord$HeelTack" "this$0" "LNailedByWord;") ∈ lw_all := lw_g (lw_at lw_m4 175 rfl) rfl
theorem q1008 : (Jvm.Cond.laysFinal "NailedByWord$VergerTack" "NailedByWord$LaceTack" "this$0" "LNailedByWord;") ∈ lw_all := lw_g (lw_at lw_m4 176 rfl) rfl
theorem q1009 : (Jvm.Cond.laysFinal "NailedByWord$VergerTack" "NailedByWord$Body" "number" "I") ∈ lw_all := lw_g (lw_at lw_m4 177 rfl) rfl
theorem q1010 : (Jvm.Cond.laysFinal "NailedByWord$VergerTack" "NailedByWord$Body" "this$0" "LNailedByWord;") ∈ lw_all := lw_g (lw_at lw_m4 178 rfl) rfl
theorem q1011 : (Jvm.Cond.superclass "NailedByWord$VergerTack" "NailedByWord$HeelTack") ∈ lw_all := lw_g (lw_at lw_m4 179 rfl) rfl
theorem q1096 : (Jvm.Cond.castable "NailedByWord$VergerTack" "NailedByWord$Holds") ∈ lw_tbl := lw_at lw_m5 24 rfl
theorem q1097 : (Jvm.Cond.selects "NailedByWord$VergerTack" ({ cls := "NailedByWord$Holds", name := "begins", desc := "(I)V" } : Jvm.MethodName) ({ cls := "NailedByWord$Body", name := "begins", desc := "(I)V" } : Jvm.MethodName)) ∈ lw_all := lw_g (lw_at lw_m5 25 rfl) rfl
theorem q1098 : (Jvm.Cond.unhidden "NailedByWord$VergerTack" "begins" "(I)V") ∈ lw_tbl := lw_at lw_m5 26 rfl
theorem q1120 : (Jvm.Cond.selects "NailedByWord$VergerTack" ({ cls := "NailedByWord$Holds", name := "number", desc := "()I" } : Jvm.MethodName) ({ cls := "NailedByWord$Body", name := "number", desc := "()I" } : Jvm.MethodName)) ∈ lw_all := lw_g (lw_at lw_m5 48 rfl) rfl
theorem q1121 : (Jvm.Cond.unhidden "NailedByWord$VergerTack" "number" "()I") ∈ lw_tbl := lw_at lw_m5 49 rfl
theorem q1133 : (Jvm.Cond.unhidden "NailedByWord$VergerTack" "holds" "(I)I") ∈ lw_tbl := lw_at lw_m5 61 rfl
theorem q1159 : (Jvm.Cond.selects "NailedByWord$VergerTack" ({ cls := "NailedByWord$HeelTack", name := "begins", desc := "(I)V" } : Jvm.MethodName) ({ cls := "NailedByWord$Body", name := "begins", desc := "(I)V" } : Jvm.MethodName)) ∈ lw_all := lw_g (lw_at lw_m5 87 rfl) rfl
theorem q1167 : (Jvm.Cond.selects "NailedByWord$VergerTack" ({ cls := "NailedByWord$LaceTack", name := "begins", desc := "(I)V" } : Jvm.MethodName) ({ cls := "NailedByWord$Body", name := "begins", desc := "(I)V" } : Jvm.MethodName)) ∈ lw_all := lw_g (lw_at lw_m5 95 rfl) rfl
theorem q1173 : (Jvm.Cond.selects "NailedByWord$VergerTack" ({ cls := "NailedByWord$Body", name := "pulls", desc := "(I)I" } : Jvm.MethodName) ({ cls := "NailedByWord$HeelTack", name := "pulls", desc := "(I)I" } : Jvm.MethodName)) ∈ lw_all := lw_g (lw_at lw_m5 101 rfl) rfl
theorem q1179 : (Jvm.Cond.instanceMethod ({ cls := "NailedByWord$VergerTack", name := "frees", desc := "(I)I" } : Jvm.MethodName)) ∈ lw_all := lw_g (lw_at lw_m5 107 rfl) rfl
theorem q1180 : (Jvm.Cond.code ({ cls := "NailedByWord$VergerTack", name := "frees", desc := "(I)I" } : Jvm.MethodName) prog_23_method_4_code (3 : Nat) (Option.some Jvm.ClassFile.FieldType.int)) ∈ lw_all := lw_g (lw_at lw_m5 108 rfl) rfl
theorem q1181 : (Jvm.Cond.methodLink "NailedByWord$VergerTack" (19 : Nat) ({ cls := "NailedByWord$VergerTack", name := "begins", desc := "(I)V" } : Jvm.MethodName)) ∈ lw_all := lw_g (lw_at lw_m5 109 rfl) rfl
theorem q1182 : (Jvm.Cond.sameMethod "NailedByWord$VergerTack" "NailedByWord$Body" "begins" "(I)V") ∈ lw_all := lw_g (lw_at lw_m5 110 rfl) rfl
theorem q1183 : (Jvm.Cond.selects "NailedByWord$VergerTack" ({ cls := "NailedByWord$VergerTack", name := "begins", desc := "(I)V" } : Jvm.MethodName) ({ cls := "NailedByWord$Body", name := "begins", desc := "(I)V" } : Jvm.MethodName)) ∈ lw_all := lw_g (lw_at lw_m5 111 rfl) rfl
theorem q1184 : (Jvm.Cond.methodLink "NailedByWord$VergerTack" (23 : Nat) ({ cls := "NailedByWord$HeelTack", name := "frees", desc := "(I)I" } : Jvm.MethodName)) ∈ lw_all := lw_g (lw_at lw_m5 112 rfl) rfl
theorem q1215 : (Jvm.Cond.castable "NailedByWord$VergerTack" "NailedByWord$Tells") ∈ lw_tbl := lw_at lw_m5 143 rfl
theorem q1216 : (Jvm.Cond.selects "NailedByWord$VergerTack" ({ cls := "NailedByWord$Tells", name := "begins", desc := "(I)V" } : Jvm.MethodName) ({ cls := "NailedByWord$Body", name := "begins", desc := "(I)V" } : Jvm.MethodName)) ∈ lw_all := lw_g (lw_at lw_m5 144 rfl) rfl
theorem q1239 : (Jvm.Cond.selects "NailedByWord$VergerTack" ({ cls := "NailedByWord$Tells", name := "pulls", desc := "(I)I" } : Jvm.MethodName) ({ cls := "NailedByWord$HeelTack", name := "pulls", desc := "(I)I" } : Jvm.MethodName)) ∈ lw_all := lw_g (lw_at lw_m5 167 rfl) rfl
theorem q1240 : (Jvm.Cond.unhidden "NailedByWord$VergerTack" "pulls" "(I)I") ∈ lw_tbl := lw_at lw_m5 168 rfl
theorem q1261 : (Jvm.Cond.selects "NailedByWord$VergerTack" ({ cls := "NailedByWord$Tells", name := "frees", desc := "(I)I" } : Jvm.MethodName) ({ cls := "NailedByWord$VergerTack", name := "frees", desc := "(I)I" } : Jvm.MethodName)) ∈ lw_all := lw_g (lw_at lw_m5 189 rfl) rfl
theorem q1262 : (Jvm.Cond.unhidden "NailedByWord$VergerTack" "frees" "(I)I") ∈ lw_tbl := lw_at lw_m5 190 rfl
theorem q1263 : (Jvm.Cond.publicMethod ({ cls := "NailedByWord$VergerTack", name := "frees", desc := "(I)I" } : Jvm.MethodName)) ∈ lw_tbl := lw_at lw_m5 191 rfl
theorem q1267 : (Jvm.Cond.selects "NailedByWord$VergerTack" ({ cls := "NailedByWord$Tells", name := "tells", desc := "(I)I" } : Jvm.MethodName) ({ cls := "NailedByWord$VergerTack", name := "tells", desc := "(I)I" } : Jvm.MethodName)) ∈ lw_all := lw_g (lw_at lw_m5 195 rfl) rfl
theorem q1268 : (Jvm.Cond.instanceMethod ({ cls := "NailedByWord$VergerTack", name := "tells", desc := "(I)I" } : Jvm.MethodName)) ∈ lw_all := lw_g (lw_at lw_m5 196 rfl) rfl
theorem q1269 : (Jvm.Cond.code ({ cls := "NailedByWord$VergerTack", name := "tells", desc := "(I)I" } : Jvm.MethodName) prog_23_method_5_code (2 : Nat) (Option.some Jvm.ClassFile.FieldType.int)) ∈ lw_all := lw_g (lw_at lw_m5 197 rfl) rfl
theorem q1339 : (Jvm.Cond.selects "NailedByWord$VergerTack" ({ cls := "NailedByWord$Body", name := "isUnder", desc := "(I)Z" } : Jvm.MethodName) ({ cls := "NailedByWord$VergerTack", name := "isUnder", desc := "(I)Z" } : Jvm.MethodName)) ∈ lw_all := lw_g (lw_at lw_m6 27 rfl) rfl
theorem q1340 : (Jvm.Cond.instanceMethod ({ cls := "NailedByWord$VergerTack", name := "isUnder", desc := "(I)Z" } : Jvm.MethodName)) ∈ lw_all := lw_g (lw_at lw_m6 28 rfl) rfl
theorem q1341 : (Jvm.Cond.code ({ cls := "NailedByWord$VergerTack", name := "isUnder", desc := "(I)Z" } : Jvm.MethodName) prog_23_method_3_code (2 : Nat) (Option.some Jvm.ClassFile.FieldType.boolean)) ∈ lw_all := lw_g (lw_at lw_m6 29 rfl) rfl
theorem q1342 : (Jvm.Cond.methodLink "NailedByWord$VergerTack" (15 : Nat) ({ cls := "NailedByWord$HeelTack", name := "isUnder", desc := "(I)Z" } : Jvm.MethodName)) ∈ lw_all := lw_g (lw_at lw_m6 30 rfl) rfl
theorem q1365 : (Jvm.Cond.selects "NailedByWord$VergerTack" ({ cls := "NailedByWord$Body", name := "kind", desc := "()I" } : Jvm.MethodName) ({ cls := "NailedByWord$VergerTack", name := "kind", desc := "()I" } : Jvm.MethodName)) ∈ lw_all := lw_g (lw_at lw_m6 53 rfl) rfl
theorem q1366 : (Jvm.Cond.instanceMethod ({ cls := "NailedByWord$VergerTack", name := "kind", desc := "()I" } : Jvm.MethodName)) ∈ lw_all := lw_g (lw_at lw_m6 54 rfl) rfl
theorem q1367 : (Jvm.Cond.code ({ cls := "NailedByWord$VergerTack", name := "kind", desc := "()I" } : Jvm.MethodName) prog_23_method_2_code (1 : Nat) (Option.some Jvm.ClassFile.FieldType.int)) ∈ lw_all := lw_g (lw_at lw_m6 55 rfl) rfl
theorem q2073 : (Jvm.Cond.selects "NailedByWord$VergerTack" ({ cls := "NailedByWord$Body", name := "begins", desc := "(I)V" } : Jvm.MethodName) ({ cls := "NailedByWord$Body", name := "begins", desc := "(I)V" } : Jvm.MethodName)) ∈ lw_all := lw_g (lw_at lw_m9 41 rfl) rfl
theorem q2083 : (Jvm.Cond.selects "NailedByWord$VergerTack" ({ cls := "NailedByWord$Body", name := "frees", desc := "(I)I" } : Jvm.MethodName) ({ cls := "NailedByWord$VergerTack", name := "frees", desc := "(I)I" } : Jvm.MethodName)) ∈ lw_all := lw_g (lw_at lw_m9 51 rfl) rfl
theorem q2097 : (Jvm.Cond.castable "NailedByWord$VergerTack" "NailedByWord$Body") ∈ lw_tbl := lw_at lw_m9 65 rfl
theorem q2115 : (Jvm.Cond.castable "NailedByWord$VergerTack" "java/lang/Object") ∈ lw_tbl := lw_at lw_m9 83 rfl
theorem in_X19 : ∀ w ∈ wsX190, w ∈ lw_all := lw_in wsX190 [1009, 1010, 1008, 1007, 1005] (by decide +kernel) (by decide +kernel)
/-! NailedByWord$PittTack -/
set_option maxRecDepth 100000
def RX20 : String := "NailedByWord$PittTack"
def TX20 : u_T := fun k => match k with
  | 0 => ("NailedByWord$Body", "number", "I", true)
  | 1 => ("NailedByWord$Body", "this$0", "LNailedByWord;", true)
  | _ => ("NailedByWord$PittTack", "this$0", "LNailedByWord;", true)
def tyX20 : Nat → FieldType := fun k => match k with
  | 0 => .int
  | 1 => .object "NailedByWord"
  | _ => .object "NailedByWord"
abbrev wsX200 : List Cond := u_ws RX20 TX20 3
-- two fields of one name: no nmX20
theorem tyX20_ok : ∀ k, k < 3 → parseFieldDescriptor (TX20 k).2.2.1 = some (tyX20 k) := by decide +kernel
abbrev cX20_init : ByteArray := prog_16_method_1_code
def yX20_init : MethodName := ⟨RX20, "<init>", "(LNailedByWord;I)V"⟩
def dkwX20_init_0 : List UInt8 := [42, 43, 181, 0, 3, 42, 43, 28, 183, 0, 9, 177]
abbrev dktX20_init_0 : List UInt8 := dkwX20_init_0 ++ []
theorem dksX20_init_0 : cX20_init.data.toList.drop 0 = dktX20_init_0 := by decide +kernel
theorem dX20_init_0 : decode cX20_init 0 = .ok (.aload_n 0, 1) := dk_42 (dk_at dksX20_init_0 0 rfl rfl)
theorem dX20_init_1 : decode cX20_init 1 = .ok (.aload_n 1, 1) := dk_43 (dk_at dksX20_init_0 1 rfl rfl)
theorem dX20_init_2 : decode cX20_init 2 = .ok (.putfield 3, 3) := dk_181 0 3 (dk_at dksX20_init_0 2 rfl rfl)
theorem dX20_init_5 : decode cX20_init 5 = .ok (.aload_n 0, 1) := dk_42 (dk_at dksX20_init_0 5 rfl rfl)
theorem dX20_init_6 : decode cX20_init 6 = .ok (.aload_n 1, 1) := dk_43 (dk_at dksX20_init_0 6 rfl rfl)
theorem dX20_init_7 : decode cX20_init 7 = .ok (.iload_n 2, 1) := dk_28 (dk_at dksX20_init_0 7 rfl rfl)
theorem dX20_init_8 : decode cX20_init 8 = .ok (.invokespecial 9, 3) := dk_183 0 9 (dk_at dksX20_init_0 8 rfl rfl)
theorem dX20_init_11 : decode cX20_init 11 = .ok (.return_, 1) := dk_177 (dk_at dksX20_init_0 11 rfl rfl)
abbrev cX20_holds : ByteArray := prog_16_method_4_code
def yX20_holds : MethodName := ⟨RX20, "holds", "(I)I"⟩
def dkwX20_holds_0 : List UInt8 := [42, 16, 70, 182, 0, 19, 42, 27, 183, 0, 23, 5, 104, 172]
abbrev dktX20_holds_0 : List UInt8 := dkwX20_holds_0 ++ []
theorem dksX20_holds_0 : cX20_holds.data.toList.drop 0 = dktX20_holds_0 := by decide +kernel
theorem dX20_holds_0 : decode cX20_holds 0 = .ok (.aload_n 0, 1) := dk_42 (dk_at dksX20_holds_0 0 rfl rfl)
theorem dX20_holds_1 : decode cX20_holds 1 = .ok (.bipush 70, 2) := dk_16 70 (dk_at dksX20_holds_0 1 rfl rfl)
theorem dX20_holds_3 : decode cX20_holds 3 = .ok (.invokevirtual 19, 3) := dk_182 0 19 (dk_at dksX20_holds_0 3 rfl rfl)
theorem dX20_holds_6 : decode cX20_holds 6 = .ok (.aload_n 0, 1) := dk_42 (dk_at dksX20_holds_0 6 rfl rfl)
theorem dX20_holds_7 : decode cX20_holds 7 = .ok (.iload_n 1, 1) := dk_27 (dk_at dksX20_holds_0 7 rfl rfl)
theorem dX20_holds_8 : decode cX20_holds 8 = .ok (.invokespecial 23, 3) := dk_183 0 23 (dk_at dksX20_holds_0 8 rfl rfl)
theorem dX20_holds_11 : decode cX20_holds 11 = .ok (.iconst 2, 1) := dk_5 (dk_at dksX20_holds_0 11 rfl rfl)
theorem dX20_holds_12 : decode cX20_holds 12 = .ok (.imul, 1) := dk_104 (dk_at dksX20_holds_0 12 rfl rfl)
theorem dX20_holds_13 : decode cX20_holds 13 = .ok (.ireturn, 1) := dk_172 (dk_at dksX20_holds_0 13 rfl rfl)
abbrev cX20_isUnder : ByteArray := prog_16_method_3_code
def yX20_isUnder : MethodName := ⟨RX20, "isUnder", "(I)Z"⟩
def dkwX20_isUnder_0 : List UInt8 := [27, 16, 6, 159, 0, 11, 42, 27, 183, 0, 15, 153, 0, 7, 4, 167, 0, 4, 3, 172]
abbrev dktX20_isUnder_0 : List UInt8 := dkwX20_isUnder_0 ++ []
theorem dksX20_isUnder_0 : cX20_isUnder.data.toList.drop 0 = dktX20_isUnder_0 := by decide +kernel
theorem dX20_isUnder_0 : decode cX20_isUnder 0 = .ok (.iload_n 1, 1) := dk_27 (dk_at dksX20_isUnder_0 0 rfl rfl)
theorem dX20_isUnder_1 : decode cX20_isUnder 1 = .ok (.bipush 6, 2) := dk_16 6 (dk_at dksX20_isUnder_0 1 rfl rfl)
theorem dX20_isUnder_3 : decode cX20_isUnder 3 = .ok (.if_icmp .eq 11, 3) := dk_159 0 11 (dk_at dksX20_isUnder_0 3 rfl rfl)
theorem dX20_isUnder_6 : decode cX20_isUnder 6 = .ok (.aload_n 0, 1) := dk_42 (dk_at dksX20_isUnder_0 6 rfl rfl)
theorem dX20_isUnder_7 : decode cX20_isUnder 7 = .ok (.iload_n 1, 1) := dk_27 (dk_at dksX20_isUnder_0 7 rfl rfl)
theorem dX20_isUnder_8 : decode cX20_isUnder 8 = .ok (.invokespecial 15, 3) := dk_183 0 15 (dk_at dksX20_isUnder_0 8 rfl rfl)
theorem dX20_isUnder_11 : decode cX20_isUnder 11 = .ok (.ifCond .eq 7, 3) := dk_153 0 7 (dk_at dksX20_isUnder_0 11 rfl rfl)
theorem dX20_isUnder_14 : decode cX20_isUnder 14 = .ok (.iconst 1, 1) := dk_4 (dk_at dksX20_isUnder_0 14 rfl rfl)
theorem dX20_isUnder_15 : decode cX20_isUnder 15 = .ok (.goto 4, 3) := dk_167 0 4 (dk_at dksX20_isUnder_0 15 rfl rfl)
theorem dX20_isUnder_18 : decode cX20_isUnder 18 = .ok (.iconst 0, 1) := dk_3 (dk_at dksX20_isUnder_0 18 rfl rfl)
theorem dX20_isUnder_19 : decode cX20_isUnder 19 = .ok (.ireturn, 1) := dk_172 (dk_at dksX20_isUnder_0 19 rfl rfl)
abbrev cX20_kind : ByteArray := prog_16_method_2_code
def yX20_kind : MethodName := ⟨RX20, "kind", "()I"⟩
theorem dX20_kind_0 : decode cX20_kind 0 = .ok (.bipush 6, 2) := by decide +kernel
theorem dX20_kind_2 : decode cX20_kind 2 = .ok (.ireturn, 1) := by decide +kernel
theorem q138 : (Jvm.Cond.initialized "NailedByWord$PittTack") ∈ lw_all := lw_g (lw_at lw_m1 26 rfl) rfl
theorem q1013 : (Jvm.Cond.instantiable "NailedByWord$PittTack" (3 : Nat)) ∈ lw_all := lw_g (lw_at lw_m4 181 rfl) rfl
theorem q1015 : (Jvm.Cond.instanceMethod ({ cls := "NailedByWord$PittTack", name := "<init>", desc := "(LNailedByWord;I)V" } : Jvm.MethodName)) ∈ lw_all := lw_g (lw_at lw_m4 183 rfl) rfl
theorem q1016 : (Jvm.Cond.code ({ cls := "NailedByWord$PittTack", name := "<init>", desc := "(LNailedByWord;I)V" } : Jvm.MethodName) prog_16_method_1_code (3 : Nat) (Option.none : Option Jvm.ClassFile.FieldType)) ∈ lw_all := lw_g (lw_at lw_m4 184 rfl) rfl
theorem q1017 : (Jvm.Cond.methodLink "NailedByWord$PittTack" (9 : Nat) ({ cls := "NailedByWord$Body", name := "<init>", desc := "(LNailedByWord;I)V" } : Jvm.MethodName)) ∈ lw_all := lw_g (lw_at lw_m4 185 rfl) rfl
theorem q1018 : (Jvm.Cond.fieldLink "NailedByWord$PittTack" (3 : Nat) "NailedByWord$PittTack" "this$0" "LNailedByWord;") ∈ lw_all := lw_g (lw_at lw_m4 186 rfl) rfl
theorem q1019 : (Jvm.Cond.laysFinal "NailedByWord$PittTack" "NailedByWord$PittTack" "this$0" "LNailedByWord;") ∈ lw_all := lw_g (lw_at lw_m4 187 rfl) rfl
theorem q1020 : (Jvm.Cond.soleField "NailedByWord$PittTack" "this$0") ∈ lw_all := lw_g (lw_at lw_m4 188 rfl) rfl
theorem q1021 : (Jvm.Cond.laysFinal "NailedByWord$PittTack" "NailedByWord$Body" "number" "I") ∈ lw_all := lw_g (lw_at lw_m4 189 rfl) rfl
theorem q1022 : (Jvm.Cond.laysFinal "NailedByWord$PittTack" "NailedByWord$Body" "this$0" "LNailedByWord;") ∈ lw_all := lw_g (lw_at lw_m4 190 rfl) rfl
theorem q1023 : (Jvm.Cond.superclass "NailedByWord$PittTack" "NailedByWord$Body") ∈ lw_all := lw_g (lw_at lw_m4 191 rfl) rfl
theorem q1062 : (Jvm.Cond.instanceMethod ({ cls := "NailedByWord$PittTack", name := "holds", desc := "(I)I" } : Jvm.MethodName)) ∈ lw_all := lw_g (lw_at lw_m4 230 rfl) rfl
theorem q1063 : (Jvm.Cond.code ({ cls := "NailedByWord$PittTack", name := "holds", desc := "(I)I" } : Jvm.MethodName) prog_16_method_4_code (2 : Nat) (Option.some Jvm.ClassFile.FieldType.int)) ∈ lw_all := lw_g (lw_at lw_m4 231 rfl) rfl
theorem q1064 : (Jvm.Cond.methodLink "NailedByWord$PittTack" (19 : Nat) ({ cls := "NailedByWord$PittTack", name := "begins", desc := "(I)V" } : Jvm.MethodName)) ∈ lw_all := lw_g (lw_at lw_m4 232 rfl) rfl
theorem q1065 : (Jvm.Cond.sameMethod "NailedByWord$PittTack" "NailedByWord$Body" "begins" "(I)V") ∈ lw_all := lw_g (lw_at lw_m4 233 rfl) rfl
theorem q1067 : (Jvm.Cond.selects "NailedByWord$PittTack" ({ cls := "NailedByWord$PittTack", name := "begins", desc := "(I)V" } : Jvm.MethodName) ({ cls := "NailedByWord$Body", name := "begins", desc := "(I)V" } : Jvm.MethodName)) ∈ lw_all := lw_g (lw_at lw_m4 235 rfl) rfl
theorem q1090 : (Jvm.Cond.castable "NailedByWord$PittTack" "NailedByWord$Holds") ∈ lw_tbl := lw_at lw_m5 18 rfl
theorem q1091 : (Jvm.Cond.selects "NailedByWord$PittTack" ({ cls := "NailedByWord$Holds", name := "begins", desc := "(I)V" } : Jvm.MethodName) ({ cls := "NailedByWord$Body", name := "begins", desc := "(I)V" } : Jvm.MethodName)) ∈ lw_all := lw_g (lw_at lw_m5 19 rfl) rfl
theorem q1092 : (Jvm.Cond.unhidden "NailedByWord$PittTack" "begins" "(I)V") ∈ lw_tbl := lw_at lw_m5 20 rfl
theorem q1116 : (Jvm.Cond.selects "NailedByWord$PittTack" ({ cls := "NailedByWord$Holds", name := "number", desc := "()I" } : Jvm.MethodName) ({ cls := "NailedByWord$Body", name := "number", desc := "()I" } : Jvm.MethodName)) ∈ lw_all := lw_g (lw_at lw_m5 44 rfl) rfl
theorem q1117 : (Jvm.Cond.unhidden "NailedByWord$PittTack" "number" "()I") ∈ lw_tbl := lw_at lw_m5 45 rfl
theorem q1131 : (Jvm.Cond.selects "NailedByWord$PittTack" ({ cls := "NailedByWord$Holds", name := "holds", desc := "(I)I" } : Jvm.MethodName) ({ cls := "NailedByWord$PittTack", name := "holds", desc := "(I)I" } : Jvm.MethodName)) ∈ lw_all := lw_g (lw_at lw_m5 59 rfl) rfl
theorem q1143 : (Jvm.Cond.sameMethod "NailedByWord$PittTack" "NailedByWord$Body" "pulls" "(I)I") ∈ lw_all := lw_g (lw_at lw_m5 71 rfl) rfl
theorem q1171 : (Jvm.Cond.selects "NailedByWord$PittTack" ({ cls := "NailedByWord$Body", name := "pulls", desc := "(I)I" } : Jvm.MethodName) ({ cls := "NailedByWord$Body", name := "pulls", desc := "(I)I" } : Jvm.MethodName)) ∈ lw_all := lw_g (lw_at lw_m5 99 rfl) rfl
theorem q1211 : (Jvm.Cond.castable "NailedByWord$PittTack" "NailedByWord$Tells") ∈ lw_tbl := lw_at lw_m5 139 rfl
theorem q1212 : (Jvm.Cond.selects "NailedByWord$PittTack" ({ cls := "NailedByWord$Tells", name := "begins", desc := "(I)V" } : Jvm.MethodName) ({ cls := "NailedByWord$Body", name := "begins", desc := "(I)V" } : Jvm.MethodName)) ∈ lw_all := lw_g (lw_at lw_m5 140 rfl) rfl
theorem q1235 : (Jvm.Cond.selects "NailedByWord$PittTack" ({ cls := "NailedByWord$Tells", name := "pulls", desc := "(I)I" } : Jvm.MethodName) ({ cls := "NailedByWord$Body", name := "pulls", desc := "(I)I" } : Jvm.MethodName)) ∈ lw_all := lw_g (lw_at lw_m5 163 rfl) rfl
theorem q1236 : (Jvm.Cond.unhidden "NailedByWord$PittTack" "pulls" "(I)I") ∈ lw_tbl := lw_at lw_m5 164 rfl
theorem q1257 : (Jvm.Cond.selects "NailedByWord$PittTack" ({ cls := "NailedByWord$Tells", name := "frees", desc := "(I)I" } : Jvm.MethodName) ({ cls := "NailedByWord$Body", name := "frees", desc := "(I)I" } : Jvm.MethodName)) ∈ lw_all := lw_g (lw_at lw_m5 185 rfl) rfl
theorem q1258 : (Jvm.Cond.unhidden "NailedByWord$PittTack" "frees" "(I)I") ∈ lw_tbl := lw_at lw_m5 186 rfl
theorem q1265 : (Jvm.Cond.unhidden "NailedByWord$PittTack" "tells" "(I)I") ∈ lw_tbl := lw_at lw_m5 193 rfl
theorem q1318 : (Jvm.Cond.instanceMethod ({ cls := "NailedByWord$PittTack", name := "isUnder", desc := "(I)Z" } : Jvm.MethodName)) ∈ lw_all := lw_g (lw_at lw_m6 6 rfl) rfl
theorem q1319 : (Jvm.Cond.code ({ cls := "NailedByWord$PittTack", name := "isUnder", desc := "(I)Z" } : Jvm.MethodName) prog_16_method_3_code (2 : Nat) (Option.some Jvm.ClassFile.FieldType.boolean)) ∈ lw_all := lw_g (lw_at lw_m6 7 rfl) rfl
theorem q1320 : (Jvm.Cond.methodLink "NailedByWord$PittTack" (15 : Nat) ({ cls := "NailedByWord$Body", name := "isUnder", desc := "(I)Z" } : Jvm.MethodName)) ∈ lw_all := lw_g (lw_at lw_m6 8 rfl) rfl
theorem q1337 : (Jvm.Cond.selects "NailedByWord$PittTack" ({ cls := "NailedByWord$Body", name := "isUnder", desc := "(I)Z" } : Jvm.MethodName) ({ cls := "NailedByWord$PittTack", name := "isUnder", desc := "(I)Z" } : Jvm.MethodName)) ∈ lw_all := lw_g (lw_at lw_m6 25 rfl) rfl
theorem q1359 : (Jvm.Cond.selects "NailedByWord$PittTack" ({ cls := "NailedByWord$Body", name := "kind", desc := "()I" } : Jvm.MethodName) ({ cls := "NailedByWord$PittTack", name := "kind", desc := "()I" } : Jvm.MethodName)) ∈ lw_all := lw_g (lw_at lw_m6 47 rfl) rfl
theorem q1360 : (Jvm.Cond.instanceMethod ({ cls := "NailedByWord$PittTack", name := "kind", desc := "()I" } : Jvm.MethodName)) ∈ lw_all := lw_g (lw_at lw_m6 48 rfl) rfl
theorem q1361 : (Jvm.Cond.code ({ cls := "NailedByWord$PittTack", name := "kind", desc := "()I" } : Jvm.MethodName) prog_16_method_2_code (1 : Nat) (Option.some Jvm.ClassFile.FieldType.int)) ∈ lw_all := lw_g (lw_at lw_m6 49 rfl) rfl
theorem q2064 : (Jvm.Cond.sameMethod "NailedByWord$PittTack" "NailedByWord$PittTack" "holds" "(I)I") ∈ lw_all := lw_g (lw_at lw_m9 32 rfl) rfl
theorem q2071 : (Jvm.Cond.selects "NailedByWord$PittTack" ({ cls := "NailedByWord$Body", name := "begins", desc := "(I)V" } : Jvm.MethodName) ({ cls := "NailedByWord$Body", name := "begins", desc := "(I)V" } : Jvm.MethodName)) ∈ lw_all := lw_g (lw_at lw_m9 39 rfl) rfl
theorem q2081 : (Jvm.Cond.selects "NailedByWord$PittTack" ({ cls := "NailedByWord$Body", name := "frees", desc := "(I)I" } : Jvm.MethodName) ({ cls := "NailedByWord$Body", name := "frees", desc := "(I)I" } : Jvm.MethodName)) ∈ lw_all := lw_g (lw_at lw_m9 49 rfl) rfl
theorem q2085 : (Jvm.Cond.sameMethod "NailedByWord$PittTack" "NailedByWord$PittTack" "isUnder" "(I)Z") ∈ lw_all := lw_g (lw_at lw_m9 53 rfl) rfl
theorem q2095 : (Jvm.Cond.castable "NailedByWord$PittTack" "NailedByWord$Body") ∈ lw_tbl := lw_at lw_m9 63 rfl
theorem q2116 : (Jvm.Cond.castable "NailedByWord$PittTack" "java/lang/Object") ∈ lw_tbl := lw_at lw_m9 84 rfl
theorem in_X20 : ∀ w ∈ wsX200, w ∈ lw_all := lw_in wsX200 [1021, 1022, 1019] (by decide +kernel) (by decide +kernel)
/-! NailedByWord$ChildTack -/
set_option maxRecDepth 100000
def RX21 : String := "NailedByWord$ChildTack"
def TX21 : u_T := fun k => match k with
  | 0 => ("NailedByWord$Body", "number", "I", true)
  | 1 => ("NailedByWord$Body", "this$0", "LNailedByWord;", true)
  | 2 => ("NailedByWord$PittTack", "this$0", "LNailedByWord;", true)
  | _ => ("NailedByWord$ChildTack", "this$0", "LNailedByWord;", true)
def tyX21 : Nat → FieldType := fun k => match k with
  | 0 => .int
  | 1 => .object "NailedByWord"
  | 2 => .object "NailedByWord"
  | _ => .object "NailedByWord"
abbrev wsX210 : List Cond := u_ws RX21 TX21 4
-- two fields of one name: no nmX21
theorem tyX21_ok : ∀ k, k < 4 → parseFieldDescriptor (TX21 k).2.2.1 = some (tyX21 k) := by decide +kernel
abbrev cX21_init : ByteArray := prog_5_method_1_code
def yX21_init : MethodName := ⟨RX21, "<init>", "(LNailedByWord;I)V"⟩
def dkwX21_init_0 : List UInt8 := [42, 43, 181, 0, 3, 42, 43, 28, 183, 0, 9, 177]
abbrev dktX21_init_0 : List UInt8 := dkwX21_init_0 ++ []
theorem dksX21_init_0 : cX21_init.data.toList.drop 0 = dktX21_init_0 := by decide +kernel
theorem dX21_init_0 : decode cX21_init 0 = .ok (.aload_n 0, 1) := dk_42 (dk_at dksX21_init_0 0 rfl rfl)
theorem dX21_init_1 : decode cX21_init 1 = .ok (.aload_n 1, 1) := dk_43 (dk_at dksX21_init_0 1 rfl rfl)
theorem dX21_init_2 : decode cX21_init 2 = .ok (.putfield 3, 3) := dk_181 0 3 (dk_at dksX21_init_0 2 rfl rfl)
theorem dX21_init_5 : decode cX21_init 5 = .ok (.aload_n 0, 1) := dk_42 (dk_at dksX21_init_0 5 rfl rfl)
theorem dX21_init_6 : decode cX21_init 6 = .ok (.aload_n 1, 1) := dk_43 (dk_at dksX21_init_0 6 rfl rfl)
theorem dX21_init_7 : decode cX21_init 7 = .ok (.iload_n 2, 1) := dk_28 (dk_at dksX21_init_0 7 rfl rfl)
theorem dX21_init_8 : decode cX21_init 8 = .ok (.invokespecial 9, 3) := dk_183 0 9 (dk_at dksX21_init_0 8 rfl rfl)
theorem dX21_init_11 : decode cX21_init 11 = .ok (.return_, 1) := dk_177 (dk_at dksX21_init_0 11 rfl rfl)
abbrev cX21_holds : ByteArray := prog_5_method_5_code
def yX21_holds : MethodName := ⟨RX21, "holds", "(I)I"⟩
def dkwX21_holds_0 : List UInt8 := [42, 16, 81, 182, 0, 19, 42, 27, 183, 0, 30, 4, 100, 172]
abbrev dktX21_holds_0 : List UInt8 := dkwX21_holds_0 ++ []
theorem dksX21_holds_0 : cX21_holds.data.toList.drop 0 = dktX21_holds_0 := by decide +kernel
theorem dX21_holds_0 : decode cX21_holds 0 = .ok (.aload_n 0, 1) := dk_42 (dk_at dksX21_holds_0 0 rfl rfl)
theorem dX21_holds_1 : decode cX21_holds 1 = .ok (.bipush 81, 2) := dk_16 81 (dk_at dksX21_holds_0 1 rfl rfl)
theorem dX21_holds_3 : decode cX21_holds 3 = .ok (.invokevirtual 19, 3) := dk_182 0 19 (dk_at dksX21_holds_0 3 rfl rfl)
theorem dX21_holds_6 : decode cX21_holds 6 = .ok (.aload_n 0, 1) := dk_42 (dk_at dksX21_holds_0 6 rfl rfl)
theorem dX21_holds_7 : decode cX21_holds 7 = .ok (.iload_n 1, 1) := dk_27 (dk_at dksX21_holds_0 7 rfl rfl)
theorem dX21_holds_8 : decode cX21_holds 8 = .ok (.invokespecial 30, 3) := dk_183 0 30 (dk_at dksX21_holds_0 8 rfl rfl)
theorem dX21_holds_11 : decode cX21_holds 11 = .ok (.iconst 1, 1) := dk_4 (dk_at dksX21_holds_0 11 rfl rfl)
theorem dX21_holds_12 : decode cX21_holds 12 = .ok (.isub, 1) := dk_100 (dk_at dksX21_holds_0 12 rfl rfl)
theorem dX21_holds_13 : decode cX21_holds 13 = .ok (.ireturn, 1) := dk_172 (dk_at dksX21_holds_0 13 rfl rfl)
abbrev cX21_pulls : ByteArray := prog_5_method_4_code
def yX21_pulls : MethodName := ⟨RX21, "pulls", "(I)I"⟩
def dkwX21_pulls_0 : List UInt8 := [42, 16, 80, 182, 0, 19, 42, 27, 183, 0, 23, 61, 28, 42, 5, 182, 0, 27, 96, 172]
abbrev dktX21_pulls_0 : List UInt8 := dkwX21_pulls_0 ++ []
theorem dksX21_pulls_0 : cX21_pulls.data.toList.drop 0 = dktX21_pulls_0 := by decide +kernel
theorem dX21_pulls_0 : decode cX21_pulls 0 = .ok (.aload_n 0, 1) := dk_42 (dk_at dksX21_pulls_0 0 rfl rfl)
theorem dX21_pulls_1 : decode cX21_pulls 1 = .ok (.bipush 80, 2) := dk_16 80 (dk_at dksX21_pulls_0 1 rfl rfl)
theorem dX21_pulls_3 : decode cX21_pulls 3 = .ok (.invokevirtual 19, 3) := dk_182 0 19 (dk_at dksX21_pulls_0 3 rfl rfl)
theorem dX21_pulls_6 : decode cX21_pulls 6 = .ok (.aload_n 0, 1) := dk_42 (dk_at dksX21_pulls_0 6 rfl rfl)
theorem dX21_pulls_7 : decode cX21_pulls 7 = .ok (.iload_n 1, 1) := dk_27 (dk_at dksX21_pulls_0 7 rfl rfl)
theorem dX21_pulls_8 : decode cX21_pulls 8 = .ok (.invokespecial 23, 3) := dk_183 0 23 (dk_at dksX21_pulls_0 8 rfl rfl)
theorem dX21_pulls_11 : decode cX21_pulls 11 = .ok (.istore_n 2, 1) := dk_61 (dk_at dksX21_pulls_0 11 rfl rfl)
theorem dX21_pulls_12 : decode cX21_pulls 12 = .ok (.iload_n 2, 1) := dk_28 (dk_at dksX21_pulls_0 12 rfl rfl)
theorem dX21_pulls_13 : decode cX21_pulls 13 = .ok (.aload_n 0, 1) := dk_42 (dk_at dksX21_pulls_0 13 rfl rfl)
theorem dX21_pulls_14 : decode cX21_pulls 14 = .ok (.iconst 2, 1) := dk_5 (dk_at dksX21_pulls_0 14 rfl rfl)
theorem dX21_pulls_15 : decode cX21_pulls 15 = .ok (.invokevirtual 27, 3) := dk_182 0 27 (dk_at dksX21_pulls_0 15 rfl rfl)
theorem dX21_pulls_18 : decode cX21_pulls 18 = .ok (.iadd, 1) := dk_96 (dk_at dksX21_pulls_0 18 rfl rfl)
theorem dX21_pulls_19 : decode cX21_pulls 19 = .ok (.ireturn, 1) := dk_172 (dk_at dksX21_pulls_0 19 rfl rfl)
abbrev cX21_isUnder : ByteArray := prog_5_method_3_code
def yX21_isUnder : MethodName := ⟨RX21, "isUnder", "(I)Z"⟩
def dkwX21_isUnder_0 : List UInt8 := [27, 16, 7, 159, 0, 11, 42, 27, 183, 0, 15, 153, 0, 7, 4, 167, 0, 4, 3, 172]
abbrev dktX21_isUnder_0 : List UInt8 := dkwX21_isUnder_0 ++ []
theorem dksX21_isUnder_0 : cX21_isUnder.data.toList.drop 0 = dktX21_isUnder_0 := by decide +kernel
theorem dX21_isUnder_0 : decode cX21_isUnder 0 = .ok (.iload_n 1, 1) := dk_27 (dk_at dksX21_isUnder_0 0 rfl rfl)
theorem dX21_isUnder_1 : decode cX21_isUnder 1 = .ok (.bipush 7, 2) := dk_16 7 (dk_at dksX21_isUnder_0 1 rfl rfl)
theorem dX21_isUnder_3 : decode cX21_isUnder 3 = .ok (.if_icmp .eq 11, 3) := dk_159 0 11 (dk_at dksX21_isUnder_0 3 rfl rfl)
theorem dX21_isUnder_6 : decode cX21_isUnder 6 = .ok (.aload_n 0, 1) := dk_42 (dk_at dksX21_isUnder_0 6 rfl rfl)
theorem dX21_isUnder_7 : decode cX21_isUnder 7 = .ok (.iload_n 1, 1) := dk_27 (dk_at dksX21_isUnder_0 7 rfl rfl)
theorem dX21_isUnder_8 : decode cX21_isUnder 8 = .ok (.invokespecial 15, 3) := dk_183 0 15 (dk_at dksX21_isUnder_0 8 rfl rfl)
theorem dX21_isUnder_11 : decode cX21_isUnder 11 = .ok (.ifCond .eq 7, 3) := dk_153 0 7 (dk_at dksX21_isUnder_0 11 rfl rfl)
theorem dX21_isUnder_14 : decode cX21_isUnder 14 = .ok (.iconst 1, 1) := dk_4 (dk_at dksX21_isUnder_0 14 rfl rfl)
theorem dX21_isUnder_15 : decode cX21_isUnder 15 = .ok (.goto 4, 3) := dk_167 0 4 (dk_at dksX21_isUnder_0 15 rfl rfl)
theorem dX21_isUnder_18 : decode cX21_isUnder 18 = .ok (.iconst 0, 1) := dk_3 (dk_at dksX21_isUnder_0 18 rfl rfl)
theorem dX21_isUnder_19 : decode cX21_isUnder 19 = .ok (.ireturn, 1) := dk_172 (dk_at dksX21_isUnder_0 19 rfl rfl)
abbrev cX21_kind : ByteArray := prog_5_method_2_code
def yX21_kind : MethodName := ⟨RX21, "kind", "()I"⟩
theorem dX21_kind_0 : decode cX21_kind 0 = .ok (.bipush 7, 2) := by decide +kernel
theorem dX21_kind_2 : decode cX21_kind 2 = .ok (.ireturn, 1) := by decide +kernel
theorem q139 : (Jvm.Cond.initialized "NailedByWord$ChildTack") ∈ lw_all := lw_g (lw_at lw_m1 27 rfl) rfl
theorem q1025 : (Jvm.Cond.instantiable "NailedByWord$ChildTack" (4 : Nat)) ∈ lw_all := lw_g (lw_at lw_m4 193 rfl) rfl
theorem q1027 : (Jvm.Cond.instanceMethod ({ cls := "NailedByWord$ChildTack", name := "<init>", desc := "(LNailedByWord;I)V" } : Jvm.MethodName)) ∈ lw_all := lw_g (lw_at lw_m4 195 rfl) rfl
theorem q1028 : (Jvm.Cond.code ({ cls := "NailedByWord$ChildTack", name := "<init>", desc := "(LNailedByWord;I)V" } : Jvm.MethodName) prog_5_method_1_code (3 : Nat) (Option.none : Option Jvm.ClassFile.FieldType)) ∈ lw_all := lw_g (lw_at lw_m4 196 rfl) rfl
theorem q1029 : (Jvm.Cond.methodLink "NailedByWord$ChildTack" (9 : Nat) ({ cls := "NailedByWord$PittTack", name := "<init>", desc := "(LNailedByWord;I)V" } : Jvm.MethodName)) ∈ lw_all := lw_g (lw_at lw_m4 197 rfl) rfl
theorem q1030 : (Jvm.Cond.fieldLink "NailedByWord$ChildTack" (3 : Nat) "NailedByWord$ChildTack" "this$0" "LNailedByWord;") ∈ lw_all := lw_g (lw_at lw_m4 198 rfl) rfl
theorem q1031 : (Jvm.Cond.laysFinal "NailedByWord$ChildTack" "NailedByWord$ChildTack" "this$0" "LNailedByWord;") ∈ lw_all := lw_g (lw_at lw_m4 199 rfl) rfl
theorem q1032 : (Jvm.Cond.soleField "NailedByWord$ChildTack" "this$0") ∈ lw_all := lw_g (lw_at lw_m4 200 rfl) rfl
theorem q1033 : (Jvm.Cond.laysFinal "NailedByWord$ChildTack" "NailedByWord$PittTack" "this$0" "LNailedByWord;") ∈ lw_all := lw_g (lw_at lw_m4 201 rfl) rfl
theorem q1034 : (Jvm.Cond.laysFinal "NailedByWord$ChildTack" "NailedByWord$Body" "number" "I") ∈ lw_all := lw_g (lw_at lw_m4 202 rfl) rfl
theorem q1035 : (Jvm.Cond.laysFinal "NailedByWord$ChildTack" "NailedByWord$Body" "this$0" "LNailedByWord;") ∈ lw_all := lw_g (lw_at lw_m4 203 rfl) rfl
theorem q1036 : (Jvm.Cond.superclass "NailedByWord$ChildTack" "NailedByWord$PittTack") ∈ lw_all := lw_g (lw_at lw_m4 204 rfl) rfl
theorem q1052 : (Jvm.Cond.selects "NailedByWord$ChildTack" ({ cls := "NailedByWord$Holds", name := "holds", desc := "(I)I" } : Jvm.MethodName) ({ cls := "NailedByWord$ChildTack", name := "holds", desc := "(I)I" } : Jvm.MethodName)) ∈ lw_all := lw_g (lw_at lw_m4 220 rfl) rfl
theorem q1053 : (Jvm.Cond.instanceMethod ({ cls := "NailedByWord$ChildTack", name := "holds", desc := "(I)I" } : Jvm.MethodName)) ∈ lw_all := lw_g (lw_at lw_m4 221 rfl) rfl
theorem q1054 : (Jvm.Cond.code ({ cls := "NailedByWord$ChildTack", name := "holds", desc := "(I)I" } : Jvm.MethodName) prog_5_method_5_code (2 : Nat) (Option.some Jvm.ClassFile.FieldType.int)) ∈ lw_all := lw_g (lw_at lw_m4 222 rfl) rfl
theorem q1055 : (Jvm.Cond.methodLink "NailedByWord$ChildTack" (19 : Nat) ({ cls := "NailedByWord$ChildTack", name := "begins", desc := "(I)V" } : Jvm.MethodName)) ∈ lw_all := lw_g (lw_at lw_m4 223 rfl) rfl
theorem q1056 : (Jvm.Cond.sameMethod "NailedByWord$ChildTack" "NailedByWord$Body" "begins" "(I)V") ∈ lw_all := lw_g (lw_at lw_m4 224 rfl) rfl
theorem q1058 : (Jvm.Cond.selects "NailedByWord$ChildTack" ({ cls := "NailedByWord$ChildTack", name := "begins", desc := "(I)V" } : Jvm.MethodName) ({ cls := "NailedByWord$Body", name := "begins", desc := "(I)V" } : Jvm.MethodName)) ∈ lw_all := lw_g (lw_at lw_m4 226 rfl) rfl
theorem q1061 : (Jvm.Cond.methodLink "NailedByWord$ChildTack" (30 : Nat) ({ cls := "NailedByWord$PittTack", name := "holds", desc := "(I)I" } : Jvm.MethodName)) ∈ lw_all := lw_g (lw_at lw_m4 229 rfl) rfl
theorem q1066 : (Jvm.Cond.selects "NailedByWord$ChildTack" ({ cls := "NailedByWord$PittTack", name := "begins", desc := "(I)V" } : Jvm.MethodName) ({ cls := "NailedByWord$Body", name := "begins", desc := "(I)V" } : Jvm.MethodName)) ∈ lw_all := lw_g (lw_at lw_m4 234 rfl) rfl
theorem q1078 : (Jvm.Cond.castable "NailedByWord$ChildTack" "NailedByWord$Holds") ∈ lw_tbl := lw_at lw_m5 6 rfl
theorem q1079 : (Jvm.Cond.selects "NailedByWord$ChildTack" ({ cls := "NailedByWord$Holds", name := "begins", desc := "(I)V" } : Jvm.MethodName) ({ cls := "NailedByWord$Body", name := "begins", desc := "(I)V" } : Jvm.MethodName)) ∈ lw_all := lw_g (lw_at lw_m5 7 rfl) rfl
theorem q1080 : (Jvm.Cond.unhidden "NailedByWord$ChildTack" "begins" "(I)V") ∈ lw_tbl := lw_at lw_m5 8 rfl
theorem q1108 : (Jvm.Cond.selects "NailedByWord$ChildTack" ({ cls := "NailedByWord$Holds", name := "number", desc := "()I" } : Jvm.MethodName) ({ cls := "NailedByWord$Body", name := "number", desc := "()I" } : Jvm.MethodName)) ∈ lw_all := lw_g (lw_at lw_m5 36 rfl) rfl
theorem q1109 : (Jvm.Cond.unhidden "NailedByWord$ChildTack" "number" "()I") ∈ lw_tbl := lw_at lw_m5 37 rfl
theorem q1139 : (Jvm.Cond.selects "NailedByWord$ChildTack" ({ cls := "NailedByWord$Body", name := "pulls", desc := "(I)I" } : Jvm.MethodName) ({ cls := "NailedByWord$ChildTack", name := "pulls", desc := "(I)I" } : Jvm.MethodName)) ∈ lw_all := lw_g (lw_at lw_m5 67 rfl) rfl
theorem q1140 : (Jvm.Cond.instanceMethod ({ cls := "NailedByWord$ChildTack", name := "pulls", desc := "(I)I" } : Jvm.MethodName)) ∈ lw_all := lw_g (lw_at lw_m5 68 rfl) rfl
theorem q1141 : (Jvm.Cond.code ({ cls := "NailedByWord$ChildTack", name := "pulls", desc := "(I)I" } : Jvm.MethodName) prog_5_method_4_code (3 : Nat) (Option.some Jvm.ClassFile.FieldType.int)) ∈ lw_all := lw_g (lw_at lw_m5 69 rfl) rfl
theorem q1142 : (Jvm.Cond.methodLink "NailedByWord$ChildTack" (23 : Nat) ({ cls := "NailedByWord$PittTack", name := "pulls", desc := "(I)I" } : Jvm.MethodName)) ∈ lw_all := lw_g (lw_at lw_m5 70 rfl) rfl
theorem q1147 : (Jvm.Cond.methodLink "NailedByWord$ChildTack" (27 : Nat) ({ cls := "NailedByWord$ChildTack", name := "frees", desc := "(I)I" } : Jvm.MethodName)) ∈ lw_all := lw_g (lw_at lw_m5 75 rfl) rfl
theorem q1148 : (Jvm.Cond.sameMethod "NailedByWord$ChildTack" "NailedByWord$Body" "frees" "(I)I") ∈ lw_all := lw_g (lw_at lw_m5 76 rfl) rfl
theorem q1150 : (Jvm.Cond.selects "NailedByWord$ChildTack" ({ cls := "NailedByWord$ChildTack", name := "frees", desc := "(I)I" } : Jvm.MethodName) ({ cls := "NailedByWord$Body", name := "frees", desc := "(I)I" } : Jvm.MethodName)) ∈ lw_all := lw_g (lw_at lw_m5 78 rfl) rfl
theorem q1187 : (Jvm.Cond.unhidden "NailedByWord$ChildTack" "tells" "(I)I") ∈ lw_tbl := lw_at lw_m5 115 rfl
theorem q1203 : (Jvm.Cond.castable "NailedByWord$ChildTack" "NailedByWord$Tells") ∈ lw_tbl := lw_at lw_m5 131 rfl
theorem q1204 : (Jvm.Cond.selects "NailedByWord$ChildTack" ({ cls := "NailedByWord$Tells", name := "begins", desc := "(I)V" } : Jvm.MethodName) ({ cls := "NailedByWord$Body", name := "begins", desc := "(I)V" } : Jvm.MethodName)) ∈ lw_all := lw_g (lw_at lw_m5 132 rfl) rfl
theorem q1224 : (Jvm.Cond.selects "NailedByWord$ChildTack" ({ cls := "NailedByWord$Tells", name := "pulls", desc := "(I)I" } : Jvm.MethodName) ({ cls := "NailedByWord$ChildTack", name := "pulls", desc := "(I)I" } : Jvm.MethodName)) ∈ lw_all := lw_g (lw_at lw_m5 152 rfl) rfl
theorem q1225 : (Jvm.Cond.unhidden "NailedByWord$ChildTack" "pulls" "(I)I") ∈ lw_tbl := lw_at lw_m5 153 rfl
theorem q1226 : (Jvm.Cond.publicMethod ({ cls := "NailedByWord$ChildTack", name := "pulls", desc := "(I)I" } : Jvm.MethodName)) ∈ lw_tbl := lw_at lw_m5 154 rfl
theorem q1248 : (Jvm.Cond.selects "NailedByWord$ChildTack" ({ cls := "NailedByWord$Tells", name := "frees", desc := "(I)I" } : Jvm.MethodName) ({ cls := "NailedByWord$Body", name := "frees", desc := "(I)I" } : Jvm.MethodName)) ∈ lw_all := lw_g (lw_at lw_m5 176 rfl) rfl
theorem q1249 : (Jvm.Cond.unhidden "NailedByWord$ChildTack" "frees" "(I)I") ∈ lw_tbl := lw_at lw_m5 177 rfl
theorem q1314 : (Jvm.Cond.selects "NailedByWord$ChildTack" ({ cls := "NailedByWord$Body", name := "isUnder", desc := "(I)Z" } : Jvm.MethodName) ({ cls := "NailedByWord$ChildTack", name := "isUnder", desc := "(I)Z" } : Jvm.MethodName)) ∈ lw_all := lw_g (lw_at lw_m6 2 rfl) rfl
theorem q1315 : (Jvm.Cond.instanceMethod ({ cls := "NailedByWord$ChildTack", name := "isUnder", desc := "(I)Z" } : Jvm.MethodName)) ∈ lw_all := lw_g (lw_at lw_m6 3 rfl) rfl
theorem q1316 : (Jvm.Cond.code ({ cls := "NailedByWord$ChildTack", name := "isUnder", desc := "(I)Z" } : Jvm.MethodName) prog_5_method_3_code (2 : Nat) (Option.some Jvm.ClassFile.FieldType.boolean)) ∈ lw_all := lw_g (lw_at lw_m6 4 rfl) rfl
theorem q1317 : (Jvm.Cond.methodLink "NailedByWord$ChildTack" (15 : Nat) ({ cls := "NailedByWord$PittTack", name := "isUnder", desc := "(I)Z" } : Jvm.MethodName)) ∈ lw_all := lw_g (lw_at lw_m6 5 rfl) rfl
theorem q1347 : (Jvm.Cond.selects "NailedByWord$ChildTack" ({ cls := "NailedByWord$Body", name := "kind", desc := "()I" } : Jvm.MethodName) ({ cls := "NailedByWord$ChildTack", name := "kind", desc := "()I" } : Jvm.MethodName)) ∈ lw_all := lw_g (lw_at lw_m6 35 rfl) rfl
theorem q1348 : (Jvm.Cond.instanceMethod ({ cls := "NailedByWord$ChildTack", name := "kind", desc := "()I" } : Jvm.MethodName)) ∈ lw_all := lw_g (lw_at lw_m6 36 rfl) rfl
theorem q1349 : (Jvm.Cond.code ({ cls := "NailedByWord$ChildTack", name := "kind", desc := "()I" } : Jvm.MethodName) prog_5_method_2_code (1 : Nat) (Option.some Jvm.ClassFile.FieldType.int)) ∈ lw_all := lw_g (lw_at lw_m6 37 rfl) rfl
theorem q2067 : (Jvm.Cond.selects "NailedByWord$ChildTack" ({ cls := "NailedByWord$Body", name := "begins", desc := "(I)V" } : Jvm.MethodName) ({ cls := "NailedByWord$Body", name := "begins", desc := "(I)V" } : Jvm.MethodName)) ∈ lw_all := lw_g (lw_at lw_m9 35 rfl) rfl
theorem q2077 : (Jvm.Cond.selects "NailedByWord$ChildTack" ({ cls := "NailedByWord$Body", name := "frees", desc := "(I)I" } : Jvm.MethodName) ({ cls := "NailedByWord$Body", name := "frees", desc := "(I)I" } : Jvm.MethodName)) ∈ lw_all := lw_g (lw_at lw_m9 45 rfl) rfl
theorem q2091 : (Jvm.Cond.castable "NailedByWord$ChildTack" "NailedByWord$Body") ∈ lw_tbl := lw_at lw_m9 59 rfl
theorem q2117 : (Jvm.Cond.castable "NailedByWord$ChildTack" "java/lang/Object") ∈ lw_tbl := lw_at lw_m9 85 rfl
theorem in_X21 : ∀ w ∈ wsX210, w ∈ lw_all := lw_in wsX210 [1034, 1035, 1033, 1031] (by decide +kernel) (by decide +kernel)
/-! NailedByWord$Holds -/
set_option maxRecDepth 100000
def RX22 : String := "NailedByWord$Holds"
abbrev cX22_holds : ByteArray := prog_10_method_3_code
def yX22_holds : MethodName := ⟨RX22, "holds", "(I)I"⟩
def dkwX22_holds_0 : List UInt8 := [42, 4, 185, 0, 1, 2, 0, 27, 42, 185, 0, 7, 1, 0, 96, 172]
abbrev dktX22_holds_0 : List UInt8 := dkwX22_holds_0 ++ []
theorem dksX22_holds_0 : cX22_holds.data.toList.drop 0 = dktX22_holds_0 := by decide +kernel
theorem dX22_holds_0 : decode cX22_holds 0 = .ok (.aload_n 0, 1) := dk_42 (dk_at dksX22_holds_0 0 rfl rfl)
theorem dX22_holds_1 : decode cX22_holds 1 = .ok (.iconst 1, 1) := dk_4 (dk_at dksX22_holds_0 1 rfl rfl)
theorem dX22_holds_2 : decode cX22_holds 2 = .ok (.invokeinterface 1 2, 5) := by decide +kernel
theorem dX22_holds_7 : decode cX22_holds 7 = .ok (.iload_n 1, 1) := dk_27 (dk_at dksX22_holds_0 7 rfl rfl)
theorem dX22_holds_8 : decode cX22_holds 8 = .ok (.aload_n 0, 1) := dk_42 (dk_at dksX22_holds_0 8 rfl rfl)
theorem dX22_holds_9 : decode cX22_holds 9 = .ok (.invokeinterface 7 1, 5) := by decide +kernel
theorem dX22_holds_14 : decode cX22_holds 14 = .ok (.iadd, 1) := dk_96 (dk_at dksX22_holds_0 14 rfl rfl)
theorem dX22_holds_15 : decode cX22_holds 15 = .ok (.ireturn, 1) := dk_172 (dk_at dksX22_holds_0 15 rfl rfl)
theorem q1050 : (Jvm.Cond.declares ({ cls := "NailedByWord$Holds", name := "holds", desc := "(I)I" } : Jvm.MethodName)) ∈ lw_tbl := lw_at lw_m4 218 rfl
theorem q1068 : (Jvm.Cond.instanceMethod ({ cls := "NailedByWord$Holds", name := "holds", desc := "(I)I" } : Jvm.MethodName)) ∈ lw_all := lw_g (lw_at lw_m4 236 rfl) rfl
theorem q1069 : (Jvm.Cond.code ({ cls := "NailedByWord$Holds", name := "holds", desc := "(I)I" } : Jvm.MethodName) prog_10_method_3_code (2 : Nat) (Option.some Jvm.ClassFile.FieldType.int)) ∈ lw_all := lw_g (lw_at lw_m4 237 rfl) rfl
theorem q1070 : (Jvm.Cond.interfaceEntry "NailedByWord$Holds" (1 : Nat)) ∈ lw_tbl := lw_at lw_m4 238 rfl
theorem q1071 : (Jvm.Cond.methodLink "NailedByWord$Holds" (1 : Nat) ({ cls := "NailedByWord$Holds", name := "begins", desc := "(I)V" } : Jvm.MethodName)) ∈ lw_all := lw_g (lw_at lw_m4 239 rfl) rfl
theorem q1072 : (Jvm.Cond.interfaceMethod "NailedByWord$Holds" "NailedByWord$Holds" "begins" "(I)V") ∈ lw_tbl := lw_at lw_m5 0 rfl
theorem q1073 : (Jvm.Cond.declares ({ cls := "NailedByWord$Holds", name := "begins", desc := "(I)V" } : Jvm.MethodName)) ∈ lw_tbl := lw_at lw_m5 1 rfl
theorem q1099 : (Jvm.Cond.interfaceEntry "NailedByWord$Holds" (7 : Nat)) ∈ lw_tbl := lw_at lw_m5 27 rfl
theorem q1100 : (Jvm.Cond.methodLink "NailedByWord$Holds" (7 : Nat) ({ cls := "NailedByWord$Holds", name := "number", desc := "()I" } : Jvm.MethodName)) ∈ lw_all := lw_g (lw_at lw_m5 28 rfl) rfl
theorem q1101 : (Jvm.Cond.interfaceMethod "NailedByWord$Holds" "NailedByWord$Holds" "number" "()I") ∈ lw_tbl := lw_at lw_m5 29 rfl
theorem q1102 : (Jvm.Cond.declares ({ cls := "NailedByWord$Holds", name := "number", desc := "()I" } : Jvm.MethodName)) ∈ lw_tbl := lw_at lw_m5 30 rfl
theorem q1134 : (Jvm.Cond.publicMethod ({ cls := "NailedByWord$Holds", name := "holds", desc := "(I)I" } : Jvm.MethodName)) ∈ lw_tbl := lw_at lw_m5 62 rfl
theorem q2089 : (Jvm.Cond.initialized "NailedByWord$Holds") ∈ lw_all := lw_g (lw_at lw_m9 57 rfl) rfl
/-! NailedByWord$Tells -/
set_option maxRecDepth 100000
def RX23 : String := "NailedByWord$Tells"
abbrev cX23_tells : ByteArray := prog_20_method_4_code
def yX23_tells : MethodName := ⟨RX23, "tells", "(I)I"⟩
def dkwX23_tells_1 : List UInt8 := [172]
abbrev dktX23_tells_1 : List UInt8 := dkwX23_tells_1 ++ []
def dkwX23_tells_0 : List UInt8 := [42, 5, 185, 0, 1, 2, 0, 42, 27, 185, 0, 7, 2, 0, 61, 28, 42, 4, 185, 0, 11, 2, 0, 100]
abbrev dktX23_tells_0 : List UInt8 := dkwX23_tells_0 ++ dktX23_tells_1
theorem dksX23_tells_0 : cX23_tells.data.toList.drop 0 = dktX23_tells_0 := by decide +kernel
theorem dksX23_tells_1 : cX23_tells.data.toList.drop 24 = dktX23_tells_1 := dk_seg dksX23_tells_0 24 rfl rfl
theorem dX23_tells_0 : decode cX23_tells 0 = .ok (.aload_n 0, 1) := dk_42 (dk_at dksX23_tells_0 0 rfl rfl)
theorem dX23_tells_1 : decode cX23_tells 1 = .ok (.iconst 2, 1) := dk_5 (dk_at dksX23_tells_0 1 rfl rfl)
theorem dX23_tells_2 : decode cX23_tells 2 = .ok (.invokeinterface 1 2, 5) := by decide +kernel
theorem dX23_tells_7 : decode cX23_tells 7 = .ok (.aload_n 0, 1) := dk_42 (dk_at dksX23_tells_0 7 rfl rfl)
theorem dX23_tells_8 : decode cX23_tells 8 = .ok (.iload_n 1, 1) := dk_27 (dk_at dksX23_tells_0 8 rfl rfl)
theorem dX23_tells_9 : decode cX23_tells 9 = .ok (.invokeinterface 7 2, 5) := by decide +kernel
theorem dX23_tells_14 : decode cX23_tells 14 = .ok (.istore_n 2, 1) := dk_61 (dk_at dksX23_tells_0 14 rfl rfl)
theorem dX23_tells_15 : decode cX23_tells 15 = .ok (.iload_n 2, 1) := dk_28 (dk_at dksX23_tells_0 15 rfl rfl)
theorem dX23_tells_16 : decode cX23_tells 16 = .ok (.aload_n 0, 1) := dk_42 (dk_at dksX23_tells_0 16 rfl rfl)
theorem dX23_tells_17 : decode cX23_tells 17 = .ok (.iconst 1, 1) := dk_4 (dk_at dksX23_tells_0 17 rfl rfl)
theorem dX23_tells_18 : decode cX23_tells 18 = .ok (.invokeinterface 11 2, 5) := by decide +kernel
theorem dX23_tells_23 : decode cX23_tells 23 = .ok (.isub, 1) := dk_100 (dk_at dksX23_tells_0 23 rfl rfl)
theorem dX23_tells_24 : decode cX23_tells 24 = .ok (.ireturn, 1) := dk_172 (dk_at dksX23_tells_1 0 rfl rfl)
theorem q1185 : (Jvm.Cond.declares ({ cls := "NailedByWord$Tells", name := "tells", desc := "(I)I" } : Jvm.MethodName)) ∈ lw_tbl := lw_at lw_m5 113 rfl
theorem q1195 : (Jvm.Cond.instanceMethod ({ cls := "NailedByWord$Tells", name := "tells", desc := "(I)I" } : Jvm.MethodName)) ∈ lw_all := lw_g (lw_at lw_m5 123 rfl) rfl
theorem q1196 : (Jvm.Cond.code ({ cls := "NailedByWord$Tells", name := "tells", desc := "(I)I" } : Jvm.MethodName) prog_20_method_4_code (3 : Nat) (Option.some Jvm.ClassFile.FieldType.int)) ∈ lw_all := lw_g (lw_at lw_m5 124 rfl) rfl
theorem q1197 : (Jvm.Cond.interfaceEntry "NailedByWord$Tells" (1 : Nat)) ∈ lw_tbl := lw_at lw_m5 125 rfl
theorem q1198 : (Jvm.Cond.methodLink "NailedByWord$Tells" (1 : Nat) ({ cls := "NailedByWord$Tells", name := "begins", desc := "(I)V" } : Jvm.MethodName)) ∈ lw_all := lw_g (lw_at lw_m5 126 rfl) rfl
theorem q1199 : (Jvm.Cond.interfaceMethod "NailedByWord$Tells" "NailedByWord$Tells" "begins" "(I)V") ∈ lw_tbl := lw_at lw_m5 127 rfl
theorem q1200 : (Jvm.Cond.declares ({ cls := "NailedByWord$Tells", name := "begins", desc := "(I)V" } : Jvm.MethodName)) ∈ lw_tbl := lw_at lw_m5 128 rfl
theorem q1217 : (Jvm.Cond.interfaceEntry "NailedByWord$Tells" (7 : Nat)) ∈ lw_tbl := lw_at lw_m5 145 rfl
theorem q1218 : (Jvm.Cond.methodLink "NailedByWord$Tells" (7 : Nat) ({ cls := "NailedByWord$Tells", name := "pulls", desc := "(I)I" } : Jvm.MethodName)) ∈ lw_all := lw_g (lw_at lw_m5 146 rfl) rfl
theorem q1219 : (Jvm.Cond.interfaceMethod "NailedByWord$Tells" "NailedByWord$Tells" "pulls" "(I)I") ∈ lw_tbl := lw_at lw_m5 147 rfl
theorem q1220 : (Jvm.Cond.declares ({ cls := "NailedByWord$Tells", name := "pulls", desc := "(I)I" } : Jvm.MethodName)) ∈ lw_tbl := lw_at lw_m5 148 rfl
theorem q1241 : (Jvm.Cond.interfaceEntry "NailedByWord$Tells" (11 : Nat)) ∈ lw_tbl := lw_at lw_m5 169 rfl
theorem q1242 : (Jvm.Cond.methodLink "NailedByWord$Tells" (11 : Nat) ({ cls := "NailedByWord$Tells", name := "frees", desc := "(I)I" } : Jvm.MethodName)) ∈ lw_all := lw_g (lw_at lw_m5 170 rfl) rfl
theorem q1243 : (Jvm.Cond.interfaceMethod "NailedByWord$Tells" "NailedByWord$Tells" "frees" "(I)I") ∈ lw_tbl := lw_at lw_m5 171 rfl
theorem q1244 : (Jvm.Cond.declares ({ cls := "NailedByWord$Tells", name := "frees", desc := "(I)I" } : Jvm.MethodName)) ∈ lw_tbl := lw_at lw_m5 172 rfl
theorem q1270 : (Jvm.Cond.publicMethod ({ cls := "NailedByWord$Tells", name := "tells", desc := "(I)I" } : Jvm.MethodName)) ∈ lw_tbl := lw_at lw_m5 198 rfl
theorem q2090 : (Jvm.Cond.initialized "NailedByWord$Tells") ∈ lw_all := lw_g (lw_at lw_m9 58 rfl) rfl
theorem q2127 : (Jvm.Cond.castable "[B" "java/lang/Object") ∈ lw_tbl := lw_at lw_m9 95 rfl
set_option maxRecDepth 100000
theorem q2121 : (Jvm.Cond.castable "[I" "java/lang/Object") ∈ lw_tbl := lw_at lw_m9 89 rfl
set_option maxRecDepth 100000
theorem q2129 : (Jvm.Cond.castable "[J" "java/lang/Object") ∈ lw_tbl := lw_at lw_m9 97 rfl
set_option maxRecDepth 100000
theorem q2124 : (Jvm.Cond.castable "[LNailedByWord$Body;" "java/lang/Object") ∈ lw_tbl := lw_at lw_m9 92 rfl
set_option maxRecDepth 100000
theorem q2120 : (Jvm.Cond.castable "[LNailedByWord$Change;" "java/lang/Object") ∈ lw_tbl := lw_at lw_m9 88 rfl
set_option maxRecDepth 100000
theorem q2126 : (Jvm.Cond.castable "[LNailedByWord$Held;" "java/lang/Object") ∈ lw_tbl := lw_at lw_m9 94 rfl
set_option maxRecDepth 100000
theorem q2122 : (Jvm.Cond.castable "[LNailedByWord$Person;" "java/lang/Object") ∈ lw_tbl := lw_at lw_m9 90 rfl
set_option maxRecDepth 100000
theorem q2123 : (Jvm.Cond.castable "[LNailedByWord$Promise;" "java/lang/Object") ∈ lw_tbl := lw_at lw_m9 91 rfl
set_option maxRecDepth 100000
theorem q2125 : (Jvm.Cond.castable "[Ljava/lang/Object;" "java/lang/Object") ∈ lw_tbl := lw_at lw_m9 93 rfl
set_option maxRecDepth 100000
theorem q2128 : (Jvm.Cond.castable "[S" "java/lang/Object") ∈ lw_tbl := lw_at lw_m9 96 rfl
set_option maxRecDepth 100000
theorem q2130 : (Jvm.Cond.castable "[Z" "java/lang/Object") ∈ lw_tbl := lw_at lw_m9 98 rfl
set_option maxRecDepth 100000
theorem q131 : (Jvm.Cond.initialized "java/lang/System") ∈ lw_all := lw_g (lw_at lw_m1 19 rfl) rfl
set_option maxRecDepth 100000
theorem q864 : (Jvm.Cond.static ({ cls := "java/lang/System", name := "arraycopy", desc := "(Ljava/lang/Object;ILjava/lang/Object;II)V" } : Jvm.MethodName)) ∈ lw_all := lw_g (lw_at lw_m4 32 rfl) rfl
theorem q865 : (Jvm.Cond.native ({ cls := "java/lang/System", name := "arraycopy", desc := "(Ljava/lang/Object;ILjava/lang/Object;II)V" } : Jvm.MethodName)) ∈ lw_all := lw_g (lw_at lw_m4 33 rfl) rfl
theorem q157 : (Jvm.Cond.arrayOver (Jvm.ClassFile.FieldType.object "NailedByWord$Change")) ∈ lw_tbl := lw_at lw_m1 45 rfl
set_option maxRecDepth 100000
theorem q223 : (Jvm.Cond.arrayClass Jvm.ClassFile.FieldType.int) ∈ lw_all := lw_g (lw_at lw_m1 111 rfl) rfl
theorem q225 : (Jvm.Cond.arrayOver (Jvm.ClassFile.FieldType.object "NailedByWord$Person")) ∈ lw_tbl := lw_at lw_m1 113 rfl
theorem q227 : (Jvm.Cond.arrayOver (Jvm.ClassFile.FieldType.object "NailedByWord$Promise")) ∈ lw_tbl := lw_at lw_m1 115 rfl
theorem q258 : (Jvm.Cond.arrayOver (Jvm.ClassFile.FieldType.object "NailedByWord$Body")) ∈ lw_tbl := lw_at lw_m1 146 rfl
theorem q260 : (Jvm.Cond.arrayOver (Jvm.ClassFile.FieldType.object "java/lang/Object")) ∈ lw_tbl := lw_at lw_m1 148 rfl
theorem q479 : (Jvm.Cond.arrayOver (Jvm.ClassFile.FieldType.object "NailedByWord$Held")) ∈ lw_tbl := lw_at lw_m2 127 rfl
theorem q1283 : (Jvm.Cond.arrayClass Jvm.ClassFile.FieldType.byte) ∈ lw_all := lw_g (lw_at lw_m5 211 rfl) rfl
theorem q1284 : (Jvm.Cond.arrayClass Jvm.ClassFile.FieldType.short) ∈ lw_all := lw_g (lw_at lw_m5 212 rfl) rfl
theorem q1285 : (Jvm.Cond.arrayClass Jvm.ClassFile.FieldType.long) ∈ lw_all := lw_g (lw_at lw_m5 213 rfl) rfl
theorem q1286 : (Jvm.Cond.arrayClass Jvm.ClassFile.FieldType.boolean) ∈ lw_all := lw_g (lw_at lw_m5 214 rfl) rfl
