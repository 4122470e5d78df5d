/-! java/lang/Throwable -/
set_option maxRecDepth 100000
def RJ0 : String := "java/lang/Throwable"
def TJ0 : u_T := fun k => match k with
  | 0 => ("java/lang/Throwable", "cause", "Ljava/lang/Throwable;", false)
  | 1 => ("java/lang/Throwable", "stackTrace", "[Ljava/lang/StackTraceElement;", false)
  | 2 => ("java/lang/Throwable", "suppressedExceptions", "Ljava/util/List;", false)
  | 3 => ("java/lang/Throwable", "detailMessage", "Ljava/lang/String;", false)
  | _ => ("java/lang/Throwable", "backtrace", "Ljava/lang/Object;", false)
def tyJ0 : Nat → FieldType := fun k => match k with
  | 0 => .object "java/lang/Throwable"
  | 1 => .array (.object "java/lang/StackTraceElement")
  | 2 => .object "java/util/List"
  | 3 => .object "java/lang/String"
  | _ => .object "java/lang/Object"
abbrev wsJ00 : List Cond := u_ws RJ0 TJ0 5
theorem nmJ0 : ∀ a, a < 5 → ∀ b, b < 5 → a ≠ b → (TJ0 a).2.1 ≠ (TJ0 b).2.1 := by decide +kernel
theorem tyJ0_ok : ∀ k, k < 5 → parseFieldDescriptor (TJ0 k).2.2.1 = some (tyJ0 k) := by decide +kernel
abbrev cJ0_init : ByteArray := prog_33_method_1_code
def yJ0_init : MethodName := ⟨RJ0, "<init>", "()V"⟩
def dkwJ0_init_1 : List UInt8 := [182, 0, 27, 87, 177]
abbrev dktJ0_init_1 : List UInt8 := dkwJ0_init_1 ++ []
def dkwJ0_init_0 : List UInt8 := [42, 183, 0, 1, 42, 42, 181, 0, 7, 42, 178, 0, 13, 181, 0, 17, 42, 178, 0, 20, 181, 0, 24, 42]
abbrev dktJ0_init_0 : List UInt8 := dkwJ0_init_0 ++ dktJ0_init_1
theorem dksJ0_init_0 : cJ0_init.data.toList.drop 0 = dktJ0_init_0 := by decide +kernel
theorem dksJ0_init_1 : cJ0_init.data.toList.drop 24 = dktJ0_init_1 := dk_seg dksJ0_init_0 24 rfl rfl
theorem dJ0_init_0 : decode cJ0_init 0 = .ok (.aload_n 0, 1) := dk_42 (dk_at dksJ0_init_0 0 rfl rfl)
theorem dJ0_init_1 : decode cJ0_init 1 = .ok (.invokespecial 1, 3) := dk_183 0 1 (dk_at dksJ0_init_0 1 rfl rfl)
theorem dJ0_init_4 : decode cJ0_init 4 = .ok (.aload_n 0, 1) := dk_42 (dk_at dksJ0_init_0 4 rfl rfl)
theorem dJ0_init_5 : decode cJ0_init 5 = .ok (.aload_n 0, 1) := dk_42 (dk_at dksJ0_init_0 5 rfl rfl)
theorem dJ0_init_6 : decode cJ0_init 6 = .ok (.putfield 7, 3) := dk_181 0 7 (dk_at dksJ0_init_0 6 rfl rfl)
theorem dJ0_init_9 : decode cJ0_init 9 = .ok (.aload_n 0, 1) := dk_42 (dk_at dksJ0_init_0 9 rfl rfl)
theorem dJ0_init_10 : decode cJ0_init 10 = .ok (.getstatic 13, 3) := dk_178 0 13 (dk_at dksJ0_init_0 10 rfl rfl)
theorem dJ0_init_13 : decode cJ0_init 13 = .ok (.putfield 17, 3) := dk_181 0 17 (dk_at dksJ0_init_0 13 rfl rfl)
theorem dJ0_init_16 : decode cJ0_init 16 = .ok (.aload_n 0, 1) := dk_42 (dk_at dksJ0_init_0 16 rfl rfl)
theorem dJ0_init_17 : decode cJ0_init 17 = .ok (.getstatic 20, 3) := dk_178 0 20 (dk_at dksJ0_init_0 17 rfl rfl)
theorem dJ0_init_20 : decode cJ0_init 20 = .ok (.putfield 24, 3) := dk_181 0 24 (dk_at dksJ0_init_0 20 rfl rfl)
theorem dJ0_init_23 : decode cJ0_init 23 = .ok (.aload_n 0, 1) := dk_42 (dk_at dksJ0_init_0 23 rfl rfl)
theorem dJ0_init_24 : decode cJ0_init 24 = .ok (.invokevirtual 27, 3) := dk_182 0 27 (dk_at dksJ0_init_1 0 rfl rfl)
theorem dJ0_init_27 : decode cJ0_init 27 = .ok (.pop, 1) := dk_87 (dk_at dksJ0_init_1 3 rfl rfl)
theorem dJ0_init_28 : decode cJ0_init 28 = .ok (.return_, 1) := dk_177 (dk_at dksJ0_init_1 4 rfl rfl)
abbrev cJ0_init_2 : ByteArray := prog_33_method_2_code
def yJ0_init_2 : MethodName := ⟨RJ0, "<init>", "(Ljava/lang/String;)V"⟩
def dkwJ0_init_2_1 : List UInt8 := [182, 0, 27, 87, 42, 43, 181, 0, 31, 177]
abbrev dktJ0_init_2_1 : List UInt8 := dkwJ0_init_2_1 ++ []
def dkwJ0_init_2_0 : List UInt8 := [42, 183, 0, 1, 42, 42, 181, 0, 7, 42, 178, 0, 13, 181, 0, 17, 42, 178, 0, 20, 181, 0, 24, 42]
abbrev dktJ0_init_2_0 : List UInt8 := dkwJ0_init_2_0 ++ dktJ0_init_2_1
theorem dksJ0_init_2_0 : cJ0_init_2.data.toList.drop 0 = dktJ0_init_2_0 := by decide +kernel
theorem dksJ0_init_2_1 : cJ0_init_2.data.toList.drop 24 = dktJ0_init_2_1 := dk_seg dksJ0_init_2_0 24 rfl rfl
theorem dJ0_init_2_0 : decode cJ0_init_2 0 = .ok (.aload_n 0, 1) := dk_42 (dk_at dksJ0_init_2_0 0 rfl rfl)
theorem dJ0_init_2_1 : decode cJ0_init_2 1 = .ok (.invokespecial 1, 3) := dk_183 0 1 (dk_at dksJ0_init_2_0 1 rfl rfl)
theorem dJ0_init_2_4 : decode cJ0_init_2 4 = .ok (.aload_n 0, 1) := dk_42 (dk_at dksJ0_init_2_0 4 rfl rfl)
theorem dJ0_init_2_5 : decode cJ0_init_2 5 = .ok (.aload_n 0, 1) := dk_42 (dk_at dksJ0_init_2_0 5 rfl rfl)
theorem dJ0_init_2_6 : decode cJ0_init_2 6 = .ok (.putfield 7, 3) := dk_181 0 7 (dk_at dksJ0_init_2_0 6 rfl rfl)
theorem dJ0_init_2_9 : decode cJ0_init_2 9 = .ok (.aload_n 0, 1) := dk_42 (dk_at dksJ0_init_2_0 9 rfl rfl)
theorem dJ0_init_2_10 : decode cJ0_init_2 10 = .ok (.getstatic 13, 3) := dk_178 0 13 (dk_at dksJ0_init_2_0 10 rfl rfl)
theorem dJ0_init_2_13 : decode cJ0_init_2 13 = .ok (.putfield 17, 3) := dk_181 0 17 (dk_at dksJ0_init_2_0 13 rfl rfl)
theorem dJ0_init_2_16 : decode cJ0_init_2 16 = .ok (.aload_n 0, 1) := dk_42 (dk_at dksJ0_init_2_0 16 rfl rfl)
theorem dJ0_init_2_17 : decode cJ0_init_2 17 = .ok (.getstatic 20, 3) := dk_178 0 20 (dk_at dksJ0_init_2_0 17 rfl rfl)
theorem dJ0_init_2_20 : decode cJ0_init_2 20 = .ok (.putfield 24, 3) := dk_181 0 24 (dk_at dksJ0_init_2_0 20 rfl rfl)
theorem dJ0_init_2_23 : decode cJ0_init_2 23 = .ok (.aload_n 0, 1) := dk_42 (dk_at dksJ0_init_2_0 23 rfl rfl)
theorem dJ0_init_2_24 : decode cJ0_init_2 24 = .ok (.invokevirtual 27, 3) := dk_182 0 27 (dk_at dksJ0_init_2_1 0 rfl rfl)
theorem dJ0_init_2_27 : decode cJ0_init_2 27 = .ok (.pop, 1) := dk_87 (dk_at dksJ0_init_2_1 3 rfl rfl)
theorem dJ0_init_2_28 : decode cJ0_init_2 28 = .ok (.aload_n 0, 1) := dk_42 (dk_at dksJ0_init_2_1 4 rfl rfl)
theorem dJ0_init_2_29 : decode cJ0_init_2 29 = .ok (.aload_n 1, 1) := dk_43 (dk_at dksJ0_init_2_1 5 rfl rfl)
theorem dJ0_init_2_30 : decode cJ0_init_2 30 = .ok (.putfield 31, 3) := dk_181 0 31 (dk_at dksJ0_init_2_1 6 rfl rfl)
theorem dJ0_init_2_33 : decode cJ0_init_2 33 = .ok (.return_, 1) := dk_177 (dk_at dksJ0_init_2_1 9 rfl rfl)
theorem q60 : (Jvm.Cond.initialized "java/lang/Throwable") ∈ lw_all := lw_g (lw_at lw_m1 7 rfl) rfl
theorem q166 : (Jvm.Cond.declares ({ cls := "java/lang/Throwable", name := "<init>", desc := "()V" } : Jvm.MethodName)) ∈ lw_tbl := lw_at lw_m1 113 rfl
theorem q167 : (Jvm.Cond.declares ({ cls := "java/lang/Throwable", name := "<init>", desc := "(Ljava/lang/String;)V" } : Jvm.MethodName)) ∈ lw_tbl := lw_at lw_m1 114 rfl
theorem q171 : (Jvm.Cond.lays "java/lang/Throwable" "java/lang/Throwable" "cause" "Ljava/lang/Throwable;") ∈ lw_all := lw_g (lw_at lw_m1 118 rfl) rfl
theorem q173 : (Jvm.Cond.lays "java/lang/Throwable" "java/lang/Throwable" "stackTrace" "[Ljava/lang/StackTraceElement;") ∈ lw_all := lw_g (lw_at lw_m1 120 rfl) rfl
theorem q175 : (Jvm.Cond.lays "java/lang/Throwable" "java/lang/Throwable" "suppressedExceptions" "Ljava/util/List;") ∈ lw_all := lw_g (lw_at lw_m1 122 rfl) rfl
theorem q177 : (Jvm.Cond.lays "java/lang/Throwable" "java/lang/Throwable" "detailMessage" "Ljava/lang/String;") ∈ lw_all := lw_g (lw_at lw_m1 124 rfl) rfl
theorem q179 : (Jvm.Cond.lays "java/lang/Throwable" "java/lang/Throwable" "backtrace" "Ljava/lang/Object;") ∈ lw_all := lw_g (lw_at lw_m1 126 rfl) rfl
theorem q180 : (Jvm.Cond.fieldLink "java/lang/Throwable" (198 : Nat) "java/lang/Throwable" "backtrace" "Ljava/lang/Object;") ∈ lw_all := lw_g (lw_at lw_m1 127 rfl) rfl
theorem q181 : (Jvm.Cond.superclass "java/lang/Throwable" "java/lang/Object") ∈ lw_all := lw_g (lw_at lw_m1 128 rfl) rfl
theorem q182 : (Jvm.Cond.instanceMethod ({ cls := "java/lang/Throwable", name := "<init>", desc := "()V" } : Jvm.MethodName)) ∈ lw_all := lw_g (lw_at lw_m1 129 rfl) rfl
theorem q183 : (Jvm.Cond.code ({ cls := "java/lang/Throwable", name := "<init>", desc := "()V" } : Jvm.MethodName) prog_33_method_1_code (1 : Nat) (Option.none : Option Jvm.ClassFile.FieldType)) ∈ lw_all := lw_g (lw_at lw_m1 130 rfl) rfl
theorem q184 : (Jvm.Cond.methodLink "java/lang/Throwable" (1 : Nat) ({ cls := "java/lang/Object", name := "<init>", desc := "()V" } : Jvm.MethodName)) ∈ lw_all := lw_g (lw_at lw_m1 131 rfl) rfl
theorem q185 : (Jvm.Cond.fieldLink "java/lang/Throwable" (13 : Nat) "java/lang/Throwable" "UNASSIGNED_STACK" "[Ljava/lang/StackTraceElement;") ∈ lw_all := lw_g (lw_at lw_m1 132 rfl) rfl
theorem q186 : (Jvm.Cond.laysStatic "java/lang/Throwable" "UNASSIGNED_STACK" "[Ljava/lang/StackTraceElement;") ∈ lw_tbl := lw_at lw_m1 133 rfl
theorem q187 : (Jvm.Cond.fieldLink "java/lang/Throwable" (20 : Nat) "java/lang/Throwable" "SUPPRESSED_SENTINEL" "Ljava/util/List;") ∈ lw_all := lw_g (lw_at lw_m1 134 rfl) rfl
theorem q188 : (Jvm.Cond.laysStatic "java/lang/Throwable" "SUPPRESSED_SENTINEL" "Ljava/util/List;") ∈ lw_tbl := lw_at lw_m1 135 rfl
theorem q189 : (Jvm.Cond.methodLink "java/lang/Throwable" (27 : Nat) ({ cls := "java/lang/Throwable", name := "fillInStackTrace", desc := "()Ljava/lang/Throwable;" } : Jvm.MethodName)) ∈ lw_all := lw_g (lw_at lw_m1 136 rfl) rfl
theorem q190 : (Jvm.Cond.instanceMethod ({ cls := "java/lang/Throwable", name := "fillInStackTrace", desc := "()Ljava/lang/Throwable;" } : Jvm.MethodName)) ∈ lw_all := lw_g (lw_at lw_m1 137 rfl) rfl
theorem q191 : (Jvm.Cond.sameMethod "java/lang/Throwable" "java/lang/Throwable" "fillInStackTrace" "()Ljava/lang/Throwable;") ∈ lw_all := lw_g (lw_at lw_m1 138 rfl) rfl
theorem q208 : (Jvm.Cond.declares ({ cls := "java/lang/Throwable", name := "fillInStackTrace", desc := "()Ljava/lang/Throwable;" } : Jvm.MethodName)) ∈ lw_tbl := lw_at lw_m1 155 rfl
theorem q212 : (Jvm.Cond.codeSync ({ cls := "java/lang/Throwable", name := "fillInStackTrace", desc := "()Ljava/lang/Throwable;" } : Jvm.MethodName) prog_33_method_18_code (1 : Nat) (Option.some (Jvm.ClassFile.FieldType.object "java/lang/Throwable"))) ∈ lw_all := lw_g (lw_at lw_m1 159 rfl) rfl
theorem q213 : (Jvm.Cond.methodLink "java/lang/Throwable" (202 : Nat) ({ cls := "java/lang/Throwable", name := "fillInStackTrace", desc := "(I)Ljava/lang/Throwable;" } : Jvm.MethodName)) ∈ lw_all := lw_g (lw_at lw_m1 160 rfl) rfl
theorem q214 : (Jvm.Cond.privateMethod ({ cls := "java/lang/Throwable", name := "fillInStackTrace", desc := "(I)Ljava/lang/Throwable;" } : Jvm.MethodName)) ∈ lw_tbl := lw_at lw_m1 161 rfl
theorem q215 : (Jvm.Cond.instanceMethod ({ cls := "java/lang/Throwable", name := "fillInStackTrace", desc := "(I)Ljava/lang/Throwable;" } : Jvm.MethodName)) ∈ lw_all := lw_g (lw_at lw_m1 162 rfl) rfl
theorem q216 : (Jvm.Cond.instantiable "java/lang/Throwable" (6 : Nat)) ∈ lw_all := lw_g (lw_at lw_m1 163 rfl) rfl
theorem q217 : (Jvm.Cond.native ({ cls := "java/lang/Throwable", name := "fillInStackTrace", desc := "(I)Ljava/lang/Throwable;" } : Jvm.MethodName)) ∈ lw_all := lw_g (lw_at lw_m1 164 rfl) rfl
theorem q232 : (Jvm.Cond.fieldLink "java/lang/Throwable" (198 : Nat) "java/lang/Throwable" "backtrace" "Ljava/lang/Object;") ∈ lw_all := lw_g (lw_at lw_m1 179 rfl) rfl
theorem q233 : (Jvm.Cond.fieldLink "java/lang/Throwable" (31 : Nat) "java/lang/Throwable" "detailMessage" "Ljava/lang/String;") ∈ lw_all := lw_g (lw_at lw_m1 180 rfl) rfl
theorem q234 : (Jvm.Cond.fieldLink "java/lang/Throwable" (7 : Nat) "java/lang/Throwable" "cause" "Ljava/lang/Throwable;") ∈ lw_all := lw_g (lw_at lw_m1 181 rfl) rfl
theorem q235 : (Jvm.Cond.fieldLink "java/lang/Throwable" (17 : Nat) "java/lang/Throwable" "stackTrace" "[Ljava/lang/StackTraceElement;") ∈ lw_all := lw_g (lw_at lw_m1 182 rfl) rfl
theorem q236 : (Jvm.Cond.fieldLink "java/lang/Throwable" (24 : Nat) "java/lang/Throwable" "suppressedExceptions" "Ljava/util/List;") ∈ lw_all := lw_g (lw_at lw_m1 183 rfl) rfl
theorem q241 : (Jvm.Cond.soleField "java/lang/Throwable" "backtrace") ∈ lw_all := lw_g (lw_at lw_m1 188 rfl) rfl
theorem q242 : (Jvm.Cond.soleField "java/lang/Throwable" "detailMessage") ∈ lw_all := lw_g (lw_at lw_m1 189 rfl) rfl
theorem q243 : (Jvm.Cond.soleField "java/lang/Throwable" "cause") ∈ lw_all := lw_g (lw_at lw_m1 190 rfl) rfl
theorem q244 : (Jvm.Cond.soleField "java/lang/Throwable" "stackTrace") ∈ lw_all := lw_g (lw_at lw_m1 191 rfl) rfl
theorem q246 : (Jvm.Cond.soleField "java/lang/Throwable" "depth") ∈ lw_all := lw_g (lw_at lw_m1 193 rfl) rfl
theorem q247 : (Jvm.Cond.soleField "java/lang/Throwable" "suppressedExceptions") ∈ lw_all := lw_g (lw_at lw_m1 194 rfl) rfl
theorem q853 : (Jvm.Cond.instanceMethod ({ cls := "java/lang/Throwable", name := "<init>", desc := "(Ljava/lang/String;)V" } : Jvm.MethodName)) ∈ lw_all := lw_g (lw_at lw_m4 80 rfl) rfl
theorem q854 : (Jvm.Cond.code ({ cls := "java/lang/Throwable", name := "<init>", desc := "(Ljava/lang/String;)V" } : Jvm.MethodName) prog_33_method_2_code (2 : Nat) (Option.none : Option Jvm.ClassFile.FieldType)) ∈ lw_all := lw_g (lw_at lw_m4 81 rfl) rfl
theorem q1563 : (Jvm.Cond.sameMethod "java/lang/Throwable" "java/lang/Throwable" "fillInStackTrace" "(I)Ljava/lang/Throwable;") ∈ lw_all := lw_g (lw_at lw_m7 70 rfl) rfl
theorem in_J0 : ∀ w ∈ wsJ00, w ∈ lw_all := lw_in wsJ00 [171, 173, 175, 177, 179] (by decide +kernel) (by decide +kernel)

/-! java/lang/Exception -/
set_option maxRecDepth 100000
def RJ1 : String := "java/lang/Exception"
abbrev cJ1_init : ByteArray := prog_24_method_1_code
def yJ1_init : MethodName := ⟨RJ1, "<init>", "()V"⟩
theorem dJ1_init_0 : decode cJ1_init 0 = .ok (.aload_n 0, 1) := by decide +kernel
theorem dJ1_init_1 : decode cJ1_init 1 = .ok (.invokespecial 1, 3) := by decide +kernel
theorem dJ1_init_4 : decode cJ1_init 4 = .ok (.return_, 1) := by decide +kernel
abbrev cJ1_init_2 : ByteArray := prog_24_method_2_code
def yJ1_init_2 : MethodName := ⟨RJ1, "<init>", "(Ljava/lang/String;)V"⟩
def dkwJ1_init_2_0 : List UInt8 := [42, 43, 183, 0, 7, 177]
abbrev dktJ1_init_2_0 : List UInt8 := dkwJ1_init_2_0 ++ []
theorem dksJ1_init_2_0 : cJ1_init_2.data.toList.drop 0 = dktJ1_init_2_0 := by decide +kernel
theorem dJ1_init_2_0 : decode cJ1_init_2 0 = .ok (.aload_n 0, 1) := dk_42 (dk_at dksJ1_init_2_0 0 rfl rfl)
theorem dJ1_init_2_1 : decode cJ1_init_2 1 = .ok (.aload_n 1, 1) := dk_43 (dk_at dksJ1_init_2_0 1 rfl rfl)
theorem dJ1_init_2_2 : decode cJ1_init_2 2 = .ok (.invokespecial 7, 3) := dk_183 0 7 (dk_at dksJ1_init_2_0 2 rfl rfl)
theorem dJ1_init_2_5 : decode cJ1_init_2 5 = .ok (.return_, 1) := dk_177 (dk_at dksJ1_init_2_0 5 rfl rfl)
theorem q61 : (Jvm.Cond.initialized "java/lang/Exception") ∈ lw_all := lw_g (lw_at lw_m1 8 rfl) rfl
theorem q164 : (Jvm.Cond.declares ({ cls := "java/lang/Exception", name := "<init>", desc := "()V" } : Jvm.MethodName)) ∈ lw_tbl := lw_at lw_m1 111 rfl
theorem q165 : (Jvm.Cond.declares ({ cls := "java/lang/Exception", name := "<init>", desc := "(Ljava/lang/String;)V" } : Jvm.MethodName)) ∈ lw_tbl := lw_at lw_m1 112 rfl
theorem q211 : (Jvm.Cond.superclass "java/lang/Exception" "java/lang/Throwable") ∈ lw_all := lw_g (lw_at lw_m1 158 rfl) rfl
theorem q225 : (Jvm.Cond.instanceMethod ({ cls := "java/lang/Exception", name := "<init>", desc := "()V" } : Jvm.MethodName)) ∈ lw_all := lw_g (lw_at lw_m1 172 rfl) rfl
theorem q226 : (Jvm.Cond.code ({ cls := "java/lang/Exception", name := "<init>", desc := "()V" } : Jvm.MethodName) prog_24_method_1_code (1 : Nat) (Option.none : Option Jvm.ClassFile.FieldType)) ∈ lw_all := lw_g (lw_at lw_m1 173 rfl) rfl
theorem q227 : (Jvm.Cond.methodLink "java/lang/Exception" (1 : Nat) ({ cls := "java/lang/Throwable", name := "<init>", desc := "()V" } : Jvm.MethodName)) ∈ lw_all := lw_g (lw_at lw_m1 174 rfl) rfl
theorem q850 : (Jvm.Cond.instanceMethod ({ cls := "java/lang/Exception", name := "<init>", desc := "(Ljava/lang/String;)V" } : Jvm.MethodName)) ∈ lw_all := lw_g (lw_at lw_m4 77 rfl) rfl
theorem q851 : (Jvm.Cond.code ({ cls := "java/lang/Exception", name := "<init>", desc := "(Ljava/lang/String;)V" } : Jvm.MethodName) prog_24_method_2_code (2 : Nat) (Option.none : Option Jvm.ClassFile.FieldType)) ∈ lw_all := lw_g (lw_at lw_m4 78 rfl) rfl
theorem q852 : (Jvm.Cond.methodLink "java/lang/Exception" (7 : Nat) ({ cls := "java/lang/Throwable", name := "<init>", desc := "(Ljava/lang/String;)V" } : Jvm.MethodName)) ∈ lw_all := lw_g (lw_at lw_m4 79 rfl) rfl

/-! java/lang/IllegalStateException -/
set_option maxRecDepth 100000
def RJ10 : String := "java/lang/IllegalStateException"
def TJ10 : u_T := fun k => match k with
  | 0 => ("java/lang/Throwable", "cause", "Ljava/lang/Throwable;", false)
  | 1 => ("java/lang/Throwable", "stackTrace", "[Ljava/lang/StackTraceElement;", false)
  | 2 => ("java/lang/Throwable", "suppressedExceptions", "Ljava/util/List;", false)
  | 3 => ("java/lang/Throwable", "detailMessage", "Ljava/lang/String;", false)
  | 4 => ("java/lang/Throwable", "backtrace", "Ljava/lang/Object;", false)
  | _ => ("java/lang/Throwable", "depth", "I", false)
def tyJ10 : Nat → FieldType := fun k => match k with
  | 0 => .object "java/lang/Throwable"
  | 1 => .array (.object "java/lang/StackTraceElement")
  | 2 => .object "java/util/List"
  | 3 => .object "java/lang/String"
  | 4 => .object "java/lang/Object"
  | _ => .int
abbrev wsJ100 : List Cond := u_ws RJ10 TJ10 6
theorem nmJ10 : ∀ a, a < 6 → ∀ b, b < 6 → a ≠ b → (TJ10 a).2.1 ≠ (TJ10 b).2.1 := by decide +kernel
theorem tyJ10_ok : ∀ k, k < 6 → parseFieldDescriptor (TJ10 k).2.2.1 = some (tyJ10 k) := by decide +kernel
abbrev cJ10_init : ByteArray := prog_26_method_1_code
def yJ10_init : MethodName := ⟨RJ10, "<init>", "()V"⟩
theorem dJ10_init_0 : decode cJ10_init 0 = .ok (.aload_n 0, 1) := by decide +kernel
theorem dJ10_init_1 : decode cJ10_init 1 = .ok (.invokespecial 1, 3) := by decide +kernel
theorem dJ10_init_4 : decode cJ10_init 4 = .ok (.return_, 1) := by decide +kernel
theorem q79 : (Jvm.Cond.initialized "java/lang/IllegalStateException") ∈ lw_all := lw_g (lw_at lw_m1 26 rfl) rfl
theorem q196 : (Jvm.Cond.selects "java/lang/IllegalStateException" ({ cls := "java/lang/Throwable", name := "fillInStackTrace", desc := "()Ljava/lang/Throwable;" } : Jvm.MethodName) ({ cls := "java/lang/Throwable", name := "fillInStackTrace", desc := "()Ljava/lang/Throwable;" } : Jvm.MethodName)) ∈ lw_all := lw_g (lw_at lw_m1 143 rfl) rfl
theorem q1052 : (Jvm.Cond.instantiable "java/lang/IllegalStateException" (6 : Nat)) ∈ lw_all := lw_g (lw_at lw_m5 39 rfl) rfl
theorem q1053 : (Jvm.Cond.castable "java/lang/IllegalStateException" "java/lang/IllegalStateException") ∈ lw_tbl := lw_at lw_m5 40 rfl
theorem q1054 : (Jvm.Cond.selects "java/lang/IllegalStateException" ({ cls := "java/lang/Throwable", name := "fillInStackTrace", desc := "(I)Ljava/lang/Throwable;" } : Jvm.MethodName) ({ cls := "java/lang/Throwable", name := "fillInStackTrace", desc := "(I)Ljava/lang/Throwable;" } : Jvm.MethodName)) ∈ lw_all := lw_g (lw_at lw_m5 41 rfl) rfl
theorem q1055 : (Jvm.Cond.lays "java/lang/IllegalStateException" "java/lang/Throwable" "cause" "Ljava/lang/Throwable;") ∈ lw_all := lw_g (lw_at lw_m5 42 rfl) rfl
theorem q1056 : (Jvm.Cond.lays "java/lang/IllegalStateException" "java/lang/Throwable" "stackTrace" "[Ljava/lang/StackTraceElement;") ∈ lw_all := lw_g (lw_at lw_m5 43 rfl) rfl
theorem q1057 : (Jvm.Cond.lays "java/lang/IllegalStateException" "java/lang/Throwable" "suppressedExceptions" "Ljava/util/List;") ∈ lw_all := lw_g (lw_at lw_m5 44 rfl) rfl
theorem q1058 : (Jvm.Cond.lays "java/lang/IllegalStateException" "java/lang/Throwable" "detailMessage" "Ljava/lang/String;") ∈ lw_all := lw_g (lw_at lw_m5 45 rfl) rfl
theorem q1059 : (Jvm.Cond.lays "java/lang/IllegalStateException" "java/lang/Throwable" "backtrace" "Ljava/lang/Object;") ∈ lw_all := lw_g (lw_at lw_m5 46 rfl) rfl
theorem q1061 : (Jvm.Cond.instanceMethod ({ cls := "java/lang/IllegalStateException", name := "<init>", desc := "()V" } : Jvm.MethodName)) ∈ lw_all := lw_g (lw_at lw_m5 48 rfl) rfl
theorem q1062 : (Jvm.Cond.code ({ cls := "java/lang/IllegalStateException", name := "<init>", desc := "()V" } : Jvm.MethodName) prog_26_method_1_code (1 : Nat) (Option.none : Option Jvm.ClassFile.FieldType)) ∈ lw_all := lw_g (lw_at lw_m5 49 rfl) rfl
theorem q1063 : (Jvm.Cond.methodLink "java/lang/IllegalStateException" (1 : Nat) ({ cls := "java/lang/RuntimeException", name := "<init>", desc := "()V" } : Jvm.MethodName)) ∈ lw_all := lw_g (lw_at lw_m5 50 rfl) rfl
theorem q1064 : (Jvm.Cond.lays "java/lang/IllegalStateException" "java/lang/Throwable" "depth" "I") ∈ lw_all := lw_g (lw_at lw_m5 51 rfl) rfl
theorem q1065 : (Jvm.Cond.superclass "java/lang/IllegalStateException" "java/lang/RuntimeException") ∈ lw_all := lw_g (lw_at lw_m5 52 rfl) rfl
theorem in_J10 : ∀ w ∈ wsJ100, w ∈ lw_all := lw_in wsJ100 [1055, 1056, 1057, 1058, 1059, 1064] (by decide +kernel) (by decide +kernel)

/-! java/lang/Object -/
set_option maxRecDepth 100000
def RJ11 : String := "java/lang/Object"
abbrev cJ11_init : ByteArray := object_method_1_code
def yJ11_init : MethodName := ⟨RJ11, "<init>", "()V"⟩
theorem dJ11_init_0 : decode cJ11_init 0 = .ok (.return_, 1) := by decide +kernel
theorem q106 : (Jvm.Cond.instanceMethod ({ cls := "java/lang/Object", name := "<init>", desc := "()V" } : Jvm.MethodName)) ∈ lw_all := lw_g (lw_at lw_m1 53 rfl) rfl
theorem q107 : (Jvm.Cond.code ({ cls := "java/lang/Object", name := "<init>", desc := "()V" } : Jvm.MethodName) object_method_1_code (1 : Nat) (Option.none : Option Jvm.ClassFile.FieldType)) ∈ lw_all := lw_g (lw_at lw_m1 54 rfl) rfl

/-! java/lang/RuntimeException -/
set_option maxRecDepth 100000
def RJ2 : String := "java/lang/RuntimeException"
abbrev cJ2_init : ByteArray := prog_30_method_1_code
def yJ2_init : MethodName := ⟨RJ2, "<init>", "()V"⟩
theorem dJ2_init_0 : decode cJ2_init 0 = .ok (.aload_n 0, 1) := by decide +kernel
theorem dJ2_init_1 : decode cJ2_init 1 = .ok (.invokespecial 1, 3) := by decide +kernel
theorem dJ2_init_4 : decode cJ2_init 4 = .ok (.return_, 1) := by decide +kernel
abbrev cJ2_init_2 : ByteArray := prog_30_method_2_code
def yJ2_init_2 : MethodName := ⟨RJ2, "<init>", "(Ljava/lang/String;)V"⟩
def dkwJ2_init_2_0 : List UInt8 := [42, 43, 183, 0, 7, 177]
abbrev dktJ2_init_2_0 : List UInt8 := dkwJ2_init_2_0 ++ []
theorem dksJ2_init_2_0 : cJ2_init_2.data.toList.drop 0 = dktJ2_init_2_0 := by decide +kernel
theorem dJ2_init_2_0 : decode cJ2_init_2 0 = .ok (.aload_n 0, 1) := dk_42 (dk_at dksJ2_init_2_0 0 rfl rfl)
theorem dJ2_init_2_1 : decode cJ2_init_2 1 = .ok (.aload_n 1, 1) := dk_43 (dk_at dksJ2_init_2_0 1 rfl rfl)
theorem dJ2_init_2_2 : decode cJ2_init_2 2 = .ok (.invokespecial 7, 3) := dk_183 0 7 (dk_at dksJ2_init_2_0 2 rfl rfl)
theorem dJ2_init_2_5 : decode cJ2_init_2 5 = .ok (.return_, 1) := dk_177 (dk_at dksJ2_init_2_0 5 rfl rfl)
theorem q62 : (Jvm.Cond.initialized "java/lang/RuntimeException") ∈ lw_all := lw_g (lw_at lw_m1 9 rfl) rfl
theorem q162 : (Jvm.Cond.declares ({ cls := "java/lang/RuntimeException", name := "<init>", desc := "()V" } : Jvm.MethodName)) ∈ lw_tbl := lw_at lw_m1 109 rfl
theorem q163 : (Jvm.Cond.declares ({ cls := "java/lang/RuntimeException", name := "<init>", desc := "(Ljava/lang/String;)V" } : Jvm.MethodName)) ∈ lw_tbl := lw_at lw_m1 110 rfl
theorem q207 : (Jvm.Cond.sameMethod "java/lang/RuntimeException" "java/lang/Throwable" "fillInStackTrace" "()Ljava/lang/Throwable;") ∈ lw_all := lw_g (lw_at lw_m1 154 rfl) rfl
theorem q210 : (Jvm.Cond.superclass "java/lang/RuntimeException" "java/lang/Exception") ∈ lw_all := lw_g (lw_at lw_m1 157 rfl) rfl
theorem q222 : (Jvm.Cond.instanceMethod ({ cls := "java/lang/RuntimeException", name := "<init>", desc := "()V" } : Jvm.MethodName)) ∈ lw_all := lw_g (lw_at lw_m1 169 rfl) rfl
theorem q223 : (Jvm.Cond.code ({ cls := "java/lang/RuntimeException", name := "<init>", desc := "()V" } : Jvm.MethodName) prog_30_method_1_code (1 : Nat) (Option.none : Option Jvm.ClassFile.FieldType)) ∈ lw_all := lw_g (lw_at lw_m1 170 rfl) rfl
theorem q224 : (Jvm.Cond.methodLink "java/lang/RuntimeException" (1 : Nat) ({ cls := "java/lang/Exception", name := "<init>", desc := "()V" } : Jvm.MethodName)) ∈ lw_all := lw_g (lw_at lw_m1 171 rfl) rfl
theorem q847 : (Jvm.Cond.instanceMethod ({ cls := "java/lang/RuntimeException", name := "<init>", desc := "(Ljava/lang/String;)V" } : Jvm.MethodName)) ∈ lw_all := lw_g (lw_at lw_m4 74 rfl) rfl
theorem q848 : (Jvm.Cond.code ({ cls := "java/lang/RuntimeException", name := "<init>", desc := "(Ljava/lang/String;)V" } : Jvm.MethodName) prog_30_method_2_code (2 : Nat) (Option.none : Option Jvm.ClassFile.FieldType)) ∈ lw_all := lw_g (lw_at lw_m4 75 rfl) rfl
theorem q849 : (Jvm.Cond.methodLink "java/lang/RuntimeException" (7 : Nat) ({ cls := "java/lang/Exception", name := "<init>", desc := "(Ljava/lang/String;)V" } : Jvm.MethodName)) ∈ lw_all := lw_g (lw_at lw_m4 76 rfl) rfl
theorem q936 : (Jvm.Cond.castable "java/lang/RuntimeException" "java/lang/Throwable") ∈ lw_tbl := lw_at lw_m4 163 rfl

/-! java/lang/NegativeArraySizeException -/
set_option maxRecDepth 100000
def RJ3 : String := "java/lang/NegativeArraySizeException"
def TJ3 : u_T := fun k => match k with
  | 0 => ("java/lang/Throwable", "backtrace", "Ljava/lang/Object;", false)
  | 1 => ("java/lang/Throwable", "detailMessage", "Ljava/lang/String;", false)
  | 2 => ("java/lang/Throwable", "cause", "Ljava/lang/Throwable;", false)
  | 3 => ("java/lang/Throwable", "stackTrace", "[Ljava/lang/StackTraceElement;", false)
  | 4 => ("java/lang/Throwable", "depth", "I", false)
  | _ => ("java/lang/Throwable", "suppressedExceptions", "Ljava/util/List;", false)
def tyJ3 : Nat → FieldType := fun k => match k with
  | 0 => .object "java/lang/Object"
  | 1 => .object "java/lang/String"
  | 2 => .object "java/lang/Throwable"
  | 3 => .array (.object "java/lang/StackTraceElement")
  | 4 => .int
  | _ => .object "java/util/List"
abbrev wsJ30 : List Cond := u_ws RJ3 TJ3 6
theorem nmJ3 : ∀ a, a < 6 → ∀ b, b < 6 → a ≠ b → (TJ3 a).2.1 ≠ (TJ3 b).2.1 := by decide +kernel
theorem tyJ3_ok : ∀ k, k < 6 → parseFieldDescriptor (TJ3 k).2.2.1 = some (tyJ3 k) := by decide +kernel
abbrev cJ3_init : ByteArray := prog_28_method_2_code
def yJ3_init : MethodName := ⟨RJ3, "<init>", "(Ljava/lang/String;)V"⟩
def dkwJ3_init_0 : List UInt8 := [42, 43, 183, 0, 7, 177]
abbrev dktJ3_init_0 : List UInt8 := dkwJ3_init_0 ++ []
theorem dksJ3_init_0 : cJ3_init.data.toList.drop 0 = dktJ3_init_0 := by decide +kernel
theorem dJ3_init_0 : decode cJ3_init 0 = .ok (.aload_n 0, 1) := dk_42 (dk_at dksJ3_init_0 0 rfl rfl)
theorem dJ3_init_1 : decode cJ3_init 1 = .ok (.aload_n 1, 1) := dk_43 (dk_at dksJ3_init_0 1 rfl rfl)
theorem dJ3_init_2 : decode cJ3_init 2 = .ok (.invokespecial 7, 3) := dk_183 0 7 (dk_at dksJ3_init_0 2 rfl rfl)
theorem dJ3_init_5 : decode cJ3_init 5 = .ok (.return_, 1) := dk_177 (dk_at dksJ3_init_0 5 rfl rfl)
theorem q72 : (Jvm.Cond.initialized "java/lang/NegativeArraySizeException") ∈ lw_all := lw_g (lw_at lw_m1 19 rfl) rfl
theorem q197 : (Jvm.Cond.selects "java/lang/NegativeArraySizeException" ({ cls := "java/lang/Throwable", name := "fillInStackTrace", desc := "()Ljava/lang/Throwable;" } : Jvm.MethodName) ({ cls := "java/lang/Throwable", name := "fillInStackTrace", desc := "()Ljava/lang/Throwable;" } : Jvm.MethodName)) ∈ lw_all := lw_g (lw_at lw_m1 144 rfl) rfl
theorem q843 : (Jvm.Cond.instantiable "java/lang/NegativeArraySizeException" (6 : Nat)) ∈ lw_all := lw_g (lw_at lw_m4 70 rfl) rfl
theorem q844 : (Jvm.Cond.instanceMethod ({ cls := "java/lang/NegativeArraySizeException", name := "<init>", desc := "(Ljava/lang/String;)V" } : Jvm.MethodName)) ∈ lw_all := lw_g (lw_at lw_m4 71 rfl) rfl
theorem q845 : (Jvm.Cond.code ({ cls := "java/lang/NegativeArraySizeException", name := "<init>", desc := "(Ljava/lang/String;)V" } : Jvm.MethodName) prog_28_method_2_code (2 : Nat) (Option.none : Option Jvm.ClassFile.FieldType)) ∈ lw_all := lw_g (lw_at lw_m4 72 rfl) rfl
theorem q846 : (Jvm.Cond.methodLink "java/lang/NegativeArraySizeException" (7 : Nat) ({ cls := "java/lang/RuntimeException", name := "<init>", desc := "(Ljava/lang/String;)V" } : Jvm.MethodName)) ∈ lw_all := lw_g (lw_at lw_m4 73 rfl) rfl
theorem q855 : (Jvm.Cond.lays "java/lang/NegativeArraySizeException" "java/lang/Throwable" "backtrace" "Ljava/lang/Object;") ∈ lw_all := lw_g (lw_at lw_m4 82 rfl) rfl
theorem q856 : (Jvm.Cond.lays "java/lang/NegativeArraySizeException" "java/lang/Throwable" "detailMessage" "Ljava/lang/String;") ∈ lw_all := lw_g (lw_at lw_m4 83 rfl) rfl
theorem q857 : (Jvm.Cond.lays "java/lang/NegativeArraySizeException" "java/lang/Throwable" "cause" "Ljava/lang/Throwable;") ∈ lw_all := lw_g (lw_at lw_m4 84 rfl) rfl
theorem q858 : (Jvm.Cond.lays "java/lang/NegativeArraySizeException" "java/lang/Throwable" "stackTrace" "[Ljava/lang/StackTraceElement;") ∈ lw_all := lw_g (lw_at lw_m4 85 rfl) rfl
theorem q859 : (Jvm.Cond.lays "java/lang/NegativeArraySizeException" "java/lang/Throwable" "depth" "I") ∈ lw_all := lw_g (lw_at lw_m4 86 rfl) rfl
theorem q860 : (Jvm.Cond.lays "java/lang/NegativeArraySizeException" "java/lang/Throwable" "suppressedExceptions" "Ljava/util/List;") ∈ lw_all := lw_g (lw_at lw_m4 87 rfl) rfl
theorem q861 : (Jvm.Cond.superclass "java/lang/NegativeArraySizeException" "java/lang/RuntimeException") ∈ lw_all := lw_g (lw_at lw_m4 88 rfl) rfl
theorem q862 : (Jvm.Cond.castable "java/lang/NegativeArraySizeException" "java/lang/NegativeArraySizeException") ∈ lw_tbl := lw_at lw_m4 89 rfl
theorem q863 : (Jvm.Cond.selects "java/lang/NegativeArraySizeException" ({ cls := "java/lang/Throwable", name := "fillInStackTrace", desc := "(I)Ljava/lang/Throwable;" } : Jvm.MethodName) ({ cls := "java/lang/Throwable", name := "fillInStackTrace", desc := "(I)Ljava/lang/Throwable;" } : Jvm.MethodName)) ∈ lw_all := lw_g (lw_at lw_m4 90 rfl) rfl
theorem in_J3 : ∀ w ∈ wsJ30, w ∈ lw_all := lw_in wsJ30 [855, 856, 857, 858, 859, 860] (by decide +kernel) (by decide +kernel)

/-! java/lang/String -/
set_option maxRecDepth 100000
def RJ4 : String := "java/lang/String"
def TJ4 : u_T := fun k => match k with
  | 0 => ("java/lang/String", "value", "[B", true)
  | _ => ("java/lang/String", "coder", "B", true)
def tyJ4 : Nat → FieldType := fun k => match k with
  | 0 => .array .byte
  | _ => .byte
abbrev wsJ40 : List Cond := u_ws RJ4 TJ4 2
theorem nmJ4 : ∀ a, a < 2 → ∀ b, b < 2 → a ≠ b → (TJ4 a).2.1 ≠ (TJ4 b).2.1 := by decide +kernel
theorem tyJ4_ok : ∀ k, k < 2 → parseFieldDescriptor (TJ4 k).2.2.1 = some (tyJ4 k) := by decide +kernel
theorem q73 : (Jvm.Cond.initialized "java/lang/String") ∈ lw_all := lw_g (lw_at lw_m1 20 rfl) rfl
theorem q864 : (Jvm.Cond.instantiable "java/lang/String" (4 : Nat)) ∈ lw_all := lw_g (lw_at lw_m4 91 rfl) rfl
theorem q866 : (Jvm.Cond.laysFinal "java/lang/String" "java/lang/String" "value" "[B") ∈ lw_all := lw_g (lw_at lw_m4 93 rfl) rfl
theorem q867 : (Jvm.Cond.soleField "java/lang/String" "value") ∈ lw_all := lw_g (lw_at lw_m4 94 rfl) rfl
theorem q868 : (Jvm.Cond.laysFinal "java/lang/String" "java/lang/String" "coder" "B") ∈ lw_all := lw_g (lw_at lw_m4 95 rfl) rfl
theorem q869 : (Jvm.Cond.soleField "java/lang/String" "coder") ∈ lw_all := lw_g (lw_at lw_m4 96 rfl) rfl
theorem in_J4 : ∀ w ∈ wsJ40, w ∈ lw_all := lw_in wsJ40 [866, 868] (by decide +kernel) (by decide +kernel)

/-! java/lang/ClassCastException -/
set_option maxRecDepth 100000
def RJ5 : String := "java/lang/ClassCastException"
def TJ5 : u_T := fun k => match k with
  | 0 => ("java/lang/Throwable", "backtrace", "Ljava/lang/Object;", false)
  | 1 => ("java/lang/Throwable", "detailMessage", "Ljava/lang/String;", false)
  | 2 => ("java/lang/Throwable", "cause", "Ljava/lang/Throwable;", false)
  | 3 => ("java/lang/Throwable", "stackTrace", "[Ljava/lang/StackTraceElement;", false)
  | 4 => ("java/lang/Throwable", "depth", "I", false)
  | _ => ("java/lang/Throwable", "suppressedExceptions", "Ljava/util/List;", false)
def tyJ5 : Nat → FieldType := fun k => match k with
  | 0 => .object "java/lang/Object"
  | 1 => .object "java/lang/String"
  | 2 => .object "java/lang/Throwable"
  | 3 => .array (.object "java/lang/StackTraceElement")
  | 4 => .int
  | _ => .object "java/util/List"
abbrev wsJ50 : List Cond := u_ws RJ5 TJ5 6
theorem nmJ5 : ∀ a, a < 6 → ∀ b, b < 6 → a ≠ b → (TJ5 a).2.1 ≠ (TJ5 b).2.1 := by decide +kernel
theorem tyJ5_ok : ∀ k, k < 6 → parseFieldDescriptor (TJ5 k).2.2.1 = some (tyJ5 k) := by decide +kernel
abbrev cJ5_init : ByteArray := prog_23_method_2_code
def yJ5_init : MethodName := ⟨RJ5, "<init>", "(Ljava/lang/String;)V"⟩
def dkwJ5_init_0 : List UInt8 := [42, 43, 183, 0, 7, 177]
abbrev dktJ5_init_0 : List UInt8 := dkwJ5_init_0 ++ []
theorem dksJ5_init_0 : cJ5_init.data.toList.drop 0 = dktJ5_init_0 := by decide +kernel
theorem dJ5_init_0 : decode cJ5_init 0 = .ok (.aload_n 0, 1) := dk_42 (dk_at dksJ5_init_0 0 rfl rfl)
theorem dJ5_init_1 : decode cJ5_init 1 = .ok (.aload_n 1, 1) := dk_43 (dk_at dksJ5_init_0 1 rfl rfl)
theorem dJ5_init_2 : decode cJ5_init 2 = .ok (.invokespecial 7, 3) := dk_183 0 7 (dk_at dksJ5_init_0 2 rfl rfl)
theorem dJ5_init_5 : decode cJ5_init 5 = .ok (.return_, 1) := dk_177 (dk_at dksJ5_init_0 5 rfl rfl)
theorem q74 : (Jvm.Cond.initialized "java/lang/ClassCastException") ∈ lw_all := lw_g (lw_at lw_m1 21 rfl) rfl
theorem q194 : (Jvm.Cond.selects "java/lang/ClassCastException" ({ cls := "java/lang/Throwable", name := "fillInStackTrace", desc := "()Ljava/lang/Throwable;" } : Jvm.MethodName) ({ cls := "java/lang/Throwable", name := "fillInStackTrace", desc := "()Ljava/lang/Throwable;" } : Jvm.MethodName)) ∈ lw_all := lw_g (lw_at lw_m1 141 rfl) rfl
theorem q876 : (Jvm.Cond.instantiable "java/lang/ClassCastException" (6 : Nat)) ∈ lw_all := lw_g (lw_at lw_m4 103 rfl) rfl
theorem q877 : (Jvm.Cond.instanceMethod ({ cls := "java/lang/ClassCastException", name := "<init>", desc := "(Ljava/lang/String;)V" } : Jvm.MethodName)) ∈ lw_all := lw_g (lw_at lw_m4 104 rfl) rfl
theorem q878 : (Jvm.Cond.code ({ cls := "java/lang/ClassCastException", name := "<init>", desc := "(Ljava/lang/String;)V" } : Jvm.MethodName) prog_23_method_2_code (2 : Nat) (Option.none : Option Jvm.ClassFile.FieldType)) ∈ lw_all := lw_g (lw_at lw_m4 105 rfl) rfl
theorem q879 : (Jvm.Cond.methodLink "java/lang/ClassCastException" (7 : Nat) ({ cls := "java/lang/RuntimeException", name := "<init>", desc := "(Ljava/lang/String;)V" } : Jvm.MethodName)) ∈ lw_all := lw_g (lw_at lw_m4 106 rfl) rfl
theorem q880 : (Jvm.Cond.lays "java/lang/ClassCastException" "java/lang/Throwable" "backtrace" "Ljava/lang/Object;") ∈ lw_all := lw_g (lw_at lw_m4 107 rfl) rfl
theorem q881 : (Jvm.Cond.lays "java/lang/ClassCastException" "java/lang/Throwable" "detailMessage" "Ljava/lang/String;") ∈ lw_all := lw_g (lw_at lw_m4 108 rfl) rfl
theorem q882 : (Jvm.Cond.lays "java/lang/ClassCastException" "java/lang/Throwable" "cause" "Ljava/lang/Throwable;") ∈ lw_all := lw_g (lw_at lw_m4 109 rfl) rfl
theorem q883 : (Jvm.Cond.lays "java/lang/ClassCastException" "java/lang/Throwable" "stackTrace" "[Ljava/lang/StackTraceElement;") ∈ lw_all := lw_g (lw_at lw_m4 110 rfl) rfl
theorem q884 : (Jvm.Cond.lays "java/lang/ClassCastException" "java/lang/Throwable" "depth" "I") ∈ lw_all := lw_g (lw_at lw_m4 111 rfl) rfl
theorem q885 : (Jvm.Cond.lays "java/lang/ClassCastException" "java/lang/Throwable" "suppressedExceptions" "Ljava/util/List;") ∈ lw_all := lw_g (lw_at lw_m4 112 rfl) rfl
theorem q886 : (Jvm.Cond.superclass "java/lang/ClassCastException" "java/lang/RuntimeException") ∈ lw_all := lw_g (lw_at lw_m4 113 rfl) rfl
theorem q887 : (Jvm.Cond.castable "java/lang/ClassCastException" "java/lang/ClassCastException") ∈ lw_tbl := lw_at lw_m4 114 rfl
theorem q888 : (Jvm.Cond.selects "java/lang/ClassCastException" ({ cls := "java/lang/Throwable", name := "fillInStackTrace", desc := "(I)Ljava/lang/Throwable;" } : Jvm.MethodName) ({ cls := "java/lang/Throwable", name := "fillInStackTrace", desc := "(I)Ljava/lang/Throwable;" } : Jvm.MethodName)) ∈ lw_all := lw_g (lw_at lw_m4 115 rfl) rfl
theorem in_J5 : ∀ w ∈ wsJ50, w ∈ lw_all := lw_in wsJ50 [880, 881, 882, 883, 884, 885] (by decide +kernel) (by decide +kernel)

/-! java/lang/IndexOutOfBoundsException -/
set_option maxRecDepth 100000
def RJ6 : String := "java/lang/IndexOutOfBoundsException"
abbrev cJ6_init : ByteArray := prog_27_method_2_code
def yJ6_init : MethodName := ⟨RJ6, "<init>", "(Ljava/lang/String;)V"⟩
def dkwJ6_init_0 : List UInt8 := [42, 43, 183, 0, 7, 177]
abbrev dktJ6_init_0 : List UInt8 := dkwJ6_init_0 ++ []
theorem dksJ6_init_0 : cJ6_init.data.toList.drop 0 = dktJ6_init_0 := by decide +kernel
theorem dJ6_init_0 : decode cJ6_init 0 = .ok (.aload_n 0, 1) := dk_42 (dk_at dksJ6_init_0 0 rfl rfl)
theorem dJ6_init_1 : decode cJ6_init 1 = .ok (.aload_n 1, 1) := dk_43 (dk_at dksJ6_init_0 1 rfl rfl)
theorem dJ6_init_2 : decode cJ6_init 2 = .ok (.invokespecial 7, 3) := dk_183 0 7 (dk_at dksJ6_init_0 2 rfl rfl)
theorem dJ6_init_5 : decode cJ6_init 5 = .ok (.return_, 1) := dk_177 (dk_at dksJ6_init_0 5 rfl rfl)
theorem q75 : (Jvm.Cond.initialized "java/lang/IndexOutOfBoundsException") ∈ lw_all := lw_g (lw_at lw_m1 22 rfl) rfl
theorem q894 : (Jvm.Cond.instanceMethod ({ cls := "java/lang/IndexOutOfBoundsException", name := "<init>", desc := "(Ljava/lang/String;)V" } : Jvm.MethodName)) ∈ lw_all := lw_g (lw_at lw_m4 121 rfl) rfl
theorem q895 : (Jvm.Cond.code ({ cls := "java/lang/IndexOutOfBoundsException", name := "<init>", desc := "(Ljava/lang/String;)V" } : Jvm.MethodName) prog_27_method_2_code (2 : Nat) (Option.none : Option Jvm.ClassFile.FieldType)) ∈ lw_all := lw_g (lw_at lw_m4 122 rfl) rfl
theorem q896 : (Jvm.Cond.methodLink "java/lang/IndexOutOfBoundsException" (7 : Nat) ({ cls := "java/lang/RuntimeException", name := "<init>", desc := "(Ljava/lang/String;)V" } : Jvm.MethodName)) ∈ lw_all := lw_g (lw_at lw_m4 123 rfl) rfl
theorem q905 : (Jvm.Cond.declares ({ cls := "java/lang/IndexOutOfBoundsException", name := "<init>", desc := "()V" } : Jvm.MethodName)) ∈ lw_tbl := lw_at lw_m4 132 rfl
theorem q906 : (Jvm.Cond.declares ({ cls := "java/lang/IndexOutOfBoundsException", name := "<init>", desc := "(Ljava/lang/String;)V" } : Jvm.MethodName)) ∈ lw_tbl := lw_at lw_m4 133 rfl

/-! java/lang/ArrayIndexOutOfBoundsException -/
set_option maxRecDepth 100000
def RJ7 : String := "java/lang/ArrayIndexOutOfBoundsException"
def TJ7 : u_T := fun k => match k with
  | 0 => ("java/lang/Throwable", "backtrace", "Ljava/lang/Object;", false)
  | 1 => ("java/lang/Throwable", "detailMessage", "Ljava/lang/String;", false)
  | 2 => ("java/lang/Throwable", "cause", "Ljava/lang/Throwable;", false)
  | 3 => ("java/lang/Throwable", "stackTrace", "[Ljava/lang/StackTraceElement;", false)
  | 4 => ("java/lang/Throwable", "depth", "I", false)
  | _ => ("java/lang/Throwable", "suppressedExceptions", "Ljava/util/List;", false)
def tyJ7 : Nat → FieldType := fun k => match k with
  | 0 => .object "java/lang/Object"
  | 1 => .object "java/lang/String"
  | 2 => .object "java/lang/Throwable"
  | 3 => .array (.object "java/lang/StackTraceElement")
  | 4 => .int
  | _ => .object "java/util/List"
abbrev wsJ70 : List Cond := u_ws RJ7 TJ7 6
theorem nmJ7 : ∀ a, a < 6 → ∀ b, b < 6 → a ≠ b → (TJ7 a).2.1 ≠ (TJ7 b).2.1 := by decide +kernel
theorem tyJ7_ok : ∀ k, k < 6 → parseFieldDescriptor (TJ7 k).2.2.1 = some (tyJ7 k) := by decide +kernel
abbrev cJ7_init : ByteArray := prog_22_method_2_code
def yJ7_init : MethodName := ⟨RJ7, "<init>", "(Ljava/lang/String;)V"⟩
def dkwJ7_init_0 : List UInt8 := [42, 43, 183, 0, 7, 177]
abbrev dktJ7_init_0 : List UInt8 := dkwJ7_init_0 ++ []
theorem dksJ7_init_0 : cJ7_init.data.toList.drop 0 = dktJ7_init_0 := by decide +kernel
theorem dJ7_init_0 : decode cJ7_init 0 = .ok (.aload_n 0, 1) := dk_42 (dk_at dksJ7_init_0 0 rfl rfl)
theorem dJ7_init_1 : decode cJ7_init 1 = .ok (.aload_n 1, 1) := dk_43 (dk_at dksJ7_init_0 1 rfl rfl)
theorem dJ7_init_2 : decode cJ7_init 2 = .ok (.invokespecial 7, 3) := dk_183 0 7 (dk_at dksJ7_init_0 2 rfl rfl)
theorem dJ7_init_5 : decode cJ7_init 5 = .ok (.return_, 1) := dk_177 (dk_at dksJ7_init_0 5 rfl rfl)
theorem q76 : (Jvm.Cond.initialized "java/lang/ArrayIndexOutOfBoundsException") ∈ lw_all := lw_g (lw_at lw_m1 23 rfl) rfl
theorem q193 : (Jvm.Cond.selects "java/lang/ArrayIndexOutOfBoundsException" ({ cls := "java/lang/Throwable", name := "fillInStackTrace", desc := "()Ljava/lang/Throwable;" } : Jvm.MethodName) ({ cls := "java/lang/Throwable", name := "fillInStackTrace", desc := "()Ljava/lang/Throwable;" } : Jvm.MethodName)) ∈ lw_all := lw_g (lw_at lw_m1 140 rfl) rfl
theorem q890 : (Jvm.Cond.instantiable "java/lang/ArrayIndexOutOfBoundsException" (6 : Nat)) ∈ lw_all := lw_g (lw_at lw_m4 117 rfl) rfl
theorem q891 : (Jvm.Cond.instanceMethod ({ cls := "java/lang/ArrayIndexOutOfBoundsException", name := "<init>", desc := "(Ljava/lang/String;)V" } : Jvm.MethodName)) ∈ lw_all := lw_g (lw_at lw_m4 118 rfl) rfl
theorem q892 : (Jvm.Cond.code ({ cls := "java/lang/ArrayIndexOutOfBoundsException", name := "<init>", desc := "(Ljava/lang/String;)V" } : Jvm.MethodName) prog_22_method_2_code (2 : Nat) (Option.none : Option Jvm.ClassFile.FieldType)) ∈ lw_all := lw_g (lw_at lw_m4 119 rfl) rfl
theorem q893 : (Jvm.Cond.methodLink "java/lang/ArrayIndexOutOfBoundsException" (7 : Nat) ({ cls := "java/lang/IndexOutOfBoundsException", name := "<init>", desc := "(Ljava/lang/String;)V" } : Jvm.MethodName)) ∈ lw_all := lw_g (lw_at lw_m4 120 rfl) rfl
theorem q897 : (Jvm.Cond.lays "java/lang/ArrayIndexOutOfBoundsException" "java/lang/Throwable" "backtrace" "Ljava/lang/Object;") ∈ lw_all := lw_g (lw_at lw_m4 124 rfl) rfl
theorem q898 : (Jvm.Cond.lays "java/lang/ArrayIndexOutOfBoundsException" "java/lang/Throwable" "detailMessage" "Ljava/lang/String;") ∈ lw_all := lw_g (lw_at lw_m4 125 rfl) rfl
theorem q899 : (Jvm.Cond.lays "java/lang/ArrayIndexOutOfBoundsException" "java/lang/Throwable" "cause" "Ljava/lang/Throwable;") ∈ lw_all := lw_g (lw_at lw_m4 126 rfl) rfl
theorem q900 : (Jvm.Cond.lays "java/lang/ArrayIndexOutOfBoundsException" "java/lang/Throwable" "stackTrace" "[Ljava/lang/StackTraceElement;") ∈ lw_all := lw_g (lw_at lw_m4 127 rfl) rfl
theorem q901 : (Jvm.Cond.lays "java/lang/ArrayIndexOutOfBoundsException" "java/lang/Throwable" "depth" "I") ∈ lw_all := lw_g (lw_at lw_m4 128 rfl) rfl
theorem q902 : (Jvm.Cond.lays "java/lang/ArrayIndexOutOfBoundsException" "java/lang/Throwable" "suppressedExceptions" "Ljava/util/List;") ∈ lw_all := lw_g (lw_at lw_m4 129 rfl) rfl
theorem q903 : (Jvm.Cond.superclass "java/lang/ArrayIndexOutOfBoundsException" "java/lang/IndexOutOfBoundsException") ∈ lw_all := lw_g (lw_at lw_m4 130 rfl) rfl
theorem q904 : (Jvm.Cond.castable "java/lang/ArrayIndexOutOfBoundsException" "java/lang/ArrayIndexOutOfBoundsException") ∈ lw_tbl := lw_at lw_m4 131 rfl
theorem q907 : (Jvm.Cond.selects "java/lang/ArrayIndexOutOfBoundsException" ({ cls := "java/lang/Throwable", name := "fillInStackTrace", desc := "(I)Ljava/lang/Throwable;" } : Jvm.MethodName) ({ cls := "java/lang/Throwable", name := "fillInStackTrace", desc := "(I)Ljava/lang/Throwable;" } : Jvm.MethodName)) ∈ lw_all := lw_g (lw_at lw_m4 134 rfl) rfl
theorem q1574 : (Jvm.Cond.castable "java/lang/ArrayIndexOutOfBoundsException" "java/lang/IndexOutOfBoundsException") ∈ lw_tbl := lw_at lw_m7 81 rfl
theorem in_J7 : ∀ w ∈ wsJ70, w ∈ lw_all := lw_in wsJ70 [897, 898, 899, 900, 901, 902] (by decide +kernel) (by decide +kernel)

/-! java/lang/NullPointerException -/
set_option maxRecDepth 100000
def RJ8 : String := "java/lang/NullPointerException"
def TJ8 : u_T := fun k => match k with
  | 0 => ("java/lang/Throwable", "backtrace", "Ljava/lang/Object;", false)
  | 1 => ("java/lang/Throwable", "detailMessage", "Ljava/lang/String;", false)
  | 2 => ("java/lang/Throwable", "cause", "Ljava/lang/Throwable;", false)
  | 3 => ("java/lang/Throwable", "stackTrace", "[Ljava/lang/StackTraceElement;", false)
  | 4 => ("java/lang/Throwable", "depth", "I", false)
  | 5 => ("java/lang/Throwable", "suppressedExceptions", "Ljava/util/List;", false)
  | 6 => ("java/lang/NullPointerException", "extendedMessageState", "I", false)
  | _ => ("java/lang/NullPointerException", "extendedMessage", "Ljava/lang/String;", false)
def tyJ8 : Nat → FieldType := fun k => match k with
  | 0 => .object "java/lang/Object"
  | 1 => .object "java/lang/String"
  | 2 => .object "java/lang/Throwable"
  | 3 => .array (.object "java/lang/StackTraceElement")
  | 4 => .int
  | 5 => .object "java/util/List"
  | 6 => .int
  | _ => .object "java/lang/String"
abbrev wsJ80 : List Cond := u_ws RJ8 TJ8 8
theorem nmJ8 : ∀ a, a < 8 → ∀ b, b < 8 → a ≠ b → (TJ8 a).2.1 ≠ (TJ8 b).2.1 := by decide +kernel
theorem tyJ8_ok : ∀ k, k < 8 → parseFieldDescriptor (TJ8 k).2.2.1 = some (tyJ8 k) := by decide +kernel
abbrev cJ8_init : ByteArray := prog_29_method_1_code
def yJ8_init : MethodName := ⟨RJ8, "<init>", "()V"⟩
theorem dJ8_init_0 : decode cJ8_init 0 = .ok (.aload_n 0, 1) := by decide +kernel
theorem dJ8_init_1 : decode cJ8_init 1 = .ok (.invokespecial 1, 3) := by decide +kernel
theorem dJ8_init_4 : decode cJ8_init 4 = .ok (.return_, 1) := by decide +kernel
theorem q77 : (Jvm.Cond.initialized "java/lang/NullPointerException") ∈ lw_all := lw_g (lw_at lw_m1 24 rfl) rfl
theorem q198 : (Jvm.Cond.selects "java/lang/NullPointerException" ({ cls := "java/lang/Throwable", name := "fillInStackTrace", desc := "()Ljava/lang/Throwable;" } : Jvm.MethodName) ({ cls := "java/lang/NullPointerException", name := "fillInStackTrace", desc := "()Ljava/lang/Throwable;" } : Jvm.MethodName)) ∈ lw_all := lw_g (lw_at lw_m1 145 rfl) rfl
theorem q199 : (Jvm.Cond.instanceMethod ({ cls := "java/lang/NullPointerException", name := "fillInStackTrace", desc := "()Ljava/lang/Throwable;" } : Jvm.MethodName)) ∈ lw_all := lw_g (lw_at lw_m1 146 rfl) rfl
theorem q200 : (Jvm.Cond.codeSync ({ cls := "java/lang/NullPointerException", name := "fillInStackTrace", desc := "()Ljava/lang/Throwable;" } : Jvm.MethodName) prog_29_method_3_code (1 : Nat) (Option.some (Jvm.ClassFile.FieldType.object "java/lang/Throwable"))) ∈ lw_all := lw_g (lw_at lw_m1 147 rfl) rfl
theorem q201 : (Jvm.Cond.methodLink "java/lang/NullPointerException" (16 : Nat) ({ cls := "java/lang/NullPointerException", name := "getExtendedNPEMessage", desc := "()Ljava/lang/String;" } : Jvm.MethodName)) ∈ lw_all := lw_g (lw_at lw_m1 148 rfl) rfl
theorem q202 : (Jvm.Cond.privateMethod ({ cls := "java/lang/NullPointerException", name := "getExtendedNPEMessage", desc := "()Ljava/lang/String;" } : Jvm.MethodName)) ∈ lw_tbl := lw_at lw_m1 149 rfl
theorem q203 : (Jvm.Cond.instanceMethod ({ cls := "java/lang/NullPointerException", name := "getExtendedNPEMessage", desc := "()Ljava/lang/String;" } : Jvm.MethodName)) ∈ lw_all := lw_g (lw_at lw_m1 150 rfl) rfl
theorem q204 : (Jvm.Cond.instantiable "java/lang/NullPointerException" (8 : Nat)) ∈ lw_all := lw_g (lw_at lw_m1 151 rfl) rfl
theorem q205 : (Jvm.Cond.native ({ cls := "java/lang/NullPointerException", name := "getExtendedNPEMessage", desc := "()Ljava/lang/String;" } : Jvm.MethodName)) ∈ lw_all := lw_g (lw_at lw_m1 152 rfl) rfl
theorem q206 : (Jvm.Cond.methodLink "java/lang/NullPointerException" (24 : Nat) ({ cls := "java/lang/RuntimeException", name := "fillInStackTrace", desc := "()Ljava/lang/Throwable;" } : Jvm.MethodName)) ∈ lw_all := lw_g (lw_at lw_m1 153 rfl) rfl
theorem q209 : (Jvm.Cond.superclass "java/lang/NullPointerException" "java/lang/RuntimeException") ∈ lw_all := lw_g (lw_at lw_m1 156 rfl) rfl
theorem q919 : (Jvm.Cond.instanceMethod ({ cls := "java/lang/NullPointerException", name := "<init>", desc := "()V" } : Jvm.MethodName)) ∈ lw_all := lw_g (lw_at lw_m4 146 rfl) rfl
theorem q920 : (Jvm.Cond.code ({ cls := "java/lang/NullPointerException", name := "<init>", desc := "()V" } : Jvm.MethodName) prog_29_method_1_code (1 : Nat) (Option.none : Option Jvm.ClassFile.FieldType)) ∈ lw_all := lw_g (lw_at lw_m4 147 rfl) rfl
theorem q921 : (Jvm.Cond.methodLink "java/lang/NullPointerException" (1 : Nat) ({ cls := "java/lang/RuntimeException", name := "<init>", desc := "()V" } : Jvm.MethodName)) ∈ lw_all := lw_g (lw_at lw_m4 148 rfl) rfl
theorem q922 : (Jvm.Cond.fieldLink "java/lang/NullPointerException" (10 : Nat) "java/lang/NullPointerException" "extendedMessageState" "I") ∈ lw_all := lw_g (lw_at lw_m4 149 rfl) rfl
theorem q923 : (Jvm.Cond.fieldLink "java/lang/NullPointerException" (20 : Nat) "java/lang/NullPointerException" "extendedMessage" "Ljava/lang/String;") ∈ lw_all := lw_g (lw_at lw_m4 150 rfl) rfl
theorem q924 : (Jvm.Cond.lays "java/lang/NullPointerException" "java/lang/NullPointerException" "extendedMessageState" "I") ∈ lw_all := lw_g (lw_at lw_m4 151 rfl) rfl
theorem q925 : (Jvm.Cond.soleField "java/lang/NullPointerException" "extendedMessageState") ∈ lw_all := lw_g (lw_at lw_m4 152 rfl) rfl
theorem q926 : (Jvm.Cond.lays "java/lang/NullPointerException" "java/lang/NullPointerException" "extendedMessage" "Ljava/lang/String;") ∈ lw_all := lw_g (lw_at lw_m4 153 rfl) rfl
theorem q927 : (Jvm.Cond.soleField "java/lang/NullPointerException" "extendedMessage") ∈ lw_all := lw_g (lw_at lw_m4 154 rfl) rfl
theorem q928 : (Jvm.Cond.lays "java/lang/NullPointerException" "java/lang/Throwable" "backtrace" "Ljava/lang/Object;") ∈ lw_all := lw_g (lw_at lw_m4 155 rfl) rfl
theorem q929 : (Jvm.Cond.lays "java/lang/NullPointerException" "java/lang/Throwable" "detailMessage" "Ljava/lang/String;") ∈ lw_all := lw_g (lw_at lw_m4 156 rfl) rfl
theorem q930 : (Jvm.Cond.lays "java/lang/NullPointerException" "java/lang/Throwable" "cause" "Ljava/lang/Throwable;") ∈ lw_all := lw_g (lw_at lw_m4 157 rfl) rfl
theorem q931 : (Jvm.Cond.lays "java/lang/NullPointerException" "java/lang/Throwable" "stackTrace" "[Ljava/lang/StackTraceElement;") ∈ lw_all := lw_g (lw_at lw_m4 158 rfl) rfl
theorem q932 : (Jvm.Cond.lays "java/lang/NullPointerException" "java/lang/Throwable" "depth" "I") ∈ lw_all := lw_g (lw_at lw_m4 159 rfl) rfl
theorem q933 : (Jvm.Cond.lays "java/lang/NullPointerException" "java/lang/Throwable" "suppressedExceptions" "Ljava/util/List;") ∈ lw_all := lw_g (lw_at lw_m4 160 rfl) rfl
theorem q934 : (Jvm.Cond.castable "java/lang/NullPointerException" "java/lang/NullPointerException") ∈ lw_tbl := lw_at lw_m4 161 rfl
theorem q935 : (Jvm.Cond.selects "java/lang/NullPointerException" ({ cls := "java/lang/Throwable", name := "fillInStackTrace", desc := "(I)Ljava/lang/Throwable;" } : Jvm.MethodName) ({ cls := "java/lang/Throwable", name := "fillInStackTrace", desc := "(I)Ljava/lang/Throwable;" } : Jvm.MethodName)) ∈ lw_all := lw_g (lw_at lw_m4 162 rfl) rfl
theorem in_J8 : ∀ w ∈ wsJ80, w ∈ lw_all := lw_in wsJ80 [928, 929, 930, 931, 932, 933, 924, 926] (by decide +kernel) (by decide +kernel)

/-! java/lang/IllegalArgumentException -/
set_option maxRecDepth 100000
def RJ9 : String := "java/lang/IllegalArgumentException"
def TJ9 : u_T := fun k => match k with
  | 0 => ("java/lang/Throwable", "cause", "Ljava/lang/Throwable;", false)
  | 1 => ("java/lang/Throwable", "stackTrace", "[Ljava/lang/StackTraceElement;", false)
  | 2 => ("java/lang/Throwable", "suppressedExceptions", "Ljava/util/List;", false)
  | 3 => ("java/lang/Throwable", "detailMessage", "Ljava/lang/String;", false)
  | 4 => ("java/lang/Throwable", "backtrace", "Ljava/lang/Object;", false)
  | _ => ("java/lang/Throwable", "depth", "I", false)
def tyJ9 : Nat → FieldType := fun k => match k with
  | 0 => .object "java/lang/Throwable"
  | 1 => .array (.object "java/lang/StackTraceElement")
  | 2 => .object "java/util/List"
  | 3 => .object "java/lang/String"
  | 4 => .object "java/lang/Object"
  | _ => .int
abbrev wsJ90 : List Cond := u_ws RJ9 TJ9 6
theorem nmJ9 : ∀ a, a < 6 → ∀ b, b < 6 → a ≠ b → (TJ9 a).2.1 ≠ (TJ9 b).2.1 := by decide +kernel
theorem tyJ9_ok : ∀ k, k < 6 → parseFieldDescriptor (TJ9 k).2.2.1 = some (tyJ9 k) := by decide +kernel
abbrev cJ9_init : ByteArray := prog_25_method_1_code
def yJ9_init : MethodName := ⟨RJ9, "<init>", "()V"⟩
theorem dJ9_init_0 : decode cJ9_init 0 = .ok (.aload_n 0, 1) := by decide +kernel
theorem dJ9_init_1 : decode cJ9_init 1 = .ok (.invokespecial 1, 3) := by decide +kernel
theorem dJ9_init_4 : decode cJ9_init 4 = .ok (.return_, 1) := by decide +kernel
theorem q78 : (Jvm.Cond.initialized "java/lang/IllegalArgumentException") ∈ lw_all := lw_g (lw_at lw_m1 25 rfl) rfl
theorem q195 : (Jvm.Cond.selects "java/lang/IllegalArgumentException" ({ cls := "java/lang/Throwable", name := "fillInStackTrace", desc := "()Ljava/lang/Throwable;" } : Jvm.MethodName) ({ cls := "java/lang/Throwable", name := "fillInStackTrace", desc := "()Ljava/lang/Throwable;" } : Jvm.MethodName)) ∈ lw_all := lw_g (lw_at lw_m1 142 rfl) rfl
theorem q1037 : (Jvm.Cond.instantiable "java/lang/IllegalArgumentException" (6 : Nat)) ∈ lw_all := lw_g (lw_at lw_m5 24 rfl) rfl
theorem q1038 : (Jvm.Cond.castable "java/lang/IllegalArgumentException" "java/lang/IllegalArgumentException") ∈ lw_tbl := lw_at lw_m5 25 rfl
theorem q1039 : (Jvm.Cond.selects "java/lang/IllegalArgumentException" ({ cls := "java/lang/Throwable", name := "fillInStackTrace", desc := "(I)Ljava/lang/Throwable;" } : Jvm.MethodName) ({ cls := "java/lang/Throwable", name := "fillInStackTrace", desc := "(I)Ljava/lang/Throwable;" } : Jvm.MethodName)) ∈ lw_all := lw_g (lw_at lw_m5 26 rfl) rfl
theorem q1040 : (Jvm.Cond.lays "java/lang/IllegalArgumentException" "java/lang/Throwable" "cause" "Ljava/lang/Throwable;") ∈ lw_all := lw_g (lw_at lw_m5 27 rfl) rfl
theorem q1041 : (Jvm.Cond.lays "java/lang/IllegalArgumentException" "java/lang/Throwable" "stackTrace" "[Ljava/lang/StackTraceElement;") ∈ lw_all := lw_g (lw_at lw_m5 28 rfl) rfl
theorem q1042 : (Jvm.Cond.lays "java/lang/IllegalArgumentException" "java/lang/Throwable" "suppressedExceptions" "Ljava/util/List;") ∈ lw_all := lw_g (lw_at lw_m5 29 rfl) rfl
theorem q1043 : (Jvm.Cond.lays "java/lang/IllegalArgumentException" "java/lang/Throwable" "detailMessage" "Ljava/lang/String;") ∈ lw_all := lw_g (lw_at lw_m5 30 rfl) rfl
theorem q1044 : (Jvm.Cond.lays "java/lang/IllegalArgumentException" "java/lang/Throwable" "backtrace" "Ljava/lang/Object;") ∈ lw_all := lw_g (lw_at lw_m5 31 rfl) rfl
theorem q1046 : (Jvm.Cond.instanceMethod ({ cls := "java/lang/IllegalArgumentException", name := "<init>", desc := "()V" } : Jvm.MethodName)) ∈ lw_all := lw_g (lw_at lw_m5 33 rfl) rfl
theorem q1047 : (Jvm.Cond.code ({ cls := "java/lang/IllegalArgumentException", name := "<init>", desc := "()V" } : Jvm.MethodName) prog_25_method_1_code (1 : Nat) (Option.none : Option Jvm.ClassFile.FieldType)) ∈ lw_all := lw_g (lw_at lw_m5 34 rfl) rfl
theorem q1048 : (Jvm.Cond.methodLink "java/lang/IllegalArgumentException" (1 : Nat) ({ cls := "java/lang/RuntimeException", name := "<init>", desc := "()V" } : Jvm.MethodName)) ∈ lw_all := lw_g (lw_at lw_m5 35 rfl) rfl
theorem q1049 : (Jvm.Cond.lays "java/lang/IllegalArgumentException" "java/lang/Throwable" "depth" "I") ∈ lw_all := lw_g (lw_at lw_m5 36 rfl) rfl
theorem q1050 : (Jvm.Cond.superclass "java/lang/IllegalArgumentException" "java/lang/RuntimeException") ∈ lw_all := lw_g (lw_at lw_m5 37 rfl) rfl
theorem in_J9 : ∀ w ∈ wsJ90, w ∈ lw_all := lw_in wsJ90 [1040, 1041, 1042, 1043, 1044, 1049] (by decide +kernel) (by decide +kernel)

/-! WhoseGlassLaw -/
set_option maxRecDepth 100000
def RX0 : String := "WhoseGlassLaw"
abbrev cX0_element : ByteArray := method_3_code
def yX0_element : MethodName := ⟨RX0, "element", "(LWhoseGlass;II[J)I"⟩
def dkwX0_element_0 : List UInt8 := [45, 3, 42, 27, 28, 182, 0, 7, 80, 167, 0, 11, 58, 4, 4, 172, 58, 4, 5, 172, 3, 172]
abbrev dktX0_element_0 : List UInt8 := dkwX0_element_0 ++ []
theorem dksX0_element_0 : cX0_element.data.toList.drop 0 = dktX0_element_0 := by decide +kernel
theorem dX0_element_0 : decode cX0_element 0 = .ok (.aload_n 3, 1) := dk_45 (dk_at dksX0_element_0 0 rfl rfl)
theorem dX0_element_1 : decode cX0_element 1 = .ok (.iconst 0, 1) := dk_3 (dk_at dksX0_element_0 1 rfl rfl)
theorem dX0_element_2 : decode cX0_element 2 = .ok (.aload_n 0, 1) := dk_42 (dk_at dksX0_element_0 2 rfl rfl)
theorem dX0_element_3 : decode cX0_element 3 = .ok (.iload_n 1, 1) := dk_27 (dk_at dksX0_element_0 3 rfl rfl)
theorem dX0_element_4 : decode cX0_element 4 = .ok (.iload_n 2, 1) := dk_28 (dk_at dksX0_element_0 4 rfl rfl)
theorem dX0_element_5 : decode cX0_element 5 = .ok (.invokevirtual 7, 3) := dk_182 0 7 (dk_at dksX0_element_0 5 rfl rfl)
theorem dX0_element_8 : decode cX0_element 8 = .ok (.lastore, 1) := dk_80 (dk_at dksX0_element_0 8 rfl rfl)
theorem dX0_element_9 : decode cX0_element 9 = .ok (.goto 11, 3) := dk_167 0 11 (dk_at dksX0_element_0 9 rfl rfl)
theorem dX0_element_12 : decode cX0_element 12 = .ok (.astore 4, 2) := dk_58 4 (dk_at dksX0_element_0 12 rfl rfl)
theorem dX0_element_14 : decode cX0_element 14 = .ok (.iconst 1, 1) := dk_4 (dk_at dksX0_element_0 14 rfl rfl)
theorem dX0_element_15 : decode cX0_element 15 = .ok (.ireturn, 1) := dk_172 (dk_at dksX0_element_0 15 rfl rfl)
theorem dX0_element_16 : decode cX0_element 16 = .ok (.astore 4, 2) := dk_58 4 (dk_at dksX0_element_0 16 rfl rfl)
theorem dX0_element_18 : decode cX0_element 18 = .ok (.iconst 2, 1) := dk_5 (dk_at dksX0_element_0 18 rfl rfl)
theorem dX0_element_19 : decode cX0_element 19 = .ok (.ireturn, 1) := dk_172 (dk_at dksX0_element_0 19 rfl rfl)
theorem dX0_element_20 : decode cX0_element 20 = .ok (.iconst 0, 1) := dk_3 (dk_at dksX0_element_0 20 rfl rfl)
theorem dX0_element_21 : decode cX0_element 21 = .ok (.ireturn, 1) := dk_172 (dk_at dksX0_element_0 21 rfl rfl)
theorem q53 : (Jvm.Cond.initialized "WhoseGlassLaw") ∈ lw_all := lw_g (lw_at lw_m1 0 rfl) rfl
theorem q81 : (Jvm.Cond.methodLink "WhoseGlassLaw" (21 : Nat) ({ cls := "WhoseGlass", name := "house", desc := "(I)I" } : Jvm.MethodName)) ∈ lw_all := lw_g (lw_at lw_m1 28 rfl) rfl
theorem q518 : (Jvm.Cond.methodLink "WhoseGlassLaw" (26 : Nat) ({ cls := "WhoseGlass", name := "glass", desc := "(II)I" } : Jvm.MethodName)) ∈ lw_all := lw_g (lw_at lw_m2 225 rfl) rfl
theorem q523 : (Jvm.Cond.methodLink "WhoseGlassLaw" (31 : Nat) ({ cls := "WhoseGlass", name := "guest", desc := "(II)I" } : Jvm.MethodName)) ∈ lw_all := lw_g (lw_at lw_m2 230 rfl) rfl
theorem q527 : (Jvm.Cond.methodLink "WhoseGlassLaw" (35 : Nat) ({ cls := "WhoseGlass", name := "comes", desc := "(II)I" } : Jvm.MethodName)) ∈ lw_all := lw_g (lw_at lw_m2 234 rfl) rfl
theorem q531 : (Jvm.Cond.methodLink "WhoseGlassLaw" (39 : Nat) ({ cls := "WhoseGlass", name := "go", desc := "(II)I" } : Jvm.MethodName)) ∈ lw_all := lw_g (lw_at lw_m2 238 rfl) rfl
theorem q535 : (Jvm.Cond.methodLink "WhoseGlassLaw" (43 : Nat) ({ cls := "WhoseGlass", name := "sip", desc := "(I)I" } : Jvm.MethodName)) ∈ lw_all := lw_g (lw_at lw_m3 2 rfl) rfl
theorem q540 : (Jvm.Cond.methodLink "WhoseGlassLaw" (47 : Nat) ({ cls := "WhoseGlass", name := "lay", desc := "(I)I" } : Jvm.MethodName)) ∈ lw_all := lw_g (lw_at lw_m3 7 rfl) rfl
theorem q545 : (Jvm.Cond.methodLink "WhoseGlassLaw" (51 : Nat) ({ cls := "WhoseGlass", name := "take", desc := "(I)I" } : Jvm.MethodName)) ∈ lw_all := lw_g (lw_at lw_m3 12 rfl) rfl
theorem q550 : (Jvm.Cond.methodLink "WhoseGlassLaw" (55 : Nat) ({ cls := "WhoseGlass", name := "fill", desc := "(I)I" } : Jvm.MethodName)) ∈ lw_all := lw_g (lw_at lw_m3 17 rfl) rfl
theorem q554 : (Jvm.Cond.methodLink "WhoseGlassLaw" (59 : Nat) ({ cls := "WhoseGlass", name := "clear", desc := "(II)I" } : Jvm.MethodName)) ∈ lw_all := lw_g (lw_at lw_m3 21 rfl) rfl
theorem q562 : (Jvm.Cond.methodLink "WhoseGlassLaw" (63 : Nat) ({ cls := "WhoseGlass", name := "minutes", desc := "(I)I" } : Jvm.MethodName)) ∈ lw_all := lw_g (lw_at lw_m3 29 rfl) rfl
theorem q566 : (Jvm.Cond.methodLink "WhoseGlassLaw" (67 : Nat) ({ cls := "WhoseGlass", name := "like", desc := "(II)I" } : Jvm.MethodName)) ∈ lw_all := lw_g (lw_at lw_m3 33 rfl) rfl
theorem q571 : (Jvm.Cond.methodLink "WhoseGlassLaw" (71 : Nat) ({ cls := "WhoseGlass", name := "mine", desc := "(I)I" } : Jvm.MethodName)) ∈ lw_all := lw_g (lw_at lw_m3 38 rfl) rfl
theorem q576 : (Jvm.Cond.methodLink "WhoseGlassLaw" (75 : Nat) ({ cls := "WhoseGlass", name := "likely", desc := "(III)I" } : Jvm.MethodName)) ∈ lw_all := lw_g (lw_at lw_m3 43 rfl) rfl
theorem q583 : (Jvm.Cond.methodLink "WhoseGlassLaw" (80 : Nat) ({ cls := "WhoseGlass", name := "idle", desc := "(I)I" } : Jvm.MethodName)) ∈ lw_all := lw_g (lw_at lw_m3 50 rfl) rfl
theorem q591 : (Jvm.Cond.methodLink "WhoseGlassLaw" (84 : Nat) ({ cls := "WhoseGlass", name := "oldest", desc := "(I)I" } : Jvm.MethodName)) ∈ lw_all := lw_g (lw_at lw_m3 58 rfl) rfl
theorem q595 : (Jvm.Cond.methodLink "WhoseGlassLaw" (88 : Nat) ({ cls := "WhoseGlass", name := "mistakes", desc := "(I)I" } : Jvm.MethodName)) ∈ lw_all := lw_g (lw_at lw_m3 62 rfl) rfl
theorem q611 : (Jvm.Cond.methodLink "WhoseGlassLaw" (92 : Nat) ({ cls := "WhoseGlass", name := "fresh", desc := "(I)I" } : Jvm.MethodName)) ∈ lw_all := lw_g (lw_at lw_m3 78 rfl) rfl
theorem q615 : (Jvm.Cond.methodLink "WhoseGlassLaw" (96 : Nat) ({ cls := "WhoseGlass", name := "colds", desc := "(I)I" } : Jvm.MethodName)) ∈ lw_all := lw_g (lw_at lw_m3 82 rfl) rfl
theorem q619 : (Jvm.Cond.methodLink "WhoseGlassLaw" (100 : Nat) ({ cls := "WhoseGlass", name := "had", desc := "(II)I" } : Jvm.MethodName)) ∈ lw_all := lw_g (lw_at lw_m3 86 rfl) rfl
theorem q623 : (Jvm.Cond.methodLink "WhoseGlassLaw" (104 : Nat) ({ cls := "WhoseGlass", name := "where", desc := "(II)I" } : Jvm.MethodName)) ∈ lw_all := lw_g (lw_at lw_m3 90 rfl) rfl
theorem q627 : (Jvm.Cond.methodLink "WhoseGlassLaw" (108 : Nat) ({ cls := "WhoseGlass", name := "brought", desc := "(II)I" } : Jvm.MethodName)) ∈ lw_all := lw_g (lw_at lw_m3 94 rfl) rfl
theorem q631 : (Jvm.Cond.methodLink "WhoseGlassLaw" (112 : Nat) ({ cls := "WhoseGlass", name := "particular", desc := "(I)I" } : Jvm.MethodName)) ∈ lw_all := lw_g (lw_at lw_m3 98 rfl) rfl
theorem q638 : (Jvm.Cond.methodLink "WhoseGlassLaw" (116 : Nat) ({ cls := "WhoseGlass", name := "mark", desc := "(I)I" } : Jvm.MethodName)) ∈ lw_all := lw_g (lw_at lw_m3 105 rfl) rfl
theorem q642 : (Jvm.Cond.methodLink "WhoseGlassLaw" (120 : Nat) ({ cls := "WhoseGlass", name := "close", desc := "(I)I" } : Jvm.MethodName)) ∈ lw_all := lw_g (lw_at lw_m3 109 rfl) rfl
theorem q646 : (Jvm.Cond.methodLink "WhoseGlassLaw" (124 : Nat) ({ cls := "WhoseGlass", name := "driver", desc := "(I)I" } : Jvm.MethodName)) ∈ lw_all := lw_g (lw_at lw_m3 113 rfl) rfl
theorem q650 : (Jvm.Cond.methodLink "WhoseGlassLaw" (128 : Nat) ({ cls := "WhoseGlass", name := "full", desc := "()I" } : Jvm.MethodName)) ∈ lw_all := lw_g (lw_at lw_m3 117 rfl) rfl
theorem q658 : (Jvm.Cond.methodLink "WhoseGlassLaw" (133 : Nat) ({ cls := "WhoseGlass", name := "seeded", desc := "(III)I" } : Jvm.MethodName)) ∈ lw_all := lw_g (lw_at lw_m3 125 rfl) rfl
theorem q669 : (Jvm.Cond.methodLink "WhoseGlassLaw" (137 : Nat) ({ cls := "WhoseGlass", name := "judge", desc := "(II)I" } : Jvm.MethodName)) ∈ lw_all := lw_g (lw_at lw_m3 136 rfl) rfl
theorem q688 : (Jvm.Cond.methodLink "WhoseGlassLaw" (141 : Nat) ({ cls := "WhoseGlass", name := "image", desc := "()I" } : Jvm.MethodName)) ∈ lw_all := lw_g (lw_at lw_m3 155 rfl) rfl
theorem q692 : (Jvm.Cond.methodLink "WhoseGlassLaw" (145 : Nat) ({ cls := "WhoseGlass", name := "restore", desc := "()I" } : Jvm.MethodName)) ∈ lw_all := lw_g (lw_at lw_m3 159 rfl) rfl
theorem q696 : (Jvm.Cond.methodLink "WhoseGlassLaw" (149 : Nat) ({ cls := "WhoseGlass", name := "count", desc := "(I)I" } : Jvm.MethodName)) ∈ lw_all := lw_g (lw_at lw_m3 163 rfl) rfl
theorem q700 : (Jvm.Cond.classLink "WhoseGlassLaw" (8 : Nat) "WhoseGlass") ∈ lw_all := lw_g (lw_at lw_m3 167 rfl) rfl
theorem q701 : (Jvm.Cond.methodLink "WhoseGlassLaw" (17 : Nat) ({ cls := "WhoseGlass", name := "<init>", desc := "()V" } : Jvm.MethodName)) ∈ lw_all := lw_g (lw_at lw_m3 168 rfl) rfl
theorem q834 : (Jvm.Cond.methodLink "WhoseGlassLaw" (153 : Nat) ({ cls := "WhoseGlass", name := "keep", desc := "(IIII)I" } : Jvm.MethodName)) ∈ lw_all := lw_g (lw_at lw_m4 61 rfl) rfl
theorem q838 : (Jvm.Cond.methodLink "WhoseGlassLaw" (158 : Nat) ({ cls := "WhoseGlass", name := "row", desc := "(III)I" } : Jvm.MethodName)) ∈ lw_all := lw_g (lw_at lw_m4 65 rfl) rfl
theorem q871 : (Jvm.Cond.methodLink "WhoseGlassLaw" (162 : Nat) ({ cls := "WhoseGlass", name := "put", desc := "(III)I" } : Jvm.MethodName)) ∈ lw_all := lw_g (lw_at lw_m4 98 rfl) rfl
theorem q908 : (Jvm.Cond.methodLink "WhoseGlassLaw" (175 : Nat) ({ cls := "WhoseGlass", name := "copy", desc := "(IIIII)I" } : Jvm.MethodName)) ∈ lw_all := lw_g (lw_at lw_m4 135 rfl) rfl
theorem q914 : (Jvm.Cond.methodLink "WhoseGlassLaw" (180 : Nat) ({ cls := "WhoseGlass", name := "cost", desc := "(I)I" } : Jvm.MethodName)) ∈ lw_all := lw_g (lw_at lw_m4 141 rfl) rfl
theorem q967 : (Jvm.Cond.methodLink "WhoseGlassLaw" (184 : Nat) ({ cls := "WhoseGlass", name := "toss", desc := "(I)I" } : Jvm.MethodName)) ∈ lw_all := lw_g (lw_at lw_m4 194 rfl) rfl
theorem q1027 : (Jvm.Cond.methodLink "WhoseGlassLaw" (166 : Nat) ({ cls := "WhoseGlassLaw", name := "element", desc := "(LWhoseGlass;II[J)I" } : Jvm.MethodName)) ∈ lw_all := lw_g (lw_at lw_m5 14 rfl) rfl
theorem q1028 : (Jvm.Cond.static ({ cls := "WhoseGlassLaw", name := "element", desc := "(LWhoseGlass;II[J)I" } : Jvm.MethodName)) ∈ lw_all := lw_g (lw_at lw_m5 15 rfl) rfl
theorem q1029 : (Jvm.Cond.codeWith ({ cls := "WhoseGlassLaw", name := "element", desc := "(LWhoseGlass;II[J)I" } : Jvm.MethodName) method_3_code (5 : Nat) (Option.some Jvm.ClassFile.FieldType.int) [((0 : Nat), (9 : Nat), (12 : Nat), (13 : Nat)), ((0 : Nat), (9 : Nat), (16 : Nat), (15 : Nat))]) ∈ lw_all := lw_g (lw_at lw_m5 16 rfl) rfl
theorem q1030 : (Jvm.Cond.classLink "WhoseGlassLaw" (13 : Nat) "java/lang/IllegalArgumentException") ∈ lw_all := lw_g (lw_at lw_m5 17 rfl) rfl
theorem q1031 : (Jvm.Cond.classLink "WhoseGlassLaw" (15 : Nat) "java/lang/IllegalStateException") ∈ lw_all := lw_g (lw_at lw_m5 18 rfl) rfl
theorem q1032 : (Jvm.Cond.methodLink "WhoseGlassLaw" (7 : Nat) ({ cls := "WhoseGlass", name := "element", desc := "(II)J" } : Jvm.MethodName)) ∈ lw_all := lw_g (lw_at lw_m5 19 rfl) rfl
theorem q1066 : (Jvm.Cond.classLink "WhoseGlassLaw" (18 : Nat) "WhoseGlassModel") ∈ lw_all := lw_g (lw_at lw_m5 53 rfl) rfl
theorem q1068 : (Jvm.Cond.methodLink "WhoseGlassLaw" (20 : Nat) ({ cls := "WhoseGlassModel", name := "<init>", desc := "()V" } : Jvm.MethodName)) ∈ lw_all := lw_g (lw_at lw_m5 55 rfl) rfl
theorem q1212 : (Jvm.Cond.methodLink "WhoseGlassLaw" (172 : Nat) ({ cls := "WhoseGlassModel", name := "thrown", desc := "()I" } : Jvm.MethodName)) ∈ lw_all := lw_g (lw_at lw_m5 199 rfl) rfl
theorem q1216 : (Jvm.Cond.methodLink "WhoseGlassLaw" (144 : Nat) ({ cls := "WhoseGlassModel", name := "image", desc := "()I" } : Jvm.MethodName)) ∈ lw_all := lw_g (lw_at lw_m5 203 rfl) rfl
theorem q1228 : (Jvm.Cond.methodLink "WhoseGlassLaw" (148 : Nat) ({ cls := "WhoseGlassModel", name := "restore", desc := "()I" } : Jvm.MethodName)) ∈ lw_all := lw_g (lw_at lw_m5 215 rfl) rfl
theorem q1232 : (Jvm.Cond.methodLink "WhoseGlassLaw" (25 : Nat) ({ cls := "WhoseGlassModel", name := "house", desc := "(I)I" } : Jvm.MethodName)) ∈ lw_all := lw_g (lw_at lw_m5 219 rfl) rfl
theorem q1358 : (Jvm.Cond.methodLink "WhoseGlassLaw" (30 : Nat) ({ cls := "WhoseGlassModel", name := "glass", desc := "(II)I" } : Jvm.MethodName)) ∈ lw_all := lw_g (lw_at lw_m6 105 rfl) rfl
theorem q1363 : (Jvm.Cond.methodLink "WhoseGlassLaw" (34 : Nat) ({ cls := "WhoseGlassModel", name := "guest", desc := "(II)I" } : Jvm.MethodName)) ∈ lw_all := lw_g (lw_at lw_m6 110 rfl) rfl
theorem q1368 : (Jvm.Cond.methodLink "WhoseGlassLaw" (38 : Nat) ({ cls := "WhoseGlassModel", name := "comes", desc := "(II)I" } : Jvm.MethodName)) ∈ lw_all := lw_g (lw_at lw_m6 115 rfl) rfl
theorem q1380 : (Jvm.Cond.methodLink "WhoseGlassLaw" (42 : Nat) ({ cls := "WhoseGlassModel", name := "go", desc := "(II)I" } : Jvm.MethodName)) ∈ lw_all := lw_g (lw_at lw_m6 127 rfl) rfl
theorem q1384 : (Jvm.Cond.methodLink "WhoseGlassLaw" (46 : Nat) ({ cls := "WhoseGlassModel", name := "sip", desc := "(I)I" } : Jvm.MethodName)) ∈ lw_all := lw_g (lw_at lw_m6 131 rfl) rfl
theorem q1388 : (Jvm.Cond.methodLink "WhoseGlassLaw" (50 : Nat) ({ cls := "WhoseGlassModel", name := "lay", desc := "(I)I" } : Jvm.MethodName)) ∈ lw_all := lw_g (lw_at lw_m6 135 rfl) rfl
theorem q1392 : (Jvm.Cond.methodLink "WhoseGlassLaw" (54 : Nat) ({ cls := "WhoseGlassModel", name := "take", desc := "(I)I" } : Jvm.MethodName)) ∈ lw_all := lw_g (lw_at lw_m6 139 rfl) rfl
theorem q1396 : (Jvm.Cond.methodLink "WhoseGlassLaw" (58 : Nat) ({ cls := "WhoseGlassModel", name := "fill", desc := "(I)I" } : Jvm.MethodName)) ∈ lw_all := lw_g (lw_at lw_m6 143 rfl) rfl
theorem q1400 : (Jvm.Cond.methodLink "WhoseGlassLaw" (62 : Nat) ({ cls := "WhoseGlassModel", name := "clear", desc := "(II)I" } : Jvm.MethodName)) ∈ lw_all := lw_g (lw_at lw_m6 147 rfl) rfl
theorem q1409 : (Jvm.Cond.methodLink "WhoseGlassLaw" (66 : Nat) ({ cls := "WhoseGlassModel", name := "minutes", desc := "(I)I" } : Jvm.MethodName)) ∈ lw_all := lw_g (lw_at lw_m6 156 rfl) rfl
theorem q1417 : (Jvm.Cond.methodLink "WhoseGlassLaw" (70 : Nat) ({ cls := "WhoseGlassModel", name := "like", desc := "(II)I" } : Jvm.MethodName)) ∈ lw_all := lw_g (lw_at lw_m6 164 rfl) rfl
theorem q1421 : (Jvm.Cond.methodLink "WhoseGlassLaw" (74 : Nat) ({ cls := "WhoseGlassModel", name := "mine", desc := "(I)I" } : Jvm.MethodName)) ∈ lw_all := lw_g (lw_at lw_m6 168 rfl) rfl
theorem q1425 : (Jvm.Cond.methodLink "WhoseGlassLaw" (79 : Nat) ({ cls := "WhoseGlassModel", name := "likely", desc := "(III)I" } : Jvm.MethodName)) ∈ lw_all := lw_g (lw_at lw_m6 172 rfl) rfl
theorem q1432 : (Jvm.Cond.methodLink "WhoseGlassLaw" (83 : Nat) ({ cls := "WhoseGlassModel", name := "idle", desc := "(I)I" } : Jvm.MethodName)) ∈ lw_all := lw_g (lw_at lw_m6 179 rfl) rfl
theorem q1436 : (Jvm.Cond.methodLink "WhoseGlassLaw" (87 : Nat) ({ cls := "WhoseGlassModel", name := "oldest", desc := "(I)I" } : Jvm.MethodName)) ∈ lw_all := lw_g (lw_at lw_m6 183 rfl) rfl
theorem q1440 : (Jvm.Cond.methodLink "WhoseGlassLaw" (91 : Nat) ({ cls := "WhoseGlassModel", name := "mistakes", desc := "(I)I" } : Jvm.MethodName)) ∈ lw_all := lw_g (lw_at lw_m6 187 rfl) rfl
theorem q1448 : (Jvm.Cond.methodLink "WhoseGlassLaw" (95 : Nat) ({ cls := "WhoseGlassModel", name := "fresh", desc := "(I)I" } : Jvm.MethodName)) ∈ lw_all := lw_g (lw_at lw_m6 195 rfl) rfl
theorem q1452 : (Jvm.Cond.methodLink "WhoseGlassLaw" (99 : Nat) ({ cls := "WhoseGlassModel", name := "colds", desc := "(I)I" } : Jvm.MethodName)) ∈ lw_all := lw_g (lw_at lw_m6 199 rfl) rfl
theorem q1460 : (Jvm.Cond.methodLink "WhoseGlassLaw" (103 : Nat) ({ cls := "WhoseGlassModel", name := "had", desc := "(II)I" } : Jvm.MethodName)) ∈ lw_all := lw_g (lw_at lw_m6 207 rfl) rfl
theorem q1464 : (Jvm.Cond.methodLink "WhoseGlassLaw" (107 : Nat) ({ cls := "WhoseGlassModel", name := "where", desc := "(II)I" } : Jvm.MethodName)) ∈ lw_all := lw_g (lw_at lw_m6 211 rfl) rfl
theorem q1468 : (Jvm.Cond.methodLink "WhoseGlassLaw" (111 : Nat) ({ cls := "WhoseGlassModel", name := "brought", desc := "(II)I" } : Jvm.MethodName)) ∈ lw_all := lw_g (lw_at lw_m6 215 rfl) rfl
theorem q1476 : (Jvm.Cond.methodLink "WhoseGlassLaw" (115 : Nat) ({ cls := "WhoseGlassModel", name := "particular", desc := "(I)I" } : Jvm.MethodName)) ∈ lw_all := lw_g (lw_at lw_m6 223 rfl) rfl
theorem q1480 : (Jvm.Cond.methodLink "WhoseGlassLaw" (119 : Nat) ({ cls := "WhoseGlassModel", name := "mark", desc := "(I)I" } : Jvm.MethodName)) ∈ lw_all := lw_g (lw_at lw_m6 227 rfl) rfl
theorem q1484 : (Jvm.Cond.methodLink "WhoseGlassLaw" (123 : Nat) ({ cls := "WhoseGlassModel", name := "close", desc := "(I)I" } : Jvm.MethodName)) ∈ lw_all := lw_g (lw_at lw_m6 231 rfl) rfl
theorem q1488 : (Jvm.Cond.methodLink "WhoseGlassLaw" (127 : Nat) ({ cls := "WhoseGlassModel", name := "driver", desc := "(I)I" } : Jvm.MethodName)) ∈ lw_all := lw_g (lw_at lw_m6 235 rfl) rfl
theorem q1492 : (Jvm.Cond.methodLink "WhoseGlassLaw" (132 : Nat) ({ cls := "WhoseGlassModel", name := "full", desc := "()I" } : Jvm.MethodName)) ∈ lw_all := lw_g (lw_at lw_m6 239 rfl) rfl
theorem q1500 : (Jvm.Cond.methodLink "WhoseGlassLaw" (136 : Nat) ({ cls := "WhoseGlassModel", name := "seeded", desc := "(III)I" } : Jvm.MethodName)) ∈ lw_all := lw_g (lw_at lw_m7 7 rfl) rfl
theorem q1512 : (Jvm.Cond.methodLink "WhoseGlassLaw" (140 : Nat) ({ cls := "WhoseGlassModel", name := "judge", desc := "(II)I" } : Jvm.MethodName)) ∈ lw_all := lw_g (lw_at lw_m7 19 rfl) rfl
theorem q1523 : (Jvm.Cond.methodLink "WhoseGlassLaw" (152 : Nat) ({ cls := "WhoseGlassModel", name := "count", desc := "(I)I" } : Jvm.MethodName)) ∈ lw_all := lw_g (lw_at lw_m7 30 rfl) rfl
theorem q1527 : (Jvm.Cond.methodLink "WhoseGlassLaw" (157 : Nat) ({ cls := "WhoseGlassModel", name := "keep", desc := "(IIII)I" } : Jvm.MethodName)) ∈ lw_all := lw_g (lw_at lw_m7 34 rfl) rfl
theorem q1532 : (Jvm.Cond.methodLink "WhoseGlassLaw" (161 : Nat) ({ cls := "WhoseGlassModel", name := "row", desc := "(III)I" } : Jvm.MethodName)) ∈ lw_all := lw_g (lw_at lw_m7 39 rfl) rfl
theorem q1537 : (Jvm.Cond.methodLink "WhoseGlassLaw" (165 : Nat) ({ cls := "WhoseGlassModel", name := "put", desc := "(III)I" } : Jvm.MethodName)) ∈ lw_all := lw_g (lw_at lw_m7 44 rfl) rfl
theorem q1544 : (Jvm.Cond.methodLink "WhoseGlassLaw" (171 : Nat) ({ cls := "WhoseGlassModel", name := "element", desc := "(II)J" } : Jvm.MethodName)) ∈ lw_all := lw_g (lw_at lw_m7 51 rfl) rfl
theorem q1548 : (Jvm.Cond.methodLink "WhoseGlassLaw" (179 : Nat) ({ cls := "WhoseGlassModel", name := "copy", desc := "(IIIII)I" } : Jvm.MethodName)) ∈ lw_all := lw_g (lw_at lw_m7 55 rfl) rfl
theorem q1552 : (Jvm.Cond.methodLink "WhoseGlassLaw" (183 : Nat) ({ cls := "WhoseGlassModel", name := "cost", desc := "(I)I" } : Jvm.MethodName)) ∈ lw_all := lw_g (lw_at lw_m7 59 rfl) rfl
theorem q1559 : (Jvm.Cond.methodLink "WhoseGlassLaw" (187 : Nat) ({ cls := "WhoseGlassModel", name := "toss", desc := "(I)I" } : Jvm.MethodName)) ∈ lw_all := lw_g (lw_at lw_m7 66 rfl) rfl

/-! WhoseGlass$Red -/
set_option maxRecDepth 100000
def RX10 : String := "WhoseGlass$Red"
def TX10 : u_T := fun k => match k with
  | _ => ("WhoseGlass$Glass", "figure", "I", true)
def tyX10 : Nat → FieldType := fun k => match k with
  | _ => .int
abbrev wsX100 : List Cond := u_ws RX10 TX10 1
theorem nmX10 : ∀ a, a < 1 → ∀ b, b < 1 → a ≠ b → (TX10 a).2.1 ≠ (TX10 b).2.1 := by decide +kernel
theorem tyX10_ok : ∀ k, k < 1 → parseFieldDescriptor (TX10 k).2.2.1 = some (tyX10 k) := by decide +kernel
abbrev cX10_init : ByteArray := prog_14_method_1_code
def yX10_init : MethodName := ⟨RX10, "<init>", "(I)V"⟩
def dkwX10_init_0 : List UInt8 := [42, 27, 183, 0, 1, 177]
abbrev dktX10_init_0 : List UInt8 := dkwX10_init_0 ++ []
theorem dksX10_init_0 : cX10_init.data.toList.drop 0 = dktX10_init_0 := by decide +kernel
theorem dX10_init_0 : decode cX10_init 0 = .ok (.aload_n 0, 1) := dk_42 (dk_at dksX10_init_0 0 rfl rfl)
theorem dX10_init_1 : decode cX10_init 1 = .ok (.iload_n 1, 1) := dk_27 (dk_at dksX10_init_0 1 rfl rfl)
theorem dX10_init_2 : decode cX10_init 2 = .ok (.invokespecial 1, 3) := dk_183 0 1 (dk_at dksX10_init_0 2 rfl rfl)
theorem dX10_init_5 : decode cX10_init 5 = .ok (.return_, 1) := dk_177 (dk_at dksX10_init_0 5 rfl rfl)
abbrev cX10_like : ByteArray := prog_14_method_4_code
def yX10_like : MethodName := ⟨RX10, "like", "(LWhoseGlass$Glass;ZI)I"⟩
def dkwX10_like_0 : List UInt8 := [42, 43, 28, 29, 183, 0, 7, 43, 182, 0, 11, 153, 0, 7, 7, 167, 0, 4, 3, 96, 172]
abbrev dktX10_like_0 : List UInt8 := dkwX10_like_0 ++ []
theorem dksX10_like_0 : cX10_like.data.toList.drop 0 = dktX10_like_0 := by decide +kernel
theorem dX10_like_0 : decode cX10_like 0 = .ok (.aload_n 0, 1) := dk_42 (dk_at dksX10_like_0 0 rfl rfl)
theorem dX10_like_1 : decode cX10_like 1 = .ok (.aload_n 1, 1) := dk_43 (dk_at dksX10_like_0 1 rfl rfl)
theorem dX10_like_2 : decode cX10_like 2 = .ok (.iload_n 2, 1) := dk_28 (dk_at dksX10_like_0 2 rfl rfl)
theorem dX10_like_3 : decode cX10_like 3 = .ok (.iload_n 3, 1) := dk_29 (dk_at dksX10_like_0 3 rfl rfl)
theorem dX10_like_4 : decode cX10_like 4 = .ok (.invokespecial 7, 3) := dk_183 0 7 (dk_at dksX10_like_0 4 rfl rfl)
theorem dX10_like_7 : decode cX10_like 7 = .ok (.aload_n 1, 1) := dk_43 (dk_at dksX10_like_0 7 rfl rfl)
theorem dX10_like_8 : decode cX10_like 8 = .ok (.invokevirtual 11, 3) := dk_182 0 11 (dk_at dksX10_like_0 8 rfl rfl)
theorem dX10_like_11 : decode cX10_like 11 = .ok (.ifCond .eq 7, 3) := dk_153 0 7 (dk_at dksX10_like_0 11 rfl rfl)
theorem dX10_like_14 : decode cX10_like 14 = .ok (.iconst 4, 1) := dk_7 (dk_at dksX10_like_0 14 rfl rfl)
theorem dX10_like_15 : decode cX10_like 15 = .ok (.goto 4, 3) := dk_167 0 4 (dk_at dksX10_like_0 15 rfl rfl)
theorem dX10_like_18 : decode cX10_like 18 = .ok (.iconst 0, 1) := dk_3 (dk_at dksX10_like_0 18 rfl rfl)
theorem dX10_like_19 : decode cX10_like 19 = .ok (.iadd, 1) := dk_96 (dk_at dksX10_like_0 19 rfl rfl)
theorem dX10_like_20 : decode cX10_like 20 = .ok (.ireturn, 1) := dk_172 (dk_at dksX10_like_0 20 rfl rfl)
abbrev cX10_isRed : ByteArray := prog_14_method_3_code
def yX10_isRed : MethodName := ⟨RX10, "isRed", "()Z"⟩
theorem dX10_isRed_0 : decode cX10_isRed 0 = .ok (.iconst 1, 1) := by decide +kernel
theorem dX10_isRed_1 : decode cX10_isRed 1 = .ok (.ireturn, 1) := by decide +kernel
abbrev cX10_kind : ByteArray := prog_14_method_2_code
def yX10_kind : MethodName := ⟨RX10, "kind", "()I"⟩
theorem dX10_kind_0 : decode cX10_kind 0 = .ok (.iconst 3, 1) := by decide +kernel
theorem dX10_kind_1 : decode cX10_kind 1 = .ok (.ireturn, 1) := by decide +kernel
abbrev cX10_strength : ByteArray := prog_14_method_5_code
def yX10_strength : MethodName := ⟨RX10, "strength", "(I)I"⟩
def dkwX10_strength_0 : List UInt8 := [42, 27, 183, 0, 15, 42, 180, 0, 19, 96, 172]
abbrev dktX10_strength_0 : List UInt8 := dkwX10_strength_0 ++ []
theorem dksX10_strength_0 : cX10_strength.data.toList.drop 0 = dktX10_strength_0 := by decide +kernel
theorem dX10_strength_0 : decode cX10_strength 0 = .ok (.aload_n 0, 1) := dk_42 (dk_at dksX10_strength_0 0 rfl rfl)
theorem dX10_strength_1 : decode cX10_strength 1 = .ok (.iload_n 1, 1) := dk_27 (dk_at dksX10_strength_0 1 rfl rfl)
theorem dX10_strength_2 : decode cX10_strength 2 = .ok (.invokespecial 15, 3) := dk_183 0 15 (dk_at dksX10_strength_0 2 rfl rfl)
theorem dX10_strength_5 : decode cX10_strength 5 = .ok (.aload_n 0, 1) := dk_42 (dk_at dksX10_strength_0 5 rfl rfl)
theorem dX10_strength_6 : decode cX10_strength 6 = .ok (.getfield 19, 3) := dk_180 0 19 (dk_at dksX10_strength_0 6 rfl rfl)
theorem dX10_strength_9 : decode cX10_strength 9 = .ok (.iadd, 1) := dk_96 (dk_at dksX10_strength_0 9 rfl rfl)
theorem dX10_strength_10 : decode cX10_strength 10 = .ok (.ireturn, 1) := dk_172 (dk_at dksX10_strength_0 10 rfl rfl)
abbrev cX10_cost : ByteArray := prog_14_method_6_code
def yX10_cost : MethodName := ⟨RX10, "cost", "()I"⟩
def dkwX10_cost_0 : List UInt8 := [42, 183, 0, 25, 5, 104, 172]
abbrev dktX10_cost_0 : List UInt8 := dkwX10_cost_0 ++ []
theorem dksX10_cost_0 : cX10_cost.data.toList.drop 0 = dktX10_cost_0 := by decide +kernel
theorem dX10_cost_0 : decode cX10_cost 0 = .ok (.aload_n 0, 1) := dk_42 (dk_at dksX10_cost_0 0 rfl rfl)
theorem dX10_cost_1 : decode cX10_cost 1 = .ok (.invokespecial 25, 3) := dk_183 0 25 (dk_at dksX10_cost_0 1 rfl rfl)
theorem dX10_cost_4 : decode cX10_cost 4 = .ok (.iconst 2, 1) := dk_5 (dk_at dksX10_cost_0 4 rfl rfl)
theorem dX10_cost_5 : decode cX10_cost 5 = .ok (.imul, 1) := dk_104 (dk_at dksX10_cost_0 5 rfl rfl)
theorem dX10_cost_6 : decode cX10_cost 6 = .ok (.ireturn, 1) := dk_172 (dk_at dksX10_cost_0 6 rfl rfl)
abbrev cX10_failure : ByteArray := prog_14_method_7_code
def yX10_failure : MethodName := ⟨RX10, "failure", "()LWhoseGlass$Tossed;"⟩
def dkwX10_failure_1 : List UInt8 := [183, 0, 38, 176]
abbrev dktX10_failure_1 : List UInt8 := dkwX10_failure_1 ++ []
def dkwX10_failure_0 : List UInt8 := [42, 183, 0, 29, 76, 43, 199, 0, 7, 1, 167, 0, 17, 187, 0, 33, 89, 43, 180, 0, 35, 16, 100, 96]
abbrev dktX10_failure_0 : List UInt8 := dkwX10_failure_0 ++ dktX10_failure_1
theorem dksX10_failure_0 : cX10_failure.data.toList.drop 0 = dktX10_failure_0 := by decide +kernel
theorem dksX10_failure_1 : cX10_failure.data.toList.drop 24 = dktX10_failure_1 := dk_seg dksX10_failure_0 24 rfl rfl
theorem dX10_failure_0 : decode cX10_failure 0 = .ok (.aload_n 0, 1) := dk_42 (dk_at dksX10_failure_0 0 rfl rfl)
theorem dX10_failure_1 : decode cX10_failure 1 = .ok (.invokespecial 29, 3) := dk_183 0 29 (dk_at dksX10_failure_0 1 rfl rfl)
theorem dX10_failure_4 : decode cX10_failure 4 = .ok (.astore_n 1, 1) := dk_76 (dk_at dksX10_failure_0 4 rfl rfl)
theorem dX10_failure_5 : decode cX10_failure 5 = .ok (.aload_n 1, 1) := dk_43 (dk_at dksX10_failure_0 5 rfl rfl)
theorem dX10_failure_6 : decode cX10_failure 6 = .ok (.ifnonnull 7, 3) := dk_199 0 7 (dk_at dksX10_failure_0 6 rfl rfl)
theorem dX10_failure_9 : decode cX10_failure 9 = .ok (.aconst_null, 1) := dk_1 (dk_at dksX10_failure_0 9 rfl rfl)
theorem dX10_failure_10 : decode cX10_failure 10 = .ok (.goto 17, 3) := dk_167 0 17 (dk_at dksX10_failure_0 10 rfl rfl)
theorem dX10_failure_13 : decode cX10_failure 13 = .ok (.new 33, 3) := dk_187 0 33 (dk_at dksX10_failure_0 13 rfl rfl)
theorem dX10_failure_16 : decode cX10_failure 16 = .ok (.dup, 1) := dk_89 (dk_at dksX10_failure_0 16 rfl rfl)
theorem dX10_failure_17 : decode cX10_failure 17 = .ok (.aload_n 1, 1) := dk_43 (dk_at dksX10_failure_0 17 rfl rfl)
theorem dX10_failure_18 : decode cX10_failure 18 = .ok (.getfield 35, 3) := dk_180 0 35 (dk_at dksX10_failure_0 18 rfl rfl)
theorem dX10_failure_21 : decode cX10_failure 21 = .ok (.bipush 100, 2) := dk_16 100 (dk_at dksX10_failure_0 21 rfl rfl)
theorem dX10_failure_23 : decode cX10_failure 23 = .ok (.iadd, 1) := dk_96 (dk_at dksX10_failure_0 23 rfl rfl)
theorem dX10_failure_24 : decode cX10_failure 24 = .ok (.invokespecial 38, 3) := dk_183 0 38 (dk_at dksX10_failure_1 0 rfl rfl)
theorem dX10_failure_27 : decode cX10_failure 27 = .ok (.areturn, 1) := dk_176 (dk_at dksX10_failure_1 3 rfl rfl)
theorem q67 : (Jvm.Cond.initialized "WhoseGlass$Red") ∈ lw_all := lw_g (lw_at lw_m1 14 rfl) rfl
theorem q271 : (Jvm.Cond.fieldLink "WhoseGlass$Red" (19 : Nat) "WhoseGlass$Red" "figure" "I") ∈ lw_all := lw_g (lw_at lw_m1 218 rfl) rfl
theorem q272 : (Jvm.Cond.sameField "WhoseGlass$Red" "WhoseGlass$Glass" "figure" "I") ∈ lw_all := lw_g (lw_at lw_m1 219 rfl) rfl
theorem q296 : (Jvm.Cond.instantiable "WhoseGlass$Red" (1 : Nat)) ∈ lw_all := lw_g (lw_at lw_m2 3 rfl) rfl
theorem q298 : (Jvm.Cond.instanceMethod ({ cls := "WhoseGlass$Red", name := "<init>", desc := "(I)V" } : Jvm.MethodName)) ∈ lw_all := lw_g (lw_at lw_m2 5 rfl) rfl
theorem q299 : (Jvm.Cond.code ({ cls := "WhoseGlass$Red", name := "<init>", desc := "(I)V" } : Jvm.MethodName) prog_14_method_1_code (2 : Nat) (Option.none : Option Jvm.ClassFile.FieldType)) ∈ lw_all := lw_g (lw_at lw_m2 6 rfl) rfl
theorem q300 : (Jvm.Cond.methodLink "WhoseGlass$Red" (1 : Nat) ({ cls := "WhoseGlass$Glass", name := "<init>", desc := "(I)V" } : Jvm.MethodName)) ∈ lw_all := lw_g (lw_at lw_m2 7 rfl) rfl
theorem q301 : (Jvm.Cond.laysFinal "WhoseGlass$Red" "WhoseGlass$Glass" "figure" "I") ∈ lw_all := lw_g (lw_at lw_m2 8 rfl) rfl
theorem q302 : (Jvm.Cond.superclass "WhoseGlass$Red" "WhoseGlass$Glass") ∈ lw_all := lw_g (lw_at lw_m2 9 rfl) rfl
theorem q397 : (Jvm.Cond.instanceMethod ({ cls := "WhoseGlass$Red", name := "like", desc := "(LWhoseGlass$Glass;ZI)I" } : Jvm.MethodName)) ∈ lw_all := lw_g (lw_at lw_m2 104 rfl) rfl
theorem q398 : (Jvm.Cond.code ({ cls := "WhoseGlass$Red", name := "like", desc := "(LWhoseGlass$Glass;ZI)I" } : Jvm.MethodName) prog_14_method_4_code (4 : Nat) (Option.some Jvm.ClassFile.FieldType.int)) ∈ lw_all := lw_g (lw_at lw_m2 105 rfl) rfl
theorem q399 : (Jvm.Cond.methodLink "WhoseGlass$Red" (7 : Nat) ({ cls := "WhoseGlass$Glass", name := "like", desc := "(LWhoseGlass$Glass;ZI)I" } : Jvm.MethodName)) ∈ lw_all := lw_g (lw_at lw_m2 106 rfl) rfl
theorem q402 : (Jvm.Cond.instanceMethod ({ cls := "WhoseGlass$Red", name := "isRed", desc := "()Z" } : Jvm.MethodName)) ∈ lw_all := lw_g (lw_at lw_m2 109 rfl) rfl
theorem q403 : (Jvm.Cond.code ({ cls := "WhoseGlass$Red", name := "isRed", desc := "()Z" } : Jvm.MethodName) prog_14_method_3_code (1 : Nat) (Option.some Jvm.ClassFile.FieldType.boolean)) ∈ lw_all := lw_g (lw_at lw_m2 110 rfl) rfl
theorem q408 : (Jvm.Cond.selects "WhoseGlass$Red" ({ cls := "WhoseGlass$Looks", name := "isRed", desc := "()Z" } : Jvm.MethodName) ({ cls := "WhoseGlass$Red", name := "isRed", desc := "()Z" } : Jvm.MethodName)) ∈ lw_all := lw_g (lw_at lw_m2 115 rfl) rfl
theorem q436 : (Jvm.Cond.selects "WhoseGlass$Red" ({ cls := "WhoseGlass$Glass", name := "kind", desc := "()I" } : Jvm.MethodName) ({ cls := "WhoseGlass$Red", name := "kind", desc := "()I" } : Jvm.MethodName)) ∈ lw_all := lw_g (lw_at lw_m2 143 rfl) rfl
theorem q437 : (Jvm.Cond.instanceMethod ({ cls := "WhoseGlass$Red", name := "kind", desc := "()I" } : Jvm.MethodName)) ∈ lw_all := lw_g (lw_at lw_m2 144 rfl) rfl
theorem q438 : (Jvm.Cond.code ({ cls := "WhoseGlass$Red", name := "kind", desc := "()I" } : Jvm.MethodName) prog_14_method_2_code (1 : Nat) (Option.some Jvm.ClassFile.FieldType.int)) ∈ lw_all := lw_g (lw_at lw_m2 145 rfl) rfl
theorem q452 : (Jvm.Cond.selects "WhoseGlass$Red" ({ cls := "WhoseGlass$Glass", name := "like", desc := "(LWhoseGlass$Glass;ZI)I" } : Jvm.MethodName) ({ cls := "WhoseGlass$Red", name := "like", desc := "(LWhoseGlass$Glass;ZI)I" } : Jvm.MethodName)) ∈ lw_all := lw_g (lw_at lw_m2 159 rfl) rfl
theorem q463 : (Jvm.Cond.unhidden "WhoseGlass$Red" "isTall" "()Z") ∈ lw_tbl := lw_at lw_m2 170 rfl
theorem q491 : (Jvm.Cond.instanceMethod ({ cls := "WhoseGlass$Red", name := "strength", desc := "(I)I" } : Jvm.MethodName)) ∈ lw_all := lw_g (lw_at lw_m2 198 rfl) rfl
theorem q492 : (Jvm.Cond.code ({ cls := "WhoseGlass$Red", name := "strength", desc := "(I)I" } : Jvm.MethodName) prog_14_method_5_code (2 : Nat) (Option.some Jvm.ClassFile.FieldType.int)) ∈ lw_all := lw_g (lw_at lw_m2 199 rfl) rfl
theorem q502 : (Jvm.Cond.selects "WhoseGlass$Red" ({ cls := "WhoseGlass$Sips", name := "strength", desc := "(I)I" } : Jvm.MethodName) ({ cls := "WhoseGlass$Red", name := "strength", desc := "(I)I" } : Jvm.MethodName)) ∈ lw_all := lw_g (lw_at lw_m2 209 rfl) rfl
theorem q942 : (Jvm.Cond.instanceMethod ({ cls := "WhoseGlass$Red", name := "cost", desc := "()I" } : Jvm.MethodName)) ∈ lw_all := lw_g (lw_at lw_m4 169 rfl) rfl
theorem q943 : (Jvm.Cond.code ({ cls := "WhoseGlass$Red", name := "cost", desc := "()I" } : Jvm.MethodName) prog_14_method_6_code (1 : Nat) (Option.some Jvm.ClassFile.FieldType.int)) ∈ lw_all := lw_g (lw_at lw_m4 170 rfl) rfl
theorem q958 : (Jvm.Cond.selects "WhoseGlass$Red" ({ cls := "WhoseGlass$Costs", name := "cost", desc := "()I" } : Jvm.MethodName) ({ cls := "WhoseGlass$Red", name := "cost", desc := "()I" } : Jvm.MethodName)) ∈ lw_all := lw_g (lw_at lw_m4 185 rfl) rfl
theorem q993 : (Jvm.Cond.fieldLink "WhoseGlass$Red" (35 : Nat) "WhoseGlass$Tossed" "n" "I") ∈ lw_all := lw_g (lw_at lw_m4 220 rfl) rfl
theorem q1014 : (Jvm.Cond.selects "WhoseGlass$Red" ({ cls := "WhoseGlass$Glass", name := "failure", desc := "()LWhoseGlass$Tossed;" } : Jvm.MethodName) ({ cls := "WhoseGlass$Red", name := "failure", desc := "()LWhoseGlass$Tossed;" } : Jvm.MethodName)) ∈ lw_all := lw_g (lw_at lw_m5 1 rfl) rfl
theorem q1015 : (Jvm.Cond.instanceMethod ({ cls := "WhoseGlass$Red", name := "failure", desc := "()LWhoseGlass$Tossed;" } : Jvm.MethodName)) ∈ lw_all := lw_g (lw_at lw_m5 2 rfl) rfl
theorem q1016 : (Jvm.Cond.code ({ cls := "WhoseGlass$Red", name := "failure", desc := "()LWhoseGlass$Tossed;" } : Jvm.MethodName) prog_14_method_7_code (2 : Nat) (Option.some (Jvm.ClassFile.FieldType.object "WhoseGlass$Tossed"))) ∈ lw_all := lw_g (lw_at lw_m5 3 rfl) rfl
theorem q1017 : (Jvm.Cond.methodLink "WhoseGlass$Red" (29 : Nat) ({ cls := "WhoseGlass$Glass", name := "failure", desc := "()LWhoseGlass$Tossed;" } : Jvm.MethodName)) ∈ lw_all := lw_g (lw_at lw_m5 4 rfl) rfl
theorem q1018 : (Jvm.Cond.classLink "WhoseGlass$Red" (33 : Nat) "WhoseGlass$Tossed") ∈ lw_all := lw_g (lw_at lw_m5 5 rfl) rfl
theorem q1019 : (Jvm.Cond.methodLink "WhoseGlass$Red" (38 : Nat) ({ cls := "WhoseGlass$Tossed", name := "<init>", desc := "(I)V" } : Jvm.MethodName)) ∈ lw_all := lw_g (lw_at lw_m5 6 rfl) rfl
theorem q1564 : (Jvm.Cond.sameMethod "WhoseGlass$Red" "WhoseGlass$Red" "like" "(LWhoseGlass$Glass;ZI)I") ∈ lw_all := lw_g (lw_at lw_m7 71 rfl) rfl
theorem q1569 : (Jvm.Cond.sameMethod "WhoseGlass$Red" "WhoseGlass$Red" "strength" "(I)I") ∈ lw_all := lw_g (lw_at lw_m7 76 rfl) rfl
theorem q1570 : (Jvm.Cond.sameMethod "WhoseGlass$Red" "WhoseGlass$Red" "cost" "()I") ∈ lw_all := lw_g (lw_at lw_m7 77 rfl) rfl
theorem q1579 : (Jvm.Cond.castable "WhoseGlass$Red" "WhoseGlass$Glass") ∈ lw_tbl := lw_at lw_m7 86 rfl
theorem in_X10 : ∀ w ∈ wsX100, w ∈ lw_all := lw_in wsX100 [301] (by decide +kernel) (by decide +kernel)

/-! WhoseGlass$Water -/
set_option maxRecDepth 100000
def RX11 : String := "WhoseGlass$Water"
def TX11 : u_T := fun k => match k with
  | _ => ("WhoseGlass$Glass", "figure", "I", true)
def tyX11 : Nat → FieldType := fun k => match k with
  | _ => .int
abbrev wsX110 : List Cond := u_ws RX11 TX11 1
theorem nmX11 : ∀ a, a < 1 → ∀ b, b < 1 → a ≠ b → (TX11 a).2.1 ≠ (TX11 b).2.1 := by decide +kernel
theorem tyX11_ok : ∀ k, k < 1 → parseFieldDescriptor (TX11 k).2.2.1 = some (tyX11 k) := by decide +kernel
abbrev cX11_init : ByteArray := prog_19_method_1_code
def yX11_init : MethodName := ⟨RX11, "<init>", "(I)V"⟩
def dkwX11_init_0 : List UInt8 := [42, 27, 183, 0, 1, 177]
abbrev dktX11_init_0 : List UInt8 := dkwX11_init_0 ++ []
theorem dksX11_init_0 : cX11_init.data.toList.drop 0 = dktX11_init_0 := by decide +kernel
theorem dX11_init_0 : decode cX11_init 0 = .ok (.aload_n 0, 1) := dk_42 (dk_at dksX11_init_0 0 rfl rfl)
theorem dX11_init_1 : decode cX11_init 1 = .ok (.iload_n 1, 1) := dk_27 (dk_at dksX11_init_0 1 rfl rfl)
theorem dX11_init_2 : decode cX11_init 2 = .ok (.invokespecial 1, 3) := dk_183 0 1 (dk_at dksX11_init_0 2 rfl rfl)
theorem dX11_init_5 : decode cX11_init 5 = .ok (.return_, 1) := dk_177 (dk_at dksX11_init_0 5 rfl rfl)
abbrev cX11_kind : ByteArray := prog_19_method_2_code
def yX11_kind : MethodName := ⟨RX11, "kind", "()I"⟩
theorem dX11_kind_0 : decode cX11_kind 0 = .ok (.iconst 4, 1) := by decide +kernel
theorem dX11_kind_1 : decode cX11_kind 1 = .ok (.ireturn, 1) := by decide +kernel
abbrev cX11_like : ByteArray := prog_19_method_3_code
def yX11_like : MethodName := ⟨RX11, "like", "(LWhoseGlass$Glass;ZI)I"⟩
def dkwX11_like_1 : List UInt8 := [172]
abbrev dktX11_like_1 : List UInt8 := dkwX11_like_1 ++ []
def dkwX11_like_0 : List UInt8 := [42, 43, 28, 29, 183, 0, 7, 43, 182, 0, 11, 42, 182, 0, 17, 160, 0, 7, 4, 167, 0, 4, 3, 96]
abbrev dktX11_like_0 : List UInt8 := dkwX11_like_0 ++ dktX11_like_1
theorem dksX11_like_0 : cX11_like.data.toList.drop 0 = dktX11_like_0 := by decide +kernel
theorem dksX11_like_1 : cX11_like.data.toList.drop 24 = dktX11_like_1 := dk_seg dksX11_like_0 24 rfl rfl
theorem dX11_like_0 : decode cX11_like 0 = .ok (.aload_n 0, 1) := dk_42 (dk_at dksX11_like_0 0 rfl rfl)
theorem dX11_like_1 : decode cX11_like 1 = .ok (.aload_n 1, 1) := dk_43 (dk_at dksX11_like_0 1 rfl rfl)
theorem dX11_like_2 : decode cX11_like 2 = .ok (.iload_n 2, 1) := dk_28 (dk_at dksX11_like_0 2 rfl rfl)
theorem dX11_like_3 : decode cX11_like 3 = .ok (.iload_n 3, 1) := dk_29 (dk_at dksX11_like_0 3 rfl rfl)
theorem dX11_like_4 : decode cX11_like 4 = .ok (.invokespecial 7, 3) := dk_183 0 7 (dk_at dksX11_like_0 4 rfl rfl)
theorem dX11_like_7 : decode cX11_like 7 = .ok (.aload_n 1, 1) := dk_43 (dk_at dksX11_like_0 7 rfl rfl)
theorem dX11_like_8 : decode cX11_like 8 = .ok (.invokevirtual 11, 3) := dk_182 0 11 (dk_at dksX11_like_0 8 rfl rfl)
theorem dX11_like_11 : decode cX11_like 11 = .ok (.aload_n 0, 1) := dk_42 (dk_at dksX11_like_0 11 rfl rfl)
theorem dX11_like_12 : decode cX11_like 12 = .ok (.invokevirtual 17, 3) := dk_182 0 17 (dk_at dksX11_like_0 12 rfl rfl)
theorem dX11_like_15 : decode cX11_like 15 = .ok (.if_icmp .ne 7, 3) := dk_160 0 7 (dk_at dksX11_like_0 15 rfl rfl)
theorem dX11_like_18 : decode cX11_like 18 = .ok (.iconst 1, 1) := dk_4 (dk_at dksX11_like_0 18 rfl rfl)
theorem dX11_like_19 : decode cX11_like 19 = .ok (.goto 4, 3) := dk_167 0 4 (dk_at dksX11_like_0 19 rfl rfl)
theorem dX11_like_22 : decode cX11_like 22 = .ok (.iconst 0, 1) := dk_3 (dk_at dksX11_like_0 22 rfl rfl)
theorem dX11_like_23 : decode cX11_like 23 = .ok (.iadd, 1) := dk_96 (dk_at dksX11_like_0 23 rfl rfl)
theorem dX11_like_24 : decode cX11_like 24 = .ok (.ireturn, 1) := dk_172 (dk_at dksX11_like_1 0 rfl rfl)
abbrev cX11_strength : ByteArray := prog_19_method_4_code
def yX11_strength : MethodName := ⟨RX11, "strength", "(I)I"⟩
theorem dX11_strength_0 : decode cX11_strength 0 = .ok (.iconst 0, 1) := by decide +kernel
theorem dX11_strength_1 : decode cX11_strength 1 = .ok (.ireturn, 1) := by decide +kernel
abbrev cX11_cost : ByteArray := prog_19_method_5_code
def yX11_cost : MethodName := ⟨RX11, "cost", "()I"⟩
def dkwX11_cost_0 : List UInt8 := [42, 183, 0, 20, 6, 96, 172]
abbrev dktX11_cost_0 : List UInt8 := dkwX11_cost_0 ++ []
theorem dksX11_cost_0 : cX11_cost.data.toList.drop 0 = dktX11_cost_0 := by decide +kernel
theorem dX11_cost_0 : decode cX11_cost 0 = .ok (.aload_n 0, 1) := dk_42 (dk_at dksX11_cost_0 0 rfl rfl)
theorem dX11_cost_1 : decode cX11_cost 1 = .ok (.invokespecial 20, 3) := dk_183 0 20 (dk_at dksX11_cost_0 1 rfl rfl)
theorem dX11_cost_4 : decode cX11_cost 4 = .ok (.iconst 3, 1) := dk_6 (dk_at dksX11_cost_0 4 rfl rfl)
theorem dX11_cost_5 : decode cX11_cost 5 = .ok (.iadd, 1) := dk_96 (dk_at dksX11_cost_0 5 rfl rfl)
theorem dX11_cost_6 : decode cX11_cost 6 = .ok (.ireturn, 1) := dk_172 (dk_at dksX11_cost_0 6 rfl rfl)
abbrev cX11_failure : ByteArray := prog_19_method_6_code
def yX11_failure : MethodName := ⟨RX11, "failure", "()LWhoseGlass$Tossed;"⟩
theorem dX11_failure_0 : decode cX11_failure 0 = .ok (.aconst_null, 1) := by decide +kernel
theorem dX11_failure_1 : decode cX11_failure 1 = .ok (.areturn, 1) := by decide +kernel
theorem q68 : (Jvm.Cond.initialized "WhoseGlass$Water") ∈ lw_all := lw_g (lw_at lw_m1 15 rfl) rfl
theorem q304 : (Jvm.Cond.instantiable "WhoseGlass$Water" (1 : Nat)) ∈ lw_all := lw_g (lw_at lw_m2 11 rfl) rfl
theorem q306 : (Jvm.Cond.instanceMethod ({ cls := "WhoseGlass$Water", name := "<init>", desc := "(I)V" } : Jvm.MethodName)) ∈ lw_all := lw_g (lw_at lw_m2 13 rfl) rfl
theorem q307 : (Jvm.Cond.code ({ cls := "WhoseGlass$Water", name := "<init>", desc := "(I)V" } : Jvm.MethodName) prog_19_method_1_code (2 : Nat) (Option.none : Option Jvm.ClassFile.FieldType)) ∈ lw_all := lw_g (lw_at lw_m2 14 rfl) rfl
theorem q308 : (Jvm.Cond.methodLink "WhoseGlass$Water" (1 : Nat) ({ cls := "WhoseGlass$Tall", name := "<init>", desc := "(I)V" } : Jvm.MethodName)) ∈ lw_all := lw_g (lw_at lw_m2 15 rfl) rfl
theorem q309 : (Jvm.Cond.laysFinal "WhoseGlass$Water" "WhoseGlass$Glass" "figure" "I") ∈ lw_all := lw_g (lw_at lw_m2 16 rfl) rfl
theorem q310 : (Jvm.Cond.superclass "WhoseGlass$Water" "WhoseGlass$Tall") ∈ lw_all := lw_g (lw_at lw_m2 17 rfl) rfl
theorem q410 : (Jvm.Cond.unhidden "WhoseGlass$Water" "isRed" "()Z") ∈ lw_tbl := lw_at lw_m2 117 rfl
theorem q442 : (Jvm.Cond.selects "WhoseGlass$Water" ({ cls := "WhoseGlass$Glass", name := "kind", desc := "()I" } : Jvm.MethodName) ({ cls := "WhoseGlass$Water", name := "kind", desc := "()I" } : Jvm.MethodName)) ∈ lw_all := lw_g (lw_at lw_m2 149 rfl) rfl
theorem q443 : (Jvm.Cond.instanceMethod ({ cls := "WhoseGlass$Water", name := "kind", desc := "()I" } : Jvm.MethodName)) ∈ lw_all := lw_g (lw_at lw_m2 150 rfl) rfl
theorem q444 : (Jvm.Cond.code ({ cls := "WhoseGlass$Water", name := "kind", desc := "()I" } : Jvm.MethodName) prog_19_method_2_code (1 : Nat) (Option.some Jvm.ClassFile.FieldType.int)) ∈ lw_all := lw_g (lw_at lw_m2 151 rfl) rfl
theorem q467 : (Jvm.Cond.selects "WhoseGlass$Water" ({ cls := "WhoseGlass$Looks", name := "isTall", desc := "()Z" } : Jvm.MethodName) ({ cls := "WhoseGlass$Tall", name := "isTall", desc := "()Z" } : Jvm.MethodName)) ∈ lw_all := lw_g (lw_at lw_m2 174 rfl) rfl
theorem q471 : (Jvm.Cond.selects "WhoseGlass$Water" ({ cls := "WhoseGlass$Glass", name := "like", desc := "(LWhoseGlass$Glass;ZI)I" } : Jvm.MethodName) ({ cls := "WhoseGlass$Water", name := "like", desc := "(LWhoseGlass$Glass;ZI)I" } : Jvm.MethodName)) ∈ lw_all := lw_g (lw_at lw_m2 178 rfl) rfl
theorem q472 : (Jvm.Cond.instanceMethod ({ cls := "WhoseGlass$Water", name := "like", desc := "(LWhoseGlass$Glass;ZI)I" } : Jvm.MethodName)) ∈ lw_all := lw_g (lw_at lw_m2 179 rfl) rfl
theorem q473 : (Jvm.Cond.code ({ cls := "WhoseGlass$Water", name := "like", desc := "(LWhoseGlass$Glass;ZI)I" } : Jvm.MethodName) prog_19_method_3_code (4 : Nat) (Option.some Jvm.ClassFile.FieldType.int)) ∈ lw_all := lw_g (lw_at lw_m2 180 rfl) rfl
theorem q474 : (Jvm.Cond.methodLink "WhoseGlass$Water" (7 : Nat) ({ cls := "WhoseGlass$Tall", name := "like", desc := "(LWhoseGlass$Glass;ZI)I" } : Jvm.MethodName)) ∈ lw_all := lw_g (lw_at lw_m2 181 rfl) rfl
theorem q475 : (Jvm.Cond.methodLink "WhoseGlass$Water" (11 : Nat) ({ cls := "WhoseGlass$Glass", name := "kind", desc := "()I" } : Jvm.MethodName)) ∈ lw_all := lw_g (lw_at lw_m2 182 rfl) rfl
theorem q476 : (Jvm.Cond.methodLink "WhoseGlass$Water" (17 : Nat) ({ cls := "WhoseGlass$Water", name := "kind", desc := "()I" } : Jvm.MethodName)) ∈ lw_all := lw_g (lw_at lw_m2 183 rfl) rfl
theorem q506 : (Jvm.Cond.selects "WhoseGlass$Water" ({ cls := "WhoseGlass$Sips", name := "strength", desc := "(I)I" } : Jvm.MethodName) ({ cls := "WhoseGlass$Water", name := "strength", desc := "(I)I" } : Jvm.MethodName)) ∈ lw_all := lw_g (lw_at lw_m2 213 rfl) rfl
theorem q507 : (Jvm.Cond.instanceMethod ({ cls := "WhoseGlass$Water", name := "strength", desc := "(I)I" } : Jvm.MethodName)) ∈ lw_all := lw_g (lw_at lw_m2 214 rfl) rfl
theorem q508 : (Jvm.Cond.code ({ cls := "WhoseGlass$Water", name := "strength", desc := "(I)I" } : Jvm.MethodName) prog_19_method_4_code (2 : Nat) (Option.some Jvm.ClassFile.FieldType.int)) ∈ lw_all := lw_g (lw_at lw_m2 215 rfl) rfl
theorem q962 : (Jvm.Cond.selects "WhoseGlass$Water" ({ cls := "WhoseGlass$Costs", name := "cost", desc := "()I" } : Jvm.MethodName) ({ cls := "WhoseGlass$Water", name := "cost", desc := "()I" } : Jvm.MethodName)) ∈ lw_all := lw_g (lw_at lw_m4 189 rfl) rfl
theorem q963 : (Jvm.Cond.instanceMethod ({ cls := "WhoseGlass$Water", name := "cost", desc := "()I" } : Jvm.MethodName)) ∈ lw_all := lw_g (lw_at lw_m4 190 rfl) rfl
theorem q964 : (Jvm.Cond.code ({ cls := "WhoseGlass$Water", name := "cost", desc := "()I" } : Jvm.MethodName) prog_19_method_5_code (1 : Nat) (Option.some Jvm.ClassFile.FieldType.int)) ∈ lw_all := lw_g (lw_at lw_m4 191 rfl) rfl
theorem q965 : (Jvm.Cond.methodLink "WhoseGlass$Water" (20 : Nat) ({ cls := "WhoseGlass$Tall", name := "cost", desc := "()I" } : Jvm.MethodName)) ∈ lw_all := lw_g (lw_at lw_m4 192 rfl) rfl
theorem q1021 : (Jvm.Cond.selects "WhoseGlass$Water" ({ cls := "WhoseGlass$Glass", name := "failure", desc := "()LWhoseGlass$Tossed;" } : Jvm.MethodName) ({ cls := "WhoseGlass$Water", name := "failure", desc := "()LWhoseGlass$Tossed;" } : Jvm.MethodName)) ∈ lw_all := lw_g (lw_at lw_m5 8 rfl) rfl
theorem q1022 : (Jvm.Cond.instanceMethod ({ cls := "WhoseGlass$Water", name := "failure", desc := "()LWhoseGlass$Tossed;" } : Jvm.MethodName)) ∈ lw_all := lw_g (lw_at lw_m5 9 rfl) rfl
theorem q1023 : (Jvm.Cond.code ({ cls := "WhoseGlass$Water", name := "failure", desc := "()LWhoseGlass$Tossed;" } : Jvm.MethodName) prog_19_method_6_code (1 : Nat) (Option.some (Jvm.ClassFile.FieldType.object "WhoseGlass$Tossed"))) ∈ lw_all := lw_g (lw_at lw_m5 10 rfl) rfl
theorem q1568 : (Jvm.Cond.selects "WhoseGlass$Water" ({ cls := "WhoseGlass$Water", name := "kind", desc := "()I" } : Jvm.MethodName) ({ cls := "WhoseGlass$Water", name := "kind", desc := "()I" } : Jvm.MethodName)) ∈ lw_all := lw_g (lw_at lw_m7 75 rfl) rfl
theorem q1581 : (Jvm.Cond.castable "WhoseGlass$Water" "WhoseGlass$Glass") ∈ lw_tbl := lw_at lw_m7 88 rfl
theorem in_X11 : ∀ w ∈ wsX110, w ∈ lw_all := lw_in wsX110 [309] (by decide +kernel) (by decide +kernel)

/-! WhoseGlass$Owl -/
set_option maxRecDepth 100000
def RX12 : String := "WhoseGlass$Owl"
def TX12 : u_T := fun k => match k with
  | _ => ("WhoseGlass$Glass", "figure", "I", true)
def tyX12 : Nat → FieldType := fun k => match k with
  | _ => .int
abbrev wsX120 : List Cond := u_ws RX12 TX12 1
theorem nmX12 : ∀ a, a < 1 → ∀ b, b < 1 → a ≠ b → (TX12 a).2.1 ≠ (TX12 b).2.1 := by decide +kernel
theorem tyX12_ok : ∀ k, k < 1 → parseFieldDescriptor (TX12 k).2.2.1 = some (tyX12 k) := by decide +kernel
abbrev cX12_init : ByteArray := prog_11_method_1_code
def yX12_init : MethodName := ⟨RX12, "<init>", "(I)V"⟩
def dkwX12_init_0 : List UInt8 := [42, 27, 183, 0, 1, 177]
abbrev dktX12_init_0 : List UInt8 := dkwX12_init_0 ++ []
theorem dksX12_init_0 : cX12_init.data.toList.drop 0 = dktX12_init_0 := by decide +kernel
theorem dX12_init_0 : decode cX12_init 0 = .ok (.aload_n 0, 1) := dk_42 (dk_at dksX12_init_0 0 rfl rfl)
theorem dX12_init_1 : decode cX12_init 1 = .ok (.iload_n 1, 1) := dk_27 (dk_at dksX12_init_0 1 rfl rfl)
theorem dX12_init_2 : decode cX12_init 2 = .ok (.invokespecial 1, 3) := dk_183 0 1 (dk_at dksX12_init_0 2 rfl rfl)
theorem dX12_init_5 : decode cX12_init 5 = .ok (.return_, 1) := dk_177 (dk_at dksX12_init_0 5 rfl rfl)
abbrev cX12_like : ByteArray := prog_11_method_3_code
def yX12_like : MethodName := ⟨RX12, "like", "(LWhoseGlass$Glass;ZI)I"⟩
def dkwX12_like_1 : List UInt8 := [183, 0, 16, 172]
abbrev dktX12_like_1 : List UInt8 := dkwX12_like_1 ++ []
def dkwX12_like_0 : List UInt8 := [28, 154, 0, 18, 43, 182, 0, 7, 42, 182, 0, 13, 160, 0, 7, 8, 167, 0, 10, 42, 43, 28, 29]
abbrev dktX12_like_0 : List UInt8 := dkwX12_like_0 ++ dktX12_like_1
theorem dksX12_like_0 : cX12_like.data.toList.drop 0 = dktX12_like_0 := by decide +kernel
theorem dksX12_like_1 : cX12_like.data.toList.drop 23 = dktX12_like_1 := dk_seg dksX12_like_0 23 rfl rfl
theorem dX12_like_0 : decode cX12_like 0 = .ok (.iload_n 2, 1) := dk_28 (dk_at dksX12_like_0 0 rfl rfl)
theorem dX12_like_1 : decode cX12_like 1 = .ok (.ifCond .ne 18, 3) := dk_154 0 18 (dk_at dksX12_like_0 1 rfl rfl)
theorem dX12_like_4 : decode cX12_like 4 = .ok (.aload_n 1, 1) := dk_43 (dk_at dksX12_like_0 4 rfl rfl)
theorem dX12_like_5 : decode cX12_like 5 = .ok (.invokevirtual 7, 3) := dk_182 0 7 (dk_at dksX12_like_0 5 rfl rfl)
theorem dX12_like_8 : decode cX12_like 8 = .ok (.aload_n 0, 1) := dk_42 (dk_at dksX12_like_0 8 rfl rfl)
theorem dX12_like_9 : decode cX12_like 9 = .ok (.invokevirtual 13, 3) := dk_182 0 13 (dk_at dksX12_like_0 9 rfl rfl)
theorem dX12_like_12 : decode cX12_like 12 = .ok (.if_icmp .ne 7, 3) := dk_160 0 7 (dk_at dksX12_like_0 12 rfl rfl)
theorem dX12_like_15 : decode cX12_like 15 = .ok (.iconst 5, 1) := dk_8 (dk_at dksX12_like_0 15 rfl rfl)
theorem dX12_like_16 : decode cX12_like 16 = .ok (.goto 10, 3) := dk_167 0 10 (dk_at dksX12_like_0 16 rfl rfl)
theorem dX12_like_19 : decode cX12_like 19 = .ok (.aload_n 0, 1) := dk_42 (dk_at dksX12_like_0 19 rfl rfl)
theorem dX12_like_20 : decode cX12_like 20 = .ok (.aload_n 1, 1) := dk_43 (dk_at dksX12_like_0 20 rfl rfl)
theorem dX12_like_21 : decode cX12_like 21 = .ok (.iload_n 2, 1) := dk_28 (dk_at dksX12_like_0 21 rfl rfl)
theorem dX12_like_22 : decode cX12_like 22 = .ok (.iload_n 3, 1) := dk_29 (dk_at dksX12_like_0 22 rfl rfl)
theorem dX12_like_23 : decode cX12_like 23 = .ok (.invokespecial 16, 3) := dk_183 0 16 (dk_at dksX12_like_1 0 rfl rfl)
theorem dX12_like_26 : decode cX12_like 26 = .ok (.ireturn, 1) := dk_172 (dk_at dksX12_like_1 3 rfl rfl)
abbrev cX12_kind : ByteArray := prog_11_method_2_code
def yX12_kind : MethodName := ⟨RX12, "kind", "()I"⟩
theorem dX12_kind_0 : decode cX12_kind 0 = .ok (.iconst 5, 1) := by decide +kernel
theorem dX12_kind_1 : decode cX12_kind 1 = .ok (.ireturn, 1) := by decide +kernel
abbrev cX12_cost : ByteArray := prog_11_method_4_code
def yX12_cost : MethodName := ⟨RX12, "cost", "()I"⟩
def dkwX12_cost_0 : List UInt8 := [42, 183, 0, 20, 16, 9, 96, 172]
abbrev dktX12_cost_0 : List UInt8 := dkwX12_cost_0 ++ []
theorem dksX12_cost_0 : cX12_cost.data.toList.drop 0 = dktX12_cost_0 := by decide +kernel
theorem dX12_cost_0 : decode cX12_cost 0 = .ok (.aload_n 0, 1) := dk_42 (dk_at dksX12_cost_0 0 rfl rfl)
theorem dX12_cost_1 : decode cX12_cost 1 = .ok (.invokespecial 20, 3) := dk_183 0 20 (dk_at dksX12_cost_0 1 rfl rfl)
theorem dX12_cost_4 : decode cX12_cost 4 = .ok (.bipush 9, 2) := dk_16 9 (dk_at dksX12_cost_0 4 rfl rfl)
theorem dX12_cost_6 : decode cX12_cost 6 = .ok (.iadd, 1) := dk_96 (dk_at dksX12_cost_0 6 rfl rfl)
theorem dX12_cost_7 : decode cX12_cost 7 = .ok (.ireturn, 1) := dk_172 (dk_at dksX12_cost_0 7 rfl rfl)
abbrev cX12_failure : ByteArray := prog_11_method_5_code
def yX12_failure : MethodName := ⟨RX12, "failure", "()LWhoseGlass$Tossed;"⟩
def dkwX12_failure_1 : List UInt8 := [183, 0, 30, 176]
abbrev dktX12_failure_1 : List UInt8 := dkwX12_failure_1 ++ []
def dkwX12_failure_0 : List UInt8 := [42, 183, 0, 23, 199, 0, 7, 1, 167, 0, 18, 187, 0, 27, 89, 17, 0, 200, 42, 182, 0, 29, 96]
abbrev dktX12_failure_0 : List UInt8 := dkwX12_failure_0 ++ dktX12_failure_1
theorem dksX12_failure_0 : cX12_failure.data.toList.drop 0 = dktX12_failure_0 := by decide +kernel
theorem dksX12_failure_1 : cX12_failure.data.toList.drop 23 = dktX12_failure_1 := dk_seg dksX12_failure_0 23 rfl rfl
theorem dX12_failure_0 : decode cX12_failure 0 = .ok (.aload_n 0, 1) := dk_42 (dk_at dksX12_failure_0 0 rfl rfl)
theorem dX12_failure_1 : decode cX12_failure 1 = .ok (.invokespecial 23, 3) := dk_183 0 23 (dk_at dksX12_failure_0 1 rfl rfl)
theorem dX12_failure_4 : decode cX12_failure 4 = .ok (.ifnonnull 7, 3) := dk_199 0 7 (dk_at dksX12_failure_0 4 rfl rfl)
theorem dX12_failure_7 : decode cX12_failure 7 = .ok (.aconst_null, 1) := dk_1 (dk_at dksX12_failure_0 7 rfl rfl)
theorem dX12_failure_8 : decode cX12_failure 8 = .ok (.goto 18, 3) := dk_167 0 18 (dk_at dksX12_failure_0 8 rfl rfl)
theorem dX12_failure_11 : decode cX12_failure 11 = .ok (.new 27, 3) := dk_187 0 27 (dk_at dksX12_failure_0 11 rfl rfl)
theorem dX12_failure_14 : decode cX12_failure 14 = .ok (.dup, 1) := dk_89 (dk_at dksX12_failure_0 14 rfl rfl)
theorem dX12_failure_15 : decode cX12_failure 15 = .ok (.sipush 200, 3) := dk_17 0 200 (dk_at dksX12_failure_0 15 rfl rfl)
theorem dX12_failure_18 : decode cX12_failure 18 = .ok (.aload_n 0, 1) := dk_42 (dk_at dksX12_failure_0 18 rfl rfl)
theorem dX12_failure_19 : decode cX12_failure 19 = .ok (.invokevirtual 29, 3) := dk_182 0 29 (dk_at dksX12_failure_0 19 rfl rfl)
theorem dX12_failure_22 : decode cX12_failure 22 = .ok (.iadd, 1) := dk_96 (dk_at dksX12_failure_0 22 rfl rfl)
theorem dX12_failure_23 : decode cX12_failure 23 = .ok (.invokespecial 30, 3) := dk_183 0 30 (dk_at dksX12_failure_1 0 rfl rfl)
theorem dX12_failure_26 : decode cX12_failure 26 = .ok (.areturn, 1) := dk_176 (dk_at dksX12_failure_1 3 rfl rfl)
theorem q69 : (Jvm.Cond.initialized "WhoseGlass$Owl") ∈ lw_all := lw_g (lw_at lw_m1 16 rfl) rfl
theorem q312 : (Jvm.Cond.instantiable "WhoseGlass$Owl" (1 : Nat)) ∈ lw_all := lw_g (lw_at lw_m2 19 rfl) rfl
theorem q314 : (Jvm.Cond.instanceMethod ({ cls := "WhoseGlass$Owl", name := "<init>", desc := "(I)V" } : Jvm.MethodName)) ∈ lw_all := lw_g (lw_at lw_m2 21 rfl) rfl
theorem q315 : (Jvm.Cond.code ({ cls := "WhoseGlass$Owl", name := "<init>", desc := "(I)V" } : Jvm.MethodName) prog_11_method_1_code (2 : Nat) (Option.none : Option Jvm.ClassFile.FieldType)) ∈ lw_all := lw_g (lw_at lw_m2 22 rfl) rfl
theorem q316 : (Jvm.Cond.methodLink "WhoseGlass$Owl" (1 : Nat) ({ cls := "WhoseGlass$Marked", name := "<init>", desc := "(I)V" } : Jvm.MethodName)) ∈ lw_all := lw_g (lw_at lw_m2 23 rfl) rfl
theorem q317 : (Jvm.Cond.laysFinal "WhoseGlass$Owl" "WhoseGlass$Glass" "figure" "I") ∈ lw_all := lw_g (lw_at lw_m2 24 rfl) rfl
theorem q318 : (Jvm.Cond.superclass "WhoseGlass$Owl" "WhoseGlass$Marked") ∈ lw_all := lw_g (lw_at lw_m2 25 rfl) rfl
theorem q406 : (Jvm.Cond.unhidden "WhoseGlass$Owl" "isRed" "()Z") ∈ lw_tbl := lw_at lw_m2 113 rfl
theorem q417 : (Jvm.Cond.selects "WhoseGlass$Owl" ({ cls := "WhoseGlass$Glass", name := "like", desc := "(LWhoseGlass$Glass;ZI)I" } : Jvm.MethodName) ({ cls := "WhoseGlass$Owl", name := "like", desc := "(LWhoseGlass$Glass;ZI)I" } : Jvm.MethodName)) ∈ lw_all := lw_g (lw_at lw_m2 124 rfl) rfl
theorem q418 : (Jvm.Cond.instanceMethod ({ cls := "WhoseGlass$Owl", name := "like", desc := "(LWhoseGlass$Glass;ZI)I" } : Jvm.MethodName)) ∈ lw_all := lw_g (lw_at lw_m2 125 rfl) rfl
theorem q419 : (Jvm.Cond.code ({ cls := "WhoseGlass$Owl", name := "like", desc := "(LWhoseGlass$Glass;ZI)I" } : Jvm.MethodName) prog_11_method_3_code (4 : Nat) (Option.some Jvm.ClassFile.FieldType.int)) ∈ lw_all := lw_g (lw_at lw_m2 126 rfl) rfl
theorem q420 : (Jvm.Cond.methodLink "WhoseGlass$Owl" (7 : Nat) ({ cls := "WhoseGlass$Glass", name := "kind", desc := "()I" } : Jvm.MethodName)) ∈ lw_all := lw_g (lw_at lw_m2 127 rfl) rfl
theorem q430 : (Jvm.Cond.selects "WhoseGlass$Owl" ({ cls := "WhoseGlass$Glass", name := "kind", desc := "()I" } : Jvm.MethodName) ({ cls := "WhoseGlass$Owl", name := "kind", desc := "()I" } : Jvm.MethodName)) ∈ lw_all := lw_g (lw_at lw_m2 137 rfl) rfl
theorem q431 : (Jvm.Cond.instanceMethod ({ cls := "WhoseGlass$Owl", name := "kind", desc := "()I" } : Jvm.MethodName)) ∈ lw_all := lw_g (lw_at lw_m2 138 rfl) rfl
theorem q432 : (Jvm.Cond.code ({ cls := "WhoseGlass$Owl", name := "kind", desc := "()I" } : Jvm.MethodName) prog_11_method_2_code (1 : Nat) (Option.some Jvm.ClassFile.FieldType.int)) ∈ lw_all := lw_g (lw_at lw_m2 139 rfl) rfl
theorem q446 : (Jvm.Cond.methodLink "WhoseGlass$Owl" (13 : Nat) ({ cls := "WhoseGlass$Owl", name := "kind", desc := "()I" } : Jvm.MethodName)) ∈ lw_all := lw_g (lw_at lw_m2 153 rfl) rfl
theorem q447 : (Jvm.Cond.methodLink "WhoseGlass$Owl" (16 : Nat) ({ cls := "WhoseGlass$Marked", name := "like", desc := "(LWhoseGlass$Glass;ZI)I" } : Jvm.MethodName)) ∈ lw_all := lw_g (lw_at lw_m2 154 rfl) rfl
theorem q461 : (Jvm.Cond.unhidden "WhoseGlass$Owl" "isTall" "()Z") ∈ lw_tbl := lw_at lw_m2 168 rfl
theorem q497 : (Jvm.Cond.unhidden "WhoseGlass$Owl" "strength" "(I)I") ∈ lw_tbl := lw_at lw_m2 204 rfl
theorem q950 : (Jvm.Cond.selects "WhoseGlass$Owl" ({ cls := "WhoseGlass$Costs", name := "cost", desc := "()I" } : Jvm.MethodName) ({ cls := "WhoseGlass$Owl", name := "cost", desc := "()I" } : Jvm.MethodName)) ∈ lw_all := lw_g (lw_at lw_m4 177 rfl) rfl
theorem q951 : (Jvm.Cond.instanceMethod ({ cls := "WhoseGlass$Owl", name := "cost", desc := "()I" } : Jvm.MethodName)) ∈ lw_all := lw_g (lw_at lw_m4 178 rfl) rfl
theorem q952 : (Jvm.Cond.code ({ cls := "WhoseGlass$Owl", name := "cost", desc := "()I" } : Jvm.MethodName) prog_11_method_4_code (1 : Nat) (Option.some Jvm.ClassFile.FieldType.int)) ∈ lw_all := lw_g (lw_at lw_m4 179 rfl) rfl
theorem q953 : (Jvm.Cond.methodLink "WhoseGlass$Owl" (20 : Nat) ({ cls := "WhoseGlass$Marked", name := "cost", desc := "()I" } : Jvm.MethodName)) ∈ lw_all := lw_g (lw_at lw_m4 180 rfl) rfl
theorem q1000 : (Jvm.Cond.selects "WhoseGlass$Owl" ({ cls := "WhoseGlass$Glass", name := "failure", desc := "()LWhoseGlass$Tossed;" } : Jvm.MethodName) ({ cls := "WhoseGlass$Owl", name := "failure", desc := "()LWhoseGlass$Tossed;" } : Jvm.MethodName)) ∈ lw_all := lw_g (lw_at lw_m4 227 rfl) rfl
theorem q1001 : (Jvm.Cond.instanceMethod ({ cls := "WhoseGlass$Owl", name := "failure", desc := "()LWhoseGlass$Tossed;" } : Jvm.MethodName)) ∈ lw_all := lw_g (lw_at lw_m4 228 rfl) rfl
theorem q1002 : (Jvm.Cond.code ({ cls := "WhoseGlass$Owl", name := "failure", desc := "()LWhoseGlass$Tossed;" } : Jvm.MethodName) prog_11_method_5_code (1 : Nat) (Option.some (Jvm.ClassFile.FieldType.object "WhoseGlass$Tossed"))) ∈ lw_all := lw_g (lw_at lw_m4 229 rfl) rfl
theorem q1003 : (Jvm.Cond.methodLink "WhoseGlass$Owl" (23 : Nat) ({ cls := "WhoseGlass$Marked", name := "failure", desc := "()LWhoseGlass$Tossed;" } : Jvm.MethodName)) ∈ lw_all := lw_g (lw_at lw_m4 230 rfl) rfl
theorem q1006 : (Jvm.Cond.classLink "WhoseGlass$Owl" (27 : Nat) "WhoseGlass$Tossed") ∈ lw_all := lw_g (lw_at lw_m4 233 rfl) rfl
theorem q1007 : (Jvm.Cond.methodLink "WhoseGlass$Owl" (29 : Nat) ({ cls := "WhoseGlass$Owl", name := "cost", desc := "()I" } : Jvm.MethodName)) ∈ lw_all := lw_g (lw_at lw_m4 234 rfl) rfl
theorem q1008 : (Jvm.Cond.methodLink "WhoseGlass$Owl" (30 : Nat) ({ cls := "WhoseGlass$Tossed", name := "<init>", desc := "(I)V" } : Jvm.MethodName)) ∈ lw_all := lw_g (lw_at lw_m4 235 rfl) rfl
theorem q1565 : (Jvm.Cond.selects "WhoseGlass$Owl" ({ cls := "WhoseGlass$Owl", name := "kind", desc := "()I" } : Jvm.MethodName) ({ cls := "WhoseGlass$Owl", name := "kind", desc := "()I" } : Jvm.MethodName)) ∈ lw_all := lw_g (lw_at lw_m7 72 rfl) rfl
theorem q1573 : (Jvm.Cond.selects "WhoseGlass$Owl" ({ cls := "WhoseGlass$Owl", name := "cost", desc := "()I" } : Jvm.MethodName) ({ cls := "WhoseGlass$Owl", name := "cost", desc := "()I" } : Jvm.MethodName)) ∈ lw_all := lw_g (lw_at lw_m7 80 rfl) rfl
theorem q1577 : (Jvm.Cond.castable "WhoseGlass$Owl" "WhoseGlass$Glass") ∈ lw_tbl := lw_at lw_m7 84 rfl
theorem in_X12 : ∀ w ∈ wsX120, w ∈ lw_all := lw_in wsX120 [317] (by decide +kernel) (by decide +kernel)

/-! WhoseGlass$Chipped -/
set_option maxRecDepth 100000
def RX13 : String := "WhoseGlass$Chipped"
def TX13 : u_T := fun k => match k with
  | _ => ("WhoseGlass$Glass", "figure", "I", true)
def tyX13 : Nat → FieldType := fun k => match k with
  | _ => .int
abbrev wsX130 : List Cond := u_ws RX13 TX13 1
theorem nmX13 : ∀ a, a < 1 → ∀ b, b < 1 → a ≠ b → (TX13 a).2.1 ≠ (TX13 b).2.1 := by decide +kernel
theorem tyX13_ok : ∀ k, k < 1 → parseFieldDescriptor (TX13 k).2.2.1 = some (tyX13 k) := by decide +kernel
abbrev cX13_init : ByteArray := prog_3_method_1_code
def yX13_init : MethodName := ⟨RX13, "<init>", "(I)V"⟩
def dkwX13_init_0 : List UInt8 := [42, 27, 183, 0, 1, 177]
abbrev dktX13_init_0 : List UInt8 := dkwX13_init_0 ++ []
theorem dksX13_init_0 : cX13_init.data.toList.drop 0 = dktX13_init_0 := by decide +kernel
theorem dX13_init_0 : decode cX13_init 0 = .ok (.aload_n 0, 1) := dk_42 (dk_at dksX13_init_0 0 rfl rfl)
theorem dX13_init_1 : decode cX13_init 1 = .ok (.iload_n 1, 1) := dk_27 (dk_at dksX13_init_0 1 rfl rfl)
theorem dX13_init_2 : decode cX13_init 2 = .ok (.invokespecial 1, 3) := dk_183 0 1 (dk_at dksX13_init_0 2 rfl rfl)
theorem dX13_init_5 : decode cX13_init 5 = .ok (.return_, 1) := dk_177 (dk_at dksX13_init_0 5 rfl rfl)
abbrev cX13_like : ByteArray := prog_3_method_3_code
def yX13_like : MethodName := ⟨RX13, "like", "(LWhoseGlass$Glass;ZI)I"⟩
def dkwX13_like_0 : List UInt8 := [28, 153, 0, 15, 5, 42, 43, 4, 29, 183, 0, 7, 104, 167, 0, 10, 42, 43, 3, 29, 183, 0, 7, 172]
abbrev dktX13_like_0 : List UInt8 := dkwX13_like_0 ++ []
theorem dksX13_like_0 : cX13_like.data.toList.drop 0 = dktX13_like_0 := by decide +kernel
theorem dX13_like_0 : decode cX13_like 0 = .ok (.iload_n 2, 1) := dk_28 (dk_at dksX13_like_0 0 rfl rfl)
theorem dX13_like_1 : decode cX13_like 1 = .ok (.ifCond .eq 15, 3) := dk_153 0 15 (dk_at dksX13_like_0 1 rfl rfl)
theorem dX13_like_4 : decode cX13_like 4 = .ok (.iconst 2, 1) := dk_5 (dk_at dksX13_like_0 4 rfl rfl)
theorem dX13_like_5 : decode cX13_like 5 = .ok (.aload_n 0, 1) := dk_42 (dk_at dksX13_like_0 5 rfl rfl)
theorem dX13_like_6 : decode cX13_like 6 = .ok (.aload_n 1, 1) := dk_43 (dk_at dksX13_like_0 6 rfl rfl)
theorem dX13_like_7 : decode cX13_like 7 = .ok (.iconst 1, 1) := dk_4 (dk_at dksX13_like_0 7 rfl rfl)
theorem dX13_like_8 : decode cX13_like 8 = .ok (.iload_n 3, 1) := dk_29 (dk_at dksX13_like_0 8 rfl rfl)
theorem dX13_like_9 : decode cX13_like 9 = .ok (.invokespecial 7, 3) := dk_183 0 7 (dk_at dksX13_like_0 9 rfl rfl)
theorem dX13_like_12 : decode cX13_like 12 = .ok (.imul, 1) := dk_104 (dk_at dksX13_like_0 12 rfl rfl)
theorem dX13_like_13 : decode cX13_like 13 = .ok (.goto 10, 3) := dk_167 0 10 (dk_at dksX13_like_0 13 rfl rfl)
theorem dX13_like_16 : decode cX13_like 16 = .ok (.aload_n 0, 1) := dk_42 (dk_at dksX13_like_0 16 rfl rfl)
theorem dX13_like_17 : decode cX13_like 17 = .ok (.aload_n 1, 1) := dk_43 (dk_at dksX13_like_0 17 rfl rfl)
theorem dX13_like_18 : decode cX13_like 18 = .ok (.iconst 0, 1) := dk_3 (dk_at dksX13_like_0 18 rfl rfl)
theorem dX13_like_19 : decode cX13_like 19 = .ok (.iload_n 3, 1) := dk_29 (dk_at dksX13_like_0 19 rfl rfl)
theorem dX13_like_20 : decode cX13_like 20 = .ok (.invokespecial 7, 3) := dk_183 0 7 (dk_at dksX13_like_0 20 rfl rfl)
theorem dX13_like_23 : decode cX13_like 23 = .ok (.ireturn, 1) := dk_172 (dk_at dksX13_like_0 23 rfl rfl)
abbrev cX13_kind : ByteArray := prog_3_method_2_code
def yX13_kind : MethodName := ⟨RX13, "kind", "()I"⟩
theorem dX13_kind_0 : decode cX13_kind 0 = .ok (.bipush 6, 2) := by decide +kernel
theorem dX13_kind_2 : decode cX13_kind 2 = .ok (.ireturn, 1) := by decide +kernel
abbrev cX13_strength : ByteArray := prog_3_method_4_code
def yX13_strength : MethodName := ⟨RX13, "strength", "(I)I"⟩
def dkwX13_strength_0 : List UInt8 := [27, 5, 112, 4, 160, 0, 7, 3, 167, 0, 8, 42, 27, 183, 0, 11, 172]
abbrev dktX13_strength_0 : List UInt8 := dkwX13_strength_0 ++ []
theorem dksX13_strength_0 : cX13_strength.data.toList.drop 0 = dktX13_strength_0 := by decide +kernel
theorem dX13_strength_0 : decode cX13_strength 0 = .ok (.iload_n 1, 1) := dk_27 (dk_at dksX13_strength_0 0 rfl rfl)
theorem dX13_strength_1 : decode cX13_strength 1 = .ok (.iconst 2, 1) := dk_5 (dk_at dksX13_strength_0 1 rfl rfl)
theorem dX13_strength_2 : decode cX13_strength 2 = .ok (.irem, 1) := dk_112 (dk_at dksX13_strength_0 2 rfl rfl)
theorem dX13_strength_3 : decode cX13_strength 3 = .ok (.iconst 1, 1) := dk_4 (dk_at dksX13_strength_0 3 rfl rfl)
theorem dX13_strength_4 : decode cX13_strength 4 = .ok (.if_icmp .ne 7, 3) := dk_160 0 7 (dk_at dksX13_strength_0 4 rfl rfl)
theorem dX13_strength_7 : decode cX13_strength 7 = .ok (.iconst 0, 1) := dk_3 (dk_at dksX13_strength_0 7 rfl rfl)
theorem dX13_strength_8 : decode cX13_strength 8 = .ok (.goto 8, 3) := dk_167 0 8 (dk_at dksX13_strength_0 8 rfl rfl)
theorem dX13_strength_11 : decode cX13_strength 11 = .ok (.aload_n 0, 1) := dk_42 (dk_at dksX13_strength_0 11 rfl rfl)
theorem dX13_strength_12 : decode cX13_strength 12 = .ok (.iload_n 1, 1) := dk_27 (dk_at dksX13_strength_0 12 rfl rfl)
theorem dX13_strength_13 : decode cX13_strength 13 = .ok (.invokespecial 11, 3) := dk_183 0 11 (dk_at dksX13_strength_0 13 rfl rfl)
theorem dX13_strength_16 : decode cX13_strength 16 = .ok (.ireturn, 1) := dk_172 (dk_at dksX13_strength_0 16 rfl rfl)
abbrev cX13_cost : ByteArray := prog_3_method_5_code
def yX13_cost : MethodName := ⟨RX13, "cost", "()I"⟩
def dkwX13_cost_0 : List UInt8 := [42, 183, 0, 15, 4, 100, 172]
abbrev dktX13_cost_0 : List UInt8 := dkwX13_cost_0 ++ []
theorem dksX13_cost_0 : cX13_cost.data.toList.drop 0 = dktX13_cost_0 := by decide +kernel
theorem dX13_cost_0 : decode cX13_cost 0 = .ok (.aload_n 0, 1) := dk_42 (dk_at dksX13_cost_0 0 rfl rfl)
theorem dX13_cost_1 : decode cX13_cost 1 = .ok (.invokespecial 15, 3) := dk_183 0 15 (dk_at dksX13_cost_0 1 rfl rfl)
theorem dX13_cost_4 : decode cX13_cost 4 = .ok (.iconst 1, 1) := dk_4 (dk_at dksX13_cost_0 4 rfl rfl)
theorem dX13_cost_5 : decode cX13_cost 5 = .ok (.isub, 1) := dk_100 (dk_at dksX13_cost_0 5 rfl rfl)
theorem dX13_cost_6 : decode cX13_cost 6 = .ok (.ireturn, 1) := dk_172 (dk_at dksX13_cost_0 6 rfl rfl)
abbrev cX13_failure : ByteArray := prog_3_method_6_code
def yX13_failure : MethodName := ⟨RX13, "failure", "()LWhoseGlass$Tossed;"⟩
def dkwX13_failure_0 : List UInt8 := [42, 180, 0, 19, 154, 0, 7, 1, 167, 0, 14, 187, 0, 25, 89, 42, 180, 0, 19, 183, 0, 27, 176]
abbrev dktX13_failure_0 : List UInt8 := dkwX13_failure_0 ++ []
theorem dksX13_failure_0 : cX13_failure.data.toList.drop 0 = dktX13_failure_0 := by decide +kernel
theorem dX13_failure_0 : decode cX13_failure 0 = .ok (.aload_n 0, 1) := dk_42 (dk_at dksX13_failure_0 0 rfl rfl)
theorem dX13_failure_1 : decode cX13_failure 1 = .ok (.getfield 19, 3) := dk_180 0 19 (dk_at dksX13_failure_0 1 rfl rfl)
theorem dX13_failure_4 : decode cX13_failure 4 = .ok (.ifCond .ne 7, 3) := dk_154 0 7 (dk_at dksX13_failure_0 4 rfl rfl)
theorem dX13_failure_7 : decode cX13_failure 7 = .ok (.aconst_null, 1) := dk_1 (dk_at dksX13_failure_0 7 rfl rfl)
theorem dX13_failure_8 : decode cX13_failure 8 = .ok (.goto 14, 3) := dk_167 0 14 (dk_at dksX13_failure_0 8 rfl rfl)
theorem dX13_failure_11 : decode cX13_failure 11 = .ok (.new 25, 3) := dk_187 0 25 (dk_at dksX13_failure_0 11 rfl rfl)
theorem dX13_failure_14 : decode cX13_failure 14 = .ok (.dup, 1) := dk_89 (dk_at dksX13_failure_0 14 rfl rfl)
theorem dX13_failure_15 : decode cX13_failure 15 = .ok (.aload_n 0, 1) := dk_42 (dk_at dksX13_failure_0 15 rfl rfl)
theorem dX13_failure_16 : decode cX13_failure 16 = .ok (.getfield 19, 3) := dk_180 0 19 (dk_at dksX13_failure_0 16 rfl rfl)
theorem dX13_failure_19 : decode cX13_failure 19 = .ok (.invokespecial 27, 3) := dk_183 0 27 (dk_at dksX13_failure_0 19 rfl rfl)
theorem dX13_failure_22 : decode cX13_failure 22 = .ok (.areturn, 1) := dk_176 (dk_at dksX13_failure_0 22 rfl rfl)
theorem q70 : (Jvm.Cond.initialized "WhoseGlass$Chipped") ∈ lw_all := lw_g (lw_at lw_m1 17 rfl) rfl
theorem q273 : (Jvm.Cond.fieldLink "WhoseGlass$Chipped" (19 : Nat) "WhoseGlass$Chipped" "figure" "I") ∈ lw_all := lw_g (lw_at lw_m1 220 rfl) rfl
theorem q274 : (Jvm.Cond.sameField "WhoseGlass$Chipped" "WhoseGlass$Glass" "figure" "I") ∈ lw_all := lw_g (lw_at lw_m1 221 rfl) rfl
theorem q320 : (Jvm.Cond.instantiable "WhoseGlass$Chipped" (1 : Nat)) ∈ lw_all := lw_g (lw_at lw_m2 27 rfl) rfl
theorem q322 : (Jvm.Cond.instanceMethod ({ cls := "WhoseGlass$Chipped", name := "<init>", desc := "(I)V" } : Jvm.MethodName)) ∈ lw_all := lw_g (lw_at lw_m2 29 rfl) rfl
theorem q323 : (Jvm.Cond.code ({ cls := "WhoseGlass$Chipped", name := "<init>", desc := "(I)V" } : Jvm.MethodName) prog_3_method_1_code (2 : Nat) (Option.none : Option Jvm.ClassFile.FieldType)) ∈ lw_all := lw_g (lw_at lw_m2 30 rfl) rfl
theorem q324 : (Jvm.Cond.methodLink "WhoseGlass$Chipped" (1 : Nat) ({ cls := "WhoseGlass$Red", name := "<init>", desc := "(I)V" } : Jvm.MethodName)) ∈ lw_all := lw_g (lw_at lw_m2 31 rfl) rfl
theorem q325 : (Jvm.Cond.laysFinal "WhoseGlass$Chipped" "WhoseGlass$Glass" "figure" "I") ∈ lw_all := lw_g (lw_at lw_m2 32 rfl) rfl
theorem q326 : (Jvm.Cond.superclass "WhoseGlass$Chipped" "WhoseGlass$Red") ∈ lw_all := lw_g (lw_at lw_m2 33 rfl) rfl
theorem q393 : (Jvm.Cond.selects "WhoseGlass$Chipped" ({ cls := "WhoseGlass$Glass", name := "like", desc := "(LWhoseGlass$Glass;ZI)I" } : Jvm.MethodName) ({ cls := "WhoseGlass$Chipped", name := "like", desc := "(LWhoseGlass$Glass;ZI)I" } : Jvm.MethodName)) ∈ lw_all := lw_g (lw_at lw_m2 100 rfl) rfl
theorem q394 : (Jvm.Cond.instanceMethod ({ cls := "WhoseGlass$Chipped", name := "like", desc := "(LWhoseGlass$Glass;ZI)I" } : Jvm.MethodName)) ∈ lw_all := lw_g (lw_at lw_m2 101 rfl) rfl
theorem q395 : (Jvm.Cond.code ({ cls := "WhoseGlass$Chipped", name := "like", desc := "(LWhoseGlass$Glass;ZI)I" } : Jvm.MethodName) prog_3_method_3_code (4 : Nat) (Option.some Jvm.ClassFile.FieldType.int)) ∈ lw_all := lw_g (lw_at lw_m2 102 rfl) rfl
theorem q396 : (Jvm.Cond.methodLink "WhoseGlass$Chipped" (7 : Nat) ({ cls := "WhoseGlass$Red", name := "like", desc := "(LWhoseGlass$Glass;ZI)I" } : Jvm.MethodName)) ∈ lw_all := lw_g (lw_at lw_m2 103 rfl) rfl
theorem q401 : (Jvm.Cond.selects "WhoseGlass$Chipped" ({ cls := "WhoseGlass$Looks", name := "isRed", desc := "()Z" } : Jvm.MethodName) ({ cls := "WhoseGlass$Red", name := "isRed", desc := "()Z" } : Jvm.MethodName)) ∈ lw_all := lw_g (lw_at lw_m2 108 rfl) rfl
theorem q424 : (Jvm.Cond.selects "WhoseGlass$Chipped" ({ cls := "WhoseGlass$Glass", name := "kind", desc := "()I" } : Jvm.MethodName) ({ cls := "WhoseGlass$Chipped", name := "kind", desc := "()I" } : Jvm.MethodName)) ∈ lw_all := lw_g (lw_at lw_m2 131 rfl) rfl
theorem q425 : (Jvm.Cond.instanceMethod ({ cls := "WhoseGlass$Chipped", name := "kind", desc := "()I" } : Jvm.MethodName)) ∈ lw_all := lw_g (lw_at lw_m2 132 rfl) rfl
theorem q426 : (Jvm.Cond.code ({ cls := "WhoseGlass$Chipped", name := "kind", desc := "()I" } : Jvm.MethodName) prog_3_method_2_code (1 : Nat) (Option.some Jvm.ClassFile.FieldType.int)) ∈ lw_all := lw_g (lw_at lw_m2 133 rfl) rfl
theorem q458 : (Jvm.Cond.unhidden "WhoseGlass$Chipped" "isTall" "()Z") ∈ lw_tbl := lw_at lw_m2 165 rfl
theorem q487 : (Jvm.Cond.selects "WhoseGlass$Chipped" ({ cls := "WhoseGlass$Sips", name := "strength", desc := "(I)I" } : Jvm.MethodName) ({ cls := "WhoseGlass$Chipped", name := "strength", desc := "(I)I" } : Jvm.MethodName)) ∈ lw_all := lw_g (lw_at lw_m2 194 rfl) rfl
theorem q488 : (Jvm.Cond.instanceMethod ({ cls := "WhoseGlass$Chipped", name := "strength", desc := "(I)I" } : Jvm.MethodName)) ∈ lw_all := lw_g (lw_at lw_m2 195 rfl) rfl
theorem q489 : (Jvm.Cond.code ({ cls := "WhoseGlass$Chipped", name := "strength", desc := "(I)I" } : Jvm.MethodName) prog_3_method_4_code (2 : Nat) (Option.some Jvm.ClassFile.FieldType.int)) ∈ lw_all := lw_g (lw_at lw_m2 196 rfl) rfl
theorem q490 : (Jvm.Cond.methodLink "WhoseGlass$Chipped" (11 : Nat) ({ cls := "WhoseGlass$Red", name := "strength", desc := "(I)I" } : Jvm.MethodName)) ∈ lw_all := lw_g (lw_at lw_m2 197 rfl) rfl
theorem q938 : (Jvm.Cond.selects "WhoseGlass$Chipped" ({ cls := "WhoseGlass$Costs", name := "cost", desc := "()I" } : Jvm.MethodName) ({ cls := "WhoseGlass$Chipped", name := "cost", desc := "()I" } : Jvm.MethodName)) ∈ lw_all := lw_g (lw_at lw_m4 165 rfl) rfl
theorem q939 : (Jvm.Cond.instanceMethod ({ cls := "WhoseGlass$Chipped", name := "cost", desc := "()I" } : Jvm.MethodName)) ∈ lw_all := lw_g (lw_at lw_m4 166 rfl) rfl
theorem q940 : (Jvm.Cond.code ({ cls := "WhoseGlass$Chipped", name := "cost", desc := "()I" } : Jvm.MethodName) prog_3_method_5_code (1 : Nat) (Option.some Jvm.ClassFile.FieldType.int)) ∈ lw_all := lw_g (lw_at lw_m4 167 rfl) rfl
theorem q941 : (Jvm.Cond.methodLink "WhoseGlass$Chipped" (15 : Nat) ({ cls := "WhoseGlass$Red", name := "cost", desc := "()I" } : Jvm.MethodName)) ∈ lw_all := lw_g (lw_at lw_m4 168 rfl) rfl
theorem q976 : (Jvm.Cond.selects "WhoseGlass$Chipped" ({ cls := "WhoseGlass$Glass", name := "failure", desc := "()LWhoseGlass$Tossed;" } : Jvm.MethodName) ({ cls := "WhoseGlass$Chipped", name := "failure", desc := "()LWhoseGlass$Tossed;" } : Jvm.MethodName)) ∈ lw_all := lw_g (lw_at lw_m4 203 rfl) rfl
theorem q977 : (Jvm.Cond.instanceMethod ({ cls := "WhoseGlass$Chipped", name := "failure", desc := "()LWhoseGlass$Tossed;" } : Jvm.MethodName)) ∈ lw_all := lw_g (lw_at lw_m4 204 rfl) rfl
theorem q978 : (Jvm.Cond.code ({ cls := "WhoseGlass$Chipped", name := "failure", desc := "()LWhoseGlass$Tossed;" } : Jvm.MethodName) prog_3_method_6_code (1 : Nat) (Option.some (Jvm.ClassFile.FieldType.object "WhoseGlass$Tossed"))) ∈ lw_all := lw_g (lw_at lw_m4 205 rfl) rfl
theorem q979 : (Jvm.Cond.classLink "WhoseGlass$Chipped" (25 : Nat) "WhoseGlass$Tossed") ∈ lw_all := lw_g (lw_at lw_m4 206 rfl) rfl
theorem q988 : (Jvm.Cond.methodLink "WhoseGlass$Chipped" (27 : Nat) ({ cls := "WhoseGlass$Tossed", name := "<init>", desc := "(I)V" } : Jvm.MethodName)) ∈ lw_all := lw_g (lw_at lw_m4 215 rfl) rfl
theorem q1575 : (Jvm.Cond.castable "WhoseGlass$Chipped" "WhoseGlass$Glass") ∈ lw_tbl := lw_at lw_m7 82 rfl
theorem in_X13 : ∀ w ∈ wsX130, w ∈ lw_all := lw_in wsX130 [325] (by decide +kernel) (by decide +kernel)

/-! WhoseGlass$Poured -/
set_option maxRecDepth 100000
def RX14 : String := "WhoseGlass$Poured"
def TX14 : u_T := fun k => match k with
  | _ => ("WhoseGlass$Glass", "figure", "I", true)
def tyX14 : Nat → FieldType := fun k => match k with
  | _ => .int
abbrev wsX140 : List Cond := u_ws RX14 TX14 1
theorem nmX14 : ∀ a, a < 1 → ∀ b, b < 1 → a ≠ b → (TX14 a).2.1 ≠ (TX14 b).2.1 := by decide +kernel
theorem tyX14_ok : ∀ k, k < 1 → parseFieldDescriptor (TX14 k).2.2.1 = some (tyX14 k) := by decide +kernel
abbrev cX14_init : ByteArray := prog_12_method_1_code
def yX14_init : MethodName := ⟨RX14, "<init>", "(I)V"⟩
def dkwX14_init_0 : List UInt8 := [42, 27, 183, 0, 1, 177]
abbrev dktX14_init_0 : List UInt8 := dkwX14_init_0 ++ []
theorem dksX14_init_0 : cX14_init.data.toList.drop 0 = dktX14_init_0 := by decide +kernel
theorem dX14_init_0 : decode cX14_init 0 = .ok (.aload_n 0, 1) := dk_42 (dk_at dksX14_init_0 0 rfl rfl)
theorem dX14_init_1 : decode cX14_init 1 = .ok (.iload_n 1, 1) := dk_27 (dk_at dksX14_init_0 1 rfl rfl)
theorem dX14_init_2 : decode cX14_init 2 = .ok (.invokespecial 1, 3) := dk_183 0 1 (dk_at dksX14_init_0 2 rfl rfl)
theorem dX14_init_5 : decode cX14_init 5 = .ok (.return_, 1) := dk_177 (dk_at dksX14_init_0 5 rfl rfl)
abbrev cX14_kind : ByteArray := prog_12_method_2_code
def yX14_kind : MethodName := ⟨RX14, "kind", "()I"⟩
theorem dX14_kind_0 : decode cX14_kind 0 = .ok (.bipush 7, 2) := by decide +kernel
theorem dX14_kind_2 : decode cX14_kind 2 = .ok (.ireturn, 1) := by decide +kernel
abbrev cX14_like : ByteArray := prog_12_method_3_code
def yX14_like : MethodName := ⟨RX14, "like", "(LWhoseGlass$Glass;ZI)I"⟩
def dkwX14_like_0 : List UInt8 := [29, 154, 0, 7, 3, 167, 0, 10, 42, 43, 28, 29, 183, 0, 7, 172]
abbrev dktX14_like_0 : List UInt8 := dkwX14_like_0 ++ []
theorem dksX14_like_0 : cX14_like.data.toList.drop 0 = dktX14_like_0 := by decide +kernel
theorem dX14_like_0 : decode cX14_like 0 = .ok (.iload_n 3, 1) := dk_29 (dk_at dksX14_like_0 0 rfl rfl)
theorem dX14_like_1 : decode cX14_like 1 = .ok (.ifCond .ne 7, 3) := dk_154 0 7 (dk_at dksX14_like_0 1 rfl rfl)
theorem dX14_like_4 : decode cX14_like 4 = .ok (.iconst 0, 1) := dk_3 (dk_at dksX14_like_0 4 rfl rfl)
theorem dX14_like_5 : decode cX14_like 5 = .ok (.goto 10, 3) := dk_167 0 10 (dk_at dksX14_like_0 5 rfl rfl)
theorem dX14_like_8 : decode cX14_like 8 = .ok (.aload_n 0, 1) := dk_42 (dk_at dksX14_like_0 8 rfl rfl)
theorem dX14_like_9 : decode cX14_like 9 = .ok (.aload_n 1, 1) := dk_43 (dk_at dksX14_like_0 9 rfl rfl)
theorem dX14_like_10 : decode cX14_like 10 = .ok (.iload_n 2, 1) := dk_28 (dk_at dksX14_like_0 10 rfl rfl)
theorem dX14_like_11 : decode cX14_like 11 = .ok (.iload_n 3, 1) := dk_29 (dk_at dksX14_like_0 11 rfl rfl)
theorem dX14_like_12 : decode cX14_like 12 = .ok (.invokespecial 7, 3) := dk_183 0 7 (dk_at dksX14_like_0 12 rfl rfl)
theorem dX14_like_15 : decode cX14_like 15 = .ok (.ireturn, 1) := dk_172 (dk_at dksX14_like_0 15 rfl rfl)
abbrev cX14_strength : ByteArray := prog_12_method_4_code
def yX14_strength : MethodName := ⟨RX14, "strength", "(I)I"⟩
def dkwX14_strength_0 : List UInt8 := [42, 27, 183, 0, 11, 4, 96, 172]
abbrev dktX14_strength_0 : List UInt8 := dkwX14_strength_0 ++ []
theorem dksX14_strength_0 : cX14_strength.data.toList.drop 0 = dktX14_strength_0 := by decide +kernel
theorem dX14_strength_0 : decode cX14_strength 0 = .ok (.aload_n 0, 1) := dk_42 (dk_at dksX14_strength_0 0 rfl rfl)
theorem dX14_strength_1 : decode cX14_strength 1 = .ok (.iload_n 1, 1) := dk_27 (dk_at dksX14_strength_0 1 rfl rfl)
theorem dX14_strength_2 : decode cX14_strength 2 = .ok (.invokespecial 11, 3) := dk_183 0 11 (dk_at dksX14_strength_0 2 rfl rfl)
theorem dX14_strength_5 : decode cX14_strength 5 = .ok (.iconst 1, 1) := dk_4 (dk_at dksX14_strength_0 5 rfl rfl)
theorem dX14_strength_6 : decode cX14_strength 6 = .ok (.iadd, 1) := dk_96 (dk_at dksX14_strength_0 6 rfl rfl)
theorem dX14_strength_7 : decode cX14_strength 7 = .ok (.ireturn, 1) := dk_172 (dk_at dksX14_strength_0 7 rfl rfl)
abbrev cX14_cost : ByteArray := prog_12_method_5_code
def yX14_cost : MethodName := ⟨RX14, "cost", "()I"⟩
def dkwX14_cost_0 : List UInt8 := [42, 183, 0, 15, 42, 180, 0, 19, 4, 96, 104, 172]
abbrev dktX14_cost_0 : List UInt8 := dkwX14_cost_0 ++ []
theorem dksX14_cost_0 : cX14_cost.data.toList.drop 0 = dktX14_cost_0 := by decide +kernel
theorem dX14_cost_0 : decode cX14_cost 0 = .ok (.aload_n 0, 1) := dk_42 (dk_at dksX14_cost_0 0 rfl rfl)
theorem dX14_cost_1 : decode cX14_cost 1 = .ok (.invokespecial 15, 3) := dk_183 0 15 (dk_at dksX14_cost_0 1 rfl rfl)
theorem dX14_cost_4 : decode cX14_cost 4 = .ok (.aload_n 0, 1) := dk_42 (dk_at dksX14_cost_0 4 rfl rfl)
theorem dX14_cost_5 : decode cX14_cost 5 = .ok (.getfield 19, 3) := dk_180 0 19 (dk_at dksX14_cost_0 5 rfl rfl)
theorem dX14_cost_8 : decode cX14_cost 8 = .ok (.iconst 1, 1) := dk_4 (dk_at dksX14_cost_0 8 rfl rfl)
theorem dX14_cost_9 : decode cX14_cost 9 = .ok (.iadd, 1) := dk_96 (dk_at dksX14_cost_0 9 rfl rfl)
theorem dX14_cost_10 : decode cX14_cost 10 = .ok (.imul, 1) := dk_104 (dk_at dksX14_cost_0 10 rfl rfl)
theorem dX14_cost_11 : decode cX14_cost 11 = .ok (.ireturn, 1) := dk_172 (dk_at dksX14_cost_0 11 rfl rfl)
abbrev cX14_failure : ByteArray := prog_12_method_6_code
def yX14_failure : MethodName := ⟨RX14, "failure", "()LWhoseGlass$Tossed;"⟩
def dkwX14_failure_0 : List UInt8 := [42, 180, 0, 19, 154, 0, 7, 1, 167, 0, 14, 187, 0, 25, 89, 42, 180, 0, 19, 183, 0, 27, 176]
abbrev dktX14_failure_0 : List UInt8 := dkwX14_failure_0 ++ []
theorem dksX14_failure_0 : cX14_failure.data.toList.drop 0 = dktX14_failure_0 := by decide +kernel
theorem dX14_failure_0 : decode cX14_failure 0 = .ok (.aload_n 0, 1) := dk_42 (dk_at dksX14_failure_0 0 rfl rfl)
theorem dX14_failure_1 : decode cX14_failure 1 = .ok (.getfield 19, 3) := dk_180 0 19 (dk_at dksX14_failure_0 1 rfl rfl)
theorem dX14_failure_4 : decode cX14_failure 4 = .ok (.ifCond .ne 7, 3) := dk_154 0 7 (dk_at dksX14_failure_0 4 rfl rfl)
theorem dX14_failure_7 : decode cX14_failure 7 = .ok (.aconst_null, 1) := dk_1 (dk_at dksX14_failure_0 7 rfl rfl)
theorem dX14_failure_8 : decode cX14_failure 8 = .ok (.goto 14, 3) := dk_167 0 14 (dk_at dksX14_failure_0 8 rfl rfl)
theorem dX14_failure_11 : decode cX14_failure 11 = .ok (.new 25, 3) := dk_187 0 25 (dk_at dksX14_failure_0 11 rfl rfl)
theorem dX14_failure_14 : decode cX14_failure 14 = .ok (.dup, 1) := dk_89 (dk_at dksX14_failure_0 14 rfl rfl)
theorem dX14_failure_15 : decode cX14_failure 15 = .ok (.aload_n 0, 1) := dk_42 (dk_at dksX14_failure_0 15 rfl rfl)
theorem dX14_failure_16 : decode cX14_failure 16 = .ok (.getfield 19, 3) := dk_180 0 19 (dk_at dksX14_failure_0 16 rfl rfl)
theorem dX14_failure_19 : decode cX14_failure 19 = .ok (.invokespecial 27, 3) := dk_183 0 27 (dk_at dksX14_failure_0 19 rfl rfl)
theorem dX14_failure_22 : decode cX14_failure 22 = .ok (.areturn, 1) := dk_176 (dk_at dksX14_failure_0 22 rfl rfl)
theorem q71 : (Jvm.Cond.initialized "WhoseGlass$Poured") ∈ lw_all := lw_g (lw_at lw_m1 18 rfl) rfl
theorem q269 : (Jvm.Cond.fieldLink "WhoseGlass$Poured" (19 : Nat) "WhoseGlass$Poured" "figure" "I") ∈ lw_all := lw_g (lw_at lw_m1 216 rfl) rfl
theorem q270 : (Jvm.Cond.sameField "WhoseGlass$Poured" "WhoseGlass$Glass" "figure" "I") ∈ lw_all := lw_g (lw_at lw_m1 217 rfl) rfl
theorem q328 : (Jvm.Cond.instantiable "WhoseGlass$Poured" (1 : Nat)) ∈ lw_all := lw_g (lw_at lw_m2 35 rfl) rfl
theorem q330 : (Jvm.Cond.instanceMethod ({ cls := "WhoseGlass$Poured", name := "<init>", desc := "(I)V" } : Jvm.MethodName)) ∈ lw_all := lw_g (lw_at lw_m2 37 rfl) rfl
theorem q331 : (Jvm.Cond.code ({ cls := "WhoseGlass$Poured", name := "<init>", desc := "(I)V" } : Jvm.MethodName) prog_12_method_1_code (2 : Nat) (Option.none : Option Jvm.ClassFile.FieldType)) ∈ lw_all := lw_g (lw_at lw_m2 38 rfl) rfl
theorem q332 : (Jvm.Cond.methodLink "WhoseGlass$Poured" (1 : Nat) ({ cls := "WhoseGlass$Red", name := "<init>", desc := "(I)V" } : Jvm.MethodName)) ∈ lw_all := lw_g (lw_at lw_m2 39 rfl) rfl
theorem q333 : (Jvm.Cond.laysFinal "WhoseGlass$Poured" "WhoseGlass$Glass" "figure" "I") ∈ lw_all := lw_g (lw_at lw_m2 40 rfl) rfl
theorem q334 : (Jvm.Cond.superclass "WhoseGlass$Poured" "WhoseGlass$Red") ∈ lw_all := lw_g (lw_at lw_m2 41 rfl) rfl
theorem q407 : (Jvm.Cond.selects "WhoseGlass$Poured" ({ cls := "WhoseGlass$Looks", name := "isRed", desc := "()Z" } : Jvm.MethodName) ({ cls := "WhoseGlass$Red", name := "isRed", desc := "()Z" } : Jvm.MethodName)) ∈ lw_all := lw_g (lw_at lw_m2 114 rfl) rfl
theorem q433 : (Jvm.Cond.selects "WhoseGlass$Poured" ({ cls := "WhoseGlass$Glass", name := "kind", desc := "()I" } : Jvm.MethodName) ({ cls := "WhoseGlass$Poured", name := "kind", desc := "()I" } : Jvm.MethodName)) ∈ lw_all := lw_g (lw_at lw_m2 140 rfl) rfl
theorem q434 : (Jvm.Cond.instanceMethod ({ cls := "WhoseGlass$Poured", name := "kind", desc := "()I" } : Jvm.MethodName)) ∈ lw_all := lw_g (lw_at lw_m2 141 rfl) rfl
theorem q435 : (Jvm.Cond.code ({ cls := "WhoseGlass$Poured", name := "kind", desc := "()I" } : Jvm.MethodName) prog_12_method_2_code (1 : Nat) (Option.some Jvm.ClassFile.FieldType.int)) ∈ lw_all := lw_g (lw_at lw_m2 142 rfl) rfl
theorem q448 : (Jvm.Cond.selects "WhoseGlass$Poured" ({ cls := "WhoseGlass$Glass", name := "like", desc := "(LWhoseGlass$Glass;ZI)I" } : Jvm.MethodName) ({ cls := "WhoseGlass$Poured", name := "like", desc := "(LWhoseGlass$Glass;ZI)I" } : Jvm.MethodName)) ∈ lw_all := lw_g (lw_at lw_m2 155 rfl) rfl
theorem q449 : (Jvm.Cond.instanceMethod ({ cls := "WhoseGlass$Poured", name := "like", desc := "(LWhoseGlass$Glass;ZI)I" } : Jvm.MethodName)) ∈ lw_all := lw_g (lw_at lw_m2 156 rfl) rfl
theorem q450 : (Jvm.Cond.code ({ cls := "WhoseGlass$Poured", name := "like", desc := "(LWhoseGlass$Glass;ZI)I" } : Jvm.MethodName) prog_12_method_3_code (4 : Nat) (Option.some Jvm.ClassFile.FieldType.int)) ∈ lw_all := lw_g (lw_at lw_m2 157 rfl) rfl
theorem q451 : (Jvm.Cond.methodLink "WhoseGlass$Poured" (7 : Nat) ({ cls := "WhoseGlass$Red", name := "like", desc := "(LWhoseGlass$Glass;ZI)I" } : Jvm.MethodName)) ∈ lw_all := lw_g (lw_at lw_m2 158 rfl) rfl
theorem q462 : (Jvm.Cond.unhidden "WhoseGlass$Poured" "isTall" "()Z") ∈ lw_tbl := lw_at lw_m2 169 rfl
theorem q498 : (Jvm.Cond.selects "WhoseGlass$Poured" ({ cls := "WhoseGlass$Sips", name := "strength", desc := "(I)I" } : Jvm.MethodName) ({ cls := "WhoseGlass$Poured", name := "strength", desc := "(I)I" } : Jvm.MethodName)) ∈ lw_all := lw_g (lw_at lw_m2 205 rfl) rfl
theorem q499 : (Jvm.Cond.instanceMethod ({ cls := "WhoseGlass$Poured", name := "strength", desc := "(I)I" } : Jvm.MethodName)) ∈ lw_all := lw_g (lw_at lw_m2 206 rfl) rfl
theorem q500 : (Jvm.Cond.code ({ cls := "WhoseGlass$Poured", name := "strength", desc := "(I)I" } : Jvm.MethodName) prog_12_method_4_code (2 : Nat) (Option.some Jvm.ClassFile.FieldType.int)) ∈ lw_all := lw_g (lw_at lw_m2 207 rfl) rfl
theorem q501 : (Jvm.Cond.methodLink "WhoseGlass$Poured" (11 : Nat) ({ cls := "WhoseGlass$Red", name := "strength", desc := "(I)I" } : Jvm.MethodName)) ∈ lw_all := lw_g (lw_at lw_m2 208 rfl) rfl
theorem q954 : (Jvm.Cond.selects "WhoseGlass$Poured" ({ cls := "WhoseGlass$Costs", name := "cost", desc := "()I" } : Jvm.MethodName) ({ cls := "WhoseGlass$Poured", name := "cost", desc := "()I" } : Jvm.MethodName)) ∈ lw_all := lw_g (lw_at lw_m4 181 rfl) rfl
theorem q955 : (Jvm.Cond.instanceMethod ({ cls := "WhoseGlass$Poured", name := "cost", desc := "()I" } : Jvm.MethodName)) ∈ lw_all := lw_g (lw_at lw_m4 182 rfl) rfl
theorem q956 : (Jvm.Cond.code ({ cls := "WhoseGlass$Poured", name := "cost", desc := "()I" } : Jvm.MethodName) prog_12_method_5_code (1 : Nat) (Option.some Jvm.ClassFile.FieldType.int)) ∈ lw_all := lw_g (lw_at lw_m4 183 rfl) rfl
theorem q957 : (Jvm.Cond.methodLink "WhoseGlass$Poured" (15 : Nat) ({ cls := "WhoseGlass$Red", name := "cost", desc := "()I" } : Jvm.MethodName)) ∈ lw_all := lw_g (lw_at lw_m4 184 rfl) rfl
theorem q1009 : (Jvm.Cond.selects "WhoseGlass$Poured" ({ cls := "WhoseGlass$Glass", name := "failure", desc := "()LWhoseGlass$Tossed;" } : Jvm.MethodName) ({ cls := "WhoseGlass$Poured", name := "failure", desc := "()LWhoseGlass$Tossed;" } : Jvm.MethodName)) ∈ lw_all := lw_g (lw_at lw_m4 236 rfl) rfl
theorem q1010 : (Jvm.Cond.instanceMethod ({ cls := "WhoseGlass$Poured", name := "failure", desc := "()LWhoseGlass$Tossed;" } : Jvm.MethodName)) ∈ lw_all := lw_g (lw_at lw_m4 237 rfl) rfl
theorem q1011 : (Jvm.Cond.code ({ cls := "WhoseGlass$Poured", name := "failure", desc := "()LWhoseGlass$Tossed;" } : Jvm.MethodName) prog_12_method_6_code (1 : Nat) (Option.some (Jvm.ClassFile.FieldType.object "WhoseGlass$Tossed"))) ∈ lw_all := lw_g (lw_at lw_m4 238 rfl) rfl
theorem q1012 : (Jvm.Cond.classLink "WhoseGlass$Poured" (25 : Nat) "WhoseGlass$Tossed") ∈ lw_all := lw_g (lw_at lw_m4 239 rfl) rfl
theorem q1013 : (Jvm.Cond.methodLink "WhoseGlass$Poured" (27 : Nat) ({ cls := "WhoseGlass$Tossed", name := "<init>", desc := "(I)V" } : Jvm.MethodName)) ∈ lw_all := lw_g (lw_at lw_m5 0 rfl) rfl
theorem q1578 : (Jvm.Cond.castable "WhoseGlass$Poured" "WhoseGlass$Glass") ∈ lw_tbl := lw_at lw_m7 85 rfl
theorem in_X14 : ∀ w ∈ wsX140, w ∈ lw_all := lw_in wsX140 [333] (by decide +kernel) (by decide +kernel)

/-! WhoseGlass$Tossed -/
set_option maxRecDepth 100000
def RX15 : String := "WhoseGlass$Tossed"
def TX15 : u_T := fun k => match k with
  | 0 => ("java/lang/Throwable", "cause", "Ljava/lang/Throwable;", false)
  | 1 => ("java/lang/Throwable", "stackTrace", "[Ljava/lang/StackTraceElement;", false)
  | 2 => ("java/lang/Throwable", "suppressedExceptions", "Ljava/util/List;", false)
  | 3 => ("java/lang/Throwable", "detailMessage", "Ljava/lang/String;", false)
  | 4 => ("java/lang/Throwable", "backtrace", "Ljava/lang/Object;", false)
  | 5 => ("java/lang/Throwable", "depth", "I", false)
  | _ => ("WhoseGlass$Tossed", "n", "I", true)
def tyX15 : Nat → FieldType := fun k => match k with
  | 0 => .object "java/lang/Throwable"
  | 1 => .array (.object "java/lang/StackTraceElement")
  | 2 => .object "java/util/List"
  | 3 => .object "java/lang/String"
  | 4 => .object "java/lang/Object"
  | 5 => .int
  | _ => .int
abbrev wsX150 : List Cond := u_ws RX15 TX15 7
theorem nmX15 : ∀ a, a < 7 → ∀ b, b < 7 → a ≠ b → (TX15 a).2.1 ≠ (TX15 b).2.1 := by decide +kernel
theorem tyX15_ok : ∀ k, k < 7 → parseFieldDescriptor (TX15 k).2.2.1 = some (tyX15 k) := by decide +kernel
abbrev cX15_init : ByteArray := prog_18_method_1_code
def yX15_init : MethodName := ⟨RX15, "<init>", "(I)V"⟩
def dkwX15_init_0 : List UInt8 := [42, 183, 0, 1, 42, 27, 181, 0, 7, 177]
abbrev dktX15_init_0 : List UInt8 := dkwX15_init_0 ++ []
theorem dksX15_init_0 : cX15_init.data.toList.drop 0 = dktX15_init_0 := by decide +kernel
theorem dX15_init_0 : decode cX15_init 0 = .ok (.aload_n 0, 1) := dk_42 (dk_at dksX15_init_0 0 rfl rfl)
theorem dX15_init_1 : decode cX15_init 1 = .ok (.invokespecial 1, 3) := dk_183 0 1 (dk_at dksX15_init_0 1 rfl rfl)
theorem dX15_init_4 : decode cX15_init 4 = .ok (.aload_n 0, 1) := dk_42 (dk_at dksX15_init_0 4 rfl rfl)
theorem dX15_init_5 : decode cX15_init 5 = .ok (.iload_n 1, 1) := dk_27 (dk_at dksX15_init_0 5 rfl rfl)
theorem dX15_init_6 : decode cX15_init 6 = .ok (.putfield 7, 3) := dk_181 0 7 (dk_at dksX15_init_0 6 rfl rfl)
theorem dX15_init_9 : decode cX15_init 9 = .ok (.return_, 1) := dk_177 (dk_at dksX15_init_0 9 rfl rfl)
theorem q80 : (Jvm.Cond.initialized "WhoseGlass$Tossed") ∈ lw_all := lw_g (lw_at lw_m1 27 rfl) rfl
theorem q192 : (Jvm.Cond.selects "WhoseGlass$Tossed" ({ cls := "java/lang/Throwable", name := "fillInStackTrace", desc := "()Ljava/lang/Throwable;" } : Jvm.MethodName) ({ cls := "java/lang/Throwable", name := "fillInStackTrace", desc := "()Ljava/lang/Throwable;" } : Jvm.MethodName)) ∈ lw_all := lw_g (lw_at lw_m1 139 rfl) rfl
theorem q980 : (Jvm.Cond.instantiable "WhoseGlass$Tossed" (7 : Nat)) ∈ lw_all := lw_g (lw_at lw_m4 207 rfl) rfl
theorem q981 : (Jvm.Cond.castable "WhoseGlass$Tossed" "WhoseGlass$Tossed") ∈ lw_tbl := lw_at lw_m4 208 rfl
theorem q982 : (Jvm.Cond.selects "WhoseGlass$Tossed" ({ cls := "java/lang/Throwable", name := "fillInStackTrace", desc := "(I)Ljava/lang/Throwable;" } : Jvm.MethodName) ({ cls := "java/lang/Throwable", name := "fillInStackTrace", desc := "(I)Ljava/lang/Throwable;" } : Jvm.MethodName)) ∈ lw_all := lw_g (lw_at lw_m4 209 rfl) rfl
theorem q983 : (Jvm.Cond.lays "WhoseGlass$Tossed" "java/lang/Throwable" "cause" "Ljava/lang/Throwable;") ∈ lw_all := lw_g (lw_at lw_m4 210 rfl) rfl
theorem q984 : (Jvm.Cond.lays "WhoseGlass$Tossed" "java/lang/Throwable" "stackTrace" "[Ljava/lang/StackTraceElement;") ∈ lw_all := lw_g (lw_at lw_m4 211 rfl) rfl
theorem q985 : (Jvm.Cond.lays "WhoseGlass$Tossed" "java/lang/Throwable" "suppressedExceptions" "Ljava/util/List;") ∈ lw_all := lw_g (lw_at lw_m4 212 rfl) rfl
theorem q986 : (Jvm.Cond.lays "WhoseGlass$Tossed" "java/lang/Throwable" "detailMessage" "Ljava/lang/String;") ∈ lw_all := lw_g (lw_at lw_m4 213 rfl) rfl
theorem q987 : (Jvm.Cond.lays "WhoseGlass$Tossed" "java/lang/Throwable" "backtrace" "Ljava/lang/Object;") ∈ lw_all := lw_g (lw_at lw_m4 214 rfl) rfl
theorem q989 : (Jvm.Cond.instanceMethod ({ cls := "WhoseGlass$Tossed", name := "<init>", desc := "(I)V" } : Jvm.MethodName)) ∈ lw_all := lw_g (lw_at lw_m4 216 rfl) rfl
theorem q990 : (Jvm.Cond.code ({ cls := "WhoseGlass$Tossed", name := "<init>", desc := "(I)V" } : Jvm.MethodName) prog_18_method_1_code (2 : Nat) (Option.none : Option Jvm.ClassFile.FieldType)) ∈ lw_all := lw_g (lw_at lw_m4 217 rfl) rfl
theorem q991 : (Jvm.Cond.methodLink "WhoseGlass$Tossed" (1 : Nat) ({ cls := "java/lang/RuntimeException", name := "<init>", desc := "()V" } : Jvm.MethodName)) ∈ lw_all := lw_g (lw_at lw_m4 218 rfl) rfl
theorem q992 : (Jvm.Cond.fieldLink "WhoseGlass$Tossed" (7 : Nat) "WhoseGlass$Tossed" "n" "I") ∈ lw_all := lw_g (lw_at lw_m4 219 rfl) rfl
theorem q995 : (Jvm.Cond.laysFinal "WhoseGlass$Tossed" "WhoseGlass$Tossed" "n" "I") ∈ lw_all := lw_g (lw_at lw_m4 222 rfl) rfl
theorem q996 : (Jvm.Cond.soleField "WhoseGlass$Tossed" "n") ∈ lw_all := lw_g (lw_at lw_m4 223 rfl) rfl
theorem q997 : (Jvm.Cond.lays "WhoseGlass$Tossed" "java/lang/Throwable" "depth" "I") ∈ lw_all := lw_g (lw_at lw_m4 224 rfl) rfl
theorem q998 : (Jvm.Cond.superclass "WhoseGlass$Tossed" "java/lang/RuntimeException") ∈ lw_all := lw_g (lw_at lw_m4 225 rfl) rfl
theorem in_X15 : ∀ w ∈ wsX150, w ∈ lw_all := lw_in wsX150 [983, 984, 985, 986, 987, 997, 995] (by decide +kernel) (by decide +kernel)

/-! WhoseGlass$Looks -/
set_option maxRecDepth 100000
def RX16 : String := "WhoseGlass$Looks"
abbrev cX16_isRed : ByteArray := prog_9_method_2_code
def yX16_isRed : MethodName := ⟨RX16, "isRed", "()Z"⟩
theorem dX16_isRed_0 : decode cX16_isRed 0 = .ok (.iconst 0, 1) := by decide +kernel
theorem dX16_isRed_1 : decode cX16_isRed 1 = .ok (.ireturn, 1) := by decide +kernel
abbrev cX16_isTall : ByteArray := prog_9_method_1_code
def yX16_isTall : MethodName := ⟨RX16, "isTall", "()Z"⟩
theorem dX16_isTall_0 : decode cX16_isTall 0 = .ok (.iconst 0, 1) := by decide +kernel
theorem dX16_isTall_1 : decode cX16_isTall 1 = .ok (.ireturn, 1) := by decide +kernel
theorem q400 : (Jvm.Cond.declares ({ cls := "WhoseGlass$Looks", name := "isRed", desc := "()Z" } : Jvm.MethodName)) ∈ lw_tbl := lw_at lw_m2 107 rfl
theorem q411 : (Jvm.Cond.instanceMethod ({ cls := "WhoseGlass$Looks", name := "isRed", desc := "()Z" } : Jvm.MethodName)) ∈ lw_all := lw_g (lw_at lw_m2 118 rfl) rfl
theorem q412 : (Jvm.Cond.publicMethod ({ cls := "WhoseGlass$Looks", name := "isRed", desc := "()Z" } : Jvm.MethodName)) ∈ lw_tbl := lw_at lw_m2 119 rfl
theorem q413 : (Jvm.Cond.code ({ cls := "WhoseGlass$Looks", name := "isRed", desc := "()Z" } : Jvm.MethodName) prog_9_method_2_code (1 : Nat) (Option.some Jvm.ClassFile.FieldType.boolean)) ∈ lw_all := lw_g (lw_at lw_m2 120 rfl) rfl
theorem q457 : (Jvm.Cond.declares ({ cls := "WhoseGlass$Looks", name := "isTall", desc := "()Z" } : Jvm.MethodName)) ∈ lw_tbl := lw_at lw_m2 164 rfl
theorem q468 : (Jvm.Cond.instanceMethod ({ cls := "WhoseGlass$Looks", name := "isTall", desc := "()Z" } : Jvm.MethodName)) ∈ lw_all := lw_g (lw_at lw_m2 175 rfl) rfl
theorem q469 : (Jvm.Cond.publicMethod ({ cls := "WhoseGlass$Looks", name := "isTall", desc := "()Z" } : Jvm.MethodName)) ∈ lw_tbl := lw_at lw_m2 176 rfl
theorem q470 : (Jvm.Cond.code ({ cls := "WhoseGlass$Looks", name := "isTall", desc := "()Z" } : Jvm.MethodName) prog_9_method_1_code (1 : Nat) (Option.some Jvm.ClassFile.FieldType.boolean)) ∈ lw_all := lw_g (lw_at lw_m2 177 rfl) rfl

/-! WhoseGlass$Sips -/
set_option maxRecDepth 100000
def RX17 : String := "WhoseGlass$Sips"
abbrev cX17_strength : ByteArray := prog_16_method_1_code
def yX17_strength : MethodName := ⟨RX17, "strength", "(I)I"⟩
theorem dX17_strength_0 : decode cX17_strength 0 = .ok (.iconst 2, 1) := by decide +kernel
theorem dX17_strength_1 : decode cX17_strength 1 = .ok (.ireturn, 1) := by decide +kernel
theorem q486 : (Jvm.Cond.declares ({ cls := "WhoseGlass$Sips", name := "strength", desc := "(I)I" } : Jvm.MethodName)) ∈ lw_tbl := lw_at lw_m2 193 rfl
theorem q493 : (Jvm.Cond.instanceMethod ({ cls := "WhoseGlass$Sips", name := "strength", desc := "(I)I" } : Jvm.MethodName)) ∈ lw_all := lw_g (lw_at lw_m2 200 rfl) rfl
theorem q494 : (Jvm.Cond.code ({ cls := "WhoseGlass$Sips", name := "strength", desc := "(I)I" } : Jvm.MethodName) prog_16_method_1_code (2 : Nat) (Option.some Jvm.ClassFile.FieldType.int)) ∈ lw_all := lw_g (lw_at lw_m2 201 rfl) rfl
theorem q509 : (Jvm.Cond.publicMethod ({ cls := "WhoseGlass$Sips", name := "strength", desc := "(I)I" } : Jvm.MethodName)) ∈ lw_tbl := lw_at lw_m2 216 rfl

/-! WhoseGlass$Costs -/
set_option maxRecDepth 100000
def RX18 : String := "WhoseGlass$Costs"
abbrev cX18_cost : ByteArray := prog_4_method_1_code
def yX18_cost : MethodName := ⟨RX18, "cost", "()I"⟩
theorem dX18_cost_0 : decode cX18_cost 0 = .ok (.iconst 2, 1) := by decide +kernel
theorem dX18_cost_1 : decode cX18_cost 1 = .ok (.ireturn, 1) := by decide +kernel
theorem q937 : (Jvm.Cond.declares ({ cls := "WhoseGlass$Costs", name := "cost", desc := "()I" } : Jvm.MethodName)) ∈ lw_tbl := lw_at lw_m4 164 rfl
theorem q944 : (Jvm.Cond.instanceMethod ({ cls := "WhoseGlass$Costs", name := "cost", desc := "()I" } : Jvm.MethodName)) ∈ lw_all := lw_g (lw_at lw_m4 171 rfl) rfl
theorem q945 : (Jvm.Cond.code ({ cls := "WhoseGlass$Costs", name := "cost", desc := "()I" } : Jvm.MethodName) prog_4_method_1_code (1 : Nat) (Option.some Jvm.ClassFile.FieldType.int)) ∈ lw_all := lw_g (lw_at lw_m4 172 rfl) rfl
theorem q966 : (Jvm.Cond.publicMethod ({ cls := "WhoseGlass$Costs", name := "cost", desc := "()I" } : Jvm.MethodName)) ∈ lw_tbl := lw_at lw_m4 193 rfl

/-! WhoseGlass$House -/
set_option maxRecDepth 100000
def RX2 : String := "WhoseGlass$House"
def TX2 : u_T := fun k => match k with
  | 0 => ("WhoseGlass$House", "glass", "[LWhoseGlass$Glass;", true)
  | 1 => ("WhoseGlass$House", "fill", "[I", true)
  | 2 => ("WhoseGlass$House", "where", "[I", true)
  | 3 => ("WhoseGlass$House", "laid", "[I", true)
  | 4 => ("WhoseGlass$House", "sipped", "[I", true)
  | 5 => ("WhoseGlass$House", "germs", "[Z", true)
  | 6 => ("WhoseGlass$House", "pace", "[I", true)
  | 7 => ("WhoseGlass$House", "lays", "[I", true)
  | 8 => ("WhoseGlass$House", "step", "[I", true)
  | 9 => ("WhoseGlass$House", "care", "[I", true)
  | 10 => ("WhoseGlass$House", "place", "[I", true)
  | 11 => ("WhoseGlass$House", "holds", "[I", true)
  | 12 => ("WhoseGlass$House", "own", "[I", true)
  | 13 => ("WhoseGlass$House", "had", "[I", true)
  | 14 => ("WhoseGlass$House", "glasses", "I", false)
  | 15 => ("WhoseGlass$House", "guests", "I", false)
  | 16 => ("WhoseGlass$House", "tray", "I", false)
  | 17 => ("WhoseGlass$House", "minute", "I", false)
  | 18 => ("WhoseGlass$House", "colds", "I", false)
  | 19 => ("WhoseGlass$House", "closed", "I", false)
  | 20 => ("WhoseGlass$House", "mistakes", "I", false)
  | _ => ("WhoseGlass$House", "fresh", "I", false)
def tyX2 : Nat → FieldType := fun k => match k with
  | 0 => .array (.object "WhoseGlass$Glass")
  | 1 => .array .int
  | 2 => .array .int
  | 3 => .array .int
  | 4 => .array .int
  | 5 => .array .boolean
  | 6 => .array .int
  | 7 => .array .int
  | 8 => .array .int
  | 9 => .array .int
  | 10 => .array .int
  | 11 => .array .int
  | 12 => .array .int
  | 13 => .array .int
  | 14 => .int
  | 15 => .int
  | 16 => .int
  | 17 => .int
  | 18 => .int
  | 19 => .int
  | 20 => .int
  | _ => .int
abbrev wsX20 : List Cond := u_ws RX2 TX2 22
set_option maxRecDepth 100000 in
theorem nmX2 : ∀ a, a < 22 → ∀ b, b < 22 → a ≠ b → (TX2 a).2.1 ≠ (TX2 b).2.1 := by decide +kernel
set_option maxRecDepth 100000 in
theorem tyX2_ok : ∀ k, k < 22 → parseFieldDescriptor (TX2 k).2.2.1 = some (tyX2 k) := by decide +kernel
abbrev cX2_takes : ByteArray := prog_7_method_2_code
def yX2_takes : MethodName := ⟨RX2, "takes", "(LWhoseGlass$House;)V"⟩
def dkwX2_takes_11 : List UInt8 := [42, 3, 181, 0, 86, 177]
abbrev dktX2_takes_11 : List UInt8 := dkwX2_takes_11 ++ []
def dkwX2_takes_10 : List UInt8 := [180, 0, 77, 181, 0, 77, 42, 43, 180, 0, 80, 181, 0, 80, 42, 2, 181, 0, 62, 42, 3, 181, 0, 83]
abbrev dktX2_takes_10 : List UInt8 := dkwX2_takes_10 ++ dktX2_takes_11
def dkwX2_takes_9 : List UInt8 := [180, 0, 71, 181, 0, 71, 42, 43, 180, 0, 74, 181, 0, 74, 42, 43, 180, 0, 58, 181, 0, 58, 42, 43]
abbrev dktX2_takes_9 : List UInt8 := dkwX2_takes_9 ++ dktX2_takes_10
def dkwX2_takes_8 : List UInt8 := [3, 16, 6, 184, 0, 65, 43, 180, 0, 55, 3, 42, 180, 0, 55, 3, 16, 6, 184, 0, 65, 42, 43]
abbrev dktX2_takes_8 : List UInt8 := dkwX2_takes_8 ++ dktX2_takes_9
def dkwX2_takes_7 : List UInt8 := [43, 180, 0, 49, 3, 42, 180, 0, 49, 3, 16, 6, 184, 0, 65, 43, 180, 0, 52, 3, 42, 180, 0, 52]
abbrev dktX2_takes_7 : List UInt8 := dkwX2_takes_7 ++ dktX2_takes_8
def dkwX2_takes_6 : List UInt8 := [180, 0, 43, 3, 16, 6, 184, 0, 65, 43, 180, 0, 46, 3, 42, 180, 0, 46, 3, 16, 6, 184, 0, 65]
abbrev dktX2_takes_6 : List UInt8 := dkwX2_takes_6 ++ dktX2_takes_7
def dkwX2_takes_5 : List UInt8 := [184, 0, 65, 43, 180, 0, 40, 3, 42, 180, 0, 40, 3, 16, 6, 184, 0, 65, 43, 180, 0, 43, 3, 42]
abbrev dktX2_takes_5 : List UInt8 := dkwX2_takes_5 ++ dktX2_takes_6
def dkwX2_takes_4 : List UInt8 := [3, 42, 180, 0, 34, 3, 16, 6, 184, 0, 65, 43, 180, 0, 37, 3, 42, 180, 0, 37, 3, 16, 6]
abbrev dktX2_takes_4 : List UInt8 := dkwX2_takes_4 ++ dktX2_takes_5
def dkwX2_takes_3 : List UInt8 := [16, 12, 184, 0, 65, 43, 180, 0, 30, 3, 42, 180, 0, 30, 3, 16, 12, 184, 0, 65, 43, 180, 0, 34]
abbrev dktX2_takes_3 : List UInt8 := dkwX2_takes_3 ++ dktX2_takes_4
def dkwX2_takes_2 : List UInt8 := [180, 0, 24, 3, 42, 180, 0, 24, 3, 16, 12, 184, 0, 65, 43, 180, 0, 27, 3, 42, 180, 0, 27, 3]
abbrev dktX2_takes_2 : List UInt8 := dkwX2_takes_2 ++ dktX2_takes_3
def dkwX2_takes_1 : List UInt8 := [3, 16, 12, 184, 0, 65, 43, 180, 0, 21, 3, 42, 180, 0, 21, 3, 16, 12, 184, 0, 65, 43]
abbrev dktX2_takes_1 : List UInt8 := dkwX2_takes_1 ++ dktX2_takes_2
def dkwX2_takes_0 : List UInt8 := [43, 180, 0, 11, 3, 42, 180, 0, 11, 3, 16, 12, 184, 0, 65, 43, 180, 0, 17, 3, 42, 180, 0, 17]
abbrev dktX2_takes_0 : List UInt8 := dkwX2_takes_0 ++ dktX2_takes_1
theorem dksX2_takes_0 : cX2_takes.data.toList.drop 0 = dktX2_takes_0 := by decide +kernel
theorem dksX2_takes_1 : cX2_takes.data.toList.drop 24 = dktX2_takes_1 := dk_seg dksX2_takes_0 24 rfl rfl
theorem dksX2_takes_2 : cX2_takes.data.toList.drop 46 = dktX2_takes_2 := dk_seg dksX2_takes_1 22 rfl rfl
theorem dksX2_takes_3 : cX2_takes.data.toList.drop 70 = dktX2_takes_3 := dk_seg dksX2_takes_2 24 rfl rfl
theorem dksX2_takes_4 : cX2_takes.data.toList.drop 94 = dktX2_takes_4 := dk_seg dksX2_takes_3 24 rfl rfl
theorem dksX2_takes_5 : cX2_takes.data.toList.drop 117 = dktX2_takes_5 := dk_seg dksX2_takes_4 23 rfl rfl
theorem dksX2_takes_6 : cX2_takes.data.toList.drop 141 = dktX2_takes_6 := dk_seg dksX2_takes_5 24 rfl rfl
theorem dksX2_takes_7 : cX2_takes.data.toList.drop 165 = dktX2_takes_7 := dk_seg dksX2_takes_6 24 rfl rfl
theorem dksX2_takes_8 : cX2_takes.data.toList.drop 189 = dktX2_takes_8 := dk_seg dksX2_takes_7 24 rfl rfl
theorem dksX2_takes_9 : cX2_takes.data.toList.drop 212 = dktX2_takes_9 := dk_seg dksX2_takes_8 23 rfl rfl
theorem dksX2_takes_10 : cX2_takes.data.toList.drop 236 = dktX2_takes_10 := dk_seg dksX2_takes_9 24 rfl rfl
theorem dksX2_takes_11 : cX2_takes.data.toList.drop 260 = dktX2_takes_11 := dk_seg dksX2_takes_10 24 rfl rfl
theorem dX2_takes_0 : decode cX2_takes 0 = .ok (.aload_n 1, 1) := dk_43 (dk_at dksX2_takes_0 0 rfl rfl)
theorem dX2_takes_1 : decode cX2_takes 1 = .ok (.getfield 11, 3) := dk_180 0 11 (dk_at dksX2_takes_0 1 rfl rfl)
theorem dX2_takes_4 : decode cX2_takes 4 = .ok (.iconst 0, 1) := dk_3 (dk_at dksX2_takes_0 4 rfl rfl)
theorem dX2_takes_5 : decode cX2_takes 5 = .ok (.aload_n 0, 1) := dk_42 (dk_at dksX2_takes_0 5 rfl rfl)
theorem dX2_takes_6 : decode cX2_takes 6 = .ok (.getfield 11, 3) := dk_180 0 11 (dk_at dksX2_takes_0 6 rfl rfl)
theorem dX2_takes_9 : decode cX2_takes 9 = .ok (.iconst 0, 1) := dk_3 (dk_at dksX2_takes_0 9 rfl rfl)
theorem dX2_takes_10 : decode cX2_takes 10 = .ok (.bipush 12, 2) := dk_16 12 (dk_at dksX2_takes_0 10 rfl rfl)
theorem dX2_takes_12 : decode cX2_takes 12 = .ok (.invokestatic 65, 3) := dk_184 0 65 (dk_at dksX2_takes_0 12 rfl rfl)
theorem dX2_takes_15 : decode cX2_takes 15 = .ok (.aload_n 1, 1) := dk_43 (dk_at dksX2_takes_0 15 rfl rfl)
theorem dX2_takes_16 : decode cX2_takes 16 = .ok (.getfield 17, 3) := dk_180 0 17 (dk_at dksX2_takes_0 16 rfl rfl)
theorem dX2_takes_19 : decode cX2_takes 19 = .ok (.iconst 0, 1) := dk_3 (dk_at dksX2_takes_0 19 rfl rfl)
theorem dX2_takes_20 : decode cX2_takes 20 = .ok (.aload_n 0, 1) := dk_42 (dk_at dksX2_takes_0 20 rfl rfl)
theorem dX2_takes_21 : decode cX2_takes 21 = .ok (.getfield 17, 3) := dk_180 0 17 (dk_at dksX2_takes_0 21 rfl rfl)
theorem dX2_takes_24 : decode cX2_takes 24 = .ok (.iconst 0, 1) := dk_3 (dk_at dksX2_takes_1 0 rfl rfl)
theorem dX2_takes_25 : decode cX2_takes 25 = .ok (.bipush 12, 2) := dk_16 12 (dk_at dksX2_takes_1 1 rfl rfl)
theorem dX2_takes_27 : decode cX2_takes 27 = .ok (.invokestatic 65, 3) := dk_184 0 65 (dk_at dksX2_takes_1 3 rfl rfl)
theorem dX2_takes_30 : decode cX2_takes 30 = .ok (.aload_n 1, 1) := dk_43 (dk_at dksX2_takes_1 6 rfl rfl)
theorem dX2_takes_31 : decode cX2_takes 31 = .ok (.getfield 21, 3) := dk_180 0 21 (dk_at dksX2_takes_1 7 rfl rfl)
theorem dX2_takes_34 : decode cX2_takes 34 = .ok (.iconst 0, 1) := dk_3 (dk_at dksX2_takes_1 10 rfl rfl)
theorem dX2_takes_35 : decode cX2_takes 35 = .ok (.aload_n 0, 1) := dk_42 (dk_at dksX2_takes_1 11 rfl rfl)
theorem dX2_takes_36 : decode cX2_takes 36 = .ok (.getfield 21, 3) := dk_180 0 21 (dk_at dksX2_takes_1 12 rfl rfl)
theorem dX2_takes_39 : decode cX2_takes 39 = .ok (.iconst 0, 1) := dk_3 (dk_at dksX2_takes_1 15 rfl rfl)
theorem dX2_takes_40 : decode cX2_takes 40 = .ok (.bipush 12, 2) := dk_16 12 (dk_at dksX2_takes_1 16 rfl rfl)
theorem dX2_takes_42 : decode cX2_takes 42 = .ok (.invokestatic 65, 3) := dk_184 0 65 (dk_at dksX2_takes_1 18 rfl rfl)
theorem dX2_takes_45 : decode cX2_takes 45 = .ok (.aload_n 1, 1) := dk_43 (dk_at dksX2_takes_1 21 rfl rfl)
theorem dX2_takes_46 : decode cX2_takes 46 = .ok (.getfield 24, 3) := dk_180 0 24 (dk_at dksX2_takes_2 0 rfl rfl)
theorem dX2_takes_49 : decode cX2_takes 49 = .ok (.iconst 0, 1) := dk_3 (dk_at dksX2_takes_2 3 rfl rfl)
theorem dX2_takes_50 : decode cX2_takes 50 = .ok (.aload_n 0, 1) := dk_42 (dk_at dksX2_takes_2 4 rfl rfl)
theorem dX2_takes_51 : decode cX2_takes 51 = .ok (.getfield 24, 3) := dk_180 0 24 (dk_at dksX2_takes_2 5 rfl rfl)
theorem dX2_takes_54 : decode cX2_takes 54 = .ok (.iconst 0, 1) := dk_3 (dk_at dksX2_takes_2 8 rfl rfl)
theorem dX2_takes_55 : decode cX2_takes 55 = .ok (.bipush 12, 2) := dk_16 12 (dk_at dksX2_takes_2 9 rfl rfl)
theorem dX2_takes_57 : decode cX2_takes 57 = .ok (.invokestatic 65, 3) := dk_184 0 65 (dk_at dksX2_takes_2 11 rfl rfl)
theorem dX2_takes_60 : decode cX2_takes 60 = .ok (.aload_n 1, 1) := dk_43 (dk_at dksX2_takes_2 14 rfl rfl)
theorem dX2_takes_61 : decode cX2_takes 61 = .ok (.getfield 27, 3) := dk_180 0 27 (dk_at dksX2_takes_2 15 rfl rfl)
theorem dX2_takes_64 : decode cX2_takes 64 = .ok (.iconst 0, 1) := dk_3 (dk_at dksX2_takes_2 18 rfl rfl)
theorem dX2_takes_65 : decode cX2_takes 65 = .ok (.aload_n 0, 1) := dk_42 (dk_at dksX2_takes_2 19 rfl rfl)
theorem dX2_takes_66 : decode cX2_takes 66 = .ok (.getfield 27, 3) := dk_180 0 27 (dk_at dksX2_takes_2 20 rfl rfl)
theorem dX2_takes_69 : decode cX2_takes 69 = .ok (.iconst 0, 1) := dk_3 (dk_at dksX2_takes_2 23 rfl rfl)
theorem dX2_takes_70 : decode cX2_takes 70 = .ok (.bipush 12, 2) := dk_16 12 (dk_at dksX2_takes_3 0 rfl rfl)
theorem dX2_takes_72 : decode cX2_takes 72 = .ok (.invokestatic 65, 3) := dk_184 0 65 (dk_at dksX2_takes_3 2 rfl rfl)
theorem dX2_takes_75 : decode cX2_takes 75 = .ok (.aload_n 1, 1) := dk_43 (dk_at dksX2_takes_3 5 rfl rfl)
theorem dX2_takes_76 : decode cX2_takes 76 = .ok (.getfield 30, 3) := dk_180 0 30 (dk_at dksX2_takes_3 6 rfl rfl)
theorem dX2_takes_79 : decode cX2_takes 79 = .ok (.iconst 0, 1) := dk_3 (dk_at dksX2_takes_3 9 rfl rfl)
theorem dX2_takes_80 : decode cX2_takes 80 = .ok (.aload_n 0, 1) := dk_42 (dk_at dksX2_takes_3 10 rfl rfl)
theorem dX2_takes_81 : decode cX2_takes 81 = .ok (.getfield 30, 3) := dk_180 0 30 (dk_at dksX2_takes_3 11 rfl rfl)
theorem dX2_takes_84 : decode cX2_takes 84 = .ok (.iconst 0, 1) := dk_3 (dk_at dksX2_takes_3 14 rfl rfl)
theorem dX2_takes_85 : decode cX2_takes 85 = .ok (.bipush 12, 2) := dk_16 12 (dk_at dksX2_takes_3 15 rfl rfl)
theorem dX2_takes_87 : decode cX2_takes 87 = .ok (.invokestatic 65, 3) := dk_184 0 65 (dk_at dksX2_takes_3 17 rfl rfl)
theorem dX2_takes_90 : decode cX2_takes 90 = .ok (.aload_n 1, 1) := dk_43 (dk_at dksX2_takes_3 20 rfl rfl)
theorem dX2_takes_91 : decode cX2_takes 91 = .ok (.getfield 34, 3) := dk_180 0 34 (dk_at dksX2_takes_3 21 rfl rfl)
theorem dX2_takes_94 : decode cX2_takes 94 = .ok (.iconst 0, 1) := dk_3 (dk_at dksX2_takes_4 0 rfl rfl)
theorem dX2_takes_95 : decode cX2_takes 95 = .ok (.aload_n 0, 1) := dk_42 (dk_at dksX2_takes_4 1 rfl rfl)
theorem dX2_takes_96 : decode cX2_takes 96 = .ok (.getfield 34, 3) := dk_180 0 34 (dk_at dksX2_takes_4 2 rfl rfl)
theorem dX2_takes_99 : decode cX2_takes 99 = .ok (.iconst 0, 1) := dk_3 (dk_at dksX2_takes_4 5 rfl rfl)
theorem dX2_takes_100 : decode cX2_takes 100 = .ok (.bipush 6, 2) := dk_16 6 (dk_at dksX2_takes_4 6 rfl rfl)
theorem dX2_takes_102 : decode cX2_takes 102 = .ok (.invokestatic 65, 3) := dk_184 0 65 (dk_at dksX2_takes_4 8 rfl rfl)
theorem dX2_takes_105 : decode cX2_takes 105 = .ok (.aload_n 1, 1) := dk_43 (dk_at dksX2_takes_4 11 rfl rfl)
theorem dX2_takes_106 : decode cX2_takes 106 = .ok (.getfield 37, 3) := dk_180 0 37 (dk_at dksX2_takes_4 12 rfl rfl)
theorem dX2_takes_109 : decode cX2_takes 109 = .ok (.iconst 0, 1) := dk_3 (dk_at dksX2_takes_4 15 rfl rfl)
theorem dX2_takes_110 : decode cX2_takes 110 = .ok (.aload_n 0, 1) := dk_42 (dk_at dksX2_takes_4 16 rfl rfl)
theorem dX2_takes_111 : decode cX2_takes 111 = .ok (.getfield 37, 3) := dk_180 0 37 (dk_at dksX2_takes_4 17 rfl rfl)
theorem dX2_takes_114 : decode cX2_takes 114 = .ok (.iconst 0, 1) := dk_3 (dk_at dksX2_takes_4 20 rfl rfl)
theorem dX2_takes_115 : decode cX2_takes 115 = .ok (.bipush 6, 2) := dk_16 6 (dk_at dksX2_takes_4 21 rfl rfl)
theorem dX2_takes_117 : decode cX2_takes 117 = .ok (.invokestatic 65, 3) := dk_184 0 65 (dk_at dksX2_takes_5 0 rfl rfl)
theorem dX2_takes_120 : decode cX2_takes 120 = .ok (.aload_n 1, 1) := dk_43 (dk_at dksX2_takes_5 3 rfl rfl)
theorem dX2_takes_121 : decode cX2_takes 121 = .ok (.getfield 40, 3) := dk_180 0 40 (dk_at dksX2_takes_5 4 rfl rfl)
theorem dX2_takes_124 : decode cX2_takes 124 = .ok (.iconst 0, 1) := dk_3 (dk_at dksX2_takes_5 7 rfl rfl)
theorem dX2_takes_125 : decode cX2_takes 125 = .ok (.aload_n 0, 1) := dk_42 (dk_at dksX2_takes_5 8 rfl rfl)
theorem dX2_takes_126 : decode cX2_takes 126 = .ok (.getfield 40, 3) := dk_180 0 40 (dk_at dksX2_takes_5 9 rfl rfl)
theorem dX2_takes_129 : decode cX2_takes 129 = .ok (.iconst 0, 1) := dk_3 (dk_at dksX2_takes_5 12 rfl rfl)
theorem dX2_takes_130 : decode cX2_takes 130 = .ok (.bipush 6, 2) := dk_16 6 (dk_at dksX2_takes_5 13 rfl rfl)
theorem dX2_takes_132 : decode cX2_takes 132 = .ok (.invokestatic 65, 3) := dk_184 0 65 (dk_at dksX2_takes_5 15 rfl rfl)
theorem dX2_takes_135 : decode cX2_takes 135 = .ok (.aload_n 1, 1) := dk_43 (dk_at dksX2_takes_5 18 rfl rfl)
theorem dX2_takes_136 : decode cX2_takes 136 = .ok (.getfield 43, 3) := dk_180 0 43 (dk_at dksX2_takes_5 19 rfl rfl)
theorem dX2_takes_139 : decode cX2_takes 139 = .ok (.iconst 0, 1) := dk_3 (dk_at dksX2_takes_5 22 rfl rfl)
theorem dX2_takes_140 : decode cX2_takes 140 = .ok (.aload_n 0, 1) := dk_42 (dk_at dksX2_takes_5 23 rfl rfl)
theorem dX2_takes_141 : decode cX2_takes 141 = .ok (.getfield 43, 3) := dk_180 0 43 (dk_at dksX2_takes_6 0 rfl rfl)
theorem dX2_takes_144 : decode cX2_takes 144 = .ok (.iconst 0, 1) := dk_3 (dk_at dksX2_takes_6 3 rfl rfl)
theorem dX2_takes_145 : decode cX2_takes 145 = .ok (.bipush 6, 2) := dk_16 6 (dk_at dksX2_takes_6 4 rfl rfl)
theorem dX2_takes_147 : decode cX2_takes 147 = .ok (.invokestatic 65, 3) := dk_184 0 65 (dk_at dksX2_takes_6 6 rfl rfl)
theorem dX2_takes_150 : decode cX2_takes 150 = .ok (.aload_n 1, 1) := dk_43 (dk_at dksX2_takes_6 9 rfl rfl)
theorem dX2_takes_151 : decode cX2_takes 151 = .ok (.getfield 46, 3) := dk_180 0 46 (dk_at dksX2_takes_6 10 rfl rfl)
theorem dX2_takes_154 : decode cX2_takes 154 = .ok (.iconst 0, 1) := dk_3 (dk_at dksX2_takes_6 13 rfl rfl)
theorem dX2_takes_155 : decode cX2_takes 155 = .ok (.aload_n 0, 1) := dk_42 (dk_at dksX2_takes_6 14 rfl rfl)
theorem dX2_takes_156 : decode cX2_takes 156 = .ok (.getfield 46, 3) := dk_180 0 46 (dk_at dksX2_takes_6 15 rfl rfl)
theorem dX2_takes_159 : decode cX2_takes 159 = .ok (.iconst 0, 1) := dk_3 (dk_at dksX2_takes_6 18 rfl rfl)
theorem dX2_takes_160 : decode cX2_takes 160 = .ok (.bipush 6, 2) := dk_16 6 (dk_at dksX2_takes_6 19 rfl rfl)
theorem dX2_takes_162 : decode cX2_takes 162 = .ok (.invokestatic 65, 3) := dk_184 0 65 (dk_at dksX2_takes_6 21 rfl rfl)
theorem dX2_takes_165 : decode cX2_takes 165 = .ok (.aload_n 1, 1) := dk_43 (dk_at dksX2_takes_7 0 rfl rfl)
theorem dX2_takes_166 : decode cX2_takes 166 = .ok (.getfield 49, 3) := dk_180 0 49 (dk_at dksX2_takes_7 1 rfl rfl)
theorem dX2_takes_169 : decode cX2_takes 169 = .ok (.iconst 0, 1) := dk_3 (dk_at dksX2_takes_7 4 rfl rfl)
theorem dX2_takes_170 : decode cX2_takes 170 = .ok (.aload_n 0, 1) := dk_42 (dk_at dksX2_takes_7 5 rfl rfl)
theorem dX2_takes_171 : decode cX2_takes 171 = .ok (.getfield 49, 3) := dk_180 0 49 (dk_at dksX2_takes_7 6 rfl rfl)
theorem dX2_takes_174 : decode cX2_takes 174 = .ok (.iconst 0, 1) := dk_3 (dk_at dksX2_takes_7 9 rfl rfl)
theorem dX2_takes_175 : decode cX2_takes 175 = .ok (.bipush 6, 2) := dk_16 6 (dk_at dksX2_takes_7 10 rfl rfl)
theorem dX2_takes_177 : decode cX2_takes 177 = .ok (.invokestatic 65, 3) := dk_184 0 65 (dk_at dksX2_takes_7 12 rfl rfl)
theorem dX2_takes_180 : decode cX2_takes 180 = .ok (.aload_n 1, 1) := dk_43 (dk_at dksX2_takes_7 15 rfl rfl)
theorem dX2_takes_181 : decode cX2_takes 181 = .ok (.getfield 52, 3) := dk_180 0 52 (dk_at dksX2_takes_7 16 rfl rfl)
theorem dX2_takes_184 : decode cX2_takes 184 = .ok (.iconst 0, 1) := dk_3 (dk_at dksX2_takes_7 19 rfl rfl)
theorem dX2_takes_185 : decode cX2_takes 185 = .ok (.aload_n 0, 1) := dk_42 (dk_at dksX2_takes_7 20 rfl rfl)
theorem dX2_takes_186 : decode cX2_takes 186 = .ok (.getfield 52, 3) := dk_180 0 52 (dk_at dksX2_takes_7 21 rfl rfl)
theorem dX2_takes_189 : decode cX2_takes 189 = .ok (.iconst 0, 1) := dk_3 (dk_at dksX2_takes_8 0 rfl rfl)
theorem dX2_takes_190 : decode cX2_takes 190 = .ok (.bipush 6, 2) := dk_16 6 (dk_at dksX2_takes_8 1 rfl rfl)
theorem dX2_takes_192 : decode cX2_takes 192 = .ok (.invokestatic 65, 3) := dk_184 0 65 (dk_at dksX2_takes_8 3 rfl rfl)
theorem dX2_takes_195 : decode cX2_takes 195 = .ok (.aload_n 1, 1) := dk_43 (dk_at dksX2_takes_8 6 rfl rfl)
theorem dX2_takes_196 : decode cX2_takes 196 = .ok (.getfield 55, 3) := dk_180 0 55 (dk_at dksX2_takes_8 7 rfl rfl)
theorem dX2_takes_199 : decode cX2_takes 199 = .ok (.iconst 0, 1) := dk_3 (dk_at dksX2_takes_8 10 rfl rfl)
theorem dX2_takes_200 : decode cX2_takes 200 = .ok (.aload_n 0, 1) := dk_42 (dk_at dksX2_takes_8 11 rfl rfl)
theorem dX2_takes_201 : decode cX2_takes 201 = .ok (.getfield 55, 3) := dk_180 0 55 (dk_at dksX2_takes_8 12 rfl rfl)
theorem dX2_takes_204 : decode cX2_takes 204 = .ok (.iconst 0, 1) := dk_3 (dk_at dksX2_takes_8 15 rfl rfl)
theorem dX2_takes_205 : decode cX2_takes 205 = .ok (.bipush 6, 2) := dk_16 6 (dk_at dksX2_takes_8 16 rfl rfl)
theorem dX2_takes_207 : decode cX2_takes 207 = .ok (.invokestatic 65, 3) := dk_184 0 65 (dk_at dksX2_takes_8 18 rfl rfl)
theorem dX2_takes_210 : decode cX2_takes 210 = .ok (.aload_n 0, 1) := dk_42 (dk_at dksX2_takes_8 21 rfl rfl)
theorem dX2_takes_211 : decode cX2_takes 211 = .ok (.aload_n 1, 1) := dk_43 (dk_at dksX2_takes_8 22 rfl rfl)
theorem dX2_takes_212 : decode cX2_takes 212 = .ok (.getfield 71, 3) := dk_180 0 71 (dk_at dksX2_takes_9 0 rfl rfl)
theorem dX2_takes_215 : decode cX2_takes 215 = .ok (.putfield 71, 3) := dk_181 0 71 (dk_at dksX2_takes_9 3 rfl rfl)
theorem dX2_takes_218 : decode cX2_takes 218 = .ok (.aload_n 0, 1) := dk_42 (dk_at dksX2_takes_9 6 rfl rfl)
theorem dX2_takes_219 : decode cX2_takes 219 = .ok (.aload_n 1, 1) := dk_43 (dk_at dksX2_takes_9 7 rfl rfl)
theorem dX2_takes_220 : decode cX2_takes 220 = .ok (.getfield 74, 3) := dk_180 0 74 (dk_at dksX2_takes_9 8 rfl rfl)
theorem dX2_takes_223 : decode cX2_takes 223 = .ok (.putfield 74, 3) := dk_181 0 74 (dk_at dksX2_takes_9 11 rfl rfl)
theorem dX2_takes_226 : decode cX2_takes 226 = .ok (.aload_n 0, 1) := dk_42 (dk_at dksX2_takes_9 14 rfl rfl)
theorem dX2_takes_227 : decode cX2_takes 227 = .ok (.aload_n 1, 1) := dk_43 (dk_at dksX2_takes_9 15 rfl rfl)
theorem dX2_takes_228 : decode cX2_takes 228 = .ok (.getfield 58, 3) := dk_180 0 58 (dk_at dksX2_takes_9 16 rfl rfl)
theorem dX2_takes_231 : decode cX2_takes 231 = .ok (.putfield 58, 3) := dk_181 0 58 (dk_at dksX2_takes_9 19 rfl rfl)
theorem dX2_takes_234 : decode cX2_takes 234 = .ok (.aload_n 0, 1) := dk_42 (dk_at dksX2_takes_9 22 rfl rfl)
theorem dX2_takes_235 : decode cX2_takes 235 = .ok (.aload_n 1, 1) := dk_43 (dk_at dksX2_takes_9 23 rfl rfl)
theorem dX2_takes_236 : decode cX2_takes 236 = .ok (.getfield 77, 3) := dk_180 0 77 (dk_at dksX2_takes_10 0 rfl rfl)
theorem dX2_takes_239 : decode cX2_takes 239 = .ok (.putfield 77, 3) := dk_181 0 77 (dk_at dksX2_takes_10 3 rfl rfl)
theorem dX2_takes_242 : decode cX2_takes 242 = .ok (.aload_n 0, 1) := dk_42 (dk_at dksX2_takes_10 6 rfl rfl)
theorem dX2_takes_243 : decode cX2_takes 243 = .ok (.aload_n 1, 1) := dk_43 (dk_at dksX2_takes_10 7 rfl rfl)
theorem dX2_takes_244 : decode cX2_takes 244 = .ok (.getfield 80, 3) := dk_180 0 80 (dk_at dksX2_takes_10 8 rfl rfl)
theorem dX2_takes_247 : decode cX2_takes 247 = .ok (.putfield 80, 3) := dk_181 0 80 (dk_at dksX2_takes_10 11 rfl rfl)
theorem dX2_takes_250 : decode cX2_takes 250 = .ok (.aload_n 0, 1) := dk_42 (dk_at dksX2_takes_10 14 rfl rfl)
theorem dX2_takes_251 : decode cX2_takes 251 = .ok (.iconst (-1), 1) := dk_2 (dk_at dksX2_takes_10 15 rfl rfl)
theorem dX2_takes_252 : decode cX2_takes 252 = .ok (.putfield 62, 3) := dk_181 0 62 (dk_at dksX2_takes_10 16 rfl rfl)
theorem dX2_takes_255 : decode cX2_takes 255 = .ok (.aload_n 0, 1) := dk_42 (dk_at dksX2_takes_10 19 rfl rfl)
theorem dX2_takes_256 : decode cX2_takes 256 = .ok (.iconst 0, 1) := dk_3 (dk_at dksX2_takes_10 20 rfl rfl)
theorem dX2_takes_257 : decode cX2_takes 257 = .ok (.putfield 83, 3) := dk_181 0 83 (dk_at dksX2_takes_10 21 rfl rfl)
theorem dX2_takes_260 : decode cX2_takes 260 = .ok (.aload_n 0, 1) := dk_42 (dk_at dksX2_takes_11 0 rfl rfl)
theorem dX2_takes_261 : decode cX2_takes 261 = .ok (.iconst 0, 1) := dk_3 (dk_at dksX2_takes_11 1 rfl rfl)
theorem dX2_takes_262 : decode cX2_takes 262 = .ok (.putfield 86, 3) := dk_181 0 86 (dk_at dksX2_takes_11 2 rfl rfl)
theorem dX2_takes_265 : decode cX2_takes 265 = .ok (.return_, 1) := dk_177 (dk_at dksX2_takes_11 5 rfl rfl)
abbrev cX2_comes : ByteArray := prog_7_method_6_code
def yX2_comes : MethodName := ⟨RX2, "comes", "(LWhoseGlass$Glass;II)Z"⟩
def dkwX2_comes_4 : List UInt8 := [181, 0, 71, 4, 172]
abbrev dktX2_comes_4 : List UInt8 := dkwX2_comes_4 ++ []
def dkwX2_comes_3 : List UInt8 := [180, 0, 71, 3, 79, 42, 180, 0, 30, 42, 180, 0, 71, 3, 84, 42, 89, 180, 0, 71, 4, 96]
abbrev dktX2_comes_3 : List UInt8 := dkwX2_comes_3 ++ dktX2_comes_4
def dkwX2_comes_2 : List UInt8 := [180, 0, 71, 29, 16, 6, 162, 0, 10, 42, 180, 0, 77, 167, 0, 5, 16, 252, 79, 42, 180, 0, 27, 42]
abbrev dktX2_comes_2 : List UInt8 := dkwX2_comes_2 ++ dktX2_comes_3
def dkwX2_comes_1 : List UInt8 := [180, 0, 17, 42, 180, 0, 71, 28, 79, 42, 180, 0, 21, 42, 180, 0, 71, 29, 79, 42, 180, 0, 24, 42]
abbrev dktX2_comes_1 : List UInt8 := dkwX2_comes_1 ++ dktX2_comes_2
def dkwX2_comes_0 : List UInt8 := [42, 180, 0, 71, 16, 12, 160, 0, 5, 3, 172, 42, 180, 0, 11, 42, 180, 0, 71, 43, 83, 42]
abbrev dktX2_comes_0 : List UInt8 := dkwX2_comes_0 ++ dktX2_comes_1
theorem dksX2_comes_0 : cX2_comes.data.toList.drop 0 = dktX2_comes_0 := by decide +kernel
theorem dksX2_comes_1 : cX2_comes.data.toList.drop 22 = dktX2_comes_1 := dk_seg dksX2_comes_0 22 rfl rfl
theorem dksX2_comes_2 : cX2_comes.data.toList.drop 46 = dktX2_comes_2 := dk_seg dksX2_comes_1 24 rfl rfl
theorem dksX2_comes_3 : cX2_comes.data.toList.drop 70 = dktX2_comes_3 := dk_seg dksX2_comes_2 24 rfl rfl
theorem dksX2_comes_4 : cX2_comes.data.toList.drop 92 = dktX2_comes_4 := dk_seg dksX2_comes_3 22 rfl rfl
theorem dX2_comes_0 : decode cX2_comes 0 = .ok (.aload_n 0, 1) := dk_42 (dk_at dksX2_comes_0 0 rfl rfl)
theorem dX2_comes_1 : decode cX2_comes 1 = .ok (.getfield 71, 3) := dk_180 0 71 (dk_at dksX2_comes_0 1 rfl rfl)
theorem dX2_comes_4 : decode cX2_comes 4 = .ok (.bipush 12, 2) := dk_16 12 (dk_at dksX2_comes_0 4 rfl rfl)
theorem dX2_comes_6 : decode cX2_comes 6 = .ok (.if_icmp .ne 5, 3) := dk_160 0 5 (dk_at dksX2_comes_0 6 rfl rfl)
theorem dX2_comes_9 : decode cX2_comes 9 = .ok (.iconst 0, 1) := dk_3 (dk_at dksX2_comes_0 9 rfl rfl)
theorem dX2_comes_10 : decode cX2_comes 10 = .ok (.ireturn, 1) := dk_172 (dk_at dksX2_comes_0 10 rfl rfl)
theorem dX2_comes_11 : decode cX2_comes 11 = .ok (.aload_n 0, 1) := dk_42 (dk_at dksX2_comes_0 11 rfl rfl)
theorem dX2_comes_12 : decode cX2_comes 12 = .ok (.getfield 11, 3) := dk_180 0 11 (dk_at dksX2_comes_0 12 rfl rfl)
theorem dX2_comes_15 : decode cX2_comes 15 = .ok (.aload_n 0, 1) := dk_42 (dk_at dksX2_comes_0 15 rfl rfl)
theorem dX2_comes_16 : decode cX2_comes 16 = .ok (.getfield 71, 3) := dk_180 0 71 (dk_at dksX2_comes_0 16 rfl rfl)
theorem dX2_comes_19 : decode cX2_comes 19 = .ok (.aload_n 1, 1) := dk_43 (dk_at dksX2_comes_0 19 rfl rfl)
theorem dX2_comes_20 : decode cX2_comes 20 = .ok (.aastore, 1) := dk_83 (dk_at dksX2_comes_0 20 rfl rfl)
theorem dX2_comes_21 : decode cX2_comes 21 = .ok (.aload_n 0, 1) := dk_42 (dk_at dksX2_comes_0 21 rfl rfl)
theorem dX2_comes_22 : decode cX2_comes 22 = .ok (.getfield 17, 3) := dk_180 0 17 (dk_at dksX2_comes_1 0 rfl rfl)
theorem dX2_comes_25 : decode cX2_comes 25 = .ok (.aload_n 0, 1) := dk_42 (dk_at dksX2_comes_1 3 rfl rfl)
theorem dX2_comes_26 : decode cX2_comes 26 = .ok (.getfield 71, 3) := dk_180 0 71 (dk_at dksX2_comes_1 4 rfl rfl)
theorem dX2_comes_29 : decode cX2_comes 29 = .ok (.iload_n 2, 1) := dk_28 (dk_at dksX2_comes_1 7 rfl rfl)
theorem dX2_comes_30 : decode cX2_comes 30 = .ok (.iastore, 1) := dk_79 (dk_at dksX2_comes_1 8 rfl rfl)
theorem dX2_comes_31 : decode cX2_comes 31 = .ok (.aload_n 0, 1) := dk_42 (dk_at dksX2_comes_1 9 rfl rfl)
theorem dX2_comes_32 : decode cX2_comes 32 = .ok (.getfield 21, 3) := dk_180 0 21 (dk_at dksX2_comes_1 10 rfl rfl)
theorem dX2_comes_35 : decode cX2_comes 35 = .ok (.aload_n 0, 1) := dk_42 (dk_at dksX2_comes_1 13 rfl rfl)
theorem dX2_comes_36 : decode cX2_comes 36 = .ok (.getfield 71, 3) := dk_180 0 71 (dk_at dksX2_comes_1 14 rfl rfl)
theorem dX2_comes_39 : decode cX2_comes 39 = .ok (.iload_n 3, 1) := dk_29 (dk_at dksX2_comes_1 17 rfl rfl)
theorem dX2_comes_40 : decode cX2_comes 40 = .ok (.iastore, 1) := dk_79 (dk_at dksX2_comes_1 18 rfl rfl)
theorem dX2_comes_41 : decode cX2_comes 41 = .ok (.aload_n 0, 1) := dk_42 (dk_at dksX2_comes_1 19 rfl rfl)
theorem dX2_comes_42 : decode cX2_comes 42 = .ok (.getfield 24, 3) := dk_180 0 24 (dk_at dksX2_comes_1 20 rfl rfl)
theorem dX2_comes_45 : decode cX2_comes 45 = .ok (.aload_n 0, 1) := dk_42 (dk_at dksX2_comes_1 23 rfl rfl)
theorem dX2_comes_46 : decode cX2_comes 46 = .ok (.getfield 71, 3) := dk_180 0 71 (dk_at dksX2_comes_2 0 rfl rfl)
theorem dX2_comes_49 : decode cX2_comes 49 = .ok (.iload_n 3, 1) := dk_29 (dk_at dksX2_comes_2 3 rfl rfl)
theorem dX2_comes_50 : decode cX2_comes 50 = .ok (.bipush 6, 2) := dk_16 6 (dk_at dksX2_comes_2 4 rfl rfl)
theorem dX2_comes_52 : decode cX2_comes 52 = .ok (.if_icmp .ge 10, 3) := dk_162 0 10 (dk_at dksX2_comes_2 6 rfl rfl)
theorem dX2_comes_55 : decode cX2_comes 55 = .ok (.aload_n 0, 1) := dk_42 (dk_at dksX2_comes_2 9 rfl rfl)
theorem dX2_comes_56 : decode cX2_comes 56 = .ok (.getfield 77, 3) := dk_180 0 77 (dk_at dksX2_comes_2 10 rfl rfl)
theorem dX2_comes_59 : decode cX2_comes 59 = .ok (.goto 5, 3) := dk_167 0 5 (dk_at dksX2_comes_2 13 rfl rfl)
theorem dX2_comes_62 : decode cX2_comes 62 = .ok (.bipush (-4), 2) := dk_16 252 (dk_at dksX2_comes_2 16 rfl rfl)
theorem dX2_comes_64 : decode cX2_comes 64 = .ok (.iastore, 1) := dk_79 (dk_at dksX2_comes_2 18 rfl rfl)
theorem dX2_comes_65 : decode cX2_comes 65 = .ok (.aload_n 0, 1) := dk_42 (dk_at dksX2_comes_2 19 rfl rfl)
theorem dX2_comes_66 : decode cX2_comes 66 = .ok (.getfield 27, 3) := dk_180 0 27 (dk_at dksX2_comes_2 20 rfl rfl)
theorem dX2_comes_69 : decode cX2_comes 69 = .ok (.aload_n 0, 1) := dk_42 (dk_at dksX2_comes_2 23 rfl rfl)
theorem dX2_comes_70 : decode cX2_comes 70 = .ok (.getfield 71, 3) := dk_180 0 71 (dk_at dksX2_comes_3 0 rfl rfl)
theorem dX2_comes_73 : decode cX2_comes 73 = .ok (.iconst 0, 1) := dk_3 (dk_at dksX2_comes_3 3 rfl rfl)
theorem dX2_comes_74 : decode cX2_comes 74 = .ok (.iastore, 1) := dk_79 (dk_at dksX2_comes_3 4 rfl rfl)
theorem dX2_comes_75 : decode cX2_comes 75 = .ok (.aload_n 0, 1) := dk_42 (dk_at dksX2_comes_3 5 rfl rfl)
theorem dX2_comes_76 : decode cX2_comes 76 = .ok (.getfield 30, 3) := dk_180 0 30 (dk_at dksX2_comes_3 6 rfl rfl)
theorem dX2_comes_79 : decode cX2_comes 79 = .ok (.aload_n 0, 1) := dk_42 (dk_at dksX2_comes_3 9 rfl rfl)
theorem dX2_comes_80 : decode cX2_comes 80 = .ok (.getfield 71, 3) := dk_180 0 71 (dk_at dksX2_comes_3 10 rfl rfl)
theorem dX2_comes_83 : decode cX2_comes 83 = .ok (.iconst 0, 1) := dk_3 (dk_at dksX2_comes_3 13 rfl rfl)
theorem dX2_comes_84 : decode cX2_comes 84 = .ok (.bastore, 1) := dk_84 (dk_at dksX2_comes_3 14 rfl rfl)
theorem dX2_comes_85 : decode cX2_comes 85 = .ok (.aload_n 0, 1) := dk_42 (dk_at dksX2_comes_3 15 rfl rfl)
theorem dX2_comes_86 : decode cX2_comes 86 = .ok (.dup, 1) := dk_89 (dk_at dksX2_comes_3 16 rfl rfl)
theorem dX2_comes_87 : decode cX2_comes 87 = .ok (.getfield 71, 3) := dk_180 0 71 (dk_at dksX2_comes_3 17 rfl rfl)
theorem dX2_comes_90 : decode cX2_comes 90 = .ok (.iconst 1, 1) := dk_4 (dk_at dksX2_comes_3 20 rfl rfl)
theorem dX2_comes_91 : decode cX2_comes 91 = .ok (.iadd, 1) := dk_96 (dk_at dksX2_comes_3 21 rfl rfl)
theorem dX2_comes_92 : decode cX2_comes 92 = .ok (.putfield 71, 3) := dk_181 0 71 (dk_at dksX2_comes_4 0 rfl rfl)
theorem dX2_comes_95 : decode cX2_comes 95 = .ok (.iconst 1, 1) := dk_4 (dk_at dksX2_comes_4 3 rfl rfl)
theorem dX2_comes_96 : decode cX2_comes 96 = .ok (.ireturn, 1) := dk_172 (dk_at dksX2_comes_4 4 rfl rfl)
abbrev cX2_comesGuest : ByteArray := prog_7_method_7_code
def yX2_comesGuest : MethodName := ⟨RX2, "comesGuest", "([I)Z"⟩
def dkwX2_comesGuest_4 : List UInt8 := [180, 0, 55, 42, 180, 0, 74, 3, 79, 42, 89, 180, 0, 74, 4, 96, 181, 0, 74, 4, 172]
abbrev dktX2_comesGuest_4 : List UInt8 := dkwX2_comesGuest_4 ++ []
def dkwX2_comesGuest_3 : List UInt8 := [180, 0, 49, 42, 180, 0, 74, 16, 252, 79, 42, 180, 0, 52, 42, 180, 0, 74, 16, 252, 79, 42]
abbrev dktX2_comesGuest_3 : List UInt8 := dkwX2_comesGuest_3 ++ dktX2_comesGuest_4
def dkwX2_comesGuest_2 : List UInt8 := [180, 0, 43, 42, 180, 0, 74, 43, 6, 46, 79, 42, 180, 0, 46, 42, 180, 0, 74, 43, 7, 46, 79, 42]
abbrev dktX2_comesGuest_2 : List UInt8 := dkwX2_comesGuest_2 ++ dktX2_comesGuest_3
def dkwX2_comesGuest_1 : List UInt8 := [180, 0, 37, 42, 180, 0, 74, 43, 4, 46, 79, 42, 180, 0, 40, 42, 180, 0, 74, 43, 5, 46, 79, 42]
abbrev dktX2_comesGuest_1 : List UInt8 := dkwX2_comesGuest_1 ++ dktX2_comesGuest_2
def dkwX2_comesGuest_0 : List UInt8 := [42, 180, 0, 74, 16, 6, 160, 0, 5, 3, 172, 42, 180, 0, 34, 42, 180, 0, 74, 43, 3, 46, 79, 42]
abbrev dktX2_comesGuest_0 : List UInt8 := dkwX2_comesGuest_0 ++ dktX2_comesGuest_1
theorem dksX2_comesGuest_0 : cX2_comesGuest.data.toList.drop 0 = dktX2_comesGuest_0 := by decide +kernel
theorem dksX2_comesGuest_1 : cX2_comesGuest.data.toList.drop 24 = dktX2_comesGuest_1 := dk_seg dksX2_comesGuest_0 24 rfl rfl
theorem dksX2_comesGuest_2 : cX2_comesGuest.data.toList.drop 48 = dktX2_comesGuest_2 := dk_seg dksX2_comesGuest_1 24 rfl rfl
theorem dksX2_comesGuest_3 : cX2_comesGuest.data.toList.drop 72 = dktX2_comesGuest_3 := dk_seg dksX2_comesGuest_2 24 rfl rfl
theorem dksX2_comesGuest_4 : cX2_comesGuest.data.toList.drop 94 = dktX2_comesGuest_4 := dk_seg dksX2_comesGuest_3 22 rfl rfl
theorem dX2_comesGuest_0 : decode cX2_comesGuest 0 = .ok (.aload_n 0, 1) := dk_42 (dk_at dksX2_comesGuest_0 0 rfl rfl)
theorem dX2_comesGuest_1 : decode cX2_comesGuest 1 = .ok (.getfield 74, 3) := dk_180 0 74 (dk_at dksX2_comesGuest_0 1 rfl rfl)
theorem dX2_comesGuest_4 : decode cX2_comesGuest 4 = .ok (.bipush 6, 2) := dk_16 6 (dk_at dksX2_comesGuest_0 4 rfl rfl)
theorem dX2_comesGuest_6 : decode cX2_comesGuest 6 = .ok (.if_icmp .ne 5, 3) := dk_160 0 5 (dk_at dksX2_comesGuest_0 6 rfl rfl)
theorem dX2_comesGuest_9 : decode cX2_comesGuest 9 = .ok (.iconst 0, 1) := dk_3 (dk_at dksX2_comesGuest_0 9 rfl rfl)
theorem dX2_comesGuest_10 : decode cX2_comesGuest 10 = .ok (.ireturn, 1) := dk_172 (dk_at dksX2_comesGuest_0 10 rfl rfl)
theorem dX2_comesGuest_11 : decode cX2_comesGuest 11 = .ok (.aload_n 0, 1) := dk_42 (dk_at dksX2_comesGuest_0 11 rfl rfl)
theorem dX2_comesGuest_12 : decode cX2_comesGuest 12 = .ok (.getfield 34, 3) := dk_180 0 34 (dk_at dksX2_comesGuest_0 12 rfl rfl)
theorem dX2_comesGuest_15 : decode cX2_comesGuest 15 = .ok (.aload_n 0, 1) := dk_42 (dk_at dksX2_comesGuest_0 15 rfl rfl)
theorem dX2_comesGuest_16 : decode cX2_comesGuest 16 = .ok (.getfield 74, 3) := dk_180 0 74 (dk_at dksX2_comesGuest_0 16 rfl rfl)
theorem dX2_comesGuest_19 : decode cX2_comesGuest 19 = .ok (.aload_n 1, 1) := dk_43 (dk_at dksX2_comesGuest_0 19 rfl rfl)
theorem dX2_comesGuest_20 : decode cX2_comesGuest 20 = .ok (.iconst 0, 1) := dk_3 (dk_at dksX2_comesGuest_0 20 rfl rfl)
theorem dX2_comesGuest_21 : decode cX2_comesGuest 21 = .ok (.iaload, 1) := dk_46 (dk_at dksX2_comesGuest_0 21 rfl rfl)
theorem dX2_comesGuest_22 : decode cX2_comesGuest 22 = .ok (.iastore, 1) := dk_79 (dk_at dksX2_comesGuest_0 22 rfl rfl)
theorem dX2_comesGuest_23 : decode cX2_comesGuest 23 = .ok (.aload_n 0, 1) := dk_42 (dk_at dksX2_comesGuest_0 23 rfl rfl)
theorem dX2_comesGuest_24 : decode cX2_comesGuest 24 = .ok (.getfield 37, 3) := dk_180 0 37 (dk_at dksX2_comesGuest_1 0 rfl rfl)
theorem dX2_comesGuest_27 : decode cX2_comesGuest 27 = .ok (.aload_n 0, 1) := dk_42 (dk_at dksX2_comesGuest_1 3 rfl rfl)
theorem dX2_comesGuest_28 : decode cX2_comesGuest 28 = .ok (.getfield 74, 3) := dk_180 0 74 (dk_at dksX2_comesGuest_1 4 rfl rfl)
theorem dX2_comesGuest_31 : decode cX2_comesGuest 31 = .ok (.aload_n 1, 1) := dk_43 (dk_at dksX2_comesGuest_1 7 rfl rfl)
theorem dX2_comesGuest_32 : decode cX2_comesGuest 32 = .ok (.iconst 1, 1) := dk_4 (dk_at dksX2_comesGuest_1 8 rfl rfl)
theorem dX2_comesGuest_33 : decode cX2_comesGuest 33 = .ok (.iaload, 1) := dk_46 (dk_at dksX2_comesGuest_1 9 rfl rfl)
theorem dX2_comesGuest_34 : decode cX2_comesGuest 34 = .ok (.iastore, 1) := dk_79 (dk_at dksX2_comesGuest_1 10 rfl rfl)
theorem dX2_comesGuest_35 : decode cX2_comesGuest 35 = .ok (.aload_n 0, 1) := dk_42 (dk_at dksX2_comesGuest_1 11 rfl rfl)
theorem dX2_comesGuest_36 : decode cX2_comesGuest 36 = .ok (.getfield 40, 3) := dk_180 0 40 (dk_at dksX2_comesGuest_1 12 rfl rfl)
theorem dX2_comesGuest_39 : decode cX2_comesGuest 39 = .ok (.aload_n 0, 1) := dk_42 (dk_at dksX2_comesGuest_1 15 rfl rfl)
theorem dX2_comesGuest_40 : decode cX2_comesGuest 40 = .ok (.getfield 74, 3) := dk_180 0 74 (dk_at dksX2_comesGuest_1 16 rfl rfl)
theorem dX2_comesGuest_43 : decode cX2_comesGuest 43 = .ok (.aload_n 1, 1) := dk_43 (dk_at dksX2_comesGuest_1 19 rfl rfl)
theorem dX2_comesGuest_44 : decode cX2_comesGuest 44 = .ok (.iconst 2, 1) := dk_5 (dk_at dksX2_comesGuest_1 20 rfl rfl)
theorem dX2_comesGuest_45 : decode cX2_comesGuest 45 = .ok (.iaload, 1) := dk_46 (dk_at dksX2_comesGuest_1 21 rfl rfl)
theorem dX2_comesGuest_46 : decode cX2_comesGuest 46 = .ok (.iastore, 1) := dk_79 (dk_at dksX2_comesGuest_1 22 rfl rfl)
theorem dX2_comesGuest_47 : decode cX2_comesGuest 47 = .ok (.aload_n 0, 1) := dk_42 (dk_at dksX2_comesGuest_1 23 rfl rfl)
theorem dX2_comesGuest_48 : decode cX2_comesGuest 48 = .ok (.getfield 43, 3) := dk_180 0 43 (dk_at dksX2_comesGuest_2 0 rfl rfl)
theorem dX2_comesGuest_51 : decode cX2_comesGuest 51 = .ok (.aload_n 0, 1) := dk_42 (dk_at dksX2_comesGuest_2 3 rfl rfl)
theorem dX2_comesGuest_52 : decode cX2_comesGuest 52 = .ok (.getfield 74, 3) := dk_180 0 74 (dk_at dksX2_comesGuest_2 4 rfl rfl)
theorem dX2_comesGuest_55 : decode cX2_comesGuest 55 = .ok (.aload_n 1, 1) := dk_43 (dk_at dksX2_comesGuest_2 7 rfl rfl)
theorem dX2_comesGuest_56 : decode cX2_comesGuest 56 = .ok (.iconst 3, 1) := dk_6 (dk_at dksX2_comesGuest_2 8 rfl rfl)
theorem dX2_comesGuest_57 : decode cX2_comesGuest 57 = .ok (.iaload, 1) := dk_46 (dk_at dksX2_comesGuest_2 9 rfl rfl)
theorem dX2_comesGuest_58 : decode cX2_comesGuest 58 = .ok (.iastore, 1) := dk_79 (dk_at dksX2_comesGuest_2 10 rfl rfl)
theorem dX2_comesGuest_59 : decode cX2_comesGuest 59 = .ok (.aload_n 0, 1) := dk_42 (dk_at dksX2_comesGuest_2 11 rfl rfl)
theorem dX2_comesGuest_60 : decode cX2_comesGuest 60 = .ok (.getfield 46, 3) := dk_180 0 46 (dk_at dksX2_comesGuest_2 12 rfl rfl)
theorem dX2_comesGuest_63 : decode cX2_comesGuest 63 = .ok (.aload_n 0, 1) := dk_42 (dk_at dksX2_comesGuest_2 15 rfl rfl)
theorem dX2_comesGuest_64 : decode cX2_comesGuest 64 = .ok (.getfield 74, 3) := dk_180 0 74 (dk_at dksX2_comesGuest_2 16 rfl rfl)
theorem dX2_comesGuest_67 : decode cX2_comesGuest 67 = .ok (.aload_n 1, 1) := dk_43 (dk_at dksX2_comesGuest_2 19 rfl rfl)
theorem dX2_comesGuest_68 : decode cX2_comesGuest 68 = .ok (.iconst 4, 1) := dk_7 (dk_at dksX2_comesGuest_2 20 rfl rfl)
theorem dX2_comesGuest_69 : decode cX2_comesGuest 69 = .ok (.iaload, 1) := dk_46 (dk_at dksX2_comesGuest_2 21 rfl rfl)
theorem dX2_comesGuest_70 : decode cX2_comesGuest 70 = .ok (.iastore, 1) := dk_79 (dk_at dksX2_comesGuest_2 22 rfl rfl)
theorem dX2_comesGuest_71 : decode cX2_comesGuest 71 = .ok (.aload_n 0, 1) := dk_42 (dk_at dksX2_comesGuest_2 23 rfl rfl)
theorem dX2_comesGuest_72 : decode cX2_comesGuest 72 = .ok (.getfield 49, 3) := dk_180 0 49 (dk_at dksX2_comesGuest_3 0 rfl rfl)
theorem dX2_comesGuest_75 : decode cX2_comesGuest 75 = .ok (.aload_n 0, 1) := dk_42 (dk_at dksX2_comesGuest_3 3 rfl rfl)
theorem dX2_comesGuest_76 : decode cX2_comesGuest 76 = .ok (.getfield 74, 3) := dk_180 0 74 (dk_at dksX2_comesGuest_3 4 rfl rfl)
theorem dX2_comesGuest_79 : decode cX2_comesGuest 79 = .ok (.bipush (-4), 2) := dk_16 252 (dk_at dksX2_comesGuest_3 7 rfl rfl)
theorem dX2_comesGuest_81 : decode cX2_comesGuest 81 = .ok (.iastore, 1) := dk_79 (dk_at dksX2_comesGuest_3 9 rfl rfl)
theorem dX2_comesGuest_82 : decode cX2_comesGuest 82 = .ok (.aload_n 0, 1) := dk_42 (dk_at dksX2_comesGuest_3 10 rfl rfl)
theorem dX2_comesGuest_83 : decode cX2_comesGuest 83 = .ok (.getfield 52, 3) := dk_180 0 52 (dk_at dksX2_comesGuest_3 11 rfl rfl)
theorem dX2_comesGuest_86 : decode cX2_comesGuest 86 = .ok (.aload_n 0, 1) := dk_42 (dk_at dksX2_comesGuest_3 14 rfl rfl)
theorem dX2_comesGuest_87 : decode cX2_comesGuest 87 = .ok (.getfield 74, 3) := dk_180 0 74 (dk_at dksX2_comesGuest_3 15 rfl rfl)
theorem dX2_comesGuest_90 : decode cX2_comesGuest 90 = .ok (.bipush (-4), 2) := dk_16 252 (dk_at dksX2_comesGuest_3 18 rfl rfl)
theorem dX2_comesGuest_92 : decode cX2_comesGuest 92 = .ok (.iastore, 1) := dk_79 (dk_at dksX2_comesGuest_3 20 rfl rfl)
theorem dX2_comesGuest_93 : decode cX2_comesGuest 93 = .ok (.aload_n 0, 1) := dk_42 (dk_at dksX2_comesGuest_3 21 rfl rfl)
theorem dX2_comesGuest_94 : decode cX2_comesGuest 94 = .ok (.getfield 55, 3) := dk_180 0 55 (dk_at dksX2_comesGuest_4 0 rfl rfl)
theorem dX2_comesGuest_97 : decode cX2_comesGuest 97 = .ok (.aload_n 0, 1) := dk_42 (dk_at dksX2_comesGuest_4 3 rfl rfl)
theorem dX2_comesGuest_98 : decode cX2_comesGuest 98 = .ok (.getfield 74, 3) := dk_180 0 74 (dk_at dksX2_comesGuest_4 4 rfl rfl)
theorem dX2_comesGuest_101 : decode cX2_comesGuest 101 = .ok (.iconst 0, 1) := dk_3 (dk_at dksX2_comesGuest_4 7 rfl rfl)
theorem dX2_comesGuest_102 : decode cX2_comesGuest 102 = .ok (.iastore, 1) := dk_79 (dk_at dksX2_comesGuest_4 8 rfl rfl)
theorem dX2_comesGuest_103 : decode cX2_comesGuest 103 = .ok (.aload_n 0, 1) := dk_42 (dk_at dksX2_comesGuest_4 9 rfl rfl)
theorem dX2_comesGuest_104 : decode cX2_comesGuest 104 = .ok (.dup, 1) := dk_89 (dk_at dksX2_comesGuest_4 10 rfl rfl)
theorem dX2_comesGuest_105 : decode cX2_comesGuest 105 = .ok (.getfield 74, 3) := dk_180 0 74 (dk_at dksX2_comesGuest_4 11 rfl rfl)
theorem dX2_comesGuest_108 : decode cX2_comesGuest 108 = .ok (.iconst 1, 1) := dk_4 (dk_at dksX2_comesGuest_4 14 rfl rfl)
theorem dX2_comesGuest_109 : decode cX2_comesGuest 109 = .ok (.iadd, 1) := dk_96 (dk_at dksX2_comesGuest_4 15 rfl rfl)
theorem dX2_comesGuest_110 : decode cX2_comesGuest 110 = .ok (.putfield 74, 3) := dk_181 0 74 (dk_at dksX2_comesGuest_4 16 rfl rfl)
theorem dX2_comesGuest_113 : decode cX2_comesGuest 113 = .ok (.iconst 1, 1) := dk_4 (dk_at dksX2_comesGuest_4 19 rfl rfl)
theorem dX2_comesGuest_114 : decode cX2_comesGuest 114 = .ok (.ireturn, 1) := dk_172 (dk_at dksX2_comesGuest_4 20 rfl rfl)
abbrev cX2_isGuest : ByteArray := prog_7_method_4_code
def yX2_isGuest : MethodName := ⟨RX2, "isGuest", "(I)Z"⟩
def dkwX2_isGuest_0 : List UInt8 := [27, 3, 42, 180, 0, 74, 4, 100, 184, 0, 89, 172]
abbrev dktX2_isGuest_0 : List UInt8 := dkwX2_isGuest_0 ++ []
theorem dksX2_isGuest_0 : cX2_isGuest.data.toList.drop 0 = dktX2_isGuest_0 := by decide +kernel
theorem dX2_isGuest_0 : decode cX2_isGuest 0 = .ok (.iload_n 1, 1) := dk_27 (dk_at dksX2_isGuest_0 0 rfl rfl)
theorem dX2_isGuest_1 : decode cX2_isGuest 1 = .ok (.iconst 0, 1) := dk_3 (dk_at dksX2_isGuest_0 1 rfl rfl)
theorem dX2_isGuest_2 : decode cX2_isGuest 2 = .ok (.aload_n 0, 1) := dk_42 (dk_at dksX2_isGuest_0 2 rfl rfl)
theorem dX2_isGuest_3 : decode cX2_isGuest 3 = .ok (.getfield 74, 3) := dk_180 0 74 (dk_at dksX2_isGuest_0 3 rfl rfl)
theorem dX2_isGuest_6 : decode cX2_isGuest 6 = .ok (.iconst 1, 1) := dk_4 (dk_at dksX2_isGuest_0 6 rfl rfl)
theorem dX2_isGuest_7 : decode cX2_isGuest 7 = .ok (.isub, 1) := dk_100 (dk_at dksX2_isGuest_0 7 rfl rfl)
theorem dX2_isGuest_8 : decode cX2_isGuest 8 = .ok (.invokestatic 89, 3) := dk_184 0 89 (dk_at dksX2_isGuest_0 8 rfl rfl)
theorem dX2_isGuest_11 : decode cX2_isGuest 11 = .ok (.ireturn, 1) := dk_172 (dk_at dksX2_isGuest_0 11 rfl rfl)
abbrev cX2_isGlass : ByteArray := prog_7_method_3_code
def yX2_isGlass : MethodName := ⟨RX2, "isGlass", "(I)Z"⟩
def dkwX2_isGlass_0 : List UInt8 := [27, 3, 42, 180, 0, 71, 4, 100, 184, 0, 89, 172]
abbrev dktX2_isGlass_0 : List UInt8 := dkwX2_isGlass_0 ++ []
theorem dksX2_isGlass_0 : cX2_isGlass.data.toList.drop 0 = dktX2_isGlass_0 := by decide +kernel
theorem dX2_isGlass_0 : decode cX2_isGlass 0 = .ok (.iload_n 1, 1) := dk_27 (dk_at dksX2_isGlass_0 0 rfl rfl)
theorem dX2_isGlass_1 : decode cX2_isGlass 1 = .ok (.iconst 0, 1) := dk_3 (dk_at dksX2_isGlass_0 1 rfl rfl)
theorem dX2_isGlass_2 : decode cX2_isGlass 2 = .ok (.aload_n 0, 1) := dk_42 (dk_at dksX2_isGlass_0 2 rfl rfl)
theorem dX2_isGlass_3 : decode cX2_isGlass 3 = .ok (.getfield 71, 3) := dk_180 0 71 (dk_at dksX2_isGlass_0 3 rfl rfl)
theorem dX2_isGlass_6 : decode cX2_isGlass 6 = .ok (.iconst 1, 1) := dk_4 (dk_at dksX2_isGlass_0 6 rfl rfl)
theorem dX2_isGlass_7 : decode cX2_isGlass 7 = .ok (.isub, 1) := dk_100 (dk_at dksX2_isGlass_0 7 rfl rfl)
theorem dX2_isGlass_8 : decode cX2_isGlass 8 = .ok (.invokestatic 89, 3) := dk_184 0 89 (dk_at dksX2_isGlass_0 8 rfl rfl)
theorem dX2_isGlass_11 : decode cX2_isGlass 11 = .ok (.ireturn, 1) := dk_172 (dk_at dksX2_isGlass_0 11 rfl rfl)
abbrev cX2_isLaid : ByteArray := prog_7_method_5_code
def yX2_isLaid : MethodName := ⟨RX2, "isLaid", "(I)Z"⟩
def dkwX2_isLaid_0 : List UInt8 := [42, 180, 0, 21, 27, 46, 16, 6, 162, 0, 7, 4, 167, 0, 4, 3, 172]
abbrev dktX2_isLaid_0 : List UInt8 := dkwX2_isLaid_0 ++ []
theorem dksX2_isLaid_0 : cX2_isLaid.data.toList.drop 0 = dktX2_isLaid_0 := by decide +kernel
theorem dX2_isLaid_0 : decode cX2_isLaid 0 = .ok (.aload_n 0, 1) := dk_42 (dk_at dksX2_isLaid_0 0 rfl rfl)
theorem dX2_isLaid_1 : decode cX2_isLaid 1 = .ok (.getfield 21, 3) := dk_180 0 21 (dk_at dksX2_isLaid_0 1 rfl rfl)
theorem dX2_isLaid_4 : decode cX2_isLaid 4 = .ok (.iload_n 1, 1) := dk_27 (dk_at dksX2_isLaid_0 4 rfl rfl)
theorem dX2_isLaid_5 : decode cX2_isLaid 5 = .ok (.iaload, 1) := dk_46 (dk_at dksX2_isLaid_0 5 rfl rfl)
theorem dX2_isLaid_6 : decode cX2_isLaid 6 = .ok (.bipush 6, 2) := dk_16 6 (dk_at dksX2_isLaid_0 6 rfl rfl)
theorem dX2_isLaid_8 : decode cX2_isLaid 8 = .ok (.if_icmp .ge 7, 3) := dk_162 0 7 (dk_at dksX2_isLaid_0 8 rfl rfl)
theorem dX2_isLaid_11 : decode cX2_isLaid 11 = .ok (.iconst 1, 1) := dk_4 (dk_at dksX2_isLaid_0 11 rfl rfl)
theorem dX2_isLaid_12 : decode cX2_isLaid 12 = .ok (.goto 4, 3) := dk_167 0 4 (dk_at dksX2_isLaid_0 12 rfl rfl)
theorem dX2_isLaid_15 : decode cX2_isLaid 15 = .ok (.iconst 0, 1) := dk_3 (dk_at dksX2_isLaid_0 15 rfl rfl)
theorem dX2_isLaid_16 : decode cX2_isLaid 16 = .ok (.ireturn, 1) := dk_172 (dk_at dksX2_isLaid_0 16 rfl rfl)
abbrev cX2_isHeld : ByteArray := prog_7_method_9_code
def yX2_isHeld : MethodName := ⟨RX2, "isHeld", "(II)V"⟩
def dkwX2_isHeld_1 : List UInt8 := [79, 42, 180, 0, 52, 27, 28, 79, 177]
abbrev dktX2_isHeld_1 : List UInt8 := dkwX2_isHeld_1 ++ []
def dkwX2_isHeld_0 : List UInt8 := [42, 180, 0, 21, 28, 16, 10, 27, 96, 79, 42, 180, 0, 24, 28, 16, 252, 79, 42, 180, 0, 49, 27, 28]
abbrev dktX2_isHeld_0 : List UInt8 := dkwX2_isHeld_0 ++ dktX2_isHeld_1
theorem dksX2_isHeld_0 : cX2_isHeld.data.toList.drop 0 = dktX2_isHeld_0 := by decide +kernel
theorem dksX2_isHeld_1 : cX2_isHeld.data.toList.drop 24 = dktX2_isHeld_1 := dk_seg dksX2_isHeld_0 24 rfl rfl
theorem dX2_isHeld_0 : decode cX2_isHeld 0 = .ok (.aload_n 0, 1) := dk_42 (dk_at dksX2_isHeld_0 0 rfl rfl)
theorem dX2_isHeld_1 : decode cX2_isHeld 1 = .ok (.getfield 21, 3) := dk_180 0 21 (dk_at dksX2_isHeld_0 1 rfl rfl)
theorem dX2_isHeld_4 : decode cX2_isHeld 4 = .ok (.iload_n 2, 1) := dk_28 (dk_at dksX2_isHeld_0 4 rfl rfl)
theorem dX2_isHeld_5 : decode cX2_isHeld 5 = .ok (.bipush 10, 2) := dk_16 10 (dk_at dksX2_isHeld_0 5 rfl rfl)
theorem dX2_isHeld_7 : decode cX2_isHeld 7 = .ok (.iload_n 1, 1) := dk_27 (dk_at dksX2_isHeld_0 7 rfl rfl)
theorem dX2_isHeld_8 : decode cX2_isHeld 8 = .ok (.iadd, 1) := dk_96 (dk_at dksX2_isHeld_0 8 rfl rfl)
theorem dX2_isHeld_9 : decode cX2_isHeld 9 = .ok (.iastore, 1) := dk_79 (dk_at dksX2_isHeld_0 9 rfl rfl)
theorem dX2_isHeld_10 : decode cX2_isHeld 10 = .ok (.aload_n 0, 1) := dk_42 (dk_at dksX2_isHeld_0 10 rfl rfl)
theorem dX2_isHeld_11 : decode cX2_isHeld 11 = .ok (.getfield 24, 3) := dk_180 0 24 (dk_at dksX2_isHeld_0 11 rfl rfl)
theorem dX2_isHeld_14 : decode cX2_isHeld 14 = .ok (.iload_n 2, 1) := dk_28 (dk_at dksX2_isHeld_0 14 rfl rfl)
theorem dX2_isHeld_15 : decode cX2_isHeld 15 = .ok (.bipush (-4), 2) := dk_16 252 (dk_at dksX2_isHeld_0 15 rfl rfl)
theorem dX2_isHeld_17 : decode cX2_isHeld 17 = .ok (.iastore, 1) := dk_79 (dk_at dksX2_isHeld_0 17 rfl rfl)
theorem dX2_isHeld_18 : decode cX2_isHeld 18 = .ok (.aload_n 0, 1) := dk_42 (dk_at dksX2_isHeld_0 18 rfl rfl)
theorem dX2_isHeld_19 : decode cX2_isHeld 19 = .ok (.getfield 49, 3) := dk_180 0 49 (dk_at dksX2_isHeld_0 19 rfl rfl)
theorem dX2_isHeld_22 : decode cX2_isHeld 22 = .ok (.iload_n 1, 1) := dk_27 (dk_at dksX2_isHeld_0 22 rfl rfl)
theorem dX2_isHeld_23 : decode cX2_isHeld 23 = .ok (.iload_n 2, 1) := dk_28 (dk_at dksX2_isHeld_0 23 rfl rfl)
theorem dX2_isHeld_24 : decode cX2_isHeld 24 = .ok (.iastore, 1) := dk_79 (dk_at dksX2_isHeld_1 0 rfl rfl)
theorem dX2_isHeld_25 : decode cX2_isHeld 25 = .ok (.aload_n 0, 1) := dk_42 (dk_at dksX2_isHeld_1 1 rfl rfl)
theorem dX2_isHeld_26 : decode cX2_isHeld 26 = .ok (.getfield 52, 3) := dk_180 0 52 (dk_at dksX2_isHeld_1 2 rfl rfl)
theorem dX2_isHeld_29 : decode cX2_isHeld 29 = .ok (.iload_n 1, 1) := dk_27 (dk_at dksX2_isHeld_1 5 rfl rfl)
theorem dX2_isHeld_30 : decode cX2_isHeld 30 = .ok (.iload_n 2, 1) := dk_28 (dk_at dksX2_isHeld_1 6 rfl rfl)
theorem dX2_isHeld_31 : decode cX2_isHeld 31 = .ok (.iastore, 1) := dk_79 (dk_at dksX2_isHeld_1 7 rfl rfl)
theorem dX2_isHeld_32 : decode cX2_isHeld 32 = .ok (.return_, 1) := dk_177 (dk_at dksX2_isHeld_1 8 rfl rfl)
abbrev cX2_goesMinute : ByteArray := prog_7_method_18_code
def yX2_goesMinute : MethodName := ⟨RX2, "goesMinute", "()Z"⟩
def dkwX2_goesMinute_0 : List UInt8 := [42, 180, 0, 77, 17, 3, 231, 160, 0, 5, 3, 172, 42, 182, 0, 137, 4, 172]
abbrev dktX2_goesMinute_0 : List UInt8 := dkwX2_goesMinute_0 ++ []
theorem dksX2_goesMinute_0 : cX2_goesMinute.data.toList.drop 0 = dktX2_goesMinute_0 := by decide +kernel
theorem dX2_goesMinute_0 : decode cX2_goesMinute 0 = .ok (.aload_n 0, 1) := dk_42 (dk_at dksX2_goesMinute_0 0 rfl rfl)
theorem dX2_goesMinute_1 : decode cX2_goesMinute 1 = .ok (.getfield 77, 3) := dk_180 0 77 (dk_at dksX2_goesMinute_0 1 rfl rfl)
theorem dX2_goesMinute_4 : decode cX2_goesMinute 4 = .ok (.sipush 999, 3) := dk_17 3 231 (dk_at dksX2_goesMinute_0 4 rfl rfl)
theorem dX2_goesMinute_7 : decode cX2_goesMinute 7 = .ok (.if_icmp .ne 5, 3) := dk_160 0 5 (dk_at dksX2_goesMinute_0 7 rfl rfl)
theorem dX2_goesMinute_10 : decode cX2_goesMinute 10 = .ok (.iconst 0, 1) := dk_3 (dk_at dksX2_goesMinute_0 10 rfl rfl)
theorem dX2_goesMinute_11 : decode cX2_goesMinute 11 = .ok (.ireturn, 1) := dk_172 (dk_at dksX2_goesMinute_0 11 rfl rfl)
theorem dX2_goesMinute_12 : decode cX2_goesMinute 12 = .ok (.aload_n 0, 1) := dk_42 (dk_at dksX2_goesMinute_0 12 rfl rfl)
theorem dX2_goesMinute_13 : decode cX2_goesMinute 13 = .ok (.invokevirtual 137, 3) := dk_182 0 137 (dk_at dksX2_goesMinute_0 13 rfl rfl)
theorem dX2_goesMinute_16 : decode cX2_goesMinute 16 = .ok (.iconst 1, 1) := dk_4 (dk_at dksX2_goesMinute_0 16 rfl rfl)
theorem dX2_goesMinute_17 : decode cX2_goesMinute 17 = .ok (.ireturn, 1) := dk_172 (dk_at dksX2_goesMinute_0 17 rfl rfl)
abbrev cX2_goesFreely : ByteArray := prog_7_method_17_code
def yX2_goesFreely : MethodName := ⟨RX2, "goesFreely", "()V"⟩
def dkwX2_goesFreely_1 : List UInt8 := [180, 0, 77, 4, 96, 181, 0, 77, 177]
abbrev dktX2_goesFreely_1 : List UInt8 := dkwX2_goesFreely_1 ++ []
def dkwX2_goesFreely_0 : List UInt8 := [3, 60, 27, 42, 180, 0, 74, 162, 0, 14, 42, 27, 182, 0, 134, 132, 1, 1, 167, 255, 240, 42, 89]
abbrev dktX2_goesFreely_0 : List UInt8 := dkwX2_goesFreely_0 ++ dktX2_goesFreely_1
theorem dksX2_goesFreely_0 : cX2_goesFreely.data.toList.drop 0 = dktX2_goesFreely_0 := by decide +kernel
theorem dksX2_goesFreely_1 : cX2_goesFreely.data.toList.drop 23 = dktX2_goesFreely_1 := dk_seg dksX2_goesFreely_0 23 rfl rfl
theorem dX2_goesFreely_0 : decode cX2_goesFreely 0 = .ok (.iconst 0, 1) := dk_3 (dk_at dksX2_goesFreely_0 0 rfl rfl)
theorem dX2_goesFreely_1 : decode cX2_goesFreely 1 = .ok (.istore_n 1, 1) := dk_60 (dk_at dksX2_goesFreely_0 1 rfl rfl)
theorem dX2_goesFreely_2 : decode cX2_goesFreely 2 = .ok (.iload_n 1, 1) := dk_27 (dk_at dksX2_goesFreely_0 2 rfl rfl)
theorem dX2_goesFreely_3 : decode cX2_goesFreely 3 = .ok (.aload_n 0, 1) := dk_42 (dk_at dksX2_goesFreely_0 3 rfl rfl)
theorem dX2_goesFreely_4 : decode cX2_goesFreely 4 = .ok (.getfield 74, 3) := dk_180 0 74 (dk_at dksX2_goesFreely_0 4 rfl rfl)
theorem dX2_goesFreely_7 : decode cX2_goesFreely 7 = .ok (.if_icmp .ge 14, 3) := dk_162 0 14 (dk_at dksX2_goesFreely_0 7 rfl rfl)
theorem dX2_goesFreely_10 : decode cX2_goesFreely 10 = .ok (.aload_n 0, 1) := dk_42 (dk_at dksX2_goesFreely_0 10 rfl rfl)
theorem dX2_goesFreely_11 : decode cX2_goesFreely 11 = .ok (.iload_n 1, 1) := dk_27 (dk_at dksX2_goesFreely_0 11 rfl rfl)
theorem dX2_goesFreely_12 : decode cX2_goesFreely 12 = .ok (.invokevirtual 134, 3) := dk_182 0 134 (dk_at dksX2_goesFreely_0 12 rfl rfl)
theorem dX2_goesFreely_15 : decode cX2_goesFreely 15 = .ok (.iinc 1 1, 3) := dk_132 1 1 (dk_at dksX2_goesFreely_0 15 rfl rfl)
theorem dX2_goesFreely_18 : decode cX2_goesFreely 18 = .ok (.goto (-16), 3) := dk_167 255 240 (dk_at dksX2_goesFreely_0 18 rfl rfl)
theorem dX2_goesFreely_21 : decode cX2_goesFreely 21 = .ok (.aload_n 0, 1) := dk_42 (dk_at dksX2_goesFreely_0 21 rfl rfl)
theorem dX2_goesFreely_22 : decode cX2_goesFreely 22 = .ok (.dup, 1) := dk_89 (dk_at dksX2_goesFreely_0 22 rfl rfl)
theorem dX2_goesFreely_23 : decode cX2_goesFreely 23 = .ok (.getfield 77, 3) := dk_180 0 77 (dk_at dksX2_goesFreely_1 0 rfl rfl)
theorem dX2_goesFreely_26 : decode cX2_goesFreely 26 = .ok (.iconst 1, 1) := dk_4 (dk_at dksX2_goesFreely_1 3 rfl rfl)
theorem dX2_goesFreely_27 : decode cX2_goesFreely 27 = .ok (.iadd, 1) := dk_96 (dk_at dksX2_goesFreely_1 4 rfl rfl)
theorem dX2_goesFreely_28 : decode cX2_goesFreely 28 = .ok (.putfield 77, 3) := dk_181 0 77 (dk_at dksX2_goesFreely_1 5 rfl rfl)
theorem dX2_goesFreely_31 : decode cX2_goesFreely 31 = .ok (.return_, 1) := dk_177 (dk_at dksX2_goesFreely_1 8 rfl rfl)
abbrev cX2_goesOn : ByteArray := prog_7_method_16_code
def yX2_goesOn : MethodName := ⟨RX2, "goesOn", "(I)V"⟩
def dkwX2_goesOn_5 : List UInt8 := [154, 0, 9, 42, 27, 182, 0, 131, 87, 177]
abbrev dktX2_goesOn_5 : List UInt8 := dkwX2_goesOn_5 ++ []
def dkwX2_goesOn_4 : List UInt8 := [27, 182, 0, 128, 87, 42, 180, 0, 77, 158, 0, 23, 42, 180, 0, 77, 42, 180, 0, 37, 27, 46, 112]
abbrev dktX2_goesOn_4 : List UInt8 := dkwX2_goesOn_4 ++ dktX2_goesOn_5
def dkwX2_goesOn_3 : List UInt8 := [180, 0, 34, 27, 46, 112, 154, 0, 23, 42, 180, 0, 17, 42, 180, 0, 49, 27, 46, 46, 158, 0, 9, 42]
abbrev dktX2_goesOn_3 : List UInt8 := dkwX2_goesOn_3 ++ dktX2_goesOn_4
def dkwX2_goesOn_2 : List UInt8 := [180, 0, 49, 27, 46, 16, 252, 160, 0, 10, 42, 27, 182, 0, 125, 87, 177, 42, 180, 0, 77, 42]
abbrev dktX2_goesOn_2 : List UInt8 := dkwX2_goesOn_2 ++ dktX2_goesOn_3
def dkwX2_goesOn_1 : List UInt8 := [27, 46, 112, 154, 0, 19, 42, 180, 0, 46, 27, 42, 42, 180, 0, 46, 27, 46, 182, 0, 122, 79, 42]
abbrev dktX2_goesOn_1 : List UInt8 := dkwX2_goesOn_1 ++ dktX2_goesOn_2
def dkwX2_goesOn_0 : List UInt8 := [42, 180, 0, 40, 27, 46, 158, 0, 40, 42, 180, 0, 77, 158, 0, 33, 42, 180, 0, 77, 42, 180, 0, 40]
abbrev dktX2_goesOn_0 : List UInt8 := dkwX2_goesOn_0 ++ dktX2_goesOn_1
theorem dksX2_goesOn_0 : cX2_goesOn.data.toList.drop 0 = dktX2_goesOn_0 := by decide +kernel
theorem dksX2_goesOn_1 : cX2_goesOn.data.toList.drop 24 = dktX2_goesOn_1 := dk_seg dksX2_goesOn_0 24 rfl rfl
theorem dksX2_goesOn_2 : cX2_goesOn.data.toList.drop 47 = dktX2_goesOn_2 := dk_seg dksX2_goesOn_1 23 rfl rfl
theorem dksX2_goesOn_3 : cX2_goesOn.data.toList.drop 69 = dktX2_goesOn_3 := dk_seg dksX2_goesOn_2 22 rfl rfl
theorem dksX2_goesOn_4 : cX2_goesOn.data.toList.drop 93 = dktX2_goesOn_4 := dk_seg dksX2_goesOn_3 24 rfl rfl
theorem dksX2_goesOn_5 : cX2_goesOn.data.toList.drop 116 = dktX2_goesOn_5 := dk_seg dksX2_goesOn_4 23 rfl rfl
theorem dX2_goesOn_0 : decode cX2_goesOn 0 = .ok (.aload_n 0, 1) := dk_42 (dk_at dksX2_goesOn_0 0 rfl rfl)
theorem dX2_goesOn_1 : decode cX2_goesOn 1 = .ok (.getfield 40, 3) := dk_180 0 40 (dk_at dksX2_goesOn_0 1 rfl rfl)
theorem dX2_goesOn_4 : decode cX2_goesOn 4 = .ok (.iload_n 1, 1) := dk_27 (dk_at dksX2_goesOn_0 4 rfl rfl)
theorem dX2_goesOn_5 : decode cX2_goesOn 5 = .ok (.iaload, 1) := dk_46 (dk_at dksX2_goesOn_0 5 rfl rfl)
theorem dX2_goesOn_6 : decode cX2_goesOn 6 = .ok (.ifCond .le 40, 3) := dk_158 0 40 (dk_at dksX2_goesOn_0 6 rfl rfl)
theorem dX2_goesOn_9 : decode cX2_goesOn 9 = .ok (.aload_n 0, 1) := dk_42 (dk_at dksX2_goesOn_0 9 rfl rfl)
theorem dX2_goesOn_10 : decode cX2_goesOn 10 = .ok (.getfield 77, 3) := dk_180 0 77 (dk_at dksX2_goesOn_0 10 rfl rfl)
theorem dX2_goesOn_13 : decode cX2_goesOn 13 = .ok (.ifCond .le 33, 3) := dk_158 0 33 (dk_at dksX2_goesOn_0 13 rfl rfl)
theorem dX2_goesOn_16 : decode cX2_goesOn 16 = .ok (.aload_n 0, 1) := dk_42 (dk_at dksX2_goesOn_0 16 rfl rfl)
theorem dX2_goesOn_17 : decode cX2_goesOn 17 = .ok (.getfield 77, 3) := dk_180 0 77 (dk_at dksX2_goesOn_0 17 rfl rfl)
theorem dX2_goesOn_20 : decode cX2_goesOn 20 = .ok (.aload_n 0, 1) := dk_42 (dk_at dksX2_goesOn_0 20 rfl rfl)
theorem dX2_goesOn_21 : decode cX2_goesOn 21 = .ok (.getfield 40, 3) := dk_180 0 40 (dk_at dksX2_goesOn_0 21 rfl rfl)
theorem dX2_goesOn_24 : decode cX2_goesOn 24 = .ok (.iload_n 1, 1) := dk_27 (dk_at dksX2_goesOn_1 0 rfl rfl)
theorem dX2_goesOn_25 : decode cX2_goesOn 25 = .ok (.iaload, 1) := dk_46 (dk_at dksX2_goesOn_1 1 rfl rfl)
theorem dX2_goesOn_26 : decode cX2_goesOn 26 = .ok (.irem, 1) := dk_112 (dk_at dksX2_goesOn_1 2 rfl rfl)
theorem dX2_goesOn_27 : decode cX2_goesOn 27 = .ok (.ifCond .ne 19, 3) := dk_154 0 19 (dk_at dksX2_goesOn_1 3 rfl rfl)
theorem dX2_goesOn_30 : decode cX2_goesOn 30 = .ok (.aload_n 0, 1) := dk_42 (dk_at dksX2_goesOn_1 6 rfl rfl)
theorem dX2_goesOn_31 : decode cX2_goesOn 31 = .ok (.getfield 46, 3) := dk_180 0 46 (dk_at dksX2_goesOn_1 7 rfl rfl)
theorem dX2_goesOn_34 : decode cX2_goesOn 34 = .ok (.iload_n 1, 1) := dk_27 (dk_at dksX2_goesOn_1 10 rfl rfl)
theorem dX2_goesOn_35 : decode cX2_goesOn 35 = .ok (.aload_n 0, 1) := dk_42 (dk_at dksX2_goesOn_1 11 rfl rfl)
theorem dX2_goesOn_36 : decode cX2_goesOn 36 = .ok (.aload_n 0, 1) := dk_42 (dk_at dksX2_goesOn_1 12 rfl rfl)
theorem dX2_goesOn_37 : decode cX2_goesOn 37 = .ok (.getfield 46, 3) := dk_180 0 46 (dk_at dksX2_goesOn_1 13 rfl rfl)
theorem dX2_goesOn_40 : decode cX2_goesOn 40 = .ok (.iload_n 1, 1) := dk_27 (dk_at dksX2_goesOn_1 16 rfl rfl)
theorem dX2_goesOn_41 : decode cX2_goesOn 41 = .ok (.iaload, 1) := dk_46 (dk_at dksX2_goesOn_1 17 rfl rfl)
theorem dX2_goesOn_42 : decode cX2_goesOn 42 = .ok (.invokevirtual 122, 3) := dk_182 0 122 (dk_at dksX2_goesOn_1 18 rfl rfl)
theorem dX2_goesOn_45 : decode cX2_goesOn 45 = .ok (.iastore, 1) := dk_79 (dk_at dksX2_goesOn_1 21 rfl rfl)
theorem dX2_goesOn_46 : decode cX2_goesOn 46 = .ok (.aload_n 0, 1) := dk_42 (dk_at dksX2_goesOn_1 22 rfl rfl)
theorem dX2_goesOn_47 : decode cX2_goesOn 47 = .ok (.getfield 49, 3) := dk_180 0 49 (dk_at dksX2_goesOn_2 0 rfl rfl)
theorem dX2_goesOn_50 : decode cX2_goesOn 50 = .ok (.iload_n 1, 1) := dk_27 (dk_at dksX2_goesOn_2 3 rfl rfl)
theorem dX2_goesOn_51 : decode cX2_goesOn 51 = .ok (.iaload, 1) := dk_46 (dk_at dksX2_goesOn_2 4 rfl rfl)
theorem dX2_goesOn_52 : decode cX2_goesOn 52 = .ok (.bipush (-4), 2) := dk_16 252 (dk_at dksX2_goesOn_2 5 rfl rfl)
theorem dX2_goesOn_54 : decode cX2_goesOn 54 = .ok (.if_icmp .ne 10, 3) := dk_160 0 10 (dk_at dksX2_goesOn_2 7 rfl rfl)
theorem dX2_goesOn_57 : decode cX2_goesOn 57 = .ok (.aload_n 0, 1) := dk_42 (dk_at dksX2_goesOn_2 10 rfl rfl)
theorem dX2_goesOn_58 : decode cX2_goesOn 58 = .ok (.iload_n 1, 1) := dk_27 (dk_at dksX2_goesOn_2 11 rfl rfl)
theorem dX2_goesOn_59 : decode cX2_goesOn 59 = .ok (.invokevirtual 125, 3) := dk_182 0 125 (dk_at dksX2_goesOn_2 12 rfl rfl)
theorem dX2_goesOn_62 : decode cX2_goesOn 62 = .ok (.pop, 1) := dk_87 (dk_at dksX2_goesOn_2 15 rfl rfl)
theorem dX2_goesOn_63 : decode cX2_goesOn 63 = .ok (.return_, 1) := dk_177 (dk_at dksX2_goesOn_2 16 rfl rfl)
theorem dX2_goesOn_64 : decode cX2_goesOn 64 = .ok (.aload_n 0, 1) := dk_42 (dk_at dksX2_goesOn_2 17 rfl rfl)
theorem dX2_goesOn_65 : decode cX2_goesOn 65 = .ok (.getfield 77, 3) := dk_180 0 77 (dk_at dksX2_goesOn_2 18 rfl rfl)
theorem dX2_goesOn_68 : decode cX2_goesOn 68 = .ok (.aload_n 0, 1) := dk_42 (dk_at dksX2_goesOn_2 21 rfl rfl)
theorem dX2_goesOn_69 : decode cX2_goesOn 69 = .ok (.getfield 34, 3) := dk_180 0 34 (dk_at dksX2_goesOn_3 0 rfl rfl)
theorem dX2_goesOn_72 : decode cX2_goesOn 72 = .ok (.iload_n 1, 1) := dk_27 (dk_at dksX2_goesOn_3 3 rfl rfl)
theorem dX2_goesOn_73 : decode cX2_goesOn 73 = .ok (.iaload, 1) := dk_46 (dk_at dksX2_goesOn_3 4 rfl rfl)
theorem dX2_goesOn_74 : decode cX2_goesOn 74 = .ok (.irem, 1) := dk_112 (dk_at dksX2_goesOn_3 5 rfl rfl)
theorem dX2_goesOn_75 : decode cX2_goesOn 75 = .ok (.ifCond .ne 23, 3) := dk_154 0 23 (dk_at dksX2_goesOn_3 6 rfl rfl)
theorem dX2_goesOn_78 : decode cX2_goesOn 78 = .ok (.aload_n 0, 1) := dk_42 (dk_at dksX2_goesOn_3 9 rfl rfl)
theorem dX2_goesOn_79 : decode cX2_goesOn 79 = .ok (.getfield 17, 3) := dk_180 0 17 (dk_at dksX2_goesOn_3 10 rfl rfl)
theorem dX2_goesOn_82 : decode cX2_goesOn 82 = .ok (.aload_n 0, 1) := dk_42 (dk_at dksX2_goesOn_3 13 rfl rfl)
theorem dX2_goesOn_83 : decode cX2_goesOn 83 = .ok (.getfield 49, 3) := dk_180 0 49 (dk_at dksX2_goesOn_3 14 rfl rfl)
theorem dX2_goesOn_86 : decode cX2_goesOn 86 = .ok (.iload_n 1, 1) := dk_27 (dk_at dksX2_goesOn_3 17 rfl rfl)
theorem dX2_goesOn_87 : decode cX2_goesOn 87 = .ok (.iaload, 1) := dk_46 (dk_at dksX2_goesOn_3 18 rfl rfl)
theorem dX2_goesOn_88 : decode cX2_goesOn 88 = .ok (.iaload, 1) := dk_46 (dk_at dksX2_goesOn_3 19 rfl rfl)
theorem dX2_goesOn_89 : decode cX2_goesOn 89 = .ok (.ifCond .le 9, 3) := dk_158 0 9 (dk_at dksX2_goesOn_3 20 rfl rfl)
theorem dX2_goesOn_92 : decode cX2_goesOn 92 = .ok (.aload_n 0, 1) := dk_42 (dk_at dksX2_goesOn_3 23 rfl rfl)
theorem dX2_goesOn_93 : decode cX2_goesOn 93 = .ok (.iload_n 1, 1) := dk_27 (dk_at dksX2_goesOn_4 0 rfl rfl)
theorem dX2_goesOn_94 : decode cX2_goesOn 94 = .ok (.invokevirtual 128, 3) := dk_182 0 128 (dk_at dksX2_goesOn_4 1 rfl rfl)
theorem dX2_goesOn_97 : decode cX2_goesOn 97 = .ok (.pop, 1) := dk_87 (dk_at dksX2_goesOn_4 4 rfl rfl)
theorem dX2_goesOn_98 : decode cX2_goesOn 98 = .ok (.aload_n 0, 1) := dk_42 (dk_at dksX2_goesOn_4 5 rfl rfl)
theorem dX2_goesOn_99 : decode cX2_goesOn 99 = .ok (.getfield 77, 3) := dk_180 0 77 (dk_at dksX2_goesOn_4 6 rfl rfl)
theorem dX2_goesOn_102 : decode cX2_goesOn 102 = .ok (.ifCond .le 23, 3) := dk_158 0 23 (dk_at dksX2_goesOn_4 9 rfl rfl)
theorem dX2_goesOn_105 : decode cX2_goesOn 105 = .ok (.aload_n 0, 1) := dk_42 (dk_at dksX2_goesOn_4 12 rfl rfl)
theorem dX2_goesOn_106 : decode cX2_goesOn 106 = .ok (.getfield 77, 3) := dk_180 0 77 (dk_at dksX2_goesOn_4 13 rfl rfl)
theorem dX2_goesOn_109 : decode cX2_goesOn 109 = .ok (.aload_n 0, 1) := dk_42 (dk_at dksX2_goesOn_4 16 rfl rfl)
theorem dX2_goesOn_110 : decode cX2_goesOn 110 = .ok (.getfield 37, 3) := dk_180 0 37 (dk_at dksX2_goesOn_4 17 rfl rfl)
theorem dX2_goesOn_113 : decode cX2_goesOn 113 = .ok (.iload_n 1, 1) := dk_27 (dk_at dksX2_goesOn_4 20 rfl rfl)
theorem dX2_goesOn_114 : decode cX2_goesOn 114 = .ok (.iaload, 1) := dk_46 (dk_at dksX2_goesOn_4 21 rfl rfl)
theorem dX2_goesOn_115 : decode cX2_goesOn 115 = .ok (.irem, 1) := dk_112 (dk_at dksX2_goesOn_4 22 rfl rfl)
theorem dX2_goesOn_116 : decode cX2_goesOn 116 = .ok (.ifCond .ne 9, 3) := dk_154 0 9 (dk_at dksX2_goesOn_5 0 rfl rfl)
theorem dX2_goesOn_119 : decode cX2_goesOn 119 = .ok (.aload_n 0, 1) := dk_42 (dk_at dksX2_goesOn_5 3 rfl rfl)
theorem dX2_goesOn_120 : decode cX2_goesOn 120 = .ok (.iload_n 1, 1) := dk_27 (dk_at dksX2_goesOn_5 4 rfl rfl)
theorem dX2_goesOn_121 : decode cX2_goesOn 121 = .ok (.invokevirtual 131, 3) := dk_182 0 131 (dk_at dksX2_goesOn_5 5 rfl rfl)
theorem dX2_goesOn_124 : decode cX2_goesOn 124 = .ok (.pop, 1) := dk_87 (dk_at dksX2_goesOn_5 8 rfl rfl)
theorem dX2_goesOn_125 : decode cX2_goesOn 125 = .ok (.return_, 1) := dk_177 (dk_at dksX2_goesOn_5 9 rfl rfl)
abbrev cX2_nextPlace : ByteArray := prog_7_method_15_code
def yX2_nextPlace : MethodName := ⟨RX2, "nextPlace", "(I)I"⟩
def dkwX2_nextPlace_1 : List UInt8 := [28, 172]
abbrev dktX2_nextPlace_1 : List UInt8 := dkwX2_nextPlace_1 ++ []
def dkwX2_nextPlace_0 : List UInt8 := [27, 4, 96, 16, 6, 112, 61, 28, 42, 180, 0, 62, 160, 0, 12, 28, 4, 96, 16, 6, 112, 167, 0, 4]
abbrev dktX2_nextPlace_0 : List UInt8 := dkwX2_nextPlace_0 ++ dktX2_nextPlace_1
theorem dksX2_nextPlace_0 : cX2_nextPlace.data.toList.drop 0 = dktX2_nextPlace_0 := by decide +kernel
theorem dksX2_nextPlace_1 : cX2_nextPlace.data.toList.drop 24 = dktX2_nextPlace_1 := dk_seg dksX2_nextPlace_0 24 rfl rfl
theorem dX2_nextPlace_0 : decode cX2_nextPlace 0 = .ok (.iload_n 1, 1) := dk_27 (dk_at dksX2_nextPlace_0 0 rfl rfl)
theorem dX2_nextPlace_1 : decode cX2_nextPlace 1 = .ok (.iconst 1, 1) := dk_4 (dk_at dksX2_nextPlace_0 1 rfl rfl)
theorem dX2_nextPlace_2 : decode cX2_nextPlace 2 = .ok (.iadd, 1) := dk_96 (dk_at dksX2_nextPlace_0 2 rfl rfl)
theorem dX2_nextPlace_3 : decode cX2_nextPlace 3 = .ok (.bipush 6, 2) := dk_16 6 (dk_at dksX2_nextPlace_0 3 rfl rfl)
theorem dX2_nextPlace_5 : decode cX2_nextPlace 5 = .ok (.irem, 1) := dk_112 (dk_at dksX2_nextPlace_0 5 rfl rfl)
theorem dX2_nextPlace_6 : decode cX2_nextPlace 6 = .ok (.istore_n 2, 1) := dk_61 (dk_at dksX2_nextPlace_0 6 rfl rfl)
theorem dX2_nextPlace_7 : decode cX2_nextPlace 7 = .ok (.iload_n 2, 1) := dk_28 (dk_at dksX2_nextPlace_0 7 rfl rfl)
theorem dX2_nextPlace_8 : decode cX2_nextPlace 8 = .ok (.aload_n 0, 1) := dk_42 (dk_at dksX2_nextPlace_0 8 rfl rfl)
theorem dX2_nextPlace_9 : decode cX2_nextPlace 9 = .ok (.getfield 62, 3) := dk_180 0 62 (dk_at dksX2_nextPlace_0 9 rfl rfl)
theorem dX2_nextPlace_12 : decode cX2_nextPlace 12 = .ok (.if_icmp .ne 12, 3) := dk_160 0 12 (dk_at dksX2_nextPlace_0 12 rfl rfl)
theorem dX2_nextPlace_15 : decode cX2_nextPlace 15 = .ok (.iload_n 2, 1) := dk_28 (dk_at dksX2_nextPlace_0 15 rfl rfl)
theorem dX2_nextPlace_16 : decode cX2_nextPlace 16 = .ok (.iconst 1, 1) := dk_4 (dk_at dksX2_nextPlace_0 16 rfl rfl)
theorem dX2_nextPlace_17 : decode cX2_nextPlace 17 = .ok (.iadd, 1) := dk_96 (dk_at dksX2_nextPlace_0 17 rfl rfl)
theorem dX2_nextPlace_18 : decode cX2_nextPlace 18 = .ok (.bipush 6, 2) := dk_16 6 (dk_at dksX2_nextPlace_0 18 rfl rfl)
theorem dX2_nextPlace_20 : decode cX2_nextPlace 20 = .ok (.irem, 1) := dk_112 (dk_at dksX2_nextPlace_0 20 rfl rfl)
theorem dX2_nextPlace_21 : decode cX2_nextPlace 21 = .ok (.goto 4, 3) := dk_167 0 4 (dk_at dksX2_nextPlace_0 21 rfl rfl)
theorem dX2_nextPlace_24 : decode cX2_nextPlace 24 = .ok (.iload_n 2, 1) := dk_28 (dk_at dksX2_nextPlace_1 0 rfl rfl)
theorem dX2_nextPlace_25 : decode cX2_nextPlace 25 = .ok (.ireturn, 1) := dk_172 (dk_at dksX2_nextPlace_1 1 rfl rfl)
abbrev cX2_take : ByteArray := prog_7_method_11_code
def yX2_take : MethodName := ⟨RX2, "take", "(I)I"⟩
def dkwX2_take_4 : List UInt8 := [159, 0, 13, 42, 89, 180, 0, 83, 4, 96, 181, 0, 83, 42, 27, 28, 182, 0, 111, 28, 172]
abbrev dktX2_take_4 : List UInt8 := dkwX2_take_4 ++ []
def dkwX2_take_3 : List UInt8 := [96, 182, 0, 107, 87, 42, 180, 0, 71, 4, 100, 61, 167, 0, 23, 28, 42, 180, 0, 52, 27, 46]
abbrev dktX2_take_3 : List UInt8 := dkwX2_take_3 ++ dktX2_take_4
def dkwX2_take_2 : List UInt8 := [96, 181, 0, 86, 42, 187, 0, 9, 89, 42, 180, 0, 58, 16, 10, 112, 183, 0, 104, 16, 9, 16, 10, 27]
abbrev dktX2_take_2 : List UInt8 := dkwX2_take_2 ++ dktX2_take_3
def dkwX2_take_1 : List UInt8 := [16, 12, 160, 0, 6, 16, 252, 172, 42, 89, 180, 0, 58, 4, 100, 181, 0, 58, 42, 89, 180, 0, 86, 4]
abbrev dktX2_take_1 : List UInt8 := dkwX2_take_1 ++ dktX2_take_2
def dkwX2_take_0 : List UInt8 := [42, 27, 182, 0, 100, 61, 28, 16, 252, 160, 0, 77, 42, 180, 0, 58, 153, 0, 12, 42, 180, 0, 71]
abbrev dktX2_take_0 : List UInt8 := dkwX2_take_0 ++ dktX2_take_1
theorem dksX2_take_0 : cX2_take.data.toList.drop 0 = dktX2_take_0 := by decide +kernel
theorem dksX2_take_1 : cX2_take.data.toList.drop 23 = dktX2_take_1 := dk_seg dksX2_take_0 23 rfl rfl
theorem dksX2_take_2 : cX2_take.data.toList.drop 47 = dktX2_take_2 := dk_seg dksX2_take_1 24 rfl rfl
theorem dksX2_take_3 : cX2_take.data.toList.drop 71 = dktX2_take_3 := dk_seg dksX2_take_2 24 rfl rfl
theorem dksX2_take_4 : cX2_take.data.toList.drop 93 = dktX2_take_4 := dk_seg dksX2_take_3 22 rfl rfl
theorem dX2_take_0 : decode cX2_take 0 = .ok (.aload_n 0, 1) := dk_42 (dk_at dksX2_take_0 0 rfl rfl)
theorem dX2_take_1 : decode cX2_take 1 = .ok (.iload_n 1, 1) := dk_27 (dk_at dksX2_take_0 1 rfl rfl)
theorem dX2_take_2 : decode cX2_take 2 = .ok (.invokevirtual 100, 3) := dk_182 0 100 (dk_at dksX2_take_0 2 rfl rfl)
theorem dX2_take_5 : decode cX2_take 5 = .ok (.istore_n 2, 1) := dk_61 (dk_at dksX2_take_0 5 rfl rfl)
theorem dX2_take_6 : decode cX2_take 6 = .ok (.iload_n 2, 1) := dk_28 (dk_at dksX2_take_0 6 rfl rfl)
theorem dX2_take_7 : decode cX2_take 7 = .ok (.bipush (-4), 2) := dk_16 252 (dk_at dksX2_take_0 7 rfl rfl)
theorem dX2_take_9 : decode cX2_take 9 = .ok (.if_icmp .ne 77, 3) := dk_160 0 77 (dk_at dksX2_take_0 9 rfl rfl)
theorem dX2_take_12 : decode cX2_take 12 = .ok (.aload_n 0, 1) := dk_42 (dk_at dksX2_take_0 12 rfl rfl)
theorem dX2_take_13 : decode cX2_take 13 = .ok (.getfield 58, 3) := dk_180 0 58 (dk_at dksX2_take_0 13 rfl rfl)
theorem dX2_take_16 : decode cX2_take 16 = .ok (.ifCond .eq 12, 3) := dk_153 0 12 (dk_at dksX2_take_0 16 rfl rfl)
theorem dX2_take_19 : decode cX2_take 19 = .ok (.aload_n 0, 1) := dk_42 (dk_at dksX2_take_0 19 rfl rfl)
theorem dX2_take_20 : decode cX2_take 20 = .ok (.getfield 71, 3) := dk_180 0 71 (dk_at dksX2_take_0 20 rfl rfl)
theorem dX2_take_23 : decode cX2_take 23 = .ok (.bipush 12, 2) := dk_16 12 (dk_at dksX2_take_1 0 rfl rfl)
theorem dX2_take_25 : decode cX2_take 25 = .ok (.if_icmp .ne 6, 3) := dk_160 0 6 (dk_at dksX2_take_1 2 rfl rfl)
theorem dX2_take_28 : decode cX2_take 28 = .ok (.bipush (-4), 2) := dk_16 252 (dk_at dksX2_take_1 5 rfl rfl)
theorem dX2_take_30 : decode cX2_take 30 = .ok (.ireturn, 1) := dk_172 (dk_at dksX2_take_1 7 rfl rfl)
theorem dX2_take_31 : decode cX2_take 31 = .ok (.aload_n 0, 1) := dk_42 (dk_at dksX2_take_1 8 rfl rfl)
theorem dX2_take_32 : decode cX2_take 32 = .ok (.dup, 1) := dk_89 (dk_at dksX2_take_1 9 rfl rfl)
theorem dX2_take_33 : decode cX2_take 33 = .ok (.getfield 58, 3) := dk_180 0 58 (dk_at dksX2_take_1 10 rfl rfl)
theorem dX2_take_36 : decode cX2_take 36 = .ok (.iconst 1, 1) := dk_4 (dk_at dksX2_take_1 13 rfl rfl)
theorem dX2_take_37 : decode cX2_take 37 = .ok (.isub, 1) := dk_100 (dk_at dksX2_take_1 14 rfl rfl)
theorem dX2_take_38 : decode cX2_take 38 = .ok (.putfield 58, 3) := dk_181 0 58 (dk_at dksX2_take_1 15 rfl rfl)
theorem dX2_take_41 : decode cX2_take 41 = .ok (.aload_n 0, 1) := dk_42 (dk_at dksX2_take_1 18 rfl rfl)
theorem dX2_take_42 : decode cX2_take 42 = .ok (.dup, 1) := dk_89 (dk_at dksX2_take_1 19 rfl rfl)
theorem dX2_take_43 : decode cX2_take 43 = .ok (.getfield 86, 3) := dk_180 0 86 (dk_at dksX2_take_1 20 rfl rfl)
theorem dX2_take_46 : decode cX2_take 46 = .ok (.iconst 1, 1) := dk_4 (dk_at dksX2_take_1 23 rfl rfl)
theorem dX2_take_47 : decode cX2_take 47 = .ok (.iadd, 1) := dk_96 (dk_at dksX2_take_2 0 rfl rfl)
theorem dX2_take_48 : decode cX2_take 48 = .ok (.putfield 86, 3) := dk_181 0 86 (dk_at dksX2_take_2 1 rfl rfl)
theorem dX2_take_51 : decode cX2_take 51 = .ok (.aload_n 0, 1) := dk_42 (dk_at dksX2_take_2 4 rfl rfl)
theorem dX2_take_52 : decode cX2_take 52 = .ok (.new 9, 3) := dk_187 0 9 (dk_at dksX2_take_2 5 rfl rfl)
theorem dX2_take_55 : decode cX2_take 55 = .ok (.dup, 1) := dk_89 (dk_at dksX2_take_2 8 rfl rfl)
theorem dX2_take_56 : decode cX2_take 56 = .ok (.aload_n 0, 1) := dk_42 (dk_at dksX2_take_2 9 rfl rfl)
theorem dX2_take_57 : decode cX2_take 57 = .ok (.getfield 58, 3) := dk_180 0 58 (dk_at dksX2_take_2 10 rfl rfl)
theorem dX2_take_60 : decode cX2_take 60 = .ok (.bipush 10, 2) := dk_16 10 (dk_at dksX2_take_2 13 rfl rfl)
theorem dX2_take_62 : decode cX2_take 62 = .ok (.irem, 1) := dk_112 (dk_at dksX2_take_2 15 rfl rfl)
theorem dX2_take_63 : decode cX2_take 63 = .ok (.invokespecial 104, 3) := dk_183 0 104 (dk_at dksX2_take_2 16 rfl rfl)
theorem dX2_take_66 : decode cX2_take 66 = .ok (.bipush 9, 2) := dk_16 9 (dk_at dksX2_take_2 19 rfl rfl)
theorem dX2_take_68 : decode cX2_take 68 = .ok (.bipush 10, 2) := dk_16 10 (dk_at dksX2_take_2 21 rfl rfl)
theorem dX2_take_70 : decode cX2_take 70 = .ok (.iload_n 1, 1) := dk_27 (dk_at dksX2_take_2 23 rfl rfl)
theorem dX2_take_71 : decode cX2_take 71 = .ok (.iadd, 1) := dk_96 (dk_at dksX2_take_3 0 rfl rfl)
theorem dX2_take_72 : decode cX2_take 72 = .ok (.invokevirtual 107, 3) := dk_182 0 107 (dk_at dksX2_take_3 1 rfl rfl)
theorem dX2_take_75 : decode cX2_take 75 = .ok (.pop, 1) := dk_87 (dk_at dksX2_take_3 4 rfl rfl)
theorem dX2_take_76 : decode cX2_take 76 = .ok (.aload_n 0, 1) := dk_42 (dk_at dksX2_take_3 5 rfl rfl)
theorem dX2_take_77 : decode cX2_take 77 = .ok (.getfield 71, 3) := dk_180 0 71 (dk_at dksX2_take_3 6 rfl rfl)
theorem dX2_take_80 : decode cX2_take 80 = .ok (.iconst 1, 1) := dk_4 (dk_at dksX2_take_3 9 rfl rfl)
theorem dX2_take_81 : decode cX2_take 81 = .ok (.isub, 1) := dk_100 (dk_at dksX2_take_3 10 rfl rfl)
theorem dX2_take_82 : decode cX2_take 82 = .ok (.istore_n 2, 1) := dk_61 (dk_at dksX2_take_3 11 rfl rfl)
theorem dX2_take_83 : decode cX2_take 83 = .ok (.goto 23, 3) := dk_167 0 23 (dk_at dksX2_take_3 12 rfl rfl)
theorem dX2_take_86 : decode cX2_take 86 = .ok (.iload_n 2, 1) := dk_28 (dk_at dksX2_take_3 15 rfl rfl)
theorem dX2_take_87 : decode cX2_take 87 = .ok (.aload_n 0, 1) := dk_42 (dk_at dksX2_take_3 16 rfl rfl)
theorem dX2_take_88 : decode cX2_take 88 = .ok (.getfield 52, 3) := dk_180 0 52 (dk_at dksX2_take_3 17 rfl rfl)
theorem dX2_take_91 : decode cX2_take 91 = .ok (.iload_n 1, 1) := dk_27 (dk_at dksX2_take_3 20 rfl rfl)
theorem dX2_take_92 : decode cX2_take 92 = .ok (.iaload, 1) := dk_46 (dk_at dksX2_take_3 21 rfl rfl)
theorem dX2_take_93 : decode cX2_take 93 = .ok (.if_icmp .eq 13, 3) := dk_159 0 13 (dk_at dksX2_take_4 0 rfl rfl)
theorem dX2_take_96 : decode cX2_take 96 = .ok (.aload_n 0, 1) := dk_42 (dk_at dksX2_take_4 3 rfl rfl)
theorem dX2_take_97 : decode cX2_take 97 = .ok (.dup, 1) := dk_89 (dk_at dksX2_take_4 4 rfl rfl)
theorem dX2_take_98 : decode cX2_take 98 = .ok (.getfield 83, 3) := dk_180 0 83 (dk_at dksX2_take_4 5 rfl rfl)
theorem dX2_take_101 : decode cX2_take 101 = .ok (.iconst 1, 1) := dk_4 (dk_at dksX2_take_4 8 rfl rfl)
theorem dX2_take_102 : decode cX2_take 102 = .ok (.iadd, 1) := dk_96 (dk_at dksX2_take_4 9 rfl rfl)
theorem dX2_take_103 : decode cX2_take 103 = .ok (.putfield 83, 3) := dk_181 0 83 (dk_at dksX2_take_4 10 rfl rfl)
theorem dX2_take_106 : decode cX2_take 106 = .ok (.aload_n 0, 1) := dk_42 (dk_at dksX2_take_4 13 rfl rfl)
theorem dX2_take_107 : decode cX2_take 107 = .ok (.iload_n 1, 1) := dk_27 (dk_at dksX2_take_4 14 rfl rfl)
theorem dX2_take_108 : decode cX2_take 108 = .ok (.iload_n 2, 1) := dk_28 (dk_at dksX2_take_4 15 rfl rfl)
theorem dX2_take_109 : decode cX2_take 109 = .ok (.invokevirtual 111, 3) := dk_182 0 111 (dk_at dksX2_take_4 16 rfl rfl)
theorem dX2_take_112 : decode cX2_take 112 = .ok (.iload_n 2, 1) := dk_28 (dk_at dksX2_take_4 19 rfl rfl)
theorem dX2_take_113 : decode cX2_take 113 = .ok (.ireturn, 1) := dk_172 (dk_at dksX2_take_4 20 rfl rfl)
abbrev cX2_mine : ByteArray := prog_7_method_10_code
def yX2_mine : MethodName := ⟨RX2, "mine", "(I)I"⟩
def dkwX2_mine_6 : List UInt8 := [164, 0, 5, 29, 61, 132, 3, 1, 167, 255, 140, 28, 172]
abbrev dktX2_mine_6 : List UInt8 := dkwX2_mine_6 ++ []
def dkwX2_mine_5 : List UInt8 := [21, 5, 163, 0, 25, 21, 4, 21, 5, 160, 0, 20, 42, 180, 0, 24, 29, 46, 42, 180, 0, 24, 28, 46]
abbrev dktX2_mine_5 : List UInt8 := dkwX2_mine_5 ++ dktX2_mine_6
def dkwX2_mine_4 : List UInt8 := [16, 252, 160, 0, 7, 3, 167, 0, 14, 42, 42, 180, 0, 52, 27, 46, 28, 182, 0, 97, 54, 5, 21, 4]
abbrev dktX2_mine_4 : List UInt8 := dkwX2_mine_4 ++ dktX2_mine_5
def dkwX2_mine_3 : List UInt8 := [3, 54, 4, 21, 4, 153, 0, 71, 21, 4, 42, 180, 0, 43, 27, 46, 162, 0, 6, 167, 0, 57, 28]
abbrev dktX2_mine_3 : List UInt8 := dkwX2_mine_3 ++ dktX2_mine_4
def dkwX2_mine_2 : List UInt8 := [46, 42, 180, 0, 46, 27, 46, 160, 0, 17, 42, 42, 180, 0, 52, 27, 46, 29, 182, 0, 97, 167, 0, 4]
abbrev dktX2_mine_2 : List UInt8 := dkwX2_mine_2 ++ dktX2_mine_3
def dkwX2_mine_1 : List UInt8 := [160, 0, 6, 16, 252, 172, 16, 252, 61, 3, 62, 29, 42, 180, 0, 71, 162, 0, 114, 42, 180, 0, 21, 29]
abbrev dktX2_mine_1 : List UInt8 := dkwX2_mine_1 ++ dktX2_mine_2
def dkwX2_mine_0 : List UInt8 := [42, 180, 0, 52, 27, 46, 16, 252, 159, 0, 19, 42, 180, 0, 21, 42, 180, 0, 52, 27, 46, 46, 16, 20]
abbrev dktX2_mine_0 : List UInt8 := dkwX2_mine_0 ++ dktX2_mine_1
theorem dksX2_mine_0 : cX2_mine.data.toList.drop 0 = dktX2_mine_0 := by decide +kernel
theorem dksX2_mine_1 : cX2_mine.data.toList.drop 24 = dktX2_mine_1 := dk_seg dksX2_mine_0 24 rfl rfl
theorem dksX2_mine_2 : cX2_mine.data.toList.drop 48 = dktX2_mine_2 := dk_seg dksX2_mine_1 24 rfl rfl
theorem dksX2_mine_3 : cX2_mine.data.toList.drop 72 = dktX2_mine_3 := dk_seg dksX2_mine_2 24 rfl rfl
theorem dksX2_mine_4 : cX2_mine.data.toList.drop 95 = dktX2_mine_4 := dk_seg dksX2_mine_3 23 rfl rfl
theorem dksX2_mine_5 : cX2_mine.data.toList.drop 119 = dktX2_mine_5 := dk_seg dksX2_mine_4 24 rfl rfl
theorem dksX2_mine_6 : cX2_mine.data.toList.drop 143 = dktX2_mine_6 := dk_seg dksX2_mine_5 24 rfl rfl
theorem dX2_mine_0 : decode cX2_mine 0 = .ok (.aload_n 0, 1) := dk_42 (dk_at dksX2_mine_0 0 rfl rfl)
theorem dX2_mine_1 : decode cX2_mine 1 = .ok (.getfield 52, 3) := dk_180 0 52 (dk_at dksX2_mine_0 1 rfl rfl)
theorem dX2_mine_4 : decode cX2_mine 4 = .ok (.iload_n 1, 1) := dk_27 (dk_at dksX2_mine_0 4 rfl rfl)
theorem dX2_mine_5 : decode cX2_mine 5 = .ok (.iaload, 1) := dk_46 (dk_at dksX2_mine_0 5 rfl rfl)
theorem dX2_mine_6 : decode cX2_mine 6 = .ok (.bipush (-4), 2) := dk_16 252 (dk_at dksX2_mine_0 6 rfl rfl)
theorem dX2_mine_8 : decode cX2_mine 8 = .ok (.if_icmp .eq 19, 3) := dk_159 0 19 (dk_at dksX2_mine_0 8 rfl rfl)
theorem dX2_mine_11 : decode cX2_mine 11 = .ok (.aload_n 0, 1) := dk_42 (dk_at dksX2_mine_0 11 rfl rfl)
theorem dX2_mine_12 : decode cX2_mine 12 = .ok (.getfield 21, 3) := dk_180 0 21 (dk_at dksX2_mine_0 12 rfl rfl)
theorem dX2_mine_15 : decode cX2_mine 15 = .ok (.aload_n 0, 1) := dk_42 (dk_at dksX2_mine_0 15 rfl rfl)
theorem dX2_mine_16 : decode cX2_mine 16 = .ok (.getfield 52, 3) := dk_180 0 52 (dk_at dksX2_mine_0 16 rfl rfl)
theorem dX2_mine_19 : decode cX2_mine 19 = .ok (.iload_n 1, 1) := dk_27 (dk_at dksX2_mine_0 19 rfl rfl)
theorem dX2_mine_20 : decode cX2_mine 20 = .ok (.iaload, 1) := dk_46 (dk_at dksX2_mine_0 20 rfl rfl)
theorem dX2_mine_21 : decode cX2_mine 21 = .ok (.iaload, 1) := dk_46 (dk_at dksX2_mine_0 21 rfl rfl)
theorem dX2_mine_22 : decode cX2_mine 22 = .ok (.bipush 20, 2) := dk_16 20 (dk_at dksX2_mine_0 22 rfl rfl)
theorem dX2_mine_24 : decode cX2_mine 24 = .ok (.if_icmp .ne 6, 3) := dk_160 0 6 (dk_at dksX2_mine_1 0 rfl rfl)
theorem dX2_mine_27 : decode cX2_mine 27 = .ok (.bipush (-4), 2) := dk_16 252 (dk_at dksX2_mine_1 3 rfl rfl)
theorem dX2_mine_29 : decode cX2_mine 29 = .ok (.ireturn, 1) := dk_172 (dk_at dksX2_mine_1 5 rfl rfl)
theorem dX2_mine_30 : decode cX2_mine 30 = .ok (.bipush (-4), 2) := dk_16 252 (dk_at dksX2_mine_1 6 rfl rfl)
theorem dX2_mine_32 : decode cX2_mine 32 = .ok (.istore_n 2, 1) := dk_61 (dk_at dksX2_mine_1 8 rfl rfl)
theorem dX2_mine_33 : decode cX2_mine 33 = .ok (.iconst 0, 1) := dk_3 (dk_at dksX2_mine_1 9 rfl rfl)
theorem dX2_mine_34 : decode cX2_mine 34 = .ok (.istore_n 3, 1) := dk_62 (dk_at dksX2_mine_1 10 rfl rfl)
theorem dX2_mine_35 : decode cX2_mine 35 = .ok (.iload_n 3, 1) := dk_29 (dk_at dksX2_mine_1 11 rfl rfl)
theorem dX2_mine_36 : decode cX2_mine 36 = .ok (.aload_n 0, 1) := dk_42 (dk_at dksX2_mine_1 12 rfl rfl)
theorem dX2_mine_37 : decode cX2_mine 37 = .ok (.getfield 71, 3) := dk_180 0 71 (dk_at dksX2_mine_1 13 rfl rfl)
theorem dX2_mine_40 : decode cX2_mine 40 = .ok (.if_icmp .ge 114, 3) := dk_162 0 114 (dk_at dksX2_mine_1 16 rfl rfl)
theorem dX2_mine_43 : decode cX2_mine 43 = .ok (.aload_n 0, 1) := dk_42 (dk_at dksX2_mine_1 19 rfl rfl)
theorem dX2_mine_44 : decode cX2_mine 44 = .ok (.getfield 21, 3) := dk_180 0 21 (dk_at dksX2_mine_1 20 rfl rfl)
theorem dX2_mine_47 : decode cX2_mine 47 = .ok (.iload_n 3, 1) := dk_29 (dk_at dksX2_mine_1 23 rfl rfl)
theorem dX2_mine_48 : decode cX2_mine 48 = .ok (.iaload, 1) := dk_46 (dk_at dksX2_mine_2 0 rfl rfl)
theorem dX2_mine_49 : decode cX2_mine 49 = .ok (.aload_n 0, 1) := dk_42 (dk_at dksX2_mine_2 1 rfl rfl)
theorem dX2_mine_50 : decode cX2_mine 50 = .ok (.getfield 46, 3) := dk_180 0 46 (dk_at dksX2_mine_2 2 rfl rfl)
theorem dX2_mine_53 : decode cX2_mine 53 = .ok (.iload_n 1, 1) := dk_27 (dk_at dksX2_mine_2 5 rfl rfl)
theorem dX2_mine_54 : decode cX2_mine 54 = .ok (.iaload, 1) := dk_46 (dk_at dksX2_mine_2 6 rfl rfl)
theorem dX2_mine_55 : decode cX2_mine 55 = .ok (.if_icmp .ne 17, 3) := dk_160 0 17 (dk_at dksX2_mine_2 7 rfl rfl)
theorem dX2_mine_58 : decode cX2_mine 58 = .ok (.aload_n 0, 1) := dk_42 (dk_at dksX2_mine_2 10 rfl rfl)
theorem dX2_mine_59 : decode cX2_mine 59 = .ok (.aload_n 0, 1) := dk_42 (dk_at dksX2_mine_2 11 rfl rfl)
theorem dX2_mine_60 : decode cX2_mine 60 = .ok (.getfield 52, 3) := dk_180 0 52 (dk_at dksX2_mine_2 12 rfl rfl)
theorem dX2_mine_63 : decode cX2_mine 63 = .ok (.iload_n 1, 1) := dk_27 (dk_at dksX2_mine_2 15 rfl rfl)
theorem dX2_mine_64 : decode cX2_mine 64 = .ok (.iaload, 1) := dk_46 (dk_at dksX2_mine_2 16 rfl rfl)
theorem dX2_mine_65 : decode cX2_mine 65 = .ok (.iload_n 3, 1) := dk_29 (dk_at dksX2_mine_2 17 rfl rfl)
theorem dX2_mine_66 : decode cX2_mine 66 = .ok (.invokevirtual 97, 3) := dk_182 0 97 (dk_at dksX2_mine_2 18 rfl rfl)
theorem dX2_mine_69 : decode cX2_mine 69 = .ok (.goto 4, 3) := dk_167 0 4 (dk_at dksX2_mine_2 21 rfl rfl)
theorem dX2_mine_72 : decode cX2_mine 72 = .ok (.iconst 0, 1) := dk_3 (dk_at dksX2_mine_3 0 rfl rfl)
theorem dX2_mine_73 : decode cX2_mine 73 = .ok (.istore 4, 2) := dk_54 4 (dk_at dksX2_mine_3 1 rfl rfl)
theorem dX2_mine_75 : decode cX2_mine 75 = .ok (.iload 4, 2) := dk_21 4 (dk_at dksX2_mine_3 3 rfl rfl)
theorem dX2_mine_77 : decode cX2_mine 77 = .ok (.ifCond .eq 71, 3) := dk_153 0 71 (dk_at dksX2_mine_3 5 rfl rfl)
theorem dX2_mine_80 : decode cX2_mine 80 = .ok (.iload 4, 2) := dk_21 4 (dk_at dksX2_mine_3 8 rfl rfl)
theorem dX2_mine_82 : decode cX2_mine 82 = .ok (.aload_n 0, 1) := dk_42 (dk_at dksX2_mine_3 10 rfl rfl)
theorem dX2_mine_83 : decode cX2_mine 83 = .ok (.getfield 43, 3) := dk_180 0 43 (dk_at dksX2_mine_3 11 rfl rfl)
theorem dX2_mine_86 : decode cX2_mine 86 = .ok (.iload_n 1, 1) := dk_27 (dk_at dksX2_mine_3 14 rfl rfl)
theorem dX2_mine_87 : decode cX2_mine 87 = .ok (.iaload, 1) := dk_46 (dk_at dksX2_mine_3 15 rfl rfl)
theorem dX2_mine_88 : decode cX2_mine 88 = .ok (.if_icmp .ge 6, 3) := dk_162 0 6 (dk_at dksX2_mine_3 16 rfl rfl)
theorem dX2_mine_91 : decode cX2_mine 91 = .ok (.goto 57, 3) := dk_167 0 57 (dk_at dksX2_mine_3 19 rfl rfl)
theorem dX2_mine_94 : decode cX2_mine 94 = .ok (.iload_n 2, 1) := dk_28 (dk_at dksX2_mine_3 22 rfl rfl)
theorem dX2_mine_95 : decode cX2_mine 95 = .ok (.bipush (-4), 2) := dk_16 252 (dk_at dksX2_mine_4 0 rfl rfl)
theorem dX2_mine_97 : decode cX2_mine 97 = .ok (.if_icmp .ne 7, 3) := dk_160 0 7 (dk_at dksX2_mine_4 2 rfl rfl)
theorem dX2_mine_100 : decode cX2_mine 100 = .ok (.iconst 0, 1) := dk_3 (dk_at dksX2_mine_4 5 rfl rfl)
theorem dX2_mine_101 : decode cX2_mine 101 = .ok (.goto 14, 3) := dk_167 0 14 (dk_at dksX2_mine_4 6 rfl rfl)
theorem dX2_mine_104 : decode cX2_mine 104 = .ok (.aload_n 0, 1) := dk_42 (dk_at dksX2_mine_4 9 rfl rfl)
theorem dX2_mine_105 : decode cX2_mine 105 = .ok (.aload_n 0, 1) := dk_42 (dk_at dksX2_mine_4 10 rfl rfl)
theorem dX2_mine_106 : decode cX2_mine 106 = .ok (.getfield 52, 3) := dk_180 0 52 (dk_at dksX2_mine_4 11 rfl rfl)
theorem dX2_mine_109 : decode cX2_mine 109 = .ok (.iload_n 1, 1) := dk_27 (dk_at dksX2_mine_4 14 rfl rfl)
theorem dX2_mine_110 : decode cX2_mine 110 = .ok (.iaload, 1) := dk_46 (dk_at dksX2_mine_4 15 rfl rfl)
theorem dX2_mine_111 : decode cX2_mine 111 = .ok (.iload_n 2, 1) := dk_28 (dk_at dksX2_mine_4 16 rfl rfl)
theorem dX2_mine_112 : decode cX2_mine 112 = .ok (.invokevirtual 97, 3) := dk_182 0 97 (dk_at dksX2_mine_4 17 rfl rfl)
theorem dX2_mine_115 : decode cX2_mine 115 = .ok (.istore 5, 2) := dk_54 5 (dk_at dksX2_mine_4 20 rfl rfl)
theorem dX2_mine_117 : decode cX2_mine 117 = .ok (.iload 4, 2) := dk_21 4 (dk_at dksX2_mine_4 22 rfl rfl)
theorem dX2_mine_119 : decode cX2_mine 119 = .ok (.iload 5, 2) := dk_21 5 (dk_at dksX2_mine_5 0 rfl rfl)
theorem dX2_mine_121 : decode cX2_mine 121 = .ok (.if_icmp .gt 25, 3) := dk_163 0 25 (dk_at dksX2_mine_5 2 rfl rfl)
theorem dX2_mine_124 : decode cX2_mine 124 = .ok (.iload 4, 2) := dk_21 4 (dk_at dksX2_mine_5 5 rfl rfl)
theorem dX2_mine_126 : decode cX2_mine 126 = .ok (.iload 5, 2) := dk_21 5 (dk_at dksX2_mine_5 7 rfl rfl)
theorem dX2_mine_128 : decode cX2_mine 128 = .ok (.if_icmp .ne 20, 3) := dk_160 0 20 (dk_at dksX2_mine_5 9 rfl rfl)
theorem dX2_mine_131 : decode cX2_mine 131 = .ok (.aload_n 0, 1) := dk_42 (dk_at dksX2_mine_5 12 rfl rfl)
theorem dX2_mine_132 : decode cX2_mine 132 = .ok (.getfield 24, 3) := dk_180 0 24 (dk_at dksX2_mine_5 13 rfl rfl)
theorem dX2_mine_135 : decode cX2_mine 135 = .ok (.iload_n 3, 1) := dk_29 (dk_at dksX2_mine_5 16 rfl rfl)
theorem dX2_mine_136 : decode cX2_mine 136 = .ok (.iaload, 1) := dk_46 (dk_at dksX2_mine_5 17 rfl rfl)
theorem dX2_mine_137 : decode cX2_mine 137 = .ok (.aload_n 0, 1) := dk_42 (dk_at dksX2_mine_5 18 rfl rfl)
theorem dX2_mine_138 : decode cX2_mine 138 = .ok (.getfield 24, 3) := dk_180 0 24 (dk_at dksX2_mine_5 19 rfl rfl)
theorem dX2_mine_141 : decode cX2_mine 141 = .ok (.iload_n 2, 1) := dk_28 (dk_at dksX2_mine_5 22 rfl rfl)
theorem dX2_mine_142 : decode cX2_mine 142 = .ok (.iaload, 1) := dk_46 (dk_at dksX2_mine_5 23 rfl rfl)
theorem dX2_mine_143 : decode cX2_mine 143 = .ok (.if_icmp .le 5, 3) := dk_164 0 5 (dk_at dksX2_mine_6 0 rfl rfl)
theorem dX2_mine_146 : decode cX2_mine 146 = .ok (.iload_n 3, 1) := dk_29 (dk_at dksX2_mine_6 3 rfl rfl)
theorem dX2_mine_147 : decode cX2_mine 147 = .ok (.istore_n 2, 1) := dk_61 (dk_at dksX2_mine_6 4 rfl rfl)
theorem dX2_mine_148 : decode cX2_mine 148 = .ok (.iinc 3 1, 3) := dk_132 3 1 (dk_at dksX2_mine_6 5 rfl rfl)
theorem dX2_mine_151 : decode cX2_mine 151 = .ok (.goto (-116), 3) := dk_167 255 140 (dk_at dksX2_mine_6 8 rfl rfl)
theorem dX2_mine_154 : decode cX2_mine 154 = .ok (.iload_n 2, 1) := dk_28 (dk_at dksX2_mine_6 11 rfl rfl)
theorem dX2_mine_155 : decode cX2_mine 155 = .ok (.ireturn, 1) := dk_172 (dk_at dksX2_mine_6 12 rfl rfl)
abbrev cX2_like : ByteArray := prog_7_method_8_code
def yX2_like : MethodName := ⟨RX2, "like", "(II)I"⟩
def dkwX2_like_1 : List UInt8 := [180, 0, 17, 28, 46, 182, 0, 93, 172]
abbrev dktX2_like_1 : List UInt8 := dkwX2_like_1 ++ []
def dkwX2_like_0 : List UInt8 := [42, 180, 0, 11, 27, 50, 42, 180, 0, 11, 28, 50, 27, 28, 160, 0, 7, 4, 167, 0, 4, 3, 42]
abbrev dktX2_like_0 : List UInt8 := dkwX2_like_0 ++ dktX2_like_1
theorem dksX2_like_0 : cX2_like.data.toList.drop 0 = dktX2_like_0 := by decide +kernel
theorem dksX2_like_1 : cX2_like.data.toList.drop 23 = dktX2_like_1 := dk_seg dksX2_like_0 23 rfl rfl
theorem dX2_like_0 : decode cX2_like 0 = .ok (.aload_n 0, 1) := dk_42 (dk_at dksX2_like_0 0 rfl rfl)
theorem dX2_like_1 : decode cX2_like 1 = .ok (.getfield 11, 3) := dk_180 0 11 (dk_at dksX2_like_0 1 rfl rfl)
theorem dX2_like_4 : decode cX2_like 4 = .ok (.iload_n 1, 1) := dk_27 (dk_at dksX2_like_0 4 rfl rfl)
theorem dX2_like_5 : decode cX2_like 5 = .ok (.aaload, 1) := dk_50 (dk_at dksX2_like_0 5 rfl rfl)
theorem dX2_like_6 : decode cX2_like 6 = .ok (.aload_n 0, 1) := dk_42 (dk_at dksX2_like_0 6 rfl rfl)
theorem dX2_like_7 : decode cX2_like 7 = .ok (.getfield 11, 3) := dk_180 0 11 (dk_at dksX2_like_0 7 rfl rfl)
theorem dX2_like_10 : decode cX2_like 10 = .ok (.iload_n 2, 1) := dk_28 (dk_at dksX2_like_0 10 rfl rfl)
theorem dX2_like_11 : decode cX2_like 11 = .ok (.aaload, 1) := dk_50 (dk_at dksX2_like_0 11 rfl rfl)
theorem dX2_like_12 : decode cX2_like 12 = .ok (.iload_n 1, 1) := dk_27 (dk_at dksX2_like_0 12 rfl rfl)
theorem dX2_like_13 : decode cX2_like 13 = .ok (.iload_n 2, 1) := dk_28 (dk_at dksX2_like_0 13 rfl rfl)
theorem dX2_like_14 : decode cX2_like 14 = .ok (.if_icmp .ne 7, 3) := dk_160 0 7 (dk_at dksX2_like_0 14 rfl rfl)
theorem dX2_like_17 : decode cX2_like 17 = .ok (.iconst 1, 1) := dk_4 (dk_at dksX2_like_0 17 rfl rfl)
theorem dX2_like_18 : decode cX2_like 18 = .ok (.goto 4, 3) := dk_167 0 4 (dk_at dksX2_like_0 18 rfl rfl)
theorem dX2_like_21 : decode cX2_like 21 = .ok (.iconst 0, 1) := dk_3 (dk_at dksX2_like_0 21 rfl rfl)
theorem dX2_like_22 : decode cX2_like 22 = .ok (.aload_n 0, 1) := dk_42 (dk_at dksX2_like_0 22 rfl rfl)
theorem dX2_like_23 : decode cX2_like 23 = .ok (.getfield 17, 3) := dk_180 0 17 (dk_at dksX2_like_1 0 rfl rfl)
theorem dX2_like_26 : decode cX2_like 26 = .ok (.iload_n 2, 1) := dk_28 (dk_at dksX2_like_1 3 rfl rfl)
theorem dX2_like_27 : decode cX2_like 27 = .ok (.iaload, 1) := dk_46 (dk_at dksX2_like_1 4 rfl rfl)
theorem dX2_like_28 : decode cX2_like 28 = .ok (.invokevirtual 93, 3) := dk_182 0 93 (dk_at dksX2_like_1 5 rfl rfl)
theorem dX2_like_31 : decode cX2_like 31 = .ok (.ireturn, 1) := dk_172 (dk_at dksX2_like_1 8 rfl rfl)
abbrev cX2_sip : ByteArray := prog_7_method_12_code
def yX2_sip : MethodName := ⟨RX2, "sip", "(I)I"⟩
def dkwX2_sip_3 : List UInt8 := [128, 181, 0, 80, 42, 180, 0, 30, 28, 92, 51, 42, 180, 0, 80, 27, 184, 0, 118, 128, 84, 29, 172]
abbrev dktX2_sip_3 : List UInt8 := dkwX2_sip_3 ++ []
def dkwX2_sip_2 : List UInt8 := [92, 46, 4, 27, 120, 128, 79, 42, 180, 0, 30, 28, 51, 153, 0, 15, 42, 89, 180, 0, 80, 4, 27, 120]
abbrev dktX2_sip_2 : List UInt8 := dkwX2_sip_2 ++ dktX2_sip_3
def dkwX2_sip_1 : List UInt8 := [180, 0, 17, 28, 92, 46, 4, 100, 79, 42, 180, 0, 55, 27, 92, 46, 29, 96, 79, 42, 180, 0, 27, 28]
abbrev dktX2_sip_1 : List UInt8 := dkwX2_sip_1 ++ dktX2_sip_2
def dkwX2_sip_0 : List UInt8 := [42, 180, 0, 49, 27, 46, 61, 42, 180, 0, 11, 28, 50, 42, 180, 0, 17, 28, 46, 182, 0, 115, 62, 42]
abbrev dktX2_sip_0 : List UInt8 := dkwX2_sip_0 ++ dktX2_sip_1
theorem dksX2_sip_0 : cX2_sip.data.toList.drop 0 = dktX2_sip_0 := by decide +kernel
theorem dksX2_sip_1 : cX2_sip.data.toList.drop 24 = dktX2_sip_1 := dk_seg dksX2_sip_0 24 rfl rfl
theorem dksX2_sip_2 : cX2_sip.data.toList.drop 48 = dktX2_sip_2 := dk_seg dksX2_sip_1 24 rfl rfl
theorem dksX2_sip_3 : cX2_sip.data.toList.drop 72 = dktX2_sip_3 := dk_seg dksX2_sip_2 24 rfl rfl
theorem dX2_sip_0 : decode cX2_sip 0 = .ok (.aload_n 0, 1) := dk_42 (dk_at dksX2_sip_0 0 rfl rfl)
theorem dX2_sip_1 : decode cX2_sip 1 = .ok (.getfield 49, 3) := dk_180 0 49 (dk_at dksX2_sip_0 1 rfl rfl)
theorem dX2_sip_4 : decode cX2_sip 4 = .ok (.iload_n 1, 1) := dk_27 (dk_at dksX2_sip_0 4 rfl rfl)
theorem dX2_sip_5 : decode cX2_sip 5 = .ok (.iaload, 1) := dk_46 (dk_at dksX2_sip_0 5 rfl rfl)
theorem dX2_sip_6 : decode cX2_sip 6 = .ok (.istore_n 2, 1) := dk_61 (dk_at dksX2_sip_0 6 rfl rfl)
theorem dX2_sip_7 : decode cX2_sip 7 = .ok (.aload_n 0, 1) := dk_42 (dk_at dksX2_sip_0 7 rfl rfl)
theorem dX2_sip_8 : decode cX2_sip 8 = .ok (.getfield 11, 3) := dk_180 0 11 (dk_at dksX2_sip_0 8 rfl rfl)
theorem dX2_sip_11 : decode cX2_sip 11 = .ok (.iload_n 2, 1) := dk_28 (dk_at dksX2_sip_0 11 rfl rfl)
theorem dX2_sip_12 : decode cX2_sip 12 = .ok (.aaload, 1) := dk_50 (dk_at dksX2_sip_0 12 rfl rfl)
theorem dX2_sip_13 : decode cX2_sip 13 = .ok (.aload_n 0, 1) := dk_42 (dk_at dksX2_sip_0 13 rfl rfl)
theorem dX2_sip_14 : decode cX2_sip 14 = .ok (.getfield 17, 3) := dk_180 0 17 (dk_at dksX2_sip_0 14 rfl rfl)
theorem dX2_sip_17 : decode cX2_sip 17 = .ok (.iload_n 2, 1) := dk_28 (dk_at dksX2_sip_0 17 rfl rfl)
theorem dX2_sip_18 : decode cX2_sip 18 = .ok (.iaload, 1) := dk_46 (dk_at dksX2_sip_0 18 rfl rfl)
theorem dX2_sip_19 : decode cX2_sip 19 = .ok (.invokevirtual 115, 3) := dk_182 0 115 (dk_at dksX2_sip_0 19 rfl rfl)
theorem dX2_sip_22 : decode cX2_sip 22 = .ok (.istore_n 3, 1) := dk_62 (dk_at dksX2_sip_0 22 rfl rfl)
theorem dX2_sip_23 : decode cX2_sip 23 = .ok (.aload_n 0, 1) := dk_42 (dk_at dksX2_sip_0 23 rfl rfl)
theorem dX2_sip_24 : decode cX2_sip 24 = .ok (.getfield 17, 3) := dk_180 0 17 (dk_at dksX2_sip_1 0 rfl rfl)
theorem dX2_sip_27 : decode cX2_sip 27 = .ok (.iload_n 2, 1) := dk_28 (dk_at dksX2_sip_1 3 rfl rfl)
theorem dX2_sip_28 : decode cX2_sip 28 = .ok (.dup2, 1) := dk_92 (dk_at dksX2_sip_1 4 rfl rfl)
theorem dX2_sip_29 : decode cX2_sip 29 = .ok (.iaload, 1) := dk_46 (dk_at dksX2_sip_1 5 rfl rfl)
theorem dX2_sip_30 : decode cX2_sip 30 = .ok (.iconst 1, 1) := dk_4 (dk_at dksX2_sip_1 6 rfl rfl)
theorem dX2_sip_31 : decode cX2_sip 31 = .ok (.isub, 1) := dk_100 (dk_at dksX2_sip_1 7 rfl rfl)
theorem dX2_sip_32 : decode cX2_sip 32 = .ok (.iastore, 1) := dk_79 (dk_at dksX2_sip_1 8 rfl rfl)
theorem dX2_sip_33 : decode cX2_sip 33 = .ok (.aload_n 0, 1) := dk_42 (dk_at dksX2_sip_1 9 rfl rfl)
theorem dX2_sip_34 : decode cX2_sip 34 = .ok (.getfield 55, 3) := dk_180 0 55 (dk_at dksX2_sip_1 10 rfl rfl)
theorem dX2_sip_37 : decode cX2_sip 37 = .ok (.iload_n 1, 1) := dk_27 (dk_at dksX2_sip_1 13 rfl rfl)
theorem dX2_sip_38 : decode cX2_sip 38 = .ok (.dup2, 1) := dk_92 (dk_at dksX2_sip_1 14 rfl rfl)
theorem dX2_sip_39 : decode cX2_sip 39 = .ok (.iaload, 1) := dk_46 (dk_at dksX2_sip_1 15 rfl rfl)
theorem dX2_sip_40 : decode cX2_sip 40 = .ok (.iload_n 3, 1) := dk_29 (dk_at dksX2_sip_1 16 rfl rfl)
theorem dX2_sip_41 : decode cX2_sip 41 = .ok (.iadd, 1) := dk_96 (dk_at dksX2_sip_1 17 rfl rfl)
theorem dX2_sip_42 : decode cX2_sip 42 = .ok (.iastore, 1) := dk_79 (dk_at dksX2_sip_1 18 rfl rfl)
theorem dX2_sip_43 : decode cX2_sip 43 = .ok (.aload_n 0, 1) := dk_42 (dk_at dksX2_sip_1 19 rfl rfl)
theorem dX2_sip_44 : decode cX2_sip 44 = .ok (.getfield 27, 3) := dk_180 0 27 (dk_at dksX2_sip_1 20 rfl rfl)
theorem dX2_sip_47 : decode cX2_sip 47 = .ok (.iload_n 2, 1) := dk_28 (dk_at dksX2_sip_1 23 rfl rfl)
theorem dX2_sip_48 : decode cX2_sip 48 = .ok (.dup2, 1) := dk_92 (dk_at dksX2_sip_2 0 rfl rfl)
theorem dX2_sip_49 : decode cX2_sip 49 = .ok (.iaload, 1) := dk_46 (dk_at dksX2_sip_2 1 rfl rfl)
theorem dX2_sip_50 : decode cX2_sip 50 = .ok (.iconst 1, 1) := dk_4 (dk_at dksX2_sip_2 2 rfl rfl)
theorem dX2_sip_51 : decode cX2_sip 51 = .ok (.iload_n 1, 1) := dk_27 (dk_at dksX2_sip_2 3 rfl rfl)
theorem dX2_sip_52 : decode cX2_sip 52 = .ok (.ishl, 1) := dk_120 (dk_at dksX2_sip_2 4 rfl rfl)
theorem dX2_sip_53 : decode cX2_sip 53 = .ok (.ior, 1) := dk_128 (dk_at dksX2_sip_2 5 rfl rfl)
theorem dX2_sip_54 : decode cX2_sip 54 = .ok (.iastore, 1) := dk_79 (dk_at dksX2_sip_2 6 rfl rfl)
theorem dX2_sip_55 : decode cX2_sip 55 = .ok (.aload_n 0, 1) := dk_42 (dk_at dksX2_sip_2 7 rfl rfl)
theorem dX2_sip_56 : decode cX2_sip 56 = .ok (.getfield 30, 3) := dk_180 0 30 (dk_at dksX2_sip_2 8 rfl rfl)
theorem dX2_sip_59 : decode cX2_sip 59 = .ok (.iload_n 2, 1) := dk_28 (dk_at dksX2_sip_2 11 rfl rfl)
theorem dX2_sip_60 : decode cX2_sip 60 = .ok (.baload, 1) := dk_51 (dk_at dksX2_sip_2 12 rfl rfl)
theorem dX2_sip_61 : decode cX2_sip 61 = .ok (.ifCond .eq 15, 3) := dk_153 0 15 (dk_at dksX2_sip_2 13 rfl rfl)
theorem dX2_sip_64 : decode cX2_sip 64 = .ok (.aload_n 0, 1) := dk_42 (dk_at dksX2_sip_2 16 rfl rfl)
theorem dX2_sip_65 : decode cX2_sip 65 = .ok (.dup, 1) := dk_89 (dk_at dksX2_sip_2 17 rfl rfl)
theorem dX2_sip_66 : decode cX2_sip 66 = .ok (.getfield 80, 3) := dk_180 0 80 (dk_at dksX2_sip_2 18 rfl rfl)
theorem dX2_sip_69 : decode cX2_sip 69 = .ok (.iconst 1, 1) := dk_4 (dk_at dksX2_sip_2 21 rfl rfl)
theorem dX2_sip_70 : decode cX2_sip 70 = .ok (.iload_n 1, 1) := dk_27 (dk_at dksX2_sip_2 22 rfl rfl)
theorem dX2_sip_71 : decode cX2_sip 71 = .ok (.ishl, 1) := dk_120 (dk_at dksX2_sip_2 23 rfl rfl)
theorem dX2_sip_72 : decode cX2_sip 72 = .ok (.ior, 1) := dk_128 (dk_at dksX2_sip_3 0 rfl rfl)
theorem dX2_sip_73 : decode cX2_sip 73 = .ok (.putfield 80, 3) := dk_181 0 80 (dk_at dksX2_sip_3 1 rfl rfl)
theorem dX2_sip_76 : decode cX2_sip 76 = .ok (.aload_n 0, 1) := dk_42 (dk_at dksX2_sip_3 4 rfl rfl)
theorem dX2_sip_77 : decode cX2_sip 77 = .ok (.getfield 30, 3) := dk_180 0 30 (dk_at dksX2_sip_3 5 rfl rfl)
theorem dX2_sip_80 : decode cX2_sip 80 = .ok (.iload_n 2, 1) := dk_28 (dk_at dksX2_sip_3 8 rfl rfl)
theorem dX2_sip_81 : decode cX2_sip 81 = .ok (.dup2, 1) := dk_92 (dk_at dksX2_sip_3 9 rfl rfl)
theorem dX2_sip_82 : decode cX2_sip 82 = .ok (.baload, 1) := dk_51 (dk_at dksX2_sip_3 10 rfl rfl)
theorem dX2_sip_83 : decode cX2_sip 83 = .ok (.aload_n 0, 1) := dk_42 (dk_at dksX2_sip_3 11 rfl rfl)
theorem dX2_sip_84 : decode cX2_sip 84 = .ok (.getfield 80, 3) := dk_180 0 80 (dk_at dksX2_sip_3 12 rfl rfl)
theorem dX2_sip_87 : decode cX2_sip 87 = .ok (.iload_n 1, 1) := dk_27 (dk_at dksX2_sip_3 15 rfl rfl)
theorem dX2_sip_88 : decode cX2_sip 88 = .ok (.invokestatic 118, 3) := dk_184 0 118 (dk_at dksX2_sip_3 16 rfl rfl)
theorem dX2_sip_91 : decode cX2_sip 91 = .ok (.ior, 1) := dk_128 (dk_at dksX2_sip_3 19 rfl rfl)
theorem dX2_sip_92 : decode cX2_sip 92 = .ok (.bastore, 1) := dk_84 (dk_at dksX2_sip_3 20 rfl rfl)
theorem dX2_sip_93 : decode cX2_sip 93 = .ok (.iload_n 3, 1) := dk_29 (dk_at dksX2_sip_3 21 rfl rfl)
theorem dX2_sip_94 : decode cX2_sip 94 = .ok (.ireturn, 1) := dk_172 (dk_at dksX2_sip_3 22 rfl rfl)
abbrev cX2_lay : ByteArray := prog_7_method_13_code
def yX2_lay : MethodName := ⟨RX2, "lay", "(I)I"⟩
def dkwX2_lay_1 : List UInt8 := [42, 180, 0, 77, 79, 42, 180, 0, 49, 27, 16, 252, 79, 28, 172]
abbrev dktX2_lay_1 : List UInt8 := dkwX2_lay_1 ++ []
def dkwX2_lay_0 : List UInt8 := [42, 180, 0, 49, 27, 46, 61, 42, 180, 0, 21, 28, 42, 180, 0, 46, 27, 46, 79, 42, 180, 0, 24, 28]
abbrev dktX2_lay_0 : List UInt8 := dkwX2_lay_0 ++ dktX2_lay_1
theorem dksX2_lay_0 : cX2_lay.data.toList.drop 0 = dktX2_lay_0 := by decide +kernel
theorem dksX2_lay_1 : cX2_lay.data.toList.drop 24 = dktX2_lay_1 := dk_seg dksX2_lay_0 24 rfl rfl
theorem dX2_lay_0 : decode cX2_lay 0 = .ok (.aload_n 0, 1) := dk_42 (dk_at dksX2_lay_0 0 rfl rfl)
theorem dX2_lay_1 : decode cX2_lay 1 = .ok (.getfield 49, 3) := dk_180 0 49 (dk_at dksX2_lay_0 1 rfl rfl)
theorem dX2_lay_4 : decode cX2_lay 4 = .ok (.iload_n 1, 1) := dk_27 (dk_at dksX2_lay_0 4 rfl rfl)
theorem dX2_lay_5 : decode cX2_lay 5 = .ok (.iaload, 1) := dk_46 (dk_at dksX2_lay_0 5 rfl rfl)
theorem dX2_lay_6 : decode cX2_lay 6 = .ok (.istore_n 2, 1) := dk_61 (dk_at dksX2_lay_0 6 rfl rfl)
theorem dX2_lay_7 : decode cX2_lay 7 = .ok (.aload_n 0, 1) := dk_42 (dk_at dksX2_lay_0 7 rfl rfl)
theorem dX2_lay_8 : decode cX2_lay 8 = .ok (.getfield 21, 3) := dk_180 0 21 (dk_at dksX2_lay_0 8 rfl rfl)
theorem dX2_lay_11 : decode cX2_lay 11 = .ok (.iload_n 2, 1) := dk_28 (dk_at dksX2_lay_0 11 rfl rfl)
theorem dX2_lay_12 : decode cX2_lay 12 = .ok (.aload_n 0, 1) := dk_42 (dk_at dksX2_lay_0 12 rfl rfl)
theorem dX2_lay_13 : decode cX2_lay 13 = .ok (.getfield 46, 3) := dk_180 0 46 (dk_at dksX2_lay_0 13 rfl rfl)
theorem dX2_lay_16 : decode cX2_lay 16 = .ok (.iload_n 1, 1) := dk_27 (dk_at dksX2_lay_0 16 rfl rfl)
theorem dX2_lay_17 : decode cX2_lay 17 = .ok (.iaload, 1) := dk_46 (dk_at dksX2_lay_0 17 rfl rfl)
theorem dX2_lay_18 : decode cX2_lay 18 = .ok (.iastore, 1) := dk_79 (dk_at dksX2_lay_0 18 rfl rfl)
theorem dX2_lay_19 : decode cX2_lay 19 = .ok (.aload_n 0, 1) := dk_42 (dk_at dksX2_lay_0 19 rfl rfl)
theorem dX2_lay_20 : decode cX2_lay 20 = .ok (.getfield 24, 3) := dk_180 0 24 (dk_at dksX2_lay_0 20 rfl rfl)
theorem dX2_lay_23 : decode cX2_lay 23 = .ok (.iload_n 2, 1) := dk_28 (dk_at dksX2_lay_0 23 rfl rfl)
theorem dX2_lay_24 : decode cX2_lay 24 = .ok (.aload_n 0, 1) := dk_42 (dk_at dksX2_lay_1 0 rfl rfl)
theorem dX2_lay_25 : decode cX2_lay 25 = .ok (.getfield 77, 3) := dk_180 0 77 (dk_at dksX2_lay_1 1 rfl rfl)
theorem dX2_lay_28 : decode cX2_lay 28 = .ok (.iastore, 1) := dk_79 (dk_at dksX2_lay_1 4 rfl rfl)
theorem dX2_lay_29 : decode cX2_lay 29 = .ok (.aload_n 0, 1) := dk_42 (dk_at dksX2_lay_1 5 rfl rfl)
theorem dX2_lay_30 : decode cX2_lay 30 = .ok (.getfield 49, 3) := dk_180 0 49 (dk_at dksX2_lay_1 6 rfl rfl)
theorem dX2_lay_33 : decode cX2_lay 33 = .ok (.iload_n 1, 1) := dk_27 (dk_at dksX2_lay_1 9 rfl rfl)
theorem dX2_lay_34 : decode cX2_lay 34 = .ok (.bipush (-4), 2) := dk_16 252 (dk_at dksX2_lay_1 10 rfl rfl)
theorem dX2_lay_36 : decode cX2_lay 36 = .ok (.iastore, 1) := dk_79 (dk_at dksX2_lay_1 12 rfl rfl)
theorem dX2_lay_37 : decode cX2_lay 37 = .ok (.iload_n 2, 1) := dk_28 (dk_at dksX2_lay_1 13 rfl rfl)
theorem dX2_lay_38 : decode cX2_lay 38 = .ok (.ireturn, 1) := dk_172 (dk_at dksX2_lay_1 14 rfl rfl)
abbrev cX2_sinks : ByteArray := prog_7_method_14_code
def yX2_sinks : MethodName := ⟨RX2, "sinks", "(I)V"⟩
def dkwX2_sinks_1 : List UInt8 := [180, 0, 27, 27, 3, 79, 42, 180, 0, 30, 27, 3, 84, 177]
abbrev dktX2_sinks_1 : List UInt8 := dkwX2_sinks_1 ++ []
def dkwX2_sinks_0 : List UInt8 := [42, 180, 0, 21, 27, 16, 20, 79, 42, 180, 0, 24, 27, 16, 252, 79, 42, 180, 0, 17, 27, 3, 79, 42]
abbrev dktX2_sinks_0 : List UInt8 := dkwX2_sinks_0 ++ dktX2_sinks_1
theorem dksX2_sinks_0 : cX2_sinks.data.toList.drop 0 = dktX2_sinks_0 := by decide +kernel
theorem dksX2_sinks_1 : cX2_sinks.data.toList.drop 24 = dktX2_sinks_1 := dk_seg dksX2_sinks_0 24 rfl rfl
theorem dX2_sinks_0 : decode cX2_sinks 0 = .ok (.aload_n 0, 1) := dk_42 (dk_at dksX2_sinks_0 0 rfl rfl)
theorem dX2_sinks_1 : decode cX2_sinks 1 = .ok (.getfield 21, 3) := dk_180 0 21 (dk_at dksX2_sinks_0 1 rfl rfl)
theorem dX2_sinks_4 : decode cX2_sinks 4 = .ok (.iload_n 1, 1) := dk_27 (dk_at dksX2_sinks_0 4 rfl rfl)
theorem dX2_sinks_5 : decode cX2_sinks 5 = .ok (.bipush 20, 2) := dk_16 20 (dk_at dksX2_sinks_0 5 rfl rfl)
theorem dX2_sinks_7 : decode cX2_sinks 7 = .ok (.iastore, 1) := dk_79 (dk_at dksX2_sinks_0 7 rfl rfl)
theorem dX2_sinks_8 : decode cX2_sinks 8 = .ok (.aload_n 0, 1) := dk_42 (dk_at dksX2_sinks_0 8 rfl rfl)
theorem dX2_sinks_9 : decode cX2_sinks 9 = .ok (.getfield 24, 3) := dk_180 0 24 (dk_at dksX2_sinks_0 9 rfl rfl)
theorem dX2_sinks_12 : decode cX2_sinks 12 = .ok (.iload_n 1, 1) := dk_27 (dk_at dksX2_sinks_0 12 rfl rfl)
theorem dX2_sinks_13 : decode cX2_sinks 13 = .ok (.bipush (-4), 2) := dk_16 252 (dk_at dksX2_sinks_0 13 rfl rfl)
theorem dX2_sinks_15 : decode cX2_sinks 15 = .ok (.iastore, 1) := dk_79 (dk_at dksX2_sinks_0 15 rfl rfl)
theorem dX2_sinks_16 : decode cX2_sinks 16 = .ok (.aload_n 0, 1) := dk_42 (dk_at dksX2_sinks_0 16 rfl rfl)
theorem dX2_sinks_17 : decode cX2_sinks 17 = .ok (.getfield 17, 3) := dk_180 0 17 (dk_at dksX2_sinks_0 17 rfl rfl)
theorem dX2_sinks_20 : decode cX2_sinks 20 = .ok (.iload_n 1, 1) := dk_27 (dk_at dksX2_sinks_0 20 rfl rfl)
theorem dX2_sinks_21 : decode cX2_sinks 21 = .ok (.iconst 0, 1) := dk_3 (dk_at dksX2_sinks_0 21 rfl rfl)
theorem dX2_sinks_22 : decode cX2_sinks 22 = .ok (.iastore, 1) := dk_79 (dk_at dksX2_sinks_0 22 rfl rfl)
theorem dX2_sinks_23 : decode cX2_sinks 23 = .ok (.aload_n 0, 1) := dk_42 (dk_at dksX2_sinks_0 23 rfl rfl)
theorem dX2_sinks_24 : decode cX2_sinks 24 = .ok (.getfield 27, 3) := dk_180 0 27 (dk_at dksX2_sinks_1 0 rfl rfl)
theorem dX2_sinks_27 : decode cX2_sinks 27 = .ok (.iload_n 1, 1) := dk_27 (dk_at dksX2_sinks_1 3 rfl rfl)
theorem dX2_sinks_28 : decode cX2_sinks 28 = .ok (.iconst 0, 1) := dk_3 (dk_at dksX2_sinks_1 4 rfl rfl)
theorem dX2_sinks_29 : decode cX2_sinks 29 = .ok (.iastore, 1) := dk_79 (dk_at dksX2_sinks_1 5 rfl rfl)
theorem dX2_sinks_30 : decode cX2_sinks 30 = .ok (.aload_n 0, 1) := dk_42 (dk_at dksX2_sinks_1 6 rfl rfl)
theorem dX2_sinks_31 : decode cX2_sinks 31 = .ok (.getfield 30, 3) := dk_180 0 30 (dk_at dksX2_sinks_1 7 rfl rfl)
theorem dX2_sinks_34 : decode cX2_sinks 34 = .ok (.iload_n 1, 1) := dk_27 (dk_at dksX2_sinks_1 10 rfl rfl)
theorem dX2_sinks_35 : decode cX2_sinks 35 = .ok (.iconst 0, 1) := dk_3 (dk_at dksX2_sinks_1 11 rfl rfl)
theorem dX2_sinks_36 : decode cX2_sinks 36 = .ok (.bastore, 1) := dk_84 (dk_at dksX2_sinks_1 12 rfl rfl)
theorem dX2_sinks_37 : decode cX2_sinks 37 = .ok (.return_, 1) := dk_177 (dk_at dksX2_sinks_1 13 rfl rfl)
abbrev cX2_isEmptySomewhere : ByteArray := prog_7_method_19_code
def yX2_isEmptySomewhere : MethodName := ⟨RX2, "isEmptySomewhere", "()Z"⟩
def dkwX2_isEmptySomewhere_1 : List UInt8 := [180, 0, 17, 27, 46, 154, 0, 5, 4, 172, 132, 1, 1, 167, 255, 223, 3, 172]
abbrev dktX2_isEmptySomewhere_1 : List UInt8 := dkwX2_isEmptySomewhere_1 ++ []
def dkwX2_isEmptySomewhere_0 : List UInt8 := [3, 60, 27, 42, 180, 0, 71, 162, 0, 31, 42, 180, 0, 21, 27, 46, 16, 20, 159, 0, 14, 42]
abbrev dktX2_isEmptySomewhere_0 : List UInt8 := dkwX2_isEmptySomewhere_0 ++ dktX2_isEmptySomewhere_1
theorem dksX2_isEmptySomewhere_0 : cX2_isEmptySomewhere.data.toList.drop 0 = dktX2_isEmptySomewhere_0 := by decide +kernel
theorem dksX2_isEmptySomewhere_1 : cX2_isEmptySomewhere.data.toList.drop 22 = dktX2_isEmptySomewhere_1 := dk_seg dksX2_isEmptySomewhere_0 22 rfl rfl
theorem dX2_isEmptySomewhere_0 : decode cX2_isEmptySomewhere 0 = .ok (.iconst 0, 1) := dk_3 (dk_at dksX2_isEmptySomewhere_0 0 rfl rfl)
theorem dX2_isEmptySomewhere_1 : decode cX2_isEmptySomewhere 1 = .ok (.istore_n 1, 1) := dk_60 (dk_at dksX2_isEmptySomewhere_0 1 rfl rfl)
theorem dX2_isEmptySomewhere_2 : decode cX2_isEmptySomewhere 2 = .ok (.iload_n 1, 1) := dk_27 (dk_at dksX2_isEmptySomewhere_0 2 rfl rfl)
theorem dX2_isEmptySomewhere_3 : decode cX2_isEmptySomewhere 3 = .ok (.aload_n 0, 1) := dk_42 (dk_at dksX2_isEmptySomewhere_0 3 rfl rfl)
theorem dX2_isEmptySomewhere_4 : decode cX2_isEmptySomewhere 4 = .ok (.getfield 71, 3) := dk_180 0 71 (dk_at dksX2_isEmptySomewhere_0 4 rfl rfl)
theorem dX2_isEmptySomewhere_7 : decode cX2_isEmptySomewhere 7 = .ok (.if_icmp .ge 31, 3) := dk_162 0 31 (dk_at dksX2_isEmptySomewhere_0 7 rfl rfl)
theorem dX2_isEmptySomewhere_10 : decode cX2_isEmptySomewhere 10 = .ok (.aload_n 0, 1) := dk_42 (dk_at dksX2_isEmptySomewhere_0 10 rfl rfl)
theorem dX2_isEmptySomewhere_11 : decode cX2_isEmptySomewhere 11 = .ok (.getfield 21, 3) := dk_180 0 21 (dk_at dksX2_isEmptySomewhere_0 11 rfl rfl)
theorem dX2_isEmptySomewhere_14 : decode cX2_isEmptySomewhere 14 = .ok (.iload_n 1, 1) := dk_27 (dk_at dksX2_isEmptySomewhere_0 14 rfl rfl)
theorem dX2_isEmptySomewhere_15 : decode cX2_isEmptySomewhere 15 = .ok (.iaload, 1) := dk_46 (dk_at dksX2_isEmptySomewhere_0 15 rfl rfl)
theorem dX2_isEmptySomewhere_16 : decode cX2_isEmptySomewhere 16 = .ok (.bipush 20, 2) := dk_16 20 (dk_at dksX2_isEmptySomewhere_0 16 rfl rfl)
theorem dX2_isEmptySomewhere_18 : decode cX2_isEmptySomewhere 18 = .ok (.if_icmp .eq 14, 3) := dk_159 0 14 (dk_at dksX2_isEmptySomewhere_0 18 rfl rfl)
theorem dX2_isEmptySomewhere_21 : decode cX2_isEmptySomewhere 21 = .ok (.aload_n 0, 1) := dk_42 (dk_at dksX2_isEmptySomewhere_0 21 rfl rfl)
theorem dX2_isEmptySomewhere_22 : decode cX2_isEmptySomewhere 22 = .ok (.getfield 17, 3) := dk_180 0 17 (dk_at dksX2_isEmptySomewhere_1 0 rfl rfl)
theorem dX2_isEmptySomewhere_25 : decode cX2_isEmptySomewhere 25 = .ok (.iload_n 1, 1) := dk_27 (dk_at dksX2_isEmptySomewhere_1 3 rfl rfl)
theorem dX2_isEmptySomewhere_26 : decode cX2_isEmptySomewhere 26 = .ok (.iaload, 1) := dk_46 (dk_at dksX2_isEmptySomewhere_1 4 rfl rfl)
theorem dX2_isEmptySomewhere_27 : decode cX2_isEmptySomewhere 27 = .ok (.ifCond .ne 5, 3) := dk_154 0 5 (dk_at dksX2_isEmptySomewhere_1 5 rfl rfl)
theorem dX2_isEmptySomewhere_30 : decode cX2_isEmptySomewhere 30 = .ok (.iconst 1, 1) := dk_4 (dk_at dksX2_isEmptySomewhere_1 8 rfl rfl)
theorem dX2_isEmptySomewhere_31 : decode cX2_isEmptySomewhere 31 = .ok (.ireturn, 1) := dk_172 (dk_at dksX2_isEmptySomewhere_1 9 rfl rfl)
theorem dX2_isEmptySomewhere_32 : decode cX2_isEmptySomewhere 32 = .ok (.iinc 1 1, 3) := dk_132 1 1 (dk_at dksX2_isEmptySomewhere_1 10 rfl rfl)
theorem dX2_isEmptySomewhere_35 : decode cX2_isEmptySomewhere 35 = .ok (.goto (-33), 3) := dk_167 255 223 (dk_at dksX2_isEmptySomewhere_1 13 rfl rfl)
theorem dX2_isEmptySomewhere_38 : decode cX2_isEmptySomewhere 38 = .ok (.iconst 0, 1) := dk_3 (dk_at dksX2_isEmptySomewhere_1 16 rfl rfl)
theorem dX2_isEmptySomewhere_39 : decode cX2_isEmptySomewhere 39 = .ok (.ireturn, 1) := dk_172 (dk_at dksX2_isEmptySomewhere_1 17 rfl rfl)
abbrev cX2_init : ByteArray := prog_7_method_1_code
def yX2_init : MethodName := ⟨RX2, "<init>", "()V"⟩
def dkwX2_init_5 : List UInt8 := [181, 0, 58, 42, 2, 181, 0, 62, 177]
abbrev dktX2_init_5 : List UInt8 := dkwX2_init_5 ++ []
def dkwX2_init_4 : List UInt8 := [188, 10, 181, 0, 49, 42, 16, 6, 188, 10, 181, 0, 52, 42, 16, 6, 188, 10, 181, 0, 55, 42, 16, 20]
abbrev dktX2_init_4 : List UInt8 := dkwX2_init_4 ++ dktX2_init_5
def dkwX2_init_3 : List UInt8 := [188, 10, 181, 0, 40, 42, 16, 6, 188, 10, 181, 0, 43, 42, 16, 6, 188, 10, 181, 0, 46, 42, 16, 6]
abbrev dktX2_init_3 : List UInt8 := dkwX2_init_3 ++ dktX2_init_4
def dkwX2_init_2 : List UInt8 := [188, 4, 181, 0, 30, 42, 16, 6, 188, 10, 181, 0, 34, 42, 16, 6, 188, 10, 181, 0, 37, 42, 16, 6]
abbrev dktX2_init_2 : List UInt8 := dkwX2_init_2 ++ dktX2_init_3
def dkwX2_init_1 : List UInt8 := [188, 10, 181, 0, 21, 42, 16, 12, 188, 10, 181, 0, 24, 42, 16, 12, 188, 10, 181, 0, 27, 42, 16, 12]
abbrev dktX2_init_1 : List UInt8 := dkwX2_init_1 ++ dktX2_init_2
def dkwX2_init_0 : List UInt8 := [42, 183, 0, 3, 42, 16, 12, 189, 0, 9, 181, 0, 11, 42, 16, 12, 188, 10, 181, 0, 17, 42, 16, 12]
abbrev dktX2_init_0 : List UInt8 := dkwX2_init_0 ++ dktX2_init_1
theorem dksX2_init_0 : cX2_init.data.toList.drop 0 = dktX2_init_0 := by decide +kernel
theorem dksX2_init_1 : cX2_init.data.toList.drop 24 = dktX2_init_1 := dk_seg dksX2_init_0 24 rfl rfl
theorem dksX2_init_2 : cX2_init.data.toList.drop 48 = dktX2_init_2 := dk_seg dksX2_init_1 24 rfl rfl
theorem dksX2_init_3 : cX2_init.data.toList.drop 72 = dktX2_init_3 := dk_seg dksX2_init_2 24 rfl rfl
theorem dksX2_init_4 : cX2_init.data.toList.drop 96 = dktX2_init_4 := dk_seg dksX2_init_3 24 rfl rfl
theorem dksX2_init_5 : cX2_init.data.toList.drop 120 = dktX2_init_5 := dk_seg dksX2_init_4 24 rfl rfl
theorem dX2_init_0 : decode cX2_init 0 = .ok (.aload_n 0, 1) := dk_42 (dk_at dksX2_init_0 0 rfl rfl)
theorem dX2_init_1 : decode cX2_init 1 = .ok (.invokespecial 3, 3) := dk_183 0 3 (dk_at dksX2_init_0 1 rfl rfl)
theorem dX2_init_4 : decode cX2_init 4 = .ok (.aload_n 0, 1) := dk_42 (dk_at dksX2_init_0 4 rfl rfl)
theorem dX2_init_5 : decode cX2_init 5 = .ok (.bipush 12, 2) := dk_16 12 (dk_at dksX2_init_0 5 rfl rfl)
theorem dX2_init_7 : decode cX2_init 7 = .ok (.anewarray 9, 3) := dk_189 0 9 (dk_at dksX2_init_0 7 rfl rfl)
theorem dX2_init_10 : decode cX2_init 10 = .ok (.putfield 11, 3) := dk_181 0 11 (dk_at dksX2_init_0 10 rfl rfl)
theorem dX2_init_13 : decode cX2_init 13 = .ok (.aload_n 0, 1) := dk_42 (dk_at dksX2_init_0 13 rfl rfl)
theorem dX2_init_14 : decode cX2_init 14 = .ok (.bipush 12, 2) := dk_16 12 (dk_at dksX2_init_0 14 rfl rfl)
theorem dX2_init_16 : decode cX2_init 16 = .ok (.newarray .int, 2) := dk_188_10 (dk_at dksX2_init_0 16 rfl rfl)
theorem dX2_init_18 : decode cX2_init 18 = .ok (.putfield 17, 3) := dk_181 0 17 (dk_at dksX2_init_0 18 rfl rfl)
theorem dX2_init_21 : decode cX2_init 21 = .ok (.aload_n 0, 1) := dk_42 (dk_at dksX2_init_0 21 rfl rfl)
theorem dX2_init_22 : decode cX2_init 22 = .ok (.bipush 12, 2) := dk_16 12 (dk_at dksX2_init_0 22 rfl rfl)
theorem dX2_init_24 : decode cX2_init 24 = .ok (.newarray .int, 2) := dk_188_10 (dk_at dksX2_init_1 0 rfl rfl)
theorem dX2_init_26 : decode cX2_init 26 = .ok (.putfield 21, 3) := dk_181 0 21 (dk_at dksX2_init_1 2 rfl rfl)
theorem dX2_init_29 : decode cX2_init 29 = .ok (.aload_n 0, 1) := dk_42 (dk_at dksX2_init_1 5 rfl rfl)
theorem dX2_init_30 : decode cX2_init 30 = .ok (.bipush 12, 2) := dk_16 12 (dk_at dksX2_init_1 6 rfl rfl)
theorem dX2_init_32 : decode cX2_init 32 = .ok (.newarray .int, 2) := dk_188_10 (dk_at dksX2_init_1 8 rfl rfl)
theorem dX2_init_34 : decode cX2_init 34 = .ok (.putfield 24, 3) := dk_181 0 24 (dk_at dksX2_init_1 10 rfl rfl)
theorem dX2_init_37 : decode cX2_init 37 = .ok (.aload_n 0, 1) := dk_42 (dk_at dksX2_init_1 13 rfl rfl)
theorem dX2_init_38 : decode cX2_init 38 = .ok (.bipush 12, 2) := dk_16 12 (dk_at dksX2_init_1 14 rfl rfl)
theorem dX2_init_40 : decode cX2_init 40 = .ok (.newarray .int, 2) := dk_188_10 (dk_at dksX2_init_1 16 rfl rfl)
theorem dX2_init_42 : decode cX2_init 42 = .ok (.putfield 27, 3) := dk_181 0 27 (dk_at dksX2_init_1 18 rfl rfl)
theorem dX2_init_45 : decode cX2_init 45 = .ok (.aload_n 0, 1) := dk_42 (dk_at dksX2_init_1 21 rfl rfl)
theorem dX2_init_46 : decode cX2_init 46 = .ok (.bipush 12, 2) := dk_16 12 (dk_at dksX2_init_1 22 rfl rfl)
theorem dX2_init_48 : decode cX2_init 48 = .ok (.newarray .boolean, 2) := dk_188_4 (dk_at dksX2_init_2 0 rfl rfl)
theorem dX2_init_50 : decode cX2_init 50 = .ok (.putfield 30, 3) := dk_181 0 30 (dk_at dksX2_init_2 2 rfl rfl)
theorem dX2_init_53 : decode cX2_init 53 = .ok (.aload_n 0, 1) := dk_42 (dk_at dksX2_init_2 5 rfl rfl)
theorem dX2_init_54 : decode cX2_init 54 = .ok (.bipush 6, 2) := dk_16 6 (dk_at dksX2_init_2 6 rfl rfl)
theorem dX2_init_56 : decode cX2_init 56 = .ok (.newarray .int, 2) := dk_188_10 (dk_at dksX2_init_2 8 rfl rfl)
theorem dX2_init_58 : decode cX2_init 58 = .ok (.putfield 34, 3) := dk_181 0 34 (dk_at dksX2_init_2 10 rfl rfl)
theorem dX2_init_61 : decode cX2_init 61 = .ok (.aload_n 0, 1) := dk_42 (dk_at dksX2_init_2 13 rfl rfl)
theorem dX2_init_62 : decode cX2_init 62 = .ok (.bipush 6, 2) := dk_16 6 (dk_at dksX2_init_2 14 rfl rfl)
theorem dX2_init_64 : decode cX2_init 64 = .ok (.newarray .int, 2) := dk_188_10 (dk_at dksX2_init_2 16 rfl rfl)
theorem dX2_init_66 : decode cX2_init 66 = .ok (.putfield 37, 3) := dk_181 0 37 (dk_at dksX2_init_2 18 rfl rfl)
theorem dX2_init_69 : decode cX2_init 69 = .ok (.aload_n 0, 1) := dk_42 (dk_at dksX2_init_2 21 rfl rfl)
theorem dX2_init_70 : decode cX2_init 70 = .ok (.bipush 6, 2) := dk_16 6 (dk_at dksX2_init_2 22 rfl rfl)
theorem dX2_init_72 : decode cX2_init 72 = .ok (.newarray .int, 2) := dk_188_10 (dk_at dksX2_init_3 0 rfl rfl)
theorem dX2_init_74 : decode cX2_init 74 = .ok (.putfield 40, 3) := dk_181 0 40 (dk_at dksX2_init_3 2 rfl rfl)
theorem dX2_init_77 : decode cX2_init 77 = .ok (.aload_n 0, 1) := dk_42 (dk_at dksX2_init_3 5 rfl rfl)
theorem dX2_init_78 : decode cX2_init 78 = .ok (.bipush 6, 2) := dk_16 6 (dk_at dksX2_init_3 6 rfl rfl)
theorem dX2_init_80 : decode cX2_init 80 = .ok (.newarray .int, 2) := dk_188_10 (dk_at dksX2_init_3 8 rfl rfl)
theorem dX2_init_82 : decode cX2_init 82 = .ok (.putfield 43, 3) := dk_181 0 43 (dk_at dksX2_init_3 10 rfl rfl)
theorem dX2_init_85 : decode cX2_init 85 = .ok (.aload_n 0, 1) := dk_42 (dk_at dksX2_init_3 13 rfl rfl)
theorem dX2_init_86 : decode cX2_init 86 = .ok (.bipush 6, 2) := dk_16 6 (dk_at dksX2_init_3 14 rfl rfl)
theorem dX2_init_88 : decode cX2_init 88 = .ok (.newarray .int, 2) := dk_188_10 (dk_at dksX2_init_3 16 rfl rfl)
theorem dX2_init_90 : decode cX2_init 90 = .ok (.putfield 46, 3) := dk_181 0 46 (dk_at dksX2_init_3 18 rfl rfl)
theorem dX2_init_93 : decode cX2_init 93 = .ok (.aload_n 0, 1) := dk_42 (dk_at dksX2_init_3 21 rfl rfl)
theorem dX2_init_94 : decode cX2_init 94 = .ok (.bipush 6, 2) := dk_16 6 (dk_at dksX2_init_3 22 rfl rfl)
theorem dX2_init_96 : decode cX2_init 96 = .ok (.newarray .int, 2) := dk_188_10 (dk_at dksX2_init_4 0 rfl rfl)
theorem dX2_init_98 : decode cX2_init 98 = .ok (.putfield 49, 3) := dk_181 0 49 (dk_at dksX2_init_4 2 rfl rfl)
theorem dX2_init_101 : decode cX2_init 101 = .ok (.aload_n 0, 1) := dk_42 (dk_at dksX2_init_4 5 rfl rfl)
theorem dX2_init_102 : decode cX2_init 102 = .ok (.bipush 6, 2) := dk_16 6 (dk_at dksX2_init_4 6 rfl rfl)
theorem dX2_init_104 : decode cX2_init 104 = .ok (.newarray .int, 2) := dk_188_10 (dk_at dksX2_init_4 8 rfl rfl)
theorem dX2_init_106 : decode cX2_init 106 = .ok (.putfield 52, 3) := dk_181 0 52 (dk_at dksX2_init_4 10 rfl rfl)
theorem dX2_init_109 : decode cX2_init 109 = .ok (.aload_n 0, 1) := dk_42 (dk_at dksX2_init_4 13 rfl rfl)
theorem dX2_init_110 : decode cX2_init 110 = .ok (.bipush 6, 2) := dk_16 6 (dk_at dksX2_init_4 14 rfl rfl)
theorem dX2_init_112 : decode cX2_init 112 = .ok (.newarray .int, 2) := dk_188_10 (dk_at dksX2_init_4 16 rfl rfl)
theorem dX2_init_114 : decode cX2_init 114 = .ok (.putfield 55, 3) := dk_181 0 55 (dk_at dksX2_init_4 18 rfl rfl)
theorem dX2_init_117 : decode cX2_init 117 = .ok (.aload_n 0, 1) := dk_42 (dk_at dksX2_init_4 21 rfl rfl)
theorem dX2_init_118 : decode cX2_init 118 = .ok (.bipush 20, 2) := dk_16 20 (dk_at dksX2_init_4 22 rfl rfl)
theorem dX2_init_120 : decode cX2_init 120 = .ok (.putfield 58, 3) := dk_181 0 58 (dk_at dksX2_init_5 0 rfl rfl)
theorem dX2_init_123 : decode cX2_init 123 = .ok (.aload_n 0, 1) := dk_42 (dk_at dksX2_init_5 3 rfl rfl)
theorem dX2_init_124 : decode cX2_init 124 = .ok (.iconst (-1), 1) := dk_2 (dk_at dksX2_init_5 4 rfl rfl)
theorem dX2_init_125 : decode cX2_init 125 = .ok (.putfield 62, 3) := dk_181 0 62 (dk_at dksX2_init_5 5 rfl rfl)
theorem dX2_init_128 : decode cX2_init 128 = .ok (.return_, 1) := dk_177 (dk_at dksX2_init_5 8 rfl rfl)
theorem q55 : (Jvm.Cond.initialized "WhoseGlass$House") ∈ lw_all := lw_g (lw_at lw_m1 2 rfl) rfl
theorem q94 : (Jvm.Cond.instanceMethod ({ cls := "WhoseGlass$House", name := "takes", desc := "(LWhoseGlass$House;)V" } : Jvm.MethodName)) ∈ lw_all := lw_g (lw_at lw_m1 41 rfl) rfl
theorem q95 : (Jvm.Cond.selects "WhoseGlass$House" ({ cls := "WhoseGlass$House", name := "takes", desc := "(LWhoseGlass$House;)V" } : Jvm.MethodName) ({ cls := "WhoseGlass$House", name := "takes", desc := "(LWhoseGlass$House;)V" } : Jvm.MethodName)) ∈ lw_all := lw_g (lw_at lw_m1 42 rfl) rfl
theorem q96 : (Jvm.Cond.code ({ cls := "WhoseGlass$House", name := "takes", desc := "(LWhoseGlass$House;)V" } : Jvm.MethodName) prog_7_method_2_code (2 : Nat) (Option.none : Option Jvm.ClassFile.FieldType)) ∈ lw_all := lw_g (lw_at lw_m1 43 rfl) rfl
theorem q97 : (Jvm.Cond.methodLink "WhoseGlass$House" (65 : Nat) ({ cls := "java/lang/System", name := "arraycopy", desc := "(Ljava/lang/Object;ILjava/lang/Object;II)V" } : Jvm.MethodName)) ∈ lw_all := lw_g (lw_at lw_m1 44 rfl) rfl
theorem q336 : (Jvm.Cond.instanceMethod ({ cls := "WhoseGlass$House", name := "comes", desc := "(LWhoseGlass$Glass;II)Z" } : Jvm.MethodName)) ∈ lw_all := lw_g (lw_at lw_m2 43 rfl) rfl
theorem q337 : (Jvm.Cond.selects "WhoseGlass$House" ({ cls := "WhoseGlass$House", name := "comes", desc := "(LWhoseGlass$Glass;II)Z" } : Jvm.MethodName) ({ cls := "WhoseGlass$House", name := "comes", desc := "(LWhoseGlass$Glass;II)Z" } : Jvm.MethodName)) ∈ lw_all := lw_g (lw_at lw_m2 44 rfl) rfl
theorem q338 : (Jvm.Cond.code ({ cls := "WhoseGlass$House", name := "comes", desc := "(LWhoseGlass$Glass;II)Z" } : Jvm.MethodName) prog_7_method_6_code (4 : Nat) (Option.some Jvm.ClassFile.FieldType.boolean)) ∈ lw_all := lw_g (lw_at lw_m2 45 rfl) rfl
theorem q340 : (Jvm.Cond.instanceMethod ({ cls := "WhoseGlass$House", name := "comesGuest", desc := "([I)Z" } : Jvm.MethodName)) ∈ lw_all := lw_g (lw_at lw_m2 47 rfl) rfl
theorem q341 : (Jvm.Cond.selects "WhoseGlass$House" ({ cls := "WhoseGlass$House", name := "comesGuest", desc := "([I)Z" } : Jvm.MethodName) ({ cls := "WhoseGlass$House", name := "comesGuest", desc := "([I)Z" } : Jvm.MethodName)) ∈ lw_all := lw_g (lw_at lw_m2 48 rfl) rfl
theorem q342 : (Jvm.Cond.code ({ cls := "WhoseGlass$House", name := "comesGuest", desc := "([I)Z" } : Jvm.MethodName) prog_7_method_7_code (2 : Nat) (Option.some Jvm.ClassFile.FieldType.boolean)) ∈ lw_all := lw_g (lw_at lw_m2 49 rfl) rfl
theorem q344 : (Jvm.Cond.instanceMethod ({ cls := "WhoseGlass$House", name := "isGuest", desc := "(I)Z" } : Jvm.MethodName)) ∈ lw_all := lw_g (lw_at lw_m2 51 rfl) rfl
theorem q345 : (Jvm.Cond.selects "WhoseGlass$House" ({ cls := "WhoseGlass$House", name := "isGuest", desc := "(I)Z" } : Jvm.MethodName) ({ cls := "WhoseGlass$House", name := "isGuest", desc := "(I)Z" } : Jvm.MethodName)) ∈ lw_all := lw_g (lw_at lw_m2 52 rfl) rfl
theorem q346 : (Jvm.Cond.code ({ cls := "WhoseGlass$House", name := "isGuest", desc := "(I)Z" } : Jvm.MethodName) prog_7_method_4_code (2 : Nat) (Option.some Jvm.ClassFile.FieldType.boolean)) ∈ lw_all := lw_g (lw_at lw_m2 53 rfl) rfl
theorem q347 : (Jvm.Cond.methodLinkNest "WhoseGlass$House" (89 : Nat) ({ cls := "WhoseGlass", name := "isIn", desc := "(III)Z" } : Jvm.MethodName) "WhoseGlass") ∈ lw_tbl := lw_at lw_m2 54 rfl
theorem q349 : (Jvm.Cond.instanceMethod ({ cls := "WhoseGlass$House", name := "isGlass", desc := "(I)Z" } : Jvm.MethodName)) ∈ lw_all := lw_g (lw_at lw_m2 56 rfl) rfl
theorem q350 : (Jvm.Cond.selects "WhoseGlass$House" ({ cls := "WhoseGlass$House", name := "isGlass", desc := "(I)Z" } : Jvm.MethodName) ({ cls := "WhoseGlass$House", name := "isGlass", desc := "(I)Z" } : Jvm.MethodName)) ∈ lw_all := lw_g (lw_at lw_m2 57 rfl) rfl
theorem q351 : (Jvm.Cond.code ({ cls := "WhoseGlass$House", name := "isGlass", desc := "(I)Z" } : Jvm.MethodName) prog_7_method_3_code (2 : Nat) (Option.some Jvm.ClassFile.FieldType.boolean)) ∈ lw_all := lw_g (lw_at lw_m2 58 rfl) rfl
theorem q353 : (Jvm.Cond.instanceMethod ({ cls := "WhoseGlass$House", name := "isLaid", desc := "(I)Z" } : Jvm.MethodName)) ∈ lw_all := lw_g (lw_at lw_m2 60 rfl) rfl
theorem q354 : (Jvm.Cond.selects "WhoseGlass$House" ({ cls := "WhoseGlass$House", name := "isLaid", desc := "(I)Z" } : Jvm.MethodName) ({ cls := "WhoseGlass$House", name := "isLaid", desc := "(I)Z" } : Jvm.MethodName)) ∈ lw_all := lw_g (lw_at lw_m2 61 rfl) rfl
theorem q355 : (Jvm.Cond.code ({ cls := "WhoseGlass$House", name := "isLaid", desc := "(I)Z" } : Jvm.MethodName) prog_7_method_5_code (2 : Nat) (Option.some Jvm.ClassFile.FieldType.boolean)) ∈ lw_all := lw_g (lw_at lw_m2 62 rfl) rfl
theorem q357 : (Jvm.Cond.instanceMethod ({ cls := "WhoseGlass$House", name := "isHeld", desc := "(II)V" } : Jvm.MethodName)) ∈ lw_all := lw_g (lw_at lw_m2 64 rfl) rfl
theorem q358 : (Jvm.Cond.selects "WhoseGlass$House" ({ cls := "WhoseGlass$House", name := "isHeld", desc := "(II)V" } : Jvm.MethodName) ({ cls := "WhoseGlass$House", name := "isHeld", desc := "(II)V" } : Jvm.MethodName)) ∈ lw_all := lw_g (lw_at lw_m2 65 rfl) rfl
theorem q359 : (Jvm.Cond.code ({ cls := "WhoseGlass$House", name := "isHeld", desc := "(II)V" } : Jvm.MethodName) prog_7_method_9_code (3 : Nat) (Option.none : Option Jvm.ClassFile.FieldType)) ∈ lw_all := lw_g (lw_at lw_m2 66 rfl) rfl
theorem q361 : (Jvm.Cond.instanceMethod ({ cls := "WhoseGlass$House", name := "goesMinute", desc := "()Z" } : Jvm.MethodName)) ∈ lw_all := lw_g (lw_at lw_m2 68 rfl) rfl
theorem q362 : (Jvm.Cond.selects "WhoseGlass$House" ({ cls := "WhoseGlass$House", name := "goesMinute", desc := "()Z" } : Jvm.MethodName) ({ cls := "WhoseGlass$House", name := "goesMinute", desc := "()Z" } : Jvm.MethodName)) ∈ lw_all := lw_g (lw_at lw_m2 69 rfl) rfl
theorem q363 : (Jvm.Cond.code ({ cls := "WhoseGlass$House", name := "goesMinute", desc := "()Z" } : Jvm.MethodName) prog_7_method_18_code (1 : Nat) (Option.some Jvm.ClassFile.FieldType.boolean)) ∈ lw_all := lw_g (lw_at lw_m2 70 rfl) rfl
theorem q364 : (Jvm.Cond.methodLink "WhoseGlass$House" (137 : Nat) ({ cls := "WhoseGlass$House", name := "goesFreely", desc := "()V" } : Jvm.MethodName)) ∈ lw_all := lw_g (lw_at lw_m2 71 rfl) rfl
theorem q365 : (Jvm.Cond.instanceMethod ({ cls := "WhoseGlass$House", name := "goesFreely", desc := "()V" } : Jvm.MethodName)) ∈ lw_all := lw_g (lw_at lw_m2 72 rfl) rfl
theorem q366 : (Jvm.Cond.selects "WhoseGlass$House" ({ cls := "WhoseGlass$House", name := "goesFreely", desc := "()V" } : Jvm.MethodName) ({ cls := "WhoseGlass$House", name := "goesFreely", desc := "()V" } : Jvm.MethodName)) ∈ lw_all := lw_g (lw_at lw_m2 73 rfl) rfl
theorem q367 : (Jvm.Cond.code ({ cls := "WhoseGlass$House", name := "goesFreely", desc := "()V" } : Jvm.MethodName) prog_7_method_17_code (2 : Nat) (Option.none : Option Jvm.ClassFile.FieldType)) ∈ lw_all := lw_g (lw_at lw_m2 74 rfl) rfl
theorem q368 : (Jvm.Cond.methodLink "WhoseGlass$House" (134 : Nat) ({ cls := "WhoseGlass$House", name := "goesOn", desc := "(I)V" } : Jvm.MethodName)) ∈ lw_all := lw_g (lw_at lw_m2 75 rfl) rfl
theorem q369 : (Jvm.Cond.privateMethod ({ cls := "WhoseGlass$House", name := "goesOn", desc := "(I)V" } : Jvm.MethodName)) ∈ lw_tbl := lw_at lw_m2 76 rfl
theorem q370 : (Jvm.Cond.instanceMethod ({ cls := "WhoseGlass$House", name := "goesOn", desc := "(I)V" } : Jvm.MethodName)) ∈ lw_all := lw_g (lw_at lw_m2 77 rfl) rfl
theorem q371 : (Jvm.Cond.instantiable "WhoseGlass$House" (22 : Nat)) ∈ lw_all := lw_g (lw_at lw_m2 78 rfl) rfl
theorem q372 : (Jvm.Cond.code ({ cls := "WhoseGlass$House", name := "goesOn", desc := "(I)V" } : Jvm.MethodName) prog_7_method_16_code (2 : Nat) (Option.none : Option Jvm.ClassFile.FieldType)) ∈ lw_all := lw_g (lw_at lw_m2 79 rfl) rfl
theorem q373 : (Jvm.Cond.methodLink "WhoseGlass$House" (122 : Nat) ({ cls := "WhoseGlass$House", name := "nextPlace", desc := "(I)I" } : Jvm.MethodName)) ∈ lw_all := lw_g (lw_at lw_m2 80 rfl) rfl
theorem q374 : (Jvm.Cond.privateMethod ({ cls := "WhoseGlass$House", name := "nextPlace", desc := "(I)I" } : Jvm.MethodName)) ∈ lw_tbl := lw_at lw_m2 81 rfl
theorem q375 : (Jvm.Cond.instanceMethod ({ cls := "WhoseGlass$House", name := "nextPlace", desc := "(I)I" } : Jvm.MethodName)) ∈ lw_all := lw_g (lw_at lw_m2 82 rfl) rfl
theorem q376 : (Jvm.Cond.code ({ cls := "WhoseGlass$House", name := "nextPlace", desc := "(I)I" } : Jvm.MethodName) prog_7_method_15_code (3 : Nat) (Option.some Jvm.ClassFile.FieldType.int)) ∈ lw_all := lw_g (lw_at lw_m2 83 rfl) rfl
theorem q377 : (Jvm.Cond.methodLink "WhoseGlass$House" (125 : Nat) ({ cls := "WhoseGlass$House", name := "take", desc := "(I)I" } : Jvm.MethodName)) ∈ lw_all := lw_g (lw_at lw_m2 84 rfl) rfl
theorem q378 : (Jvm.Cond.instanceMethod ({ cls := "WhoseGlass$House", name := "take", desc := "(I)I" } : Jvm.MethodName)) ∈ lw_all := lw_g (lw_at lw_m2 85 rfl) rfl
theorem q379 : (Jvm.Cond.selects "WhoseGlass$House" ({ cls := "WhoseGlass$House", name := "take", desc := "(I)I" } : Jvm.MethodName) ({ cls := "WhoseGlass$House", name := "take", desc := "(I)I" } : Jvm.MethodName)) ∈ lw_all := lw_g (lw_at lw_m2 86 rfl) rfl
theorem q380 : (Jvm.Cond.code ({ cls := "WhoseGlass$House", name := "take", desc := "(I)I" } : Jvm.MethodName) prog_7_method_11_code (3 : Nat) (Option.some Jvm.ClassFile.FieldType.int)) ∈ lw_all := lw_g (lw_at lw_m2 87 rfl) rfl
theorem q381 : (Jvm.Cond.methodLink "WhoseGlass$House" (100 : Nat) ({ cls := "WhoseGlass$House", name := "mine", desc := "(I)I" } : Jvm.MethodName)) ∈ lw_all := lw_g (lw_at lw_m2 88 rfl) rfl
theorem q382 : (Jvm.Cond.instanceMethod ({ cls := "WhoseGlass$House", name := "mine", desc := "(I)I" } : Jvm.MethodName)) ∈ lw_all := lw_g (lw_at lw_m2 89 rfl) rfl
theorem q383 : (Jvm.Cond.selects "WhoseGlass$House" ({ cls := "WhoseGlass$House", name := "mine", desc := "(I)I" } : Jvm.MethodName) ({ cls := "WhoseGlass$House", name := "mine", desc := "(I)I" } : Jvm.MethodName)) ∈ lw_all := lw_g (lw_at lw_m2 90 rfl) rfl
theorem q384 : (Jvm.Cond.code ({ cls := "WhoseGlass$House", name := "mine", desc := "(I)I" } : Jvm.MethodName) prog_7_method_10_code (6 : Nat) (Option.some Jvm.ClassFile.FieldType.int)) ∈ lw_all := lw_g (lw_at lw_m2 91 rfl) rfl
theorem q385 : (Jvm.Cond.methodLink "WhoseGlass$House" (97 : Nat) ({ cls := "WhoseGlass$House", name := "like", desc := "(II)I" } : Jvm.MethodName)) ∈ lw_all := lw_g (lw_at lw_m2 92 rfl) rfl
theorem q386 : (Jvm.Cond.instanceMethod ({ cls := "WhoseGlass$House", name := "like", desc := "(II)I" } : Jvm.MethodName)) ∈ lw_all := lw_g (lw_at lw_m2 93 rfl) rfl
theorem q387 : (Jvm.Cond.selects "WhoseGlass$House" ({ cls := "WhoseGlass$House", name := "like", desc := "(II)I" } : Jvm.MethodName) ({ cls := "WhoseGlass$House", name := "like", desc := "(II)I" } : Jvm.MethodName)) ∈ lw_all := lw_g (lw_at lw_m2 94 rfl) rfl
theorem q388 : (Jvm.Cond.code ({ cls := "WhoseGlass$House", name := "like", desc := "(II)I" } : Jvm.MethodName) prog_7_method_8_code (3 : Nat) (Option.some Jvm.ClassFile.FieldType.int)) ∈ lw_all := lw_g (lw_at lw_m2 95 rfl) rfl
theorem q389 : (Jvm.Cond.methodLink "WhoseGlass$House" (93 : Nat) ({ cls := "WhoseGlass$Glass", name := "like", desc := "(LWhoseGlass$Glass;ZI)I" } : Jvm.MethodName)) ∈ lw_all := lw_g (lw_at lw_m2 96 rfl) rfl
theorem q478 : (Jvm.Cond.classLink "WhoseGlass$House" (9 : Nat) "WhoseGlass$Glass") ∈ lw_all := lw_g (lw_at lw_m2 185 rfl) rfl
theorem q479 : (Jvm.Cond.methodLink "WhoseGlass$House" (104 : Nat) ({ cls := "WhoseGlass$Glass", name := "<init>", desc := "(I)V" } : Jvm.MethodName)) ∈ lw_all := lw_g (lw_at lw_m2 186 rfl) rfl
theorem q480 : (Jvm.Cond.methodLink "WhoseGlass$House" (107 : Nat) ({ cls := "WhoseGlass$House", name := "comes", desc := "(LWhoseGlass$Glass;II)Z" } : Jvm.MethodName)) ∈ lw_all := lw_g (lw_at lw_m2 187 rfl) rfl
theorem q481 : (Jvm.Cond.methodLink "WhoseGlass$House" (111 : Nat) ({ cls := "WhoseGlass$House", name := "isHeld", desc := "(II)V" } : Jvm.MethodName)) ∈ lw_all := lw_g (lw_at lw_m2 188 rfl) rfl
theorem q482 : (Jvm.Cond.methodLink "WhoseGlass$House" (128 : Nat) ({ cls := "WhoseGlass$House", name := "sip", desc := "(I)I" } : Jvm.MethodName)) ∈ lw_all := lw_g (lw_at lw_m2 189 rfl) rfl
theorem q483 : (Jvm.Cond.instanceMethod ({ cls := "WhoseGlass$House", name := "sip", desc := "(I)I" } : Jvm.MethodName)) ∈ lw_all := lw_g (lw_at lw_m2 190 rfl) rfl
theorem q484 : (Jvm.Cond.selects "WhoseGlass$House" ({ cls := "WhoseGlass$House", name := "sip", desc := "(I)I" } : Jvm.MethodName) ({ cls := "WhoseGlass$House", name := "sip", desc := "(I)I" } : Jvm.MethodName)) ∈ lw_all := lw_g (lw_at lw_m2 191 rfl) rfl
theorem q485 : (Jvm.Cond.code ({ cls := "WhoseGlass$House", name := "sip", desc := "(I)I" } : Jvm.MethodName) prog_7_method_12_code (4 : Nat) (Option.some Jvm.ClassFile.FieldType.int)) ∈ lw_all := lw_g (lw_at lw_m2 192 rfl) rfl
theorem q510 : (Jvm.Cond.methodLinkNest "WhoseGlass$House" (118 : Nat) ({ cls := "WhoseGlass", name := "has", desc := "(II)Z" } : Jvm.MethodName) "WhoseGlass") ∈ lw_tbl := lw_at lw_m2 217 rfl
theorem q513 : (Jvm.Cond.methodLink "WhoseGlass$House" (131 : Nat) ({ cls := "WhoseGlass$House", name := "lay", desc := "(I)I" } : Jvm.MethodName)) ∈ lw_all := lw_g (lw_at lw_m2 220 rfl) rfl
theorem q514 : (Jvm.Cond.instanceMethod ({ cls := "WhoseGlass$House", name := "lay", desc := "(I)I" } : Jvm.MethodName)) ∈ lw_all := lw_g (lw_at lw_m2 221 rfl) rfl
theorem q515 : (Jvm.Cond.selects "WhoseGlass$House" ({ cls := "WhoseGlass$House", name := "lay", desc := "(I)I" } : Jvm.MethodName) ({ cls := "WhoseGlass$House", name := "lay", desc := "(I)I" } : Jvm.MethodName)) ∈ lw_all := lw_g (lw_at lw_m2 222 rfl) rfl
theorem q516 : (Jvm.Cond.code ({ cls := "WhoseGlass$House", name := "lay", desc := "(I)I" } : Jvm.MethodName) prog_7_method_13_code (3 : Nat) (Option.some Jvm.ClassFile.FieldType.int)) ∈ lw_all := lw_g (lw_at lw_m2 223 rfl) rfl
theorem q559 : (Jvm.Cond.instanceMethod ({ cls := "WhoseGlass$House", name := "sinks", desc := "(I)V" } : Jvm.MethodName)) ∈ lw_all := lw_g (lw_at lw_m3 26 rfl) rfl
theorem q560 : (Jvm.Cond.selects "WhoseGlass$House" ({ cls := "WhoseGlass$House", name := "sinks", desc := "(I)V" } : Jvm.MethodName) ({ cls := "WhoseGlass$House", name := "sinks", desc := "(I)V" } : Jvm.MethodName)) ∈ lw_all := lw_g (lw_at lw_m3 27 rfl) rfl
theorem q561 : (Jvm.Cond.code ({ cls := "WhoseGlass$House", name := "sinks", desc := "(I)V" } : Jvm.MethodName) prog_7_method_14_code (2 : Nat) (Option.none : Option Jvm.ClassFile.FieldType)) ∈ lw_all := lw_g (lw_at lw_m3 28 rfl) rfl
theorem q655 : (Jvm.Cond.instanceMethod ({ cls := "WhoseGlass$House", name := "isEmptySomewhere", desc := "()Z" } : Jvm.MethodName)) ∈ lw_all := lw_g (lw_at lw_m3 122 rfl) rfl
theorem q656 : (Jvm.Cond.selects "WhoseGlass$House" ({ cls := "WhoseGlass$House", name := "isEmptySomewhere", desc := "()Z" } : Jvm.MethodName) ({ cls := "WhoseGlass$House", name := "isEmptySomewhere", desc := "()Z" } : Jvm.MethodName)) ∈ lw_all := lw_g (lw_at lw_m3 123 rfl) rfl
theorem q657 : (Jvm.Cond.code ({ cls := "WhoseGlass$House", name := "isEmptySomewhere", desc := "()Z" } : Jvm.MethodName) prog_7_method_19_code (2 : Nat) (Option.some Jvm.ClassFile.FieldType.boolean)) ∈ lw_all := lw_g (lw_at lw_m3 124 rfl) rfl
theorem q707 : (Jvm.Cond.instanceMethod ({ cls := "WhoseGlass$House", name := "<init>", desc := "()V" } : Jvm.MethodName)) ∈ lw_all := lw_g (lw_at lw_m3 174 rfl) rfl
theorem q708 : (Jvm.Cond.code ({ cls := "WhoseGlass$House", name := "<init>", desc := "()V" } : Jvm.MethodName) prog_7_method_1_code (1 : Nat) (Option.none : Option Jvm.ClassFile.FieldType)) ∈ lw_all := lw_g (lw_at lw_m3 175 rfl) rfl
theorem q709 : (Jvm.Cond.methodLink "WhoseGlass$House" (3 : Nat) ({ cls := "java/lang/Object", name := "<init>", desc := "()V" } : Jvm.MethodName)) ∈ lw_all := lw_g (lw_at lw_m3 176 rfl) rfl
theorem q711 : (Jvm.Cond.fieldLink "WhoseGlass$House" (11 : Nat) "WhoseGlass$House" "glass" "[LWhoseGlass$Glass;") ∈ lw_all := lw_g (lw_at lw_m3 178 rfl) rfl
theorem q713 : (Jvm.Cond.fieldLink "WhoseGlass$House" (17 : Nat) "WhoseGlass$House" "fill" "[I") ∈ lw_all := lw_g (lw_at lw_m3 180 rfl) rfl
theorem q715 : (Jvm.Cond.fieldLink "WhoseGlass$House" (21 : Nat) "WhoseGlass$House" "where" "[I") ∈ lw_all := lw_g (lw_at lw_m3 182 rfl) rfl
theorem q717 : (Jvm.Cond.fieldLink "WhoseGlass$House" (24 : Nat) "WhoseGlass$House" "laid" "[I") ∈ lw_all := lw_g (lw_at lw_m3 184 rfl) rfl
theorem q719 : (Jvm.Cond.fieldLink "WhoseGlass$House" (27 : Nat) "WhoseGlass$House" "sipped" "[I") ∈ lw_all := lw_g (lw_at lw_m3 186 rfl) rfl
theorem q721 : (Jvm.Cond.fieldLink "WhoseGlass$House" (30 : Nat) "WhoseGlass$House" "germs" "[Z") ∈ lw_all := lw_g (lw_at lw_m3 188 rfl) rfl
theorem q723 : (Jvm.Cond.fieldLink "WhoseGlass$House" (34 : Nat) "WhoseGlass$House" "pace" "[I") ∈ lw_all := lw_g (lw_at lw_m3 190 rfl) rfl
theorem q725 : (Jvm.Cond.fieldLink "WhoseGlass$House" (37 : Nat) "WhoseGlass$House" "lays" "[I") ∈ lw_all := lw_g (lw_at lw_m3 192 rfl) rfl
theorem q727 : (Jvm.Cond.fieldLink "WhoseGlass$House" (40 : Nat) "WhoseGlass$House" "step" "[I") ∈ lw_all := lw_g (lw_at lw_m3 194 rfl) rfl
theorem q729 : (Jvm.Cond.fieldLink "WhoseGlass$House" (43 : Nat) "WhoseGlass$House" "care" "[I") ∈ lw_all := lw_g (lw_at lw_m3 196 rfl) rfl
theorem q731 : (Jvm.Cond.fieldLink "WhoseGlass$House" (46 : Nat) "WhoseGlass$House" "place" "[I") ∈ lw_all := lw_g (lw_at lw_m3 198 rfl) rfl
theorem q733 : (Jvm.Cond.fieldLink "WhoseGlass$House" (49 : Nat) "WhoseGlass$House" "holds" "[I") ∈ lw_all := lw_g (lw_at lw_m3 200 rfl) rfl
theorem q735 : (Jvm.Cond.fieldLink "WhoseGlass$House" (52 : Nat) "WhoseGlass$House" "own" "[I") ∈ lw_all := lw_g (lw_at lw_m3 202 rfl) rfl
theorem q737 : (Jvm.Cond.fieldLink "WhoseGlass$House" (55 : Nat) "WhoseGlass$House" "had" "[I") ∈ lw_all := lw_g (lw_at lw_m3 204 rfl) rfl
theorem q739 : (Jvm.Cond.fieldLink "WhoseGlass$House" (71 : Nat) "WhoseGlass$House" "glasses" "I") ∈ lw_all := lw_g (lw_at lw_m3 206 rfl) rfl
theorem q741 : (Jvm.Cond.fieldLink "WhoseGlass$House" (74 : Nat) "WhoseGlass$House" "guests" "I") ∈ lw_all := lw_g (lw_at lw_m3 208 rfl) rfl
theorem q743 : (Jvm.Cond.fieldLink "WhoseGlass$House" (58 : Nat) "WhoseGlass$House" "tray" "I") ∈ lw_all := lw_g (lw_at lw_m3 210 rfl) rfl
theorem q745 : (Jvm.Cond.fieldLink "WhoseGlass$House" (77 : Nat) "WhoseGlass$House" "minute" "I") ∈ lw_all := lw_g (lw_at lw_m3 212 rfl) rfl
theorem q747 : (Jvm.Cond.fieldLink "WhoseGlass$House" (80 : Nat) "WhoseGlass$House" "colds" "I") ∈ lw_all := lw_g (lw_at lw_m3 214 rfl) rfl
theorem q749 : (Jvm.Cond.fieldLink "WhoseGlass$House" (62 : Nat) "WhoseGlass$House" "closed" "I") ∈ lw_all := lw_g (lw_at lw_m3 216 rfl) rfl
theorem q751 : (Jvm.Cond.fieldLink "WhoseGlass$House" (83 : Nat) "WhoseGlass$House" "mistakes" "I") ∈ lw_all := lw_g (lw_at lw_m3 218 rfl) rfl
theorem q753 : (Jvm.Cond.fieldLink "WhoseGlass$House" (86 : Nat) "WhoseGlass$House" "fresh" "I") ∈ lw_all := lw_g (lw_at lw_m3 220 rfl) rfl
theorem q755 : (Jvm.Cond.laysFinal "WhoseGlass$House" "WhoseGlass$House" "glass" "[LWhoseGlass$Glass;") ∈ lw_all := lw_g (lw_at lw_m3 222 rfl) rfl
theorem q756 : (Jvm.Cond.soleField "WhoseGlass$House" "glass") ∈ lw_all := lw_g (lw_at lw_m3 223 rfl) rfl
theorem q757 : (Jvm.Cond.laysFinal "WhoseGlass$House" "WhoseGlass$House" "fill" "[I") ∈ lw_all := lw_g (lw_at lw_m3 224 rfl) rfl
theorem q758 : (Jvm.Cond.soleField "WhoseGlass$House" "fill") ∈ lw_all := lw_g (lw_at lw_m3 225 rfl) rfl
theorem q759 : (Jvm.Cond.laysFinal "WhoseGlass$House" "WhoseGlass$House" "where" "[I") ∈ lw_all := lw_g (lw_at lw_m3 226 rfl) rfl
theorem q760 : (Jvm.Cond.soleField "WhoseGlass$House" "where") ∈ lw_all := lw_g (lw_at lw_m3 227 rfl) rfl
theorem q761 : (Jvm.Cond.laysFinal "WhoseGlass$House" "WhoseGlass$House" "laid" "[I") ∈ lw_all := lw_g (lw_at lw_m3 228 rfl) rfl
theorem q762 : (Jvm.Cond.soleField "WhoseGlass$House" "laid") ∈ lw_all := lw_g (lw_at lw_m3 229 rfl) rfl
theorem q763 : (Jvm.Cond.laysFinal "WhoseGlass$House" "WhoseGlass$House" "sipped" "[I") ∈ lw_all := lw_g (lw_at lw_m3 230 rfl) rfl
theorem q764 : (Jvm.Cond.soleField "WhoseGlass$House" "sipped") ∈ lw_all := lw_g (lw_at lw_m3 231 rfl) rfl
theorem q765 : (Jvm.Cond.laysFinal "WhoseGlass$House" "WhoseGlass$House" "germs" "[Z") ∈ lw_all := lw_g (lw_at lw_m3 232 rfl) rfl
theorem q766 : (Jvm.Cond.soleField "WhoseGlass$House" "germs") ∈ lw_all := lw_g (lw_at lw_m3 233 rfl) rfl
theorem q767 : (Jvm.Cond.laysFinal "WhoseGlass$House" "WhoseGlass$House" "pace" "[I") ∈ lw_all := lw_g (lw_at lw_m3 234 rfl) rfl
theorem q768 : (Jvm.Cond.soleField "WhoseGlass$House" "pace") ∈ lw_all := lw_g (lw_at lw_m3 235 rfl) rfl
theorem q769 : (Jvm.Cond.laysFinal "WhoseGlass$House" "WhoseGlass$House" "lays" "[I") ∈ lw_all := lw_g (lw_at lw_m3 236 rfl) rfl
theorem q770 : (Jvm.Cond.soleField "WhoseGlass$House" "lays") ∈ lw_all := lw_g (lw_at lw_m3 237 rfl) rfl
theorem q771 : (Jvm.Cond.laysFinal "WhoseGlass$House" "WhoseGlass$House" "step" "[I") ∈ lw_all := lw_g (lw_at lw_m3 238 rfl) rfl
theorem q772 : (Jvm.Cond.soleField "WhoseGlass$House" "step") ∈ lw_all := lw_g (lw_at lw_m3 239 rfl) rfl
theorem q773 : (Jvm.Cond.laysFinal "WhoseGlass$House" "WhoseGlass$House" "care" "[I") ∈ lw_all := lw_g (lw_at lw_m4 0 rfl) rfl
theorem q774 : (Jvm.Cond.soleField "WhoseGlass$House" "care") ∈ lw_all := lw_g (lw_at lw_m4 1 rfl) rfl
theorem q775 : (Jvm.Cond.laysFinal "WhoseGlass$House" "WhoseGlass$House" "place" "[I") ∈ lw_all := lw_g (lw_at lw_m4 2 rfl) rfl
theorem q776 : (Jvm.Cond.soleField "WhoseGlass$House" "place") ∈ lw_all := lw_g (lw_at lw_m4 3 rfl) rfl
theorem q777 : (Jvm.Cond.laysFinal "WhoseGlass$House" "WhoseGlass$House" "holds" "[I") ∈ lw_all := lw_g (lw_at lw_m4 4 rfl) rfl
theorem q778 : (Jvm.Cond.soleField "WhoseGlass$House" "holds") ∈ lw_all := lw_g (lw_at lw_m4 5 rfl) rfl
theorem q779 : (Jvm.Cond.laysFinal "WhoseGlass$House" "WhoseGlass$House" "own" "[I") ∈ lw_all := lw_g (lw_at lw_m4 6 rfl) rfl
theorem q780 : (Jvm.Cond.soleField "WhoseGlass$House" "own") ∈ lw_all := lw_g (lw_at lw_m4 7 rfl) rfl
theorem q781 : (Jvm.Cond.laysFinal "WhoseGlass$House" "WhoseGlass$House" "had" "[I") ∈ lw_all := lw_g (lw_at lw_m4 8 rfl) rfl
theorem q782 : (Jvm.Cond.soleField "WhoseGlass$House" "had") ∈ lw_all := lw_g (lw_at lw_m4 9 rfl) rfl
theorem q783 : (Jvm.Cond.lays "WhoseGlass$House" "WhoseGlass$House" "glasses" "I") ∈ lw_all := lw_g (lw_at lw_m4 10 rfl) rfl
theorem q784 : (Jvm.Cond.soleField "WhoseGlass$House" "glasses") ∈ lw_all := lw_g (lw_at lw_m4 11 rfl) rfl
theorem q785 : (Jvm.Cond.lays "WhoseGlass$House" "WhoseGlass$House" "guests" "I") ∈ lw_all := lw_g (lw_at lw_m4 12 rfl) rfl
theorem q786 : (Jvm.Cond.soleField "WhoseGlass$House" "guests") ∈ lw_all := lw_g (lw_at lw_m4 13 rfl) rfl
theorem q787 : (Jvm.Cond.lays "WhoseGlass$House" "WhoseGlass$House" "tray" "I") ∈ lw_all := lw_g (lw_at lw_m4 14 rfl) rfl
theorem q788 : (Jvm.Cond.soleField "WhoseGlass$House" "tray") ∈ lw_all := lw_g (lw_at lw_m4 15 rfl) rfl
theorem q789 : (Jvm.Cond.lays "WhoseGlass$House" "WhoseGlass$House" "minute" "I") ∈ lw_all := lw_g (lw_at lw_m4 16 rfl) rfl
theorem q790 : (Jvm.Cond.soleField "WhoseGlass$House" "minute") ∈ lw_all := lw_g (lw_at lw_m4 17 rfl) rfl
theorem q791 : (Jvm.Cond.lays "WhoseGlass$House" "WhoseGlass$House" "colds" "I") ∈ lw_all := lw_g (lw_at lw_m4 18 rfl) rfl
theorem q792 : (Jvm.Cond.soleField "WhoseGlass$House" "colds") ∈ lw_all := lw_g (lw_at lw_m4 19 rfl) rfl
theorem q793 : (Jvm.Cond.lays "WhoseGlass$House" "WhoseGlass$House" "closed" "I") ∈ lw_all := lw_g (lw_at lw_m4 20 rfl) rfl
theorem q794 : (Jvm.Cond.soleField "WhoseGlass$House" "closed") ∈ lw_all := lw_g (lw_at lw_m4 21 rfl) rfl
theorem q795 : (Jvm.Cond.lays "WhoseGlass$House" "WhoseGlass$House" "mistakes" "I") ∈ lw_all := lw_g (lw_at lw_m4 22 rfl) rfl
theorem q796 : (Jvm.Cond.soleField "WhoseGlass$House" "mistakes") ∈ lw_all := lw_g (lw_at lw_m4 23 rfl) rfl
theorem q797 : (Jvm.Cond.lays "WhoseGlass$House" "WhoseGlass$House" "fresh" "I") ∈ lw_all := lw_g (lw_at lw_m4 24 rfl) rfl
theorem q798 : (Jvm.Cond.soleField "WhoseGlass$House" "fresh") ∈ lw_all := lw_g (lw_at lw_m4 25 rfl) rfl
theorem q799 : (Jvm.Cond.superclass "WhoseGlass$House" "java/lang/Object") ∈ lw_all := lw_g (lw_at lw_m4 26 rfl) rfl
theorem in_X2 : ∀ w ∈ wsX20, w ∈ lw_all := lw_in wsX20 [755, 757, 759, 761, 763, 765, 767, 769, 771, 773, 775, 777, 779, 781, 783, 785, 787, 789, 791, 793, 795, 797] (by decide +kernel) (by decide +kernel)

/-! WhoseGlass$Shelf -/
set_option maxRecDepth 100000
def RX3 : String := "WhoseGlass$Shelf"
def TX3 : u_T := fun k => match k with
  | _ => ("WhoseGlass$Shelf", "held", "Ljava/lang/Object;", false)
def tyX3 : Nat → FieldType := fun k => match k with
  | _ => .object "java/lang/Object"
abbrev wsX30 : List Cond := u_ws RX3 TX3 1
theorem nmX3 : ∀ a, a < 1 → ∀ b, b < 1 → a ≠ b → (TX3 a).2.1 ≠ (TX3 b).2.1 := by decide +kernel
theorem tyX3_ok : ∀ k, k < 1 → parseFieldDescriptor (TX3 k).2.2.1 = some (tyX3 k) := by decide +kernel
abbrev cX3_init : ByteArray := prog_15_method_1_code
def yX3_init : MethodName := ⟨RX3, "<init>", "()V"⟩
theorem dX3_init_0 : decode cX3_init 0 = .ok (.aload_n 0, 1) := by decide +kernel
theorem dX3_init_1 : decode cX3_init 1 = .ok (.invokespecial 1, 3) := by decide +kernel
theorem dX3_init_4 : decode cX3_init 4 = .ok (.return_, 1) := by decide +kernel
theorem q56 : (Jvm.Cond.initialized "WhoseGlass$Shelf") ∈ lw_all := lw_g (lw_at lw_m1 3 rfl) rfl
theorem q803 : (Jvm.Cond.instantiable "WhoseGlass$Shelf" (1 : Nat)) ∈ lw_all := lw_g (lw_at lw_m4 30 rfl) rfl
theorem q805 : (Jvm.Cond.instanceMethod ({ cls := "WhoseGlass$Shelf", name := "<init>", desc := "()V" } : Jvm.MethodName)) ∈ lw_all := lw_g (lw_at lw_m4 32 rfl) rfl
theorem q806 : (Jvm.Cond.code ({ cls := "WhoseGlass$Shelf", name := "<init>", desc := "()V" } : Jvm.MethodName) prog_15_method_1_code (1 : Nat) (Option.none : Option Jvm.ClassFile.FieldType)) ∈ lw_all := lw_g (lw_at lw_m4 33 rfl) rfl
theorem q807 : (Jvm.Cond.methodLink "WhoseGlass$Shelf" (1 : Nat) ({ cls := "java/lang/Object", name := "<init>", desc := "()V" } : Jvm.MethodName)) ∈ lw_all := lw_g (lw_at lw_m4 34 rfl) rfl
theorem q809 : (Jvm.Cond.lays "WhoseGlass$Shelf" "WhoseGlass$Shelf" "held" "Ljava/lang/Object;") ∈ lw_all := lw_g (lw_at lw_m4 36 rfl) rfl
theorem q810 : (Jvm.Cond.soleField "WhoseGlass$Shelf" "held") ∈ lw_all := lw_g (lw_at lw_m4 37 rfl) rfl
theorem q811 : (Jvm.Cond.superclass "WhoseGlass$Shelf" "java/lang/Object") ∈ lw_all := lw_g (lw_at lw_m4 38 rfl) rfl
theorem in_X3 : ∀ w ∈ wsX30, w ∈ lw_all := lw_in wsX30 [809] (by decide +kernel) (by decide +kernel)

/-! WhoseGlass$Reader -/
set_option maxRecDepth 100000
def RX5 : String := "WhoseGlass$Reader"
def TX5 : u_T := fun k => match k with
  | 0 => ("WhoseGlass$Reader", "text", "[B", true)
  | 1 => ("WhoseGlass$Reader", "at", "I", false)
  | 2 => ("WhoseGlass$Reader", "letter", "[I", true)
  | 3 => ("WhoseGlass$Reader", "place", "[I", true)
  | 4 => ("WhoseGlass$Reader", "told", "[[I", true)
  | _ => ("WhoseGlass$Reader", "statements", "I", false)
def tyX5 : Nat → FieldType := fun k => match k with
  | 0 => .array .byte
  | 1 => .int
  | 2 => .array .int
  | 3 => .array .int
  | 4 => .array (.array .int)
  | _ => .int
abbrev wsX50 : List Cond := u_ws RX5 TX5 6
theorem nmX5 : ∀ a, a < 6 → ∀ b, b < 6 → a ≠ b → (TX5 a).2.1 ≠ (TX5 b).2.1 := by decide +kernel
theorem tyX5_ok : ∀ k, k < 6 → parseFieldDescriptor (TX5 k).2.2.1 = some (tyX5 k) := by decide +kernel
abbrev cX5_init : ByteArray := prog_13_method_1_code
def yX5_init : MethodName := ⟨RX5, "<init>", "([B)V"⟩
def dkwX5_init_1 : List UInt8 := [197, 0, 18, 2, 181, 0, 20, 42, 43, 181, 0, 23, 177]
abbrev dktX5_init_1 : List UInt8 := dkwX5_init_1 ++ []
def dkwX5_init_0 : List UInt8 := [42, 183, 0, 3, 42, 16, 50, 188, 10, 181, 0, 9, 42, 16, 50, 188, 10, 181, 0, 15, 42, 16, 50, 8]
abbrev dktX5_init_0 : List UInt8 := dkwX5_init_0 ++ dktX5_init_1
theorem dksX5_init_0 : cX5_init.data.toList.drop 0 = dktX5_init_0 := by decide +kernel
theorem dksX5_init_1 : cX5_init.data.toList.drop 24 = dktX5_init_1 := dk_seg dksX5_init_0 24 rfl rfl
theorem dX5_init_0 : decode cX5_init 0 = .ok (.aload_n 0, 1) := dk_42 (dk_at dksX5_init_0 0 rfl rfl)
theorem dX5_init_1 : decode cX5_init 1 = .ok (.invokespecial 3, 3) := dk_183 0 3 (dk_at dksX5_init_0 1 rfl rfl)
theorem dX5_init_4 : decode cX5_init 4 = .ok (.aload_n 0, 1) := dk_42 (dk_at dksX5_init_0 4 rfl rfl)
theorem dX5_init_5 : decode cX5_init 5 = .ok (.bipush 50, 2) := dk_16 50 (dk_at dksX5_init_0 5 rfl rfl)
theorem dX5_init_7 : decode cX5_init 7 = .ok (.newarray .int, 2) := dk_188_10 (dk_at dksX5_init_0 7 rfl rfl)
theorem dX5_init_9 : decode cX5_init 9 = .ok (.putfield 9, 3) := dk_181 0 9 (dk_at dksX5_init_0 9 rfl rfl)
theorem dX5_init_12 : decode cX5_init 12 = .ok (.aload_n 0, 1) := dk_42 (dk_at dksX5_init_0 12 rfl rfl)
theorem dX5_init_13 : decode cX5_init 13 = .ok (.bipush 50, 2) := dk_16 50 (dk_at dksX5_init_0 13 rfl rfl)
theorem dX5_init_15 : decode cX5_init 15 = .ok (.newarray .int, 2) := dk_188_10 (dk_at dksX5_init_0 15 rfl rfl)
theorem dX5_init_17 : decode cX5_init 17 = .ok (.putfield 15, 3) := dk_181 0 15 (dk_at dksX5_init_0 17 rfl rfl)
theorem dX5_init_20 : decode cX5_init 20 = .ok (.aload_n 0, 1) := dk_42 (dk_at dksX5_init_0 20 rfl rfl)
theorem dX5_init_21 : decode cX5_init 21 = .ok (.bipush 50, 2) := dk_16 50 (dk_at dksX5_init_0 21 rfl rfl)
theorem dX5_init_23 : decode cX5_init 23 = .ok (.iconst 5, 1) := dk_8 (dk_at dksX5_init_0 23 rfl rfl)
theorem dX5_init_24 : decode cX5_init 24 = .ok (.multianewarray 18 2, 4) := by decide +kernel
theorem dX5_init_28 : decode cX5_init 28 = .ok (.putfield 20, 3) := dk_181 0 20 (dk_at dksX5_init_1 4 rfl rfl)
theorem dX5_init_31 : decode cX5_init 31 = .ok (.aload_n 0, 1) := dk_42 (dk_at dksX5_init_1 7 rfl rfl)
theorem dX5_init_32 : decode cX5_init 32 = .ok (.aload_n 1, 1) := dk_43 (dk_at dksX5_init_1 8 rfl rfl)
theorem dX5_init_33 : decode cX5_init 33 = .ok (.putfield 23, 3) := dk_181 0 23 (dk_at dksX5_init_1 9 rfl rfl)
theorem dX5_init_36 : decode cX5_init 36 = .ok (.return_, 1) := dk_177 (dk_at dksX5_init_1 12 rfl rfl)
abbrev cX5_reads : ByteArray := prog_13_method_7_code
def yX5_reads : MethodName := ⟨RX5, "reads", "()V"⟩
def dkwX5_reads_0 : List UInt8 := [42, 182, 0, 58, 42, 180, 0, 27, 42, 180, 0, 23, 190, 161, 255, 243, 177]
abbrev dktX5_reads_0 : List UInt8 := dkwX5_reads_0 ++ []
theorem dksX5_reads_0 : cX5_reads.data.toList.drop 0 = dktX5_reads_0 := by decide +kernel
theorem dX5_reads_0 : decode cX5_reads 0 = .ok (.aload_n 0, 1) := dk_42 (dk_at dksX5_reads_0 0 rfl rfl)
theorem dX5_reads_1 : decode cX5_reads 1 = .ok (.invokevirtual 58, 3) := dk_182 0 58 (dk_at dksX5_reads_0 1 rfl rfl)
theorem dX5_reads_4 : decode cX5_reads 4 = .ok (.aload_n 0, 1) := dk_42 (dk_at dksX5_reads_0 4 rfl rfl)
theorem dX5_reads_5 : decode cX5_reads 5 = .ok (.getfield 27, 3) := dk_180 0 27 (dk_at dksX5_reads_0 5 rfl rfl)
theorem dX5_reads_8 : decode cX5_reads 8 = .ok (.aload_n 0, 1) := dk_42 (dk_at dksX5_reads_0 8 rfl rfl)
theorem dX5_reads_9 : decode cX5_reads 9 = .ok (.getfield 23, 3) := dk_180 0 23 (dk_at dksX5_reads_0 9 rfl rfl)
theorem dX5_reads_12 : decode cX5_reads 12 = .ok (.arraylength, 1) := dk_190 (dk_at dksX5_reads_0 12 rfl rfl)
theorem dX5_reads_13 : decode cX5_reads 13 = .ok (.if_icmp .lt (-13), 3) := dk_161 255 243 (dk_at dksX5_reads_0 13 rfl rfl)
theorem dX5_reads_16 : decode cX5_reads 16 = .ok (.return_, 1) := dk_177 (dk_at dksX5_reads_0 16 rfl rfl)
abbrev cX5_statement : ByteArray := prog_13_method_6_code
def yX5_statement : MethodName := ⟨RX5, "statement", "()V"⟩
def dkwX5_statement_4 : List UInt8 := [177]
abbrev dktX5_statement_4 : List UInt8 := dkwX5_statement_4 ++ []
def dkwX5_statement_3 : List UInt8 := [183, 0, 41, 191, 42, 89, 180, 0, 27, 4, 96, 181, 0, 27, 42, 89, 180, 0, 51, 4, 96, 181, 0, 51]
abbrev dktX5_statement_3 : List UInt8 := dkwX5_statement_3 ++ dktX5_statement_4
def dkwX5_statement_2 : List UInt8 := [50, 182, 0, 54, 42, 182, 0, 31, 16, 59, 159, 0, 16, 187, 0, 39, 89, 4, 42, 180, 0, 27]
abbrev dktX5_statement_2 : List UInt8 := dkwX5_statement_2 ++ dktX5_statement_3
def dkwX5_statement_1 : List UInt8 := [180, 0, 27, 79, 42, 89, 180, 0, 27, 4, 96, 181, 0, 27, 42, 27, 42, 180, 0, 20, 42, 180, 0, 51]
abbrev dktX5_statement_1 : List UInt8 := dkwX5_statement_1 ++ dktX5_statement_2
def dkwX5_statement_0 : List UInt8 := [42, 182, 0, 31, 60, 42, 180, 0, 9, 42, 180, 0, 51, 27, 79, 42, 180, 0, 15, 42, 180, 0, 51, 42]
abbrev dktX5_statement_0 : List UInt8 := dkwX5_statement_0 ++ dktX5_statement_1
theorem dksX5_statement_0 : cX5_statement.data.toList.drop 0 = dktX5_statement_0 := by decide +kernel
theorem dksX5_statement_1 : cX5_statement.data.toList.drop 24 = dktX5_statement_1 := dk_seg dksX5_statement_0 24 rfl rfl
theorem dksX5_statement_2 : cX5_statement.data.toList.drop 48 = dktX5_statement_2 := dk_seg dksX5_statement_1 24 rfl rfl
theorem dksX5_statement_3 : cX5_statement.data.toList.drop 70 = dktX5_statement_3 := dk_seg dksX5_statement_2 22 rfl rfl
theorem dksX5_statement_4 : cX5_statement.data.toList.drop 94 = dktX5_statement_4 := dk_seg dksX5_statement_3 24 rfl rfl
theorem dX5_statement_0 : decode cX5_statement 0 = .ok (.aload_n 0, 1) := dk_42 (dk_at dksX5_statement_0 0 rfl rfl)
theorem dX5_statement_1 : decode cX5_statement 1 = .ok (.invokevirtual 31, 3) := dk_182 0 31 (dk_at dksX5_statement_0 1 rfl rfl)
theorem dX5_statement_4 : decode cX5_statement 4 = .ok (.istore_n 1, 1) := dk_60 (dk_at dksX5_statement_0 4 rfl rfl)
theorem dX5_statement_5 : decode cX5_statement 5 = .ok (.aload_n 0, 1) := dk_42 (dk_at dksX5_statement_0 5 rfl rfl)
theorem dX5_statement_6 : decode cX5_statement 6 = .ok (.getfield 9, 3) := dk_180 0 9 (dk_at dksX5_statement_0 6 rfl rfl)
theorem dX5_statement_9 : decode cX5_statement 9 = .ok (.aload_n 0, 1) := dk_42 (dk_at dksX5_statement_0 9 rfl rfl)
theorem dX5_statement_10 : decode cX5_statement 10 = .ok (.getfield 51, 3) := dk_180 0 51 (dk_at dksX5_statement_0 10 rfl rfl)
theorem dX5_statement_13 : decode cX5_statement 13 = .ok (.iload_n 1, 1) := dk_27 (dk_at dksX5_statement_0 13 rfl rfl)
theorem dX5_statement_14 : decode cX5_statement 14 = .ok (.iastore, 1) := dk_79 (dk_at dksX5_statement_0 14 rfl rfl)
theorem dX5_statement_15 : decode cX5_statement 15 = .ok (.aload_n 0, 1) := dk_42 (dk_at dksX5_statement_0 15 rfl rfl)
theorem dX5_statement_16 : decode cX5_statement 16 = .ok (.getfield 15, 3) := dk_180 0 15 (dk_at dksX5_statement_0 16 rfl rfl)
theorem dX5_statement_19 : decode cX5_statement 19 = .ok (.aload_n 0, 1) := dk_42 (dk_at dksX5_statement_0 19 rfl rfl)
theorem dX5_statement_20 : decode cX5_statement 20 = .ok (.getfield 51, 3) := dk_180 0 51 (dk_at dksX5_statement_0 20 rfl rfl)
theorem dX5_statement_23 : decode cX5_statement 23 = .ok (.aload_n 0, 1) := dk_42 (dk_at dksX5_statement_0 23 rfl rfl)
theorem dX5_statement_24 : decode cX5_statement 24 = .ok (.getfield 27, 3) := dk_180 0 27 (dk_at dksX5_statement_1 0 rfl rfl)
theorem dX5_statement_27 : decode cX5_statement 27 = .ok (.iastore, 1) := dk_79 (dk_at dksX5_statement_1 3 rfl rfl)
theorem dX5_statement_28 : decode cX5_statement 28 = .ok (.aload_n 0, 1) := dk_42 (dk_at dksX5_statement_1 4 rfl rfl)
theorem dX5_statement_29 : decode cX5_statement 29 = .ok (.dup, 1) := dk_89 (dk_at dksX5_statement_1 5 rfl rfl)
theorem dX5_statement_30 : decode cX5_statement 30 = .ok (.getfield 27, 3) := dk_180 0 27 (dk_at dksX5_statement_1 6 rfl rfl)
theorem dX5_statement_33 : decode cX5_statement 33 = .ok (.iconst 1, 1) := dk_4 (dk_at dksX5_statement_1 9 rfl rfl)
theorem dX5_statement_34 : decode cX5_statement 34 = .ok (.iadd, 1) := dk_96 (dk_at dksX5_statement_1 10 rfl rfl)
theorem dX5_statement_35 : decode cX5_statement 35 = .ok (.putfield 27, 3) := dk_181 0 27 (dk_at dksX5_statement_1 11 rfl rfl)
theorem dX5_statement_38 : decode cX5_statement 38 = .ok (.aload_n 0, 1) := dk_42 (dk_at dksX5_statement_1 14 rfl rfl)
theorem dX5_statement_39 : decode cX5_statement 39 = .ok (.iload_n 1, 1) := dk_27 (dk_at dksX5_statement_1 15 rfl rfl)
theorem dX5_statement_40 : decode cX5_statement 40 = .ok (.aload_n 0, 1) := dk_42 (dk_at dksX5_statement_1 16 rfl rfl)
theorem dX5_statement_41 : decode cX5_statement 41 = .ok (.getfield 20, 3) := dk_180 0 20 (dk_at dksX5_statement_1 17 rfl rfl)
theorem dX5_statement_44 : decode cX5_statement 44 = .ok (.aload_n 0, 1) := dk_42 (dk_at dksX5_statement_1 20 rfl rfl)
theorem dX5_statement_45 : decode cX5_statement 45 = .ok (.getfield 51, 3) := dk_180 0 51 (dk_at dksX5_statement_1 21 rfl rfl)
theorem dX5_statement_48 : decode cX5_statement 48 = .ok (.aaload, 1) := dk_50 (dk_at dksX5_statement_2 0 rfl rfl)
theorem dX5_statement_49 : decode cX5_statement 49 = .ok (.invokevirtual 54, 3) := dk_182 0 54 (dk_at dksX5_statement_2 1 rfl rfl)
theorem dX5_statement_52 : decode cX5_statement 52 = .ok (.aload_n 0, 1) := dk_42 (dk_at dksX5_statement_2 4 rfl rfl)
theorem dX5_statement_53 : decode cX5_statement 53 = .ok (.invokevirtual 31, 3) := dk_182 0 31 (dk_at dksX5_statement_2 5 rfl rfl)
theorem dX5_statement_56 : decode cX5_statement 56 = .ok (.bipush 59, 2) := dk_16 59 (dk_at dksX5_statement_2 8 rfl rfl)
theorem dX5_statement_58 : decode cX5_statement 58 = .ok (.if_icmp .eq 16, 3) := dk_159 0 16 (dk_at dksX5_statement_2 10 rfl rfl)
theorem dX5_statement_61 : decode cX5_statement 61 = .ok (.new 39, 3) := dk_187 0 39 (dk_at dksX5_statement_2 13 rfl rfl)
theorem dX5_statement_64 : decode cX5_statement 64 = .ok (.dup, 1) := dk_89 (dk_at dksX5_statement_2 16 rfl rfl)
theorem dX5_statement_65 : decode cX5_statement 65 = .ok (.iconst 1, 1) := dk_4 (dk_at dksX5_statement_2 17 rfl rfl)
theorem dX5_statement_66 : decode cX5_statement 66 = .ok (.aload_n 0, 1) := dk_42 (dk_at dksX5_statement_2 18 rfl rfl)
theorem dX5_statement_67 : decode cX5_statement 67 = .ok (.getfield 27, 3) := dk_180 0 27 (dk_at dksX5_statement_2 19 rfl rfl)
theorem dX5_statement_70 : decode cX5_statement 70 = .ok (.invokespecial 41, 3) := dk_183 0 41 (dk_at dksX5_statement_3 0 rfl rfl)
theorem dX5_statement_73 : decode cX5_statement 73 = .ok (.athrow, 1) := dk_191 (dk_at dksX5_statement_3 3 rfl rfl)
theorem dX5_statement_74 : decode cX5_statement 74 = .ok (.aload_n 0, 1) := dk_42 (dk_at dksX5_statement_3 4 rfl rfl)
theorem dX5_statement_75 : decode cX5_statement 75 = .ok (.dup, 1) := dk_89 (dk_at dksX5_statement_3 5 rfl rfl)
theorem dX5_statement_76 : decode cX5_statement 76 = .ok (.getfield 27, 3) := dk_180 0 27 (dk_at dksX5_statement_3 6 rfl rfl)
theorem dX5_statement_79 : decode cX5_statement 79 = .ok (.iconst 1, 1) := dk_4 (dk_at dksX5_statement_3 9 rfl rfl)
theorem dX5_statement_80 : decode cX5_statement 80 = .ok (.iadd, 1) := dk_96 (dk_at dksX5_statement_3 10 rfl rfl)
theorem dX5_statement_81 : decode cX5_statement 81 = .ok (.putfield 27, 3) := dk_181 0 27 (dk_at dksX5_statement_3 11 rfl rfl)
theorem dX5_statement_84 : decode cX5_statement 84 = .ok (.aload_n 0, 1) := dk_42 (dk_at dksX5_statement_3 14 rfl rfl)
theorem dX5_statement_85 : decode cX5_statement 85 = .ok (.dup, 1) := dk_89 (dk_at dksX5_statement_3 15 rfl rfl)
theorem dX5_statement_86 : decode cX5_statement 86 = .ok (.getfield 51, 3) := dk_180 0 51 (dk_at dksX5_statement_3 16 rfl rfl)
theorem dX5_statement_89 : decode cX5_statement 89 = .ok (.iconst 1, 1) := dk_4 (dk_at dksX5_statement_3 19 rfl rfl)
theorem dX5_statement_90 : decode cX5_statement 90 = .ok (.iadd, 1) := dk_96 (dk_at dksX5_statement_3 20 rfl rfl)
theorem dX5_statement_91 : decode cX5_statement 91 = .ok (.putfield 51, 3) := dk_181 0 51 (dk_at dksX5_statement_3 21 rfl rfl)
theorem dX5_statement_94 : decode cX5_statement 94 = .ok (.return_, 1) := dk_177 (dk_at dksX5_statement_4 0 rfl rfl)
abbrev cX5_sign : ByteArray := prog_13_method_2_code
def yX5_sign : MethodName := ⟨RX5, "sign", "()I"⟩
def dkwX5_sign_1 : List UInt8 := [2, 172]
abbrev dktX5_sign_1 : List UInt8 := dkwX5_sign_1 ++ []
def dkwX5_sign_0 : List UInt8 := [42, 180, 0, 27, 42, 180, 0, 23, 190, 162, 0, 15, 42, 180, 0, 23, 42, 180, 0, 27, 51, 167, 0, 4]
abbrev dktX5_sign_0 : List UInt8 := dkwX5_sign_0 ++ dktX5_sign_1
theorem dksX5_sign_0 : cX5_sign.data.toList.drop 0 = dktX5_sign_0 := by decide +kernel
theorem dksX5_sign_1 : cX5_sign.data.toList.drop 24 = dktX5_sign_1 := dk_seg dksX5_sign_0 24 rfl rfl
theorem dX5_sign_0 : decode cX5_sign 0 = .ok (.aload_n 0, 1) := dk_42 (dk_at dksX5_sign_0 0 rfl rfl)
theorem dX5_sign_1 : decode cX5_sign 1 = .ok (.getfield 27, 3) := dk_180 0 27 (dk_at dksX5_sign_0 1 rfl rfl)
theorem dX5_sign_4 : decode cX5_sign 4 = .ok (.aload_n 0, 1) := dk_42 (dk_at dksX5_sign_0 4 rfl rfl)
theorem dX5_sign_5 : decode cX5_sign 5 = .ok (.getfield 23, 3) := dk_180 0 23 (dk_at dksX5_sign_0 5 rfl rfl)
theorem dX5_sign_8 : decode cX5_sign 8 = .ok (.arraylength, 1) := dk_190 (dk_at dksX5_sign_0 8 rfl rfl)
theorem dX5_sign_9 : decode cX5_sign 9 = .ok (.if_icmp .ge 15, 3) := dk_162 0 15 (dk_at dksX5_sign_0 9 rfl rfl)
theorem dX5_sign_12 : decode cX5_sign 12 = .ok (.aload_n 0, 1) := dk_42 (dk_at dksX5_sign_0 12 rfl rfl)
theorem dX5_sign_13 : decode cX5_sign 13 = .ok (.getfield 23, 3) := dk_180 0 23 (dk_at dksX5_sign_0 13 rfl rfl)
theorem dX5_sign_16 : decode cX5_sign 16 = .ok (.aload_n 0, 1) := dk_42 (dk_at dksX5_sign_0 16 rfl rfl)
theorem dX5_sign_17 : decode cX5_sign 17 = .ok (.getfield 27, 3) := dk_180 0 27 (dk_at dksX5_sign_0 17 rfl rfl)
theorem dX5_sign_20 : decode cX5_sign 20 = .ok (.baload, 1) := dk_51 (dk_at dksX5_sign_0 20 rfl rfl)
theorem dX5_sign_21 : decode cX5_sign 21 = .ok (.goto 4, 3) := dk_167 0 4 (dk_at dksX5_sign_0 21 rfl rfl)
theorem dX5_sign_24 : decode cX5_sign 24 = .ok (.iconst (-1), 1) := dk_2 (dk_at dksX5_sign_1 0 rfl rfl)
theorem dX5_sign_25 : decode cX5_sign 25 = .ok (.ireturn, 1) := dk_172 (dk_at dksX5_sign_1 1 rfl rfl)
abbrev cX5_readsDeeds : ByteArray := prog_13_method_5_code
def yX5_readsDeeds : MethodName := ⟨RX5, "readsDeeds", "(I[I)V"⟩
def dkwX5_readsDeeds_6 : List UInt8 := [42, 180, 0, 27, 4, 100, 183, 0, 41, 191, 177]
abbrev dktX5_readsDeeds_6 : List UInt8 := dkwX5_readsDeeds_6 ++ []
def dkwX5_readsDeeds_5 : List UInt8 := [3, 16, 10, 44, 3, 46, 104, 42, 182, 0, 44, 96, 79, 167, 0, 21, 167, 0, 18, 187, 0, 39, 89, 4]
abbrev dktX5_readsDeeds_5 : List UInt8 := dkwX5_readsDeeds_5 ++ dktX5_readsDeeds_6
def dkwX5_readsDeeds_4 : List UInt8 := [167, 0, 58, 42, 44, 4, 182, 0, 47, 42, 182, 0, 31, 16, 48, 16, 57, 184, 0, 35, 153, 0, 38, 44]
abbrev dktX5_readsDeeds_4 : List UInt8 := dkwX5_readsDeeds_4 ++ dktX5_readsDeeds_5
def dkwX5_readsDeeds_3 : List UInt8 := [44, 4, 16, 10, 44, 4, 46, 104, 42, 182, 0, 44, 96, 79, 167, 0, 67, 42, 44, 4, 182, 0, 47]
abbrev dktX5_readsDeeds_3 : List UInt8 := dkwX5_readsDeeds_3 ++ dktX5_readsDeeds_4
def dkwX5_readsDeeds_2 : List UInt8 := [42, 44, 7, 182, 0, 47, 167, 0, 99, 42, 44, 8, 182, 0, 47, 167, 0, 90, 42, 44, 5, 182, 0, 47]
abbrev dktX5_readsDeeds_2 : List UInt8 := dkwX5_readsDeeds_2 ++ dktX5_readsDeeds_3
def dkwX5_readsDeeds_1 : List UInt8 := [170, 0, 0, 0, 0, 0, 177, 0, 0, 0, 99, 0, 0, 0, 116, 0, 0, 0, 128, 0, 0, 0, 177, 0, 0, 0, 177, 0, 0, 0, 177, 0, 0, 0, 87, 0, 0, 0, 105, 0, 0, 0, 177, 0, 0, 0, 177, 0, 0, 0, 177, 0, 0, 0, 177, 0, 0, 0, 174, 0, 0, 0, 177, 0, 0, 0, 177, 0, 0, 0, 96, 0, 0, 0, 177, 0, 0, 0, 177, 0, 0, 0, 177, 0, 0, 0, 137]
abbrev dktX5_readsDeeds_1 : List UInt8 := dkwX5_readsDeeds_1 ++ dktX5_readsDeeds_2
def dkwX5_readsDeeds_0 : List UInt8 := [27]
abbrev dktX5_readsDeeds_0 : List UInt8 := dkwX5_readsDeeds_0 ++ dktX5_readsDeeds_1
theorem dksX5_readsDeeds_0 : cX5_readsDeeds.data.toList.drop 0 = dktX5_readsDeeds_0 := by decide +kernel
theorem dksX5_readsDeeds_1 : cX5_readsDeeds.data.toList.drop 1 = dktX5_readsDeeds_1 := dk_seg dksX5_readsDeeds_0 1 rfl rfl
theorem dksX5_readsDeeds_2 : cX5_readsDeeds.data.toList.drop 88 = dktX5_readsDeeds_2 := dk_seg dksX5_readsDeeds_1 87 rfl rfl
theorem dksX5_readsDeeds_3 : cX5_readsDeeds.data.toList.drop 112 = dktX5_readsDeeds_3 := dk_seg dksX5_readsDeeds_2 24 rfl rfl
theorem dksX5_readsDeeds_4 : cX5_readsDeeds.data.toList.drop 135 = dktX5_readsDeeds_4 := dk_seg dksX5_readsDeeds_3 23 rfl rfl
theorem dksX5_readsDeeds_5 : cX5_readsDeeds.data.toList.drop 159 = dktX5_readsDeeds_5 := dk_seg dksX5_readsDeeds_4 24 rfl rfl
theorem dksX5_readsDeeds_6 : cX5_readsDeeds.data.toList.drop 183 = dktX5_readsDeeds_6 := dk_seg dksX5_readsDeeds_5 24 rfl rfl
theorem dX5_readsDeeds_0 : decode cX5_readsDeeds 0 = .ok (.iload_n 1, 1) := dk_27 (dk_at dksX5_readsDeeds_0 0 rfl rfl)
theorem dX5_readsDeeds_1 : decode cX5_readsDeeds 1 = .ok (.tableswitch 177 99 116 #[128, 177, 177, 177, 87, 105, 177, 177, 177, 177, 174, 177, 177, 96, 177, 177, 177, 137], 87) := by decide +kernel
theorem dX5_readsDeeds_88 : decode cX5_readsDeeds 88 = .ok (.aload_n 0, 1) := dk_42 (dk_at dksX5_readsDeeds_2 0 rfl rfl)
theorem dX5_readsDeeds_89 : decode cX5_readsDeeds 89 = .ok (.aload_n 2, 1) := dk_44 (dk_at dksX5_readsDeeds_2 1 rfl rfl)
theorem dX5_readsDeeds_90 : decode cX5_readsDeeds 90 = .ok (.iconst 4, 1) := dk_7 (dk_at dksX5_readsDeeds_2 2 rfl rfl)
theorem dX5_readsDeeds_91 : decode cX5_readsDeeds 91 = .ok (.invokevirtual 47, 3) := dk_182 0 47 (dk_at dksX5_readsDeeds_2 3 rfl rfl)
theorem dX5_readsDeeds_94 : decode cX5_readsDeeds 94 = .ok (.goto 99, 3) := dk_167 0 99 (dk_at dksX5_readsDeeds_2 6 rfl rfl)
theorem dX5_readsDeeds_97 : decode cX5_readsDeeds 97 = .ok (.aload_n 0, 1) := dk_42 (dk_at dksX5_readsDeeds_2 9 rfl rfl)
theorem dX5_readsDeeds_98 : decode cX5_readsDeeds 98 = .ok (.aload_n 2, 1) := dk_44 (dk_at dksX5_readsDeeds_2 10 rfl rfl)
theorem dX5_readsDeeds_99 : decode cX5_readsDeeds 99 = .ok (.iconst 5, 1) := dk_8 (dk_at dksX5_readsDeeds_2 11 rfl rfl)
theorem dX5_readsDeeds_100 : decode cX5_readsDeeds 100 = .ok (.invokevirtual 47, 3) := dk_182 0 47 (dk_at dksX5_readsDeeds_2 12 rfl rfl)
theorem dX5_readsDeeds_103 : decode cX5_readsDeeds 103 = .ok (.goto 90, 3) := dk_167 0 90 (dk_at dksX5_readsDeeds_2 15 rfl rfl)
theorem dX5_readsDeeds_106 : decode cX5_readsDeeds 106 = .ok (.aload_n 0, 1) := dk_42 (dk_at dksX5_readsDeeds_2 18 rfl rfl)
theorem dX5_readsDeeds_107 : decode cX5_readsDeeds 107 = .ok (.aload_n 2, 1) := dk_44 (dk_at dksX5_readsDeeds_2 19 rfl rfl)
theorem dX5_readsDeeds_108 : decode cX5_readsDeeds 108 = .ok (.iconst 2, 1) := dk_5 (dk_at dksX5_readsDeeds_2 20 rfl rfl)
theorem dX5_readsDeeds_109 : decode cX5_readsDeeds 109 = .ok (.invokevirtual 47, 3) := dk_182 0 47 (dk_at dksX5_readsDeeds_2 21 rfl rfl)
theorem dX5_readsDeeds_112 : decode cX5_readsDeeds 112 = .ok (.aload_n 2, 1) := dk_44 (dk_at dksX5_readsDeeds_3 0 rfl rfl)
theorem dX5_readsDeeds_113 : decode cX5_readsDeeds 113 = .ok (.iconst 1, 1) := dk_4 (dk_at dksX5_readsDeeds_3 1 rfl rfl)
theorem dX5_readsDeeds_114 : decode cX5_readsDeeds 114 = .ok (.bipush 10, 2) := dk_16 10 (dk_at dksX5_readsDeeds_3 2 rfl rfl)
theorem dX5_readsDeeds_116 : decode cX5_readsDeeds 116 = .ok (.aload_n 2, 1) := dk_44 (dk_at dksX5_readsDeeds_3 4 rfl rfl)
theorem dX5_readsDeeds_117 : decode cX5_readsDeeds 117 = .ok (.iconst 1, 1) := dk_4 (dk_at dksX5_readsDeeds_3 5 rfl rfl)
theorem dX5_readsDeeds_118 : decode cX5_readsDeeds 118 = .ok (.iaload, 1) := dk_46 (dk_at dksX5_readsDeeds_3 6 rfl rfl)
theorem dX5_readsDeeds_119 : decode cX5_readsDeeds 119 = .ok (.imul, 1) := dk_104 (dk_at dksX5_readsDeeds_3 7 rfl rfl)
theorem dX5_readsDeeds_120 : decode cX5_readsDeeds 120 = .ok (.aload_n 0, 1) := dk_42 (dk_at dksX5_readsDeeds_3 8 rfl rfl)
theorem dX5_readsDeeds_121 : decode cX5_readsDeeds 121 = .ok (.invokevirtual 44, 3) := dk_182 0 44 (dk_at dksX5_readsDeeds_3 9 rfl rfl)
theorem dX5_readsDeeds_124 : decode cX5_readsDeeds 124 = .ok (.iadd, 1) := dk_96 (dk_at dksX5_readsDeeds_3 12 rfl rfl)
theorem dX5_readsDeeds_125 : decode cX5_readsDeeds 125 = .ok (.iastore, 1) := dk_79 (dk_at dksX5_readsDeeds_3 13 rfl rfl)
theorem dX5_readsDeeds_126 : decode cX5_readsDeeds 126 = .ok (.goto 67, 3) := dk_167 0 67 (dk_at dksX5_readsDeeds_3 14 rfl rfl)
theorem dX5_readsDeeds_129 : decode cX5_readsDeeds 129 = .ok (.aload_n 0, 1) := dk_42 (dk_at dksX5_readsDeeds_3 17 rfl rfl)
theorem dX5_readsDeeds_130 : decode cX5_readsDeeds 130 = .ok (.aload_n 2, 1) := dk_44 (dk_at dksX5_readsDeeds_3 18 rfl rfl)
theorem dX5_readsDeeds_131 : decode cX5_readsDeeds 131 = .ok (.iconst 1, 1) := dk_4 (dk_at dksX5_readsDeeds_3 19 rfl rfl)
theorem dX5_readsDeeds_132 : decode cX5_readsDeeds 132 = .ok (.invokevirtual 47, 3) := dk_182 0 47 (dk_at dksX5_readsDeeds_3 20 rfl rfl)
theorem dX5_readsDeeds_135 : decode cX5_readsDeeds 135 = .ok (.goto 58, 3) := dk_167 0 58 (dk_at dksX5_readsDeeds_4 0 rfl rfl)
theorem dX5_readsDeeds_138 : decode cX5_readsDeeds 138 = .ok (.aload_n 0, 1) := dk_42 (dk_at dksX5_readsDeeds_4 3 rfl rfl)
theorem dX5_readsDeeds_139 : decode cX5_readsDeeds 139 = .ok (.aload_n 2, 1) := dk_44 (dk_at dksX5_readsDeeds_4 4 rfl rfl)
theorem dX5_readsDeeds_140 : decode cX5_readsDeeds 140 = .ok (.iconst 1, 1) := dk_4 (dk_at dksX5_readsDeeds_4 5 rfl rfl)
theorem dX5_readsDeeds_141 : decode cX5_readsDeeds 141 = .ok (.invokevirtual 47, 3) := dk_182 0 47 (dk_at dksX5_readsDeeds_4 6 rfl rfl)
theorem dX5_readsDeeds_144 : decode cX5_readsDeeds 144 = .ok (.aload_n 0, 1) := dk_42 (dk_at dksX5_readsDeeds_4 9 rfl rfl)
theorem dX5_readsDeeds_145 : decode cX5_readsDeeds 145 = .ok (.invokevirtual 31, 3) := dk_182 0 31 (dk_at dksX5_readsDeeds_4 10 rfl rfl)
theorem dX5_readsDeeds_148 : decode cX5_readsDeeds 148 = .ok (.bipush 48, 2) := dk_16 48 (dk_at dksX5_readsDeeds_4 13 rfl rfl)
theorem dX5_readsDeeds_150 : decode cX5_readsDeeds 150 = .ok (.bipush 57, 2) := dk_16 57 (dk_at dksX5_readsDeeds_4 15 rfl rfl)
theorem dX5_readsDeeds_152 : decode cX5_readsDeeds 152 = .ok (.invokestatic 35, 3) := dk_184 0 35 (dk_at dksX5_readsDeeds_4 17 rfl rfl)
theorem dX5_readsDeeds_155 : decode cX5_readsDeeds 155 = .ok (.ifCond .eq 38, 3) := dk_153 0 38 (dk_at dksX5_readsDeeds_4 20 rfl rfl)
theorem dX5_readsDeeds_158 : decode cX5_readsDeeds 158 = .ok (.aload_n 2, 1) := dk_44 (dk_at dksX5_readsDeeds_4 23 rfl rfl)
theorem dX5_readsDeeds_159 : decode cX5_readsDeeds 159 = .ok (.iconst 0, 1) := dk_3 (dk_at dksX5_readsDeeds_5 0 rfl rfl)
theorem dX5_readsDeeds_160 : decode cX5_readsDeeds 160 = .ok (.bipush 10, 2) := dk_16 10 (dk_at dksX5_readsDeeds_5 1 rfl rfl)
theorem dX5_readsDeeds_162 : decode cX5_readsDeeds 162 = .ok (.aload_n 2, 1) := dk_44 (dk_at dksX5_readsDeeds_5 3 rfl rfl)
theorem dX5_readsDeeds_163 : decode cX5_readsDeeds 163 = .ok (.iconst 0, 1) := dk_3 (dk_at dksX5_readsDeeds_5 4 rfl rfl)
theorem dX5_readsDeeds_164 : decode cX5_readsDeeds 164 = .ok (.iaload, 1) := dk_46 (dk_at dksX5_readsDeeds_5 5 rfl rfl)
theorem dX5_readsDeeds_165 : decode cX5_readsDeeds 165 = .ok (.imul, 1) := dk_104 (dk_at dksX5_readsDeeds_5 6 rfl rfl)
theorem dX5_readsDeeds_166 : decode cX5_readsDeeds 166 = .ok (.aload_n 0, 1) := dk_42 (dk_at dksX5_readsDeeds_5 7 rfl rfl)
theorem dX5_readsDeeds_167 : decode cX5_readsDeeds 167 = .ok (.invokevirtual 44, 3) := dk_182 0 44 (dk_at dksX5_readsDeeds_5 8 rfl rfl)
theorem dX5_readsDeeds_170 : decode cX5_readsDeeds 170 = .ok (.iadd, 1) := dk_96 (dk_at dksX5_readsDeeds_5 11 rfl rfl)
theorem dX5_readsDeeds_171 : decode cX5_readsDeeds 171 = .ok (.iastore, 1) := dk_79 (dk_at dksX5_readsDeeds_5 12 rfl rfl)
theorem dX5_readsDeeds_172 : decode cX5_readsDeeds 172 = .ok (.goto 21, 3) := dk_167 0 21 (dk_at dksX5_readsDeeds_5 13 rfl rfl)
theorem dX5_readsDeeds_175 : decode cX5_readsDeeds 175 = .ok (.goto 18, 3) := dk_167 0 18 (dk_at dksX5_readsDeeds_5 16 rfl rfl)
theorem dX5_readsDeeds_178 : decode cX5_readsDeeds 178 = .ok (.new 39, 3) := dk_187 0 39 (dk_at dksX5_readsDeeds_5 19 rfl rfl)
theorem dX5_readsDeeds_181 : decode cX5_readsDeeds 181 = .ok (.dup, 1) := dk_89 (dk_at dksX5_readsDeeds_5 22 rfl rfl)
theorem dX5_readsDeeds_182 : decode cX5_readsDeeds 182 = .ok (.iconst 1, 1) := dk_4 (dk_at dksX5_readsDeeds_5 23 rfl rfl)
theorem dX5_readsDeeds_183 : decode cX5_readsDeeds 183 = .ok (.aload_n 0, 1) := dk_42 (dk_at dksX5_readsDeeds_6 0 rfl rfl)
theorem dX5_readsDeeds_184 : decode cX5_readsDeeds 184 = .ok (.getfield 27, 3) := dk_180 0 27 (dk_at dksX5_readsDeeds_6 1 rfl rfl)
theorem dX5_readsDeeds_187 : decode cX5_readsDeeds 187 = .ok (.iconst 1, 1) := dk_4 (dk_at dksX5_readsDeeds_6 4 rfl rfl)
theorem dX5_readsDeeds_188 : decode cX5_readsDeeds 188 = .ok (.isub, 1) := dk_100 (dk_at dksX5_readsDeeds_6 5 rfl rfl)
theorem dX5_readsDeeds_189 : decode cX5_readsDeeds 189 = .ok (.invokespecial 41, 3) := dk_183 0 41 (dk_at dksX5_readsDeeds_6 6 rfl rfl)
theorem dX5_readsDeeds_192 : decode cX5_readsDeeds 192 = .ok (.athrow, 1) := dk_191 (dk_at dksX5_readsDeeds_6 9 rfl rfl)
theorem dX5_readsDeeds_193 : decode cX5_readsDeeds 193 = .ok (.return_, 1) := dk_177 (dk_at dksX5_readsDeeds_6 10 rfl rfl)
abbrev cX5_digits : ByteArray := prog_13_method_4_code
def yX5_digits : MethodName := ⟨RX5, "digits", "([II)V"⟩
def dkwX5_digits_0 : List UInt8 := [3, 62, 29, 28, 162, 0, 16, 43, 29, 42, 182, 0, 44, 79, 132, 3, 1, 167, 255, 241, 177]
abbrev dktX5_digits_0 : List UInt8 := dkwX5_digits_0 ++ []
theorem dksX5_digits_0 : cX5_digits.data.toList.drop 0 = dktX5_digits_0 := by decide +kernel
theorem dX5_digits_0 : decode cX5_digits 0 = .ok (.iconst 0, 1) := dk_3 (dk_at dksX5_digits_0 0 rfl rfl)
theorem dX5_digits_1 : decode cX5_digits 1 = .ok (.istore_n 3, 1) := dk_62 (dk_at dksX5_digits_0 1 rfl rfl)
theorem dX5_digits_2 : decode cX5_digits 2 = .ok (.iload_n 3, 1) := dk_29 (dk_at dksX5_digits_0 2 rfl rfl)
theorem dX5_digits_3 : decode cX5_digits 3 = .ok (.iload_n 2, 1) := dk_28 (dk_at dksX5_digits_0 3 rfl rfl)
theorem dX5_digits_4 : decode cX5_digits 4 = .ok (.if_icmp .ge 16, 3) := dk_162 0 16 (dk_at dksX5_digits_0 4 rfl rfl)
theorem dX5_digits_7 : decode cX5_digits 7 = .ok (.aload_n 1, 1) := dk_43 (dk_at dksX5_digits_0 7 rfl rfl)
theorem dX5_digits_8 : decode cX5_digits 8 = .ok (.iload_n 3, 1) := dk_29 (dk_at dksX5_digits_0 8 rfl rfl)
theorem dX5_digits_9 : decode cX5_digits 9 = .ok (.aload_n 0, 1) := dk_42 (dk_at dksX5_digits_0 9 rfl rfl)
theorem dX5_digits_10 : decode cX5_digits 10 = .ok (.invokevirtual 44, 3) := dk_182 0 44 (dk_at dksX5_digits_0 10 rfl rfl)
theorem dX5_digits_13 : decode cX5_digits 13 = .ok (.iastore, 1) := dk_79 (dk_at dksX5_digits_0 13 rfl rfl)
theorem dX5_digits_14 : decode cX5_digits 14 = .ok (.iinc 3 1, 3) := dk_132 3 1 (dk_at dksX5_digits_0 14 rfl rfl)
theorem dX5_digits_17 : decode cX5_digits 17 = .ok (.goto (-15), 3) := dk_167 255 241 (dk_at dksX5_digits_0 17 rfl rfl)
theorem dX5_digits_20 : decode cX5_digits 20 = .ok (.return_, 1) := dk_177 (dk_at dksX5_digits_0 20 rfl rfl)
abbrev cX5_digit : ByteArray := prog_13_method_3_code
def yX5_digit : MethodName := ⟨RX5, "digit", "()I"⟩
def dkwX5_digit_1 : List UInt8 := [180, 0, 27, 183, 0, 41, 191, 42, 89, 180, 0, 27, 4, 96, 181, 0, 27, 27, 172]
abbrev dktX5_digit_1 : List UInt8 := dkwX5_digit_1 ++ []
def dkwX5_digit_0 : List UInt8 := [42, 182, 0, 31, 16, 48, 100, 60, 27, 3, 16, 9, 184, 0, 35, 154, 0, 16, 187, 0, 39, 89, 4, 42]
abbrev dktX5_digit_0 : List UInt8 := dkwX5_digit_0 ++ dktX5_digit_1
theorem dksX5_digit_0 : cX5_digit.data.toList.drop 0 = dktX5_digit_0 := by decide +kernel
theorem dksX5_digit_1 : cX5_digit.data.toList.drop 24 = dktX5_digit_1 := dk_seg dksX5_digit_0 24 rfl rfl
theorem dX5_digit_0 : decode cX5_digit 0 = .ok (.aload_n 0, 1) := dk_42 (dk_at dksX5_digit_0 0 rfl rfl)
theorem dX5_digit_1 : decode cX5_digit 1 = .ok (.invokevirtual 31, 3) := dk_182 0 31 (dk_at dksX5_digit_0 1 rfl rfl)
theorem dX5_digit_4 : decode cX5_digit 4 = .ok (.bipush 48, 2) := dk_16 48 (dk_at dksX5_digit_0 4 rfl rfl)
theorem dX5_digit_6 : decode cX5_digit 6 = .ok (.isub, 1) := dk_100 (dk_at dksX5_digit_0 6 rfl rfl)
theorem dX5_digit_7 : decode cX5_digit 7 = .ok (.istore_n 1, 1) := dk_60 (dk_at dksX5_digit_0 7 rfl rfl)
theorem dX5_digit_8 : decode cX5_digit 8 = .ok (.iload_n 1, 1) := dk_27 (dk_at dksX5_digit_0 8 rfl rfl)
theorem dX5_digit_9 : decode cX5_digit 9 = .ok (.iconst 0, 1) := dk_3 (dk_at dksX5_digit_0 9 rfl rfl)
theorem dX5_digit_10 : decode cX5_digit 10 = .ok (.bipush 9, 2) := dk_16 9 (dk_at dksX5_digit_0 10 rfl rfl)
theorem dX5_digit_12 : decode cX5_digit 12 = .ok (.invokestatic 35, 3) := dk_184 0 35 (dk_at dksX5_digit_0 12 rfl rfl)
theorem dX5_digit_15 : decode cX5_digit 15 = .ok (.ifCond .ne 16, 3) := dk_154 0 16 (dk_at dksX5_digit_0 15 rfl rfl)
theorem dX5_digit_18 : decode cX5_digit 18 = .ok (.new 39, 3) := dk_187 0 39 (dk_at dksX5_digit_0 18 rfl rfl)
theorem dX5_digit_21 : decode cX5_digit 21 = .ok (.dup, 1) := dk_89 (dk_at dksX5_digit_0 21 rfl rfl)
theorem dX5_digit_22 : decode cX5_digit 22 = .ok (.iconst 1, 1) := dk_4 (dk_at dksX5_digit_0 22 rfl rfl)
theorem dX5_digit_23 : decode cX5_digit 23 = .ok (.aload_n 0, 1) := dk_42 (dk_at dksX5_digit_0 23 rfl rfl)
theorem dX5_digit_24 : decode cX5_digit 24 = .ok (.getfield 27, 3) := dk_180 0 27 (dk_at dksX5_digit_1 0 rfl rfl)
theorem dX5_digit_27 : decode cX5_digit 27 = .ok (.invokespecial 41, 3) := dk_183 0 41 (dk_at dksX5_digit_1 3 rfl rfl)
theorem dX5_digit_30 : decode cX5_digit 30 = .ok (.athrow, 1) := dk_191 (dk_at dksX5_digit_1 6 rfl rfl)
theorem dX5_digit_31 : decode cX5_digit 31 = .ok (.aload_n 0, 1) := dk_42 (dk_at dksX5_digit_1 7 rfl rfl)
theorem dX5_digit_32 : decode cX5_digit 32 = .ok (.dup, 1) := dk_89 (dk_at dksX5_digit_1 8 rfl rfl)
theorem dX5_digit_33 : decode cX5_digit 33 = .ok (.getfield 27, 3) := dk_180 0 27 (dk_at dksX5_digit_1 9 rfl rfl)
theorem dX5_digit_36 : decode cX5_digit 36 = .ok (.iconst 1, 1) := dk_4 (dk_at dksX5_digit_1 12 rfl rfl)
theorem dX5_digit_37 : decode cX5_digit 37 = .ok (.iadd, 1) := dk_96 (dk_at dksX5_digit_1 13 rfl rfl)
theorem dX5_digit_38 : decode cX5_digit 38 = .ok (.putfield 27, 3) := dk_181 0 27 (dk_at dksX5_digit_1 14 rfl rfl)
theorem dX5_digit_41 : decode cX5_digit 41 = .ok (.iload_n 1, 1) := dk_27 (dk_at dksX5_digit_1 17 rfl rfl)
theorem dX5_digit_42 : decode cX5_digit 42 = .ok (.ireturn, 1) := dk_172 (dk_at dksX5_digit_1 18 rfl rfl)
theorem q59 : (Jvm.Cond.initialized "WhoseGlass$Reader") ∈ lw_all := lw_g (lw_at lw_m1 6 rfl) rfl
theorem q101 : (Jvm.Cond.instantiable "WhoseGlass$Reader" (6 : Nat)) ∈ lw_all := lw_g (lw_at lw_m1 48 rfl) rfl
theorem q103 : (Jvm.Cond.instanceMethod ({ cls := "WhoseGlass$Reader", name := "<init>", desc := "([B)V" } : Jvm.MethodName)) ∈ lw_all := lw_g (lw_at lw_m1 50 rfl) rfl
theorem q104 : (Jvm.Cond.code ({ cls := "WhoseGlass$Reader", name := "<init>", desc := "([B)V" } : Jvm.MethodName) prog_13_method_1_code (2 : Nat) (Option.none : Option Jvm.ClassFile.FieldType)) ∈ lw_all := lw_g (lw_at lw_m1 51 rfl) rfl
theorem q105 : (Jvm.Cond.methodLink "WhoseGlass$Reader" (3 : Nat) ({ cls := "java/lang/Object", name := "<init>", desc := "()V" } : Jvm.MethodName)) ∈ lw_all := lw_g (lw_at lw_m1 52 rfl) rfl
theorem q108 : (Jvm.Cond.classLink "WhoseGlass$Reader" (18 : Nat) "[[I") ∈ lw_all := lw_g (lw_at lw_m1 55 rfl) rfl
theorem q110 : (Jvm.Cond.fieldLink "WhoseGlass$Reader" (23 : Nat) "WhoseGlass$Reader" "text" "[B") ∈ lw_all := lw_g (lw_at lw_m1 57 rfl) rfl
theorem q111 : (Jvm.Cond.fieldLink "WhoseGlass$Reader" (27 : Nat) "WhoseGlass$Reader" "at" "I") ∈ lw_all := lw_g (lw_at lw_m1 58 rfl) rfl
theorem q112 : (Jvm.Cond.fieldLink "WhoseGlass$Reader" (9 : Nat) "WhoseGlass$Reader" "letter" "[I") ∈ lw_all := lw_g (lw_at lw_m1 59 rfl) rfl
theorem q114 : (Jvm.Cond.fieldLink "WhoseGlass$Reader" (15 : Nat) "WhoseGlass$Reader" "place" "[I") ∈ lw_all := lw_g (lw_at lw_m1 61 rfl) rfl
theorem q116 : (Jvm.Cond.fieldLink "WhoseGlass$Reader" (20 : Nat) "WhoseGlass$Reader" "told" "[[I") ∈ lw_all := lw_g (lw_at lw_m1 63 rfl) rfl
theorem q118 : (Jvm.Cond.fieldLink "WhoseGlass$Reader" (51 : Nat) "WhoseGlass$Reader" "statements" "I") ∈ lw_all := lw_g (lw_at lw_m1 65 rfl) rfl
theorem q120 : (Jvm.Cond.laysFinal "WhoseGlass$Reader" "WhoseGlass$Reader" "text" "[B") ∈ lw_all := lw_g (lw_at lw_m1 67 rfl) rfl
theorem q121 : (Jvm.Cond.soleField "WhoseGlass$Reader" "text") ∈ lw_all := lw_g (lw_at lw_m1 68 rfl) rfl
theorem q122 : (Jvm.Cond.lays "WhoseGlass$Reader" "WhoseGlass$Reader" "at" "I") ∈ lw_all := lw_g (lw_at lw_m1 69 rfl) rfl
theorem q123 : (Jvm.Cond.soleField "WhoseGlass$Reader" "at") ∈ lw_all := lw_g (lw_at lw_m1 70 rfl) rfl
theorem q124 : (Jvm.Cond.laysFinal "WhoseGlass$Reader" "WhoseGlass$Reader" "letter" "[I") ∈ lw_all := lw_g (lw_at lw_m1 71 rfl) rfl
theorem q125 : (Jvm.Cond.soleField "WhoseGlass$Reader" "letter") ∈ lw_all := lw_g (lw_at lw_m1 72 rfl) rfl
theorem q126 : (Jvm.Cond.laysFinal "WhoseGlass$Reader" "WhoseGlass$Reader" "place" "[I") ∈ lw_all := lw_g (lw_at lw_m1 73 rfl) rfl
theorem q127 : (Jvm.Cond.soleField "WhoseGlass$Reader" "place") ∈ lw_all := lw_g (lw_at lw_m1 74 rfl) rfl
theorem q128 : (Jvm.Cond.laysFinal "WhoseGlass$Reader" "WhoseGlass$Reader" "told" "[[I") ∈ lw_all := lw_g (lw_at lw_m1 75 rfl) rfl
theorem q129 : (Jvm.Cond.soleField "WhoseGlass$Reader" "told") ∈ lw_all := lw_g (lw_at lw_m1 76 rfl) rfl
theorem q130 : (Jvm.Cond.lays "WhoseGlass$Reader" "WhoseGlass$Reader" "statements" "I") ∈ lw_all := lw_g (lw_at lw_m1 77 rfl) rfl
theorem q131 : (Jvm.Cond.soleField "WhoseGlass$Reader" "statements") ∈ lw_all := lw_g (lw_at lw_m1 78 rfl) rfl
theorem q132 : (Jvm.Cond.superclass "WhoseGlass$Reader" "java/lang/Object") ∈ lw_all := lw_g (lw_at lw_m1 79 rfl) rfl
theorem q135 : (Jvm.Cond.instanceMethod ({ cls := "WhoseGlass$Reader", name := "reads", desc := "()V" } : Jvm.MethodName)) ∈ lw_all := lw_g (lw_at lw_m1 82 rfl) rfl
theorem q136 : (Jvm.Cond.selects "WhoseGlass$Reader" ({ cls := "WhoseGlass$Reader", name := "reads", desc := "()V" } : Jvm.MethodName) ({ cls := "WhoseGlass$Reader", name := "reads", desc := "()V" } : Jvm.MethodName)) ∈ lw_all := lw_g (lw_at lw_m1 83 rfl) rfl
theorem q137 : (Jvm.Cond.code ({ cls := "WhoseGlass$Reader", name := "reads", desc := "()V" } : Jvm.MethodName) prog_13_method_7_code (1 : Nat) (Option.none : Option Jvm.ClassFile.FieldType)) ∈ lw_all := lw_g (lw_at lw_m1 84 rfl) rfl
theorem q138 : (Jvm.Cond.methodLink "WhoseGlass$Reader" (58 : Nat) ({ cls := "WhoseGlass$Reader", name := "statement", desc := "()V" } : Jvm.MethodName)) ∈ lw_all := lw_g (lw_at lw_m1 85 rfl) rfl
theorem q139 : (Jvm.Cond.privateMethod ({ cls := "WhoseGlass$Reader", name := "statement", desc := "()V" } : Jvm.MethodName)) ∈ lw_tbl := lw_at lw_m1 86 rfl
theorem q140 : (Jvm.Cond.instanceMethod ({ cls := "WhoseGlass$Reader", name := "statement", desc := "()V" } : Jvm.MethodName)) ∈ lw_all := lw_g (lw_at lw_m1 87 rfl) rfl
theorem q141 : (Jvm.Cond.code ({ cls := "WhoseGlass$Reader", name := "statement", desc := "()V" } : Jvm.MethodName) prog_13_method_6_code (2 : Nat) (Option.none : Option Jvm.ClassFile.FieldType)) ∈ lw_all := lw_g (lw_at lw_m1 88 rfl) rfl
theorem q142 : (Jvm.Cond.methodLink "WhoseGlass$Reader" (31 : Nat) ({ cls := "WhoseGlass$Reader", name := "sign", desc := "()I" } : Jvm.MethodName)) ∈ lw_all := lw_g (lw_at lw_m1 89 rfl) rfl
theorem q143 : (Jvm.Cond.privateMethod ({ cls := "WhoseGlass$Reader", name := "sign", desc := "()I" } : Jvm.MethodName)) ∈ lw_tbl := lw_at lw_m1 90 rfl
theorem q144 : (Jvm.Cond.instanceMethod ({ cls := "WhoseGlass$Reader", name := "sign", desc := "()I" } : Jvm.MethodName)) ∈ lw_all := lw_g (lw_at lw_m1 91 rfl) rfl
theorem q145 : (Jvm.Cond.code ({ cls := "WhoseGlass$Reader", name := "sign", desc := "()I" } : Jvm.MethodName) prog_13_method_2_code (1 : Nat) (Option.some Jvm.ClassFile.FieldType.int)) ∈ lw_all := lw_g (lw_at lw_m1 92 rfl) rfl
theorem q146 : (Jvm.Cond.methodLink "WhoseGlass$Reader" (54 : Nat) ({ cls := "WhoseGlass$Reader", name := "readsDeeds", desc := "(I[I)V" } : Jvm.MethodName)) ∈ lw_all := lw_g (lw_at lw_m1 93 rfl) rfl
theorem q147 : (Jvm.Cond.privateMethod ({ cls := "WhoseGlass$Reader", name := "readsDeeds", desc := "(I[I)V" } : Jvm.MethodName)) ∈ lw_tbl := lw_at lw_m1 94 rfl
theorem q148 : (Jvm.Cond.instanceMethod ({ cls := "WhoseGlass$Reader", name := "readsDeeds", desc := "(I[I)V" } : Jvm.MethodName)) ∈ lw_all := lw_g (lw_at lw_m1 95 rfl) rfl
theorem q149 : (Jvm.Cond.code ({ cls := "WhoseGlass$Reader", name := "readsDeeds", desc := "(I[I)V" } : Jvm.MethodName) prog_13_method_5_code (3 : Nat) (Option.none : Option Jvm.ClassFile.FieldType)) ∈ lw_all := lw_g (lw_at lw_m1 96 rfl) rfl
theorem q150 : (Jvm.Cond.methodLink "WhoseGlass$Reader" (47 : Nat) ({ cls := "WhoseGlass$Reader", name := "digits", desc := "([II)V" } : Jvm.MethodName)) ∈ lw_all := lw_g (lw_at lw_m1 97 rfl) rfl
theorem q151 : (Jvm.Cond.privateMethod ({ cls := "WhoseGlass$Reader", name := "digits", desc := "([II)V" } : Jvm.MethodName)) ∈ lw_tbl := lw_at lw_m1 98 rfl
theorem q152 : (Jvm.Cond.instanceMethod ({ cls := "WhoseGlass$Reader", name := "digits", desc := "([II)V" } : Jvm.MethodName)) ∈ lw_all := lw_g (lw_at lw_m1 99 rfl) rfl
theorem q153 : (Jvm.Cond.code ({ cls := "WhoseGlass$Reader", name := "digits", desc := "([II)V" } : Jvm.MethodName) prog_13_method_4_code (4 : Nat) (Option.none : Option Jvm.ClassFile.FieldType)) ∈ lw_all := lw_g (lw_at lw_m1 100 rfl) rfl
theorem q154 : (Jvm.Cond.methodLink "WhoseGlass$Reader" (44 : Nat) ({ cls := "WhoseGlass$Reader", name := "digit", desc := "()I" } : Jvm.MethodName)) ∈ lw_all := lw_g (lw_at lw_m1 101 rfl) rfl
theorem q155 : (Jvm.Cond.privateMethod ({ cls := "WhoseGlass$Reader", name := "digit", desc := "()I" } : Jvm.MethodName)) ∈ lw_tbl := lw_at lw_m1 102 rfl
theorem q156 : (Jvm.Cond.instanceMethod ({ cls := "WhoseGlass$Reader", name := "digit", desc := "()I" } : Jvm.MethodName)) ∈ lw_all := lw_g (lw_at lw_m1 103 rfl) rfl
theorem q157 : (Jvm.Cond.code ({ cls := "WhoseGlass$Reader", name := "digit", desc := "()I" } : Jvm.MethodName) prog_13_method_3_code (2 : Nat) (Option.some Jvm.ClassFile.FieldType.int)) ∈ lw_all := lw_g (lw_at lw_m1 104 rfl) rfl
theorem q158 : (Jvm.Cond.methodLinkNest "WhoseGlass$Reader" (35 : Nat) ({ cls := "WhoseGlass", name := "isIn", desc := "(III)Z" } : Jvm.MethodName) "WhoseGlass") ∈ lw_tbl := lw_at lw_m1 105 rfl
theorem q159 : (Jvm.Cond.classLink "WhoseGlass$Reader" (39 : Nat) "WhoseGlass$Broken") ∈ lw_all := lw_g (lw_at lw_m1 106 rfl) rfl
theorem q218 : (Jvm.Cond.methodLink "WhoseGlass$Reader" (41 : Nat) ({ cls := "WhoseGlass$Broken", name := "<init>", desc := "(II)V" } : Jvm.MethodName)) ∈ lw_all := lw_g (lw_at lw_m1 165 rfl) rfl
theorem in_X5 : ∀ w ∈ wsX50, w ∈ lw_all := lw_in wsX50 [120, 122, 124, 126, 128, 130] (by decide +kernel) (by decide +kernel)

/-! WhoseGlass$Broken -/
set_option maxRecDepth 100000
def RX6 : String := "WhoseGlass$Broken"
def TX6 : u_T := fun k => match k with
  | 0 => ("java/lang/Throwable", "cause", "Ljava/lang/Throwable;", false)
  | 1 => ("java/lang/Throwable", "stackTrace", "[Ljava/lang/StackTraceElement;", false)
  | 2 => ("java/lang/Throwable", "suppressedExceptions", "Ljava/util/List;", false)
  | 3 => ("java/lang/Throwable", "detailMessage", "Ljava/lang/String;", false)
  | 4 => ("java/lang/Throwable", "backtrace", "Ljava/lang/Object;", false)
  | 5 => ("java/lang/Throwable", "depth", "I", false)
  | 6 => ("WhoseGlass$Broken", "kind", "I", true)
  | _ => ("WhoseGlass$Broken", "place", "I", true)
def tyX6 : Nat → FieldType := fun k => match k with
  | 0 => .object "java/lang/Throwable"
  | 1 => .array (.object "java/lang/StackTraceElement")
  | 2 => .object "java/util/List"
  | 3 => .object "java/lang/String"
  | 4 => .object "java/lang/Object"
  | 5 => .int
  | 6 => .int
  | _ => .int
abbrev wsX60 : List Cond := u_ws RX6 TX6 8
theorem nmX6 : ∀ a, a < 8 → ∀ b, b < 8 → a ≠ b → (TX6 a).2.1 ≠ (TX6 b).2.1 := by decide +kernel
theorem tyX6_ok : ∀ k, k < 8 → parseFieldDescriptor (TX6 k).2.2.1 = some (tyX6 k) := by decide +kernel
abbrev cX6_init : ByteArray := prog_2_method_1_code
def yX6_init : MethodName := ⟨RX6, "<init>", "(II)V"⟩
def dkwX6_init_0 : List UInt8 := [42, 183, 0, 1, 42, 27, 181, 0, 7, 42, 28, 181, 0, 13, 177]
abbrev dktX6_init_0 : List UInt8 := dkwX6_init_0 ++ []
theorem dksX6_init_0 : cX6_init.data.toList.drop 0 = dktX6_init_0 := by decide +kernel
theorem dX6_init_0 : decode cX6_init 0 = .ok (.aload_n 0, 1) := dk_42 (dk_at dksX6_init_0 0 rfl rfl)
theorem dX6_init_1 : decode cX6_init 1 = .ok (.invokespecial 1, 3) := dk_183 0 1 (dk_at dksX6_init_0 1 rfl rfl)
theorem dX6_init_4 : decode cX6_init 4 = .ok (.aload_n 0, 1) := dk_42 (dk_at dksX6_init_0 4 rfl rfl)
theorem dX6_init_5 : decode cX6_init 5 = .ok (.iload_n 1, 1) := dk_27 (dk_at dksX6_init_0 5 rfl rfl)
theorem dX6_init_6 : decode cX6_init 6 = .ok (.putfield 7, 3) := dk_181 0 7 (dk_at dksX6_init_0 6 rfl rfl)
theorem dX6_init_9 : decode cX6_init 9 = .ok (.aload_n 0, 1) := dk_42 (dk_at dksX6_init_0 9 rfl rfl)
theorem dX6_init_10 : decode cX6_init 10 = .ok (.iload_n 2, 1) := dk_28 (dk_at dksX6_init_0 10 rfl rfl)
theorem dX6_init_11 : decode cX6_init 11 = .ok (.putfield 13, 3) := dk_181 0 13 (dk_at dksX6_init_0 11 rfl rfl)
theorem dX6_init_14 : decode cX6_init 14 = .ok (.return_, 1) := dk_177 (dk_at dksX6_init_0 14 rfl rfl)
theorem q63 : (Jvm.Cond.initialized "WhoseGlass$Broken") ∈ lw_all := lw_g (lw_at lw_m1 10 rfl) rfl
theorem q160 : (Jvm.Cond.instantiable "WhoseGlass$Broken" (8 : Nat)) ∈ lw_all := lw_g (lw_at lw_m1 107 rfl) rfl
theorem q161 : (Jvm.Cond.castable "WhoseGlass$Broken" "WhoseGlass$Broken") ∈ lw_tbl := lw_at lw_m1 108 rfl
theorem q168 : (Jvm.Cond.selects "WhoseGlass$Broken" ({ cls := "java/lang/Throwable", name := "fillInStackTrace", desc := "(I)Ljava/lang/Throwable;" } : Jvm.MethodName) ({ cls := "java/lang/Throwable", name := "fillInStackTrace", desc := "(I)Ljava/lang/Throwable;" } : Jvm.MethodName)) ∈ lw_all := lw_g (lw_at lw_m1 115 rfl) rfl
theorem q169 : (Jvm.Cond.selects "WhoseGlass$Broken" ({ cls := "java/lang/Throwable", name := "fillInStackTrace", desc := "()Ljava/lang/Throwable;" } : Jvm.MethodName) ({ cls := "java/lang/Throwable", name := "fillInStackTrace", desc := "()Ljava/lang/Throwable;" } : Jvm.MethodName)) ∈ lw_all := lw_g (lw_at lw_m1 116 rfl) rfl
theorem q170 : (Jvm.Cond.lays "WhoseGlass$Broken" "java/lang/Throwable" "cause" "Ljava/lang/Throwable;") ∈ lw_all := lw_g (lw_at lw_m1 117 rfl) rfl
theorem q172 : (Jvm.Cond.lays "WhoseGlass$Broken" "java/lang/Throwable" "stackTrace" "[Ljava/lang/StackTraceElement;") ∈ lw_all := lw_g (lw_at lw_m1 119 rfl) rfl
theorem q174 : (Jvm.Cond.lays "WhoseGlass$Broken" "java/lang/Throwable" "suppressedExceptions" "Ljava/util/List;") ∈ lw_all := lw_g (lw_at lw_m1 121 rfl) rfl
theorem q176 : (Jvm.Cond.lays "WhoseGlass$Broken" "java/lang/Throwable" "detailMessage" "Ljava/lang/String;") ∈ lw_all := lw_g (lw_at lw_m1 123 rfl) rfl
theorem q178 : (Jvm.Cond.lays "WhoseGlass$Broken" "java/lang/Throwable" "backtrace" "Ljava/lang/Object;") ∈ lw_all := lw_g (lw_at lw_m1 125 rfl) rfl
theorem q219 : (Jvm.Cond.instanceMethod ({ cls := "WhoseGlass$Broken", name := "<init>", desc := "(II)V" } : Jvm.MethodName)) ∈ lw_all := lw_g (lw_at lw_m1 166 rfl) rfl
theorem q220 : (Jvm.Cond.code ({ cls := "WhoseGlass$Broken", name := "<init>", desc := "(II)V" } : Jvm.MethodName) prog_2_method_1_code (3 : Nat) (Option.none : Option Jvm.ClassFile.FieldType)) ∈ lw_all := lw_g (lw_at lw_m1 167 rfl) rfl
theorem q221 : (Jvm.Cond.methodLink "WhoseGlass$Broken" (1 : Nat) ({ cls := "java/lang/RuntimeException", name := "<init>", desc := "()V" } : Jvm.MethodName)) ∈ lw_all := lw_g (lw_at lw_m1 168 rfl) rfl
theorem q228 : (Jvm.Cond.fieldLink "WhoseGlass$Broken" (7 : Nat) "WhoseGlass$Broken" "kind" "I") ∈ lw_all := lw_g (lw_at lw_m1 175 rfl) rfl
theorem q230 : (Jvm.Cond.fieldLink "WhoseGlass$Broken" (13 : Nat) "WhoseGlass$Broken" "place" "I") ∈ lw_all := lw_g (lw_at lw_m1 177 rfl) rfl
theorem q237 : (Jvm.Cond.laysFinal "WhoseGlass$Broken" "WhoseGlass$Broken" "kind" "I") ∈ lw_all := lw_g (lw_at lw_m1 184 rfl) rfl
theorem q238 : (Jvm.Cond.soleField "WhoseGlass$Broken" "kind") ∈ lw_all := lw_g (lw_at lw_m1 185 rfl) rfl
theorem q239 : (Jvm.Cond.laysFinal "WhoseGlass$Broken" "WhoseGlass$Broken" "place" "I") ∈ lw_all := lw_g (lw_at lw_m1 186 rfl) rfl
theorem q240 : (Jvm.Cond.soleField "WhoseGlass$Broken" "place") ∈ lw_all := lw_g (lw_at lw_m1 187 rfl) rfl
theorem q245 : (Jvm.Cond.lays "WhoseGlass$Broken" "java/lang/Throwable" "depth" "I") ∈ lw_all := lw_g (lw_at lw_m1 192 rfl) rfl
theorem q248 : (Jvm.Cond.superclass "WhoseGlass$Broken" "java/lang/RuntimeException") ∈ lw_all := lw_g (lw_at lw_m1 195 rfl) rfl
theorem in_X6 : ∀ w ∈ wsX60, w ∈ lw_all := lw_in wsX60 [170, 172, 174, 176, 178, 245, 237, 239] (by decide +kernel) (by decide +kernel)

/-! WhoseGlass$Glass -/
set_option maxRecDepth 100000
def RX7 : String := "WhoseGlass$Glass"
def TX7 : u_T := fun k => match k with
  | _ => ("WhoseGlass$Glass", "figure", "I", true)
def tyX7 : Nat → FieldType := fun k => match k with
  | _ => .int
abbrev wsX70 : List Cond := u_ws RX7 TX7 1
theorem nmX7 : ∀ a, a < 1 → ∀ b, b < 1 → a ≠ b → (TX7 a).2.1 ≠ (TX7 b).2.1 := by decide +kernel
theorem tyX7_ok : ∀ k, k < 1 → parseFieldDescriptor (TX7 k).2.2.1 = some (tyX7 k) := by decide +kernel
abbrev cX7_init : ByteArray := prog_6_method_1_code
def yX7_init : MethodName := ⟨RX7, "<init>", "(I)V"⟩
def dkwX7_init_0 : List UInt8 := [42, 183, 0, 1, 42, 27, 181, 0, 7, 177]
abbrev dktX7_init_0 : List UInt8 := dkwX7_init_0 ++ []
theorem dksX7_init_0 : cX7_init.data.toList.drop 0 = dktX7_init_0 := by decide +kernel
theorem dX7_init_0 : decode cX7_init 0 = .ok (.aload_n 0, 1) := dk_42 (dk_at dksX7_init_0 0 rfl rfl)
theorem dX7_init_1 : decode cX7_init 1 = .ok (.invokespecial 1, 3) := dk_183 0 1 (dk_at dksX7_init_0 1 rfl rfl)
theorem dX7_init_4 : decode cX7_init 4 = .ok (.aload_n 0, 1) := dk_42 (dk_at dksX7_init_0 4 rfl rfl)
theorem dX7_init_5 : decode cX7_init 5 = .ok (.iload_n 1, 1) := dk_27 (dk_at dksX7_init_0 5 rfl rfl)
theorem dX7_init_6 : decode cX7_init 6 = .ok (.putfield 7, 3) := dk_181 0 7 (dk_at dksX7_init_0 6 rfl rfl)
theorem dX7_init_9 : decode cX7_init 9 = .ok (.return_, 1) := dk_177 (dk_at dksX7_init_0 9 rfl rfl)
abbrev cX7_kind : ByteArray := prog_6_method_2_code
def yX7_kind : MethodName := ⟨RX7, "kind", "()I"⟩
theorem dX7_kind_0 : decode cX7_kind 0 = .ok (.iconst 0, 1) := by decide +kernel
theorem dX7_kind_1 : decode cX7_kind 1 = .ok (.ireturn, 1) := by decide +kernel
abbrev cX7_like : ByteArray := prog_6_method_3_code
def yX7_like : MethodName := ⟨RX7, "like", "(LWhoseGlass$Glass;ZI)I"⟩
def dkwX7_like_0 : List UInt8 := [43, 180, 0, 7, 42, 180, 0, 7, 160, 0, 7, 6, 167, 0, 4, 4, 172]
abbrev dktX7_like_0 : List UInt8 := dkwX7_like_0 ++ []
theorem dksX7_like_0 : cX7_like.data.toList.drop 0 = dktX7_like_0 := by decide +kernel
theorem dX7_like_0 : decode cX7_like 0 = .ok (.aload_n 1, 1) := dk_43 (dk_at dksX7_like_0 0 rfl rfl)
theorem dX7_like_1 : decode cX7_like 1 = .ok (.getfield 7, 3) := dk_180 0 7 (dk_at dksX7_like_0 1 rfl rfl)
theorem dX7_like_4 : decode cX7_like 4 = .ok (.aload_n 0, 1) := dk_42 (dk_at dksX7_like_0 4 rfl rfl)
theorem dX7_like_5 : decode cX7_like 5 = .ok (.getfield 7, 3) := dk_180 0 7 (dk_at dksX7_like_0 5 rfl rfl)
theorem dX7_like_8 : decode cX7_like 8 = .ok (.if_icmp .ne 7, 3) := dk_160 0 7 (dk_at dksX7_like_0 8 rfl rfl)
theorem dX7_like_11 : decode cX7_like 11 = .ok (.iconst 3, 1) := dk_6 (dk_at dksX7_like_0 11 rfl rfl)
theorem dX7_like_12 : decode cX7_like 12 = .ok (.goto 4, 3) := dk_167 0 4 (dk_at dksX7_like_0 12 rfl rfl)
theorem dX7_like_15 : decode cX7_like 15 = .ok (.iconst 1, 1) := dk_4 (dk_at dksX7_like_0 15 rfl rfl)
theorem dX7_like_16 : decode cX7_like 16 = .ok (.ireturn, 1) := dk_172 (dk_at dksX7_like_0 16 rfl rfl)
abbrev cX7_failure : ByteArray := prog_6_method_4_code
def yX7_failure : MethodName := ⟨RX7, "failure", "()LWhoseGlass$Tossed;"⟩
def dkwX7_failure_0 : List UInt8 := [42, 180, 0, 7, 154, 0, 7, 1, 167, 0, 14, 187, 0, 13, 89, 42, 180, 0, 7, 183, 0, 15, 176]
abbrev dktX7_failure_0 : List UInt8 := dkwX7_failure_0 ++ []
theorem dksX7_failure_0 : cX7_failure.data.toList.drop 0 = dktX7_failure_0 := by decide +kernel
theorem dX7_failure_0 : decode cX7_failure 0 = .ok (.aload_n 0, 1) := dk_42 (dk_at dksX7_failure_0 0 rfl rfl)
theorem dX7_failure_1 : decode cX7_failure 1 = .ok (.getfield 7, 3) := dk_180 0 7 (dk_at dksX7_failure_0 1 rfl rfl)
theorem dX7_failure_4 : decode cX7_failure 4 = .ok (.ifCond .ne 7, 3) := dk_154 0 7 (dk_at dksX7_failure_0 4 rfl rfl)
theorem dX7_failure_7 : decode cX7_failure 7 = .ok (.aconst_null, 1) := dk_1 (dk_at dksX7_failure_0 7 rfl rfl)
theorem dX7_failure_8 : decode cX7_failure 8 = .ok (.goto 14, 3) := dk_167 0 14 (dk_at dksX7_failure_0 8 rfl rfl)
theorem dX7_failure_11 : decode cX7_failure 11 = .ok (.new 13, 3) := dk_187 0 13 (dk_at dksX7_failure_0 11 rfl rfl)
theorem dX7_failure_14 : decode cX7_failure 14 = .ok (.dup, 1) := dk_89 (dk_at dksX7_failure_0 14 rfl rfl)
theorem dX7_failure_15 : decode cX7_failure 15 = .ok (.aload_n 0, 1) := dk_42 (dk_at dksX7_failure_0 15 rfl rfl)
theorem dX7_failure_16 : decode cX7_failure 16 = .ok (.getfield 7, 3) := dk_180 0 7 (dk_at dksX7_failure_0 16 rfl rfl)
theorem dX7_failure_19 : decode cX7_failure 19 = .ok (.invokespecial 15, 3) := dk_183 0 15 (dk_at dksX7_failure_0 19 rfl rfl)
theorem dX7_failure_22 : decode cX7_failure 22 = .ok (.areturn, 1) := dk_176 (dk_at dksX7_failure_0 22 rfl rfl)
theorem q64 : (Jvm.Cond.initialized "WhoseGlass$Glass") ∈ lw_all := lw_g (lw_at lw_m1 11 rfl) rfl
theorem q261 : (Jvm.Cond.instantiable "WhoseGlass$Glass" (1 : Nat)) ∈ lw_all := lw_g (lw_at lw_m1 208 rfl) rfl
theorem q263 : (Jvm.Cond.instanceMethod ({ cls := "WhoseGlass$Glass", name := "<init>", desc := "(I)V" } : Jvm.MethodName)) ∈ lw_all := lw_g (lw_at lw_m1 210 rfl) rfl
theorem q264 : (Jvm.Cond.code ({ cls := "WhoseGlass$Glass", name := "<init>", desc := "(I)V" } : Jvm.MethodName) prog_6_method_1_code (2 : Nat) (Option.none : Option Jvm.ClassFile.FieldType)) ∈ lw_all := lw_g (lw_at lw_m1 211 rfl) rfl
theorem q265 : (Jvm.Cond.methodLink "WhoseGlass$Glass" (1 : Nat) ({ cls := "java/lang/Object", name := "<init>", desc := "()V" } : Jvm.MethodName)) ∈ lw_all := lw_g (lw_at lw_m1 212 rfl) rfl
theorem q266 : (Jvm.Cond.fieldLink "WhoseGlass$Glass" (7 : Nat) "WhoseGlass$Glass" "figure" "I") ∈ lw_all := lw_g (lw_at lw_m1 213 rfl) rfl
theorem q276 : (Jvm.Cond.laysFinal "WhoseGlass$Glass" "WhoseGlass$Glass" "figure" "I") ∈ lw_all := lw_g (lw_at lw_m1 223 rfl) rfl
theorem q277 : (Jvm.Cond.soleField "WhoseGlass$Glass" "figure") ∈ lw_all := lw_g (lw_at lw_m1 224 rfl) rfl
theorem q278 : (Jvm.Cond.superclass "WhoseGlass$Glass" "java/lang/Object") ∈ lw_all := lw_g (lw_at lw_m1 225 rfl) rfl
theorem q390 : (Jvm.Cond.instanceMethod ({ cls := "WhoseGlass$Glass", name := "like", desc := "(LWhoseGlass$Glass;ZI)I" } : Jvm.MethodName)) ∈ lw_all := lw_g (lw_at lw_m2 97 rfl) rfl
theorem q391 : (Jvm.Cond.selects "WhoseGlass$Glass" ({ cls := "WhoseGlass$Glass", name := "like", desc := "(LWhoseGlass$Glass;ZI)I" } : Jvm.MethodName) ({ cls := "WhoseGlass$Glass", name := "like", desc := "(LWhoseGlass$Glass;ZI)I" } : Jvm.MethodName)) ∈ lw_all := lw_g (lw_at lw_m2 98 rfl) rfl
theorem q392 : (Jvm.Cond.sameMethod "WhoseGlass$Glass" "WhoseGlass$Glass" "like" "(LWhoseGlass$Glass;ZI)I") ∈ lw_all := lw_g (lw_at lw_m2 99 rfl) rfl
theorem q404 : (Jvm.Cond.unhidden "WhoseGlass$Glass" "isRed" "()Z") ∈ lw_tbl := lw_at lw_m2 111 rfl
theorem q421 : (Jvm.Cond.instanceMethod ({ cls := "WhoseGlass$Glass", name := "kind", desc := "()I" } : Jvm.MethodName)) ∈ lw_all := lw_g (lw_at lw_m2 128 rfl) rfl
theorem q422 : (Jvm.Cond.selects "WhoseGlass$Glass" ({ cls := "WhoseGlass$Glass", name := "kind", desc := "()I" } : Jvm.MethodName) ({ cls := "WhoseGlass$Glass", name := "kind", desc := "()I" } : Jvm.MethodName)) ∈ lw_all := lw_g (lw_at lw_m2 129 rfl) rfl
theorem q423 : (Jvm.Cond.sameMethod "WhoseGlass$Glass" "WhoseGlass$Glass" "kind" "()I") ∈ lw_all := lw_g (lw_at lw_m2 130 rfl) rfl
theorem q445 : (Jvm.Cond.code ({ cls := "WhoseGlass$Glass", name := "kind", desc := "()I" } : Jvm.MethodName) prog_6_method_2_code (1 : Nat) (Option.some Jvm.ClassFile.FieldType.int)) ∈ lw_all := lw_g (lw_at lw_m2 152 rfl) rfl
theorem q459 : (Jvm.Cond.unhidden "WhoseGlass$Glass" "isTall" "()Z") ∈ lw_tbl := lw_at lw_m2 166 rfl
theorem q477 : (Jvm.Cond.code ({ cls := "WhoseGlass$Glass", name := "like", desc := "(LWhoseGlass$Glass;ZI)I" } : Jvm.MethodName) prog_6_method_3_code (4 : Nat) (Option.some Jvm.ClassFile.FieldType.int)) ∈ lw_all := lw_g (lw_at lw_m2 184 rfl) rfl
theorem q495 : (Jvm.Cond.unhidden "WhoseGlass$Glass" "strength" "(I)I") ∈ lw_tbl := lw_at lw_m2 202 rfl
theorem q946 : (Jvm.Cond.unhidden "WhoseGlass$Glass" "cost" "()I") ∈ lw_tbl := lw_at lw_m4 173 rfl
theorem q973 : (Jvm.Cond.instanceMethod ({ cls := "WhoseGlass$Glass", name := "failure", desc := "()LWhoseGlass$Tossed;" } : Jvm.MethodName)) ∈ lw_all := lw_g (lw_at lw_m4 200 rfl) rfl
theorem q974 : (Jvm.Cond.selects "WhoseGlass$Glass" ({ cls := "WhoseGlass$Glass", name := "failure", desc := "()LWhoseGlass$Tossed;" } : Jvm.MethodName) ({ cls := "WhoseGlass$Glass", name := "failure", desc := "()LWhoseGlass$Tossed;" } : Jvm.MethodName)) ∈ lw_all := lw_g (lw_at lw_m4 201 rfl) rfl
theorem q975 : (Jvm.Cond.sameMethod "WhoseGlass$Glass" "WhoseGlass$Glass" "failure" "()LWhoseGlass$Tossed;") ∈ lw_all := lw_g (lw_at lw_m4 202 rfl) rfl
theorem q1005 : (Jvm.Cond.declares ({ cls := "WhoseGlass$Glass", name := "failure", desc := "()LWhoseGlass$Tossed;" } : Jvm.MethodName)) ∈ lw_tbl := lw_at lw_m4 232 rfl
theorem q1024 : (Jvm.Cond.code ({ cls := "WhoseGlass$Glass", name := "failure", desc := "()LWhoseGlass$Tossed;" } : Jvm.MethodName) prog_6_method_4_code (1 : Nat) (Option.some (Jvm.ClassFile.FieldType.object "WhoseGlass$Tossed"))) ∈ lw_all := lw_g (lw_at lw_m5 11 rfl) rfl
theorem q1025 : (Jvm.Cond.classLink "WhoseGlass$Glass" (13 : Nat) "WhoseGlass$Tossed") ∈ lw_all := lw_g (lw_at lw_m5 12 rfl) rfl
theorem q1026 : (Jvm.Cond.methodLink "WhoseGlass$Glass" (15 : Nat) ({ cls := "WhoseGlass$Tossed", name := "<init>", desc := "(I)V" } : Jvm.MethodName)) ∈ lw_all := lw_g (lw_at lw_m5 13 rfl) rfl
theorem in_X7 : ∀ w ∈ wsX70, w ∈ lw_all := lw_in wsX70 [276] (by decide +kernel) (by decide +kernel)

/-! WhoseGlass$Marked -/
set_option maxRecDepth 100000
def RX8 : String := "WhoseGlass$Marked"
def TX8 : u_T := fun k => match k with
  | _ => ("WhoseGlass$Glass", "figure", "I", true)
def tyX8 : Nat → FieldType := fun k => match k with
  | _ => .int
abbrev wsX80 : List Cond := u_ws RX8 TX8 1
theorem nmX8 : ∀ a, a < 1 → ∀ b, b < 1 → a ≠ b → (TX8 a).2.1 ≠ (TX8 b).2.1 := by decide +kernel
theorem tyX8_ok : ∀ k, k < 1 → parseFieldDescriptor (TX8 k).2.2.1 = some (tyX8 k) := by decide +kernel
abbrev cX8_init : ByteArray := prog_10_method_1_code
def yX8_init : MethodName := ⟨RX8, "<init>", "(I)V"⟩
def dkwX8_init_0 : List UInt8 := [42, 27, 183, 0, 1, 177]
abbrev dktX8_init_0 : List UInt8 := dkwX8_init_0 ++ []
theorem dksX8_init_0 : cX8_init.data.toList.drop 0 = dktX8_init_0 := by decide +kernel
theorem dX8_init_0 : decode cX8_init 0 = .ok (.aload_n 0, 1) := dk_42 (dk_at dksX8_init_0 0 rfl rfl)
theorem dX8_init_1 : decode cX8_init 1 = .ok (.iload_n 1, 1) := dk_27 (dk_at dksX8_init_0 1 rfl rfl)
theorem dX8_init_2 : decode cX8_init 2 = .ok (.invokespecial 1, 3) := dk_183 0 1 (dk_at dksX8_init_0 2 rfl rfl)
theorem dX8_init_5 : decode cX8_init 5 = .ok (.return_, 1) := dk_177 (dk_at dksX8_init_0 5 rfl rfl)
abbrev cX8_like : ByteArray := prog_10_method_3_code
def yX8_like : MethodName := ⟨RX8, "like", "(LWhoseGlass$Glass;ZI)I"⟩
def dkwX8_like_0 : List UInt8 := [28, 153, 0, 8, 16, 20, 167, 0, 4, 3, 172]
abbrev dktX8_like_0 : List UInt8 := dkwX8_like_0 ++ []
theorem dksX8_like_0 : cX8_like.data.toList.drop 0 = dktX8_like_0 := by decide +kernel
theorem dX8_like_0 : decode cX8_like 0 = .ok (.iload_n 2, 1) := dk_28 (dk_at dksX8_like_0 0 rfl rfl)
theorem dX8_like_1 : decode cX8_like 1 = .ok (.ifCond .eq 8, 3) := dk_153 0 8 (dk_at dksX8_like_0 1 rfl rfl)
theorem dX8_like_4 : decode cX8_like 4 = .ok (.bipush 20, 2) := dk_16 20 (dk_at dksX8_like_0 4 rfl rfl)
theorem dX8_like_6 : decode cX8_like 6 = .ok (.goto 4, 3) := dk_167 0 4 (dk_at dksX8_like_0 6 rfl rfl)
theorem dX8_like_9 : decode cX8_like 9 = .ok (.iconst 0, 1) := dk_3 (dk_at dksX8_like_0 9 rfl rfl)
theorem dX8_like_10 : decode cX8_like 10 = .ok (.ireturn, 1) := dk_172 (dk_at dksX8_like_0 10 rfl rfl)
abbrev cX8_kind : ByteArray := prog_10_method_2_code
def yX8_kind : MethodName := ⟨RX8, "kind", "()I"⟩
theorem dX8_kind_0 : decode cX8_kind 0 = .ok (.iconst 1, 1) := by decide +kernel
theorem dX8_kind_1 : decode cX8_kind 1 = .ok (.ireturn, 1) := by decide +kernel
abbrev cX8_cost : ByteArray := prog_10_method_4_code
def yX8_cost : MethodName := ⟨RX8, "cost", "()I"⟩
def dkwX8_cost_0 : List UInt8 := [42, 183, 0, 7, 42, 180, 0, 11, 96, 172]
abbrev dktX8_cost_0 : List UInt8 := dkwX8_cost_0 ++ []
theorem dksX8_cost_0 : cX8_cost.data.toList.drop 0 = dktX8_cost_0 := by decide +kernel
theorem dX8_cost_0 : decode cX8_cost 0 = .ok (.aload_n 0, 1) := dk_42 (dk_at dksX8_cost_0 0 rfl rfl)
theorem dX8_cost_1 : decode cX8_cost 1 = .ok (.invokespecial 7, 3) := dk_183 0 7 (dk_at dksX8_cost_0 1 rfl rfl)
theorem dX8_cost_4 : decode cX8_cost 4 = .ok (.aload_n 0, 1) := dk_42 (dk_at dksX8_cost_0 4 rfl rfl)
theorem dX8_cost_5 : decode cX8_cost 5 = .ok (.getfield 11, 3) := dk_180 0 11 (dk_at dksX8_cost_0 5 rfl rfl)
theorem dX8_cost_8 : decode cX8_cost 8 = .ok (.iadd, 1) := dk_96 (dk_at dksX8_cost_0 8 rfl rfl)
theorem dX8_cost_9 : decode cX8_cost 9 = .ok (.ireturn, 1) := dk_172 (dk_at dksX8_cost_0 9 rfl rfl)
theorem q65 : (Jvm.Cond.initialized "WhoseGlass$Marked") ∈ lw_all := lw_g (lw_at lw_m1 12 rfl) rfl
theorem q267 : (Jvm.Cond.fieldLink "WhoseGlass$Marked" (11 : Nat) "WhoseGlass$Marked" "figure" "I") ∈ lw_all := lw_g (lw_at lw_m1 214 rfl) rfl
theorem q268 : (Jvm.Cond.sameField "WhoseGlass$Marked" "WhoseGlass$Glass" "figure" "I") ∈ lw_all := lw_g (lw_at lw_m1 215 rfl) rfl
theorem q280 : (Jvm.Cond.instantiable "WhoseGlass$Marked" (1 : Nat)) ∈ lw_all := lw_g (lw_at lw_m1 227 rfl) rfl
theorem q282 : (Jvm.Cond.instanceMethod ({ cls := "WhoseGlass$Marked", name := "<init>", desc := "(I)V" } : Jvm.MethodName)) ∈ lw_all := lw_g (lw_at lw_m1 229 rfl) rfl
theorem q283 : (Jvm.Cond.code ({ cls := "WhoseGlass$Marked", name := "<init>", desc := "(I)V" } : Jvm.MethodName) prog_10_method_1_code (2 : Nat) (Option.none : Option Jvm.ClassFile.FieldType)) ∈ lw_all := lw_g (lw_at lw_m1 230 rfl) rfl
theorem q284 : (Jvm.Cond.methodLink "WhoseGlass$Marked" (1 : Nat) ({ cls := "WhoseGlass$Glass", name := "<init>", desc := "(I)V" } : Jvm.MethodName)) ∈ lw_all := lw_g (lw_at lw_m1 231 rfl) rfl
theorem q285 : (Jvm.Cond.laysFinal "WhoseGlass$Marked" "WhoseGlass$Glass" "figure" "I") ∈ lw_all := lw_g (lw_at lw_m1 232 rfl) rfl
theorem q286 : (Jvm.Cond.superclass "WhoseGlass$Marked" "WhoseGlass$Glass") ∈ lw_all := lw_g (lw_at lw_m1 233 rfl) rfl
theorem q405 : (Jvm.Cond.unhidden "WhoseGlass$Marked" "isRed" "()Z") ∈ lw_tbl := lw_at lw_m2 112 rfl
theorem q414 : (Jvm.Cond.selects "WhoseGlass$Marked" ({ cls := "WhoseGlass$Glass", name := "like", desc := "(LWhoseGlass$Glass;ZI)I" } : Jvm.MethodName) ({ cls := "WhoseGlass$Marked", name := "like", desc := "(LWhoseGlass$Glass;ZI)I" } : Jvm.MethodName)) ∈ lw_all := lw_g (lw_at lw_m2 121 rfl) rfl
theorem q415 : (Jvm.Cond.instanceMethod ({ cls := "WhoseGlass$Marked", name := "like", desc := "(LWhoseGlass$Glass;ZI)I" } : Jvm.MethodName)) ∈ lw_all := lw_g (lw_at lw_m2 122 rfl) rfl
theorem q416 : (Jvm.Cond.code ({ cls := "WhoseGlass$Marked", name := "like", desc := "(LWhoseGlass$Glass;ZI)I" } : Jvm.MethodName) prog_10_method_3_code (4 : Nat) (Option.some Jvm.ClassFile.FieldType.int)) ∈ lw_all := lw_g (lw_at lw_m2 123 rfl) rfl
theorem q427 : (Jvm.Cond.selects "WhoseGlass$Marked" ({ cls := "WhoseGlass$Glass", name := "kind", desc := "()I" } : Jvm.MethodName) ({ cls := "WhoseGlass$Marked", name := "kind", desc := "()I" } : Jvm.MethodName)) ∈ lw_all := lw_g (lw_at lw_m2 134 rfl) rfl
theorem q428 : (Jvm.Cond.instanceMethod ({ cls := "WhoseGlass$Marked", name := "kind", desc := "()I" } : Jvm.MethodName)) ∈ lw_all := lw_g (lw_at lw_m2 135 rfl) rfl
theorem q429 : (Jvm.Cond.code ({ cls := "WhoseGlass$Marked", name := "kind", desc := "()I" } : Jvm.MethodName) prog_10_method_2_code (1 : Nat) (Option.some Jvm.ClassFile.FieldType.int)) ∈ lw_all := lw_g (lw_at lw_m2 136 rfl) rfl
theorem q460 : (Jvm.Cond.unhidden "WhoseGlass$Marked" "isTall" "()Z") ∈ lw_tbl := lw_at lw_m2 167 rfl
theorem q496 : (Jvm.Cond.unhidden "WhoseGlass$Marked" "strength" "(I)I") ∈ lw_tbl := lw_at lw_m2 203 rfl
theorem q947 : (Jvm.Cond.selects "WhoseGlass$Marked" ({ cls := "WhoseGlass$Costs", name := "cost", desc := "()I" } : Jvm.MethodName) ({ cls := "WhoseGlass$Marked", name := "cost", desc := "()I" } : Jvm.MethodName)) ∈ lw_all := lw_g (lw_at lw_m4 174 rfl) rfl
theorem q948 : (Jvm.Cond.instanceMethod ({ cls := "WhoseGlass$Marked", name := "cost", desc := "()I" } : Jvm.MethodName)) ∈ lw_all := lw_g (lw_at lw_m4 175 rfl) rfl
theorem q949 : (Jvm.Cond.code ({ cls := "WhoseGlass$Marked", name := "cost", desc := "()I" } : Jvm.MethodName) prog_10_method_4_code (1 : Nat) (Option.some Jvm.ClassFile.FieldType.int)) ∈ lw_all := lw_g (lw_at lw_m4 176 rfl) rfl
theorem q999 : (Jvm.Cond.selects "WhoseGlass$Marked" ({ cls := "WhoseGlass$Glass", name := "failure", desc := "()LWhoseGlass$Tossed;" } : Jvm.MethodName) ({ cls := "WhoseGlass$Glass", name := "failure", desc := "()LWhoseGlass$Tossed;" } : Jvm.MethodName)) ∈ lw_all := lw_g (lw_at lw_m4 226 rfl) rfl
theorem q1004 : (Jvm.Cond.sameMethod "WhoseGlass$Marked" "WhoseGlass$Glass" "failure" "()LWhoseGlass$Tossed;") ∈ lw_all := lw_g (lw_at lw_m4 231 rfl) rfl
theorem q1566 : (Jvm.Cond.sameMethod "WhoseGlass$Marked" "WhoseGlass$Marked" "like" "(LWhoseGlass$Glass;ZI)I") ∈ lw_all := lw_g (lw_at lw_m7 73 rfl) rfl
theorem q1571 : (Jvm.Cond.sameMethod "WhoseGlass$Marked" "WhoseGlass$Marked" "cost" "()I") ∈ lw_all := lw_g (lw_at lw_m7 78 rfl) rfl
theorem q1576 : (Jvm.Cond.castable "WhoseGlass$Marked" "WhoseGlass$Glass") ∈ lw_tbl := lw_at lw_m7 83 rfl
theorem in_X8 : ∀ w ∈ wsX80, w ∈ lw_all := lw_in wsX80 [285] (by decide +kernel) (by decide +kernel)

/-! WhoseGlass$Tall -/
set_option maxRecDepth 100000
def RX9 : String := "WhoseGlass$Tall"
def TX9 : u_T := fun k => match k with
  | _ => ("WhoseGlass$Glass", "figure", "I", true)
def tyX9 : Nat → FieldType := fun k => match k with
  | _ => .int
abbrev wsX90 : List Cond := u_ws RX9 TX9 1
theorem nmX9 : ∀ a, a < 1 → ∀ b, b < 1 → a ≠ b → (TX9 a).2.1 ≠ (TX9 b).2.1 := by decide +kernel
theorem tyX9_ok : ∀ k, k < 1 → parseFieldDescriptor (TX9 k).2.2.1 = some (tyX9 k) := by decide +kernel
abbrev cX9_init : ByteArray := prog_17_method_1_code
def yX9_init : MethodName := ⟨RX9, "<init>", "(I)V"⟩
def dkwX9_init_0 : List UInt8 := [42, 27, 183, 0, 1, 177]
abbrev dktX9_init_0 : List UInt8 := dkwX9_init_0 ++ []
theorem dksX9_init_0 : cX9_init.data.toList.drop 0 = dktX9_init_0 := by decide +kernel
theorem dX9_init_0 : decode cX9_init 0 = .ok (.aload_n 0, 1) := dk_42 (dk_at dksX9_init_0 0 rfl rfl)
theorem dX9_init_1 : decode cX9_init 1 = .ok (.iload_n 1, 1) := dk_27 (dk_at dksX9_init_0 1 rfl rfl)
theorem dX9_init_2 : decode cX9_init 2 = .ok (.invokespecial 1, 3) := dk_183 0 1 (dk_at dksX9_init_0 2 rfl rfl)
theorem dX9_init_5 : decode cX9_init 5 = .ok (.return_, 1) := dk_177 (dk_at dksX9_init_0 5 rfl rfl)
abbrev cX9_kind : ByteArray := prog_17_method_2_code
def yX9_kind : MethodName := ⟨RX9, "kind", "()I"⟩
theorem dX9_kind_0 : decode cX9_kind 0 = .ok (.iconst 2, 1) := by decide +kernel
theorem dX9_kind_1 : decode cX9_kind 1 = .ok (.ireturn, 1) := by decide +kernel
abbrev cX9_like : ByteArray := prog_17_method_4_code
def yX9_like : MethodName := ⟨RX9, "like", "(LWhoseGlass$Glass;ZI)I"⟩
def dkwX9_like_0 : List UInt8 := [42, 43, 28, 29, 183, 0, 7, 43, 182, 0, 11, 153, 0, 7, 6, 167, 0, 4, 3, 96, 172]
abbrev dktX9_like_0 : List UInt8 := dkwX9_like_0 ++ []
theorem dksX9_like_0 : cX9_like.data.toList.drop 0 = dktX9_like_0 := by decide +kernel
theorem dX9_like_0 : decode cX9_like 0 = .ok (.aload_n 0, 1) := dk_42 (dk_at dksX9_like_0 0 rfl rfl)
theorem dX9_like_1 : decode cX9_like 1 = .ok (.aload_n 1, 1) := dk_43 (dk_at dksX9_like_0 1 rfl rfl)
theorem dX9_like_2 : decode cX9_like 2 = .ok (.iload_n 2, 1) := dk_28 (dk_at dksX9_like_0 2 rfl rfl)
theorem dX9_like_3 : decode cX9_like 3 = .ok (.iload_n 3, 1) := dk_29 (dk_at dksX9_like_0 3 rfl rfl)
theorem dX9_like_4 : decode cX9_like 4 = .ok (.invokespecial 7, 3) := dk_183 0 7 (dk_at dksX9_like_0 4 rfl rfl)
theorem dX9_like_7 : decode cX9_like 7 = .ok (.aload_n 1, 1) := dk_43 (dk_at dksX9_like_0 7 rfl rfl)
theorem dX9_like_8 : decode cX9_like 8 = .ok (.invokevirtual 11, 3) := dk_182 0 11 (dk_at dksX9_like_0 8 rfl rfl)
theorem dX9_like_11 : decode cX9_like 11 = .ok (.ifCond .eq 7, 3) := dk_153 0 7 (dk_at dksX9_like_0 11 rfl rfl)
theorem dX9_like_14 : decode cX9_like 14 = .ok (.iconst 3, 1) := dk_6 (dk_at dksX9_like_0 14 rfl rfl)
theorem dX9_like_15 : decode cX9_like 15 = .ok (.goto 4, 3) := dk_167 0 4 (dk_at dksX9_like_0 15 rfl rfl)
theorem dX9_like_18 : decode cX9_like 18 = .ok (.iconst 0, 1) := dk_3 (dk_at dksX9_like_0 18 rfl rfl)
theorem dX9_like_19 : decode cX9_like 19 = .ok (.iadd, 1) := dk_96 (dk_at dksX9_like_0 19 rfl rfl)
theorem dX9_like_20 : decode cX9_like 20 = .ok (.ireturn, 1) := dk_172 (dk_at dksX9_like_0 20 rfl rfl)
abbrev cX9_isTall : ByteArray := prog_17_method_3_code
def yX9_isTall : MethodName := ⟨RX9, "isTall", "()Z"⟩
theorem dX9_isTall_0 : decode cX9_isTall 0 = .ok (.iconst 1, 1) := by decide +kernel
theorem dX9_isTall_1 : decode cX9_isTall 1 = .ok (.ireturn, 1) := by decide +kernel
abbrev cX9_strength : ByteArray := prog_17_method_5_code
def yX9_strength : MethodName := ⟨RX9, "strength", "(I)I"⟩
def dkwX9_strength_0 : List UInt8 := [42, 27, 183, 0, 15, 4, 100, 172]
abbrev dktX9_strength_0 : List UInt8 := dkwX9_strength_0 ++ []
theorem dksX9_strength_0 : cX9_strength.data.toList.drop 0 = dktX9_strength_0 := by decide +kernel
theorem dX9_strength_0 : decode cX9_strength 0 = .ok (.aload_n 0, 1) := dk_42 (dk_at dksX9_strength_0 0 rfl rfl)
theorem dX9_strength_1 : decode cX9_strength 1 = .ok (.iload_n 1, 1) := dk_27 (dk_at dksX9_strength_0 1 rfl rfl)
theorem dX9_strength_2 : decode cX9_strength 2 = .ok (.invokespecial 15, 3) := dk_183 0 15 (dk_at dksX9_strength_0 2 rfl rfl)
theorem dX9_strength_5 : decode cX9_strength 5 = .ok (.iconst 1, 1) := dk_4 (dk_at dksX9_strength_0 5 rfl rfl)
theorem dX9_strength_6 : decode cX9_strength 6 = .ok (.isub, 1) := dk_100 (dk_at dksX9_strength_0 6 rfl rfl)
theorem dX9_strength_7 : decode cX9_strength 7 = .ok (.ireturn, 1) := dk_172 (dk_at dksX9_strength_0 7 rfl rfl)
abbrev cX9_cost : ByteArray := prog_17_method_6_code
def yX9_cost : MethodName := ⟨RX9, "cost", "()I"⟩
def dkwX9_cost_0 : List UInt8 := [42, 183, 0, 19, 4, 96, 172]
abbrev dktX9_cost_0 : List UInt8 := dkwX9_cost_0 ++ []
theorem dksX9_cost_0 : cX9_cost.data.toList.drop 0 = dktX9_cost_0 := by decide +kernel
theorem dX9_cost_0 : decode cX9_cost 0 = .ok (.aload_n 0, 1) := dk_42 (dk_at dksX9_cost_0 0 rfl rfl)
theorem dX9_cost_1 : decode cX9_cost 1 = .ok (.invokespecial 19, 3) := dk_183 0 19 (dk_at dksX9_cost_0 1 rfl rfl)
theorem dX9_cost_4 : decode cX9_cost 4 = .ok (.iconst 1, 1) := dk_4 (dk_at dksX9_cost_0 4 rfl rfl)
theorem dX9_cost_5 : decode cX9_cost 5 = .ok (.iadd, 1) := dk_96 (dk_at dksX9_cost_0 5 rfl rfl)
theorem dX9_cost_6 : decode cX9_cost 6 = .ok (.ireturn, 1) := dk_172 (dk_at dksX9_cost_0 6 rfl rfl)
theorem q66 : (Jvm.Cond.initialized "WhoseGlass$Tall") ∈ lw_all := lw_g (lw_at lw_m1 13 rfl) rfl
theorem q288 : (Jvm.Cond.instantiable "WhoseGlass$Tall" (1 : Nat)) ∈ lw_all := lw_g (lw_at lw_m1 235 rfl) rfl
theorem q290 : (Jvm.Cond.instanceMethod ({ cls := "WhoseGlass$Tall", name := "<init>", desc := "(I)V" } : Jvm.MethodName)) ∈ lw_all := lw_g (lw_at lw_m1 237 rfl) rfl
theorem q291 : (Jvm.Cond.code ({ cls := "WhoseGlass$Tall", name := "<init>", desc := "(I)V" } : Jvm.MethodName) prog_17_method_1_code (2 : Nat) (Option.none : Option Jvm.ClassFile.FieldType)) ∈ lw_all := lw_g (lw_at lw_m1 238 rfl) rfl
theorem q292 : (Jvm.Cond.methodLink "WhoseGlass$Tall" (1 : Nat) ({ cls := "WhoseGlass$Glass", name := "<init>", desc := "(I)V" } : Jvm.MethodName)) ∈ lw_all := lw_g (lw_at lw_m1 239 rfl) rfl
theorem q293 : (Jvm.Cond.laysFinal "WhoseGlass$Tall" "WhoseGlass$Glass" "figure" "I") ∈ lw_all := lw_g (lw_at lw_m2 0 rfl) rfl
theorem q294 : (Jvm.Cond.superclass "WhoseGlass$Tall" "WhoseGlass$Glass") ∈ lw_all := lw_g (lw_at lw_m2 1 rfl) rfl
theorem q409 : (Jvm.Cond.unhidden "WhoseGlass$Tall" "isRed" "()Z") ∈ lw_tbl := lw_at lw_m2 116 rfl
theorem q439 : (Jvm.Cond.selects "WhoseGlass$Tall" ({ cls := "WhoseGlass$Glass", name := "kind", desc := "()I" } : Jvm.MethodName) ({ cls := "WhoseGlass$Tall", name := "kind", desc := "()I" } : Jvm.MethodName)) ∈ lw_all := lw_g (lw_at lw_m2 146 rfl) rfl
theorem q440 : (Jvm.Cond.instanceMethod ({ cls := "WhoseGlass$Tall", name := "kind", desc := "()I" } : Jvm.MethodName)) ∈ lw_all := lw_g (lw_at lw_m2 147 rfl) rfl
theorem q441 : (Jvm.Cond.code ({ cls := "WhoseGlass$Tall", name := "kind", desc := "()I" } : Jvm.MethodName) prog_17_method_2_code (1 : Nat) (Option.some Jvm.ClassFile.FieldType.int)) ∈ lw_all := lw_g (lw_at lw_m2 148 rfl) rfl
theorem q453 : (Jvm.Cond.selects "WhoseGlass$Tall" ({ cls := "WhoseGlass$Glass", name := "like", desc := "(LWhoseGlass$Glass;ZI)I" } : Jvm.MethodName) ({ cls := "WhoseGlass$Tall", name := "like", desc := "(LWhoseGlass$Glass;ZI)I" } : Jvm.MethodName)) ∈ lw_all := lw_g (lw_at lw_m2 160 rfl) rfl
theorem q454 : (Jvm.Cond.instanceMethod ({ cls := "WhoseGlass$Tall", name := "like", desc := "(LWhoseGlass$Glass;ZI)I" } : Jvm.MethodName)) ∈ lw_all := lw_g (lw_at lw_m2 161 rfl) rfl
theorem q455 : (Jvm.Cond.code ({ cls := "WhoseGlass$Tall", name := "like", desc := "(LWhoseGlass$Glass;ZI)I" } : Jvm.MethodName) prog_17_method_4_code (4 : Nat) (Option.some Jvm.ClassFile.FieldType.int)) ∈ lw_all := lw_g (lw_at lw_m2 162 rfl) rfl
theorem q456 : (Jvm.Cond.methodLink "WhoseGlass$Tall" (7 : Nat) ({ cls := "WhoseGlass$Glass", name := "like", desc := "(LWhoseGlass$Glass;ZI)I" } : Jvm.MethodName)) ∈ lw_all := lw_g (lw_at lw_m2 163 rfl) rfl
theorem q464 : (Jvm.Cond.selects "WhoseGlass$Tall" ({ cls := "WhoseGlass$Looks", name := "isTall", desc := "()Z" } : Jvm.MethodName) ({ cls := "WhoseGlass$Tall", name := "isTall", desc := "()Z" } : Jvm.MethodName)) ∈ lw_all := lw_g (lw_at lw_m2 171 rfl) rfl
theorem q465 : (Jvm.Cond.instanceMethod ({ cls := "WhoseGlass$Tall", name := "isTall", desc := "()Z" } : Jvm.MethodName)) ∈ lw_all := lw_g (lw_at lw_m2 172 rfl) rfl
theorem q466 : (Jvm.Cond.code ({ cls := "WhoseGlass$Tall", name := "isTall", desc := "()Z" } : Jvm.MethodName) prog_17_method_3_code (1 : Nat) (Option.some Jvm.ClassFile.FieldType.boolean)) ∈ lw_all := lw_g (lw_at lw_m2 173 rfl) rfl
theorem q503 : (Jvm.Cond.selects "WhoseGlass$Tall" ({ cls := "WhoseGlass$Sips", name := "strength", desc := "(I)I" } : Jvm.MethodName) ({ cls := "WhoseGlass$Tall", name := "strength", desc := "(I)I" } : Jvm.MethodName)) ∈ lw_all := lw_g (lw_at lw_m2 210 rfl) rfl
theorem q504 : (Jvm.Cond.instanceMethod ({ cls := "WhoseGlass$Tall", name := "strength", desc := "(I)I" } : Jvm.MethodName)) ∈ lw_all := lw_g (lw_at lw_m2 211 rfl) rfl
theorem q505 : (Jvm.Cond.code ({ cls := "WhoseGlass$Tall", name := "strength", desc := "(I)I" } : Jvm.MethodName) prog_17_method_5_code (2 : Nat) (Option.some Jvm.ClassFile.FieldType.int)) ∈ lw_all := lw_g (lw_at lw_m2 212 rfl) rfl
theorem q959 : (Jvm.Cond.selects "WhoseGlass$Tall" ({ cls := "WhoseGlass$Costs", name := "cost", desc := "()I" } : Jvm.MethodName) ({ cls := "WhoseGlass$Tall", name := "cost", desc := "()I" } : Jvm.MethodName)) ∈ lw_all := lw_g (lw_at lw_m4 186 rfl) rfl
theorem q960 : (Jvm.Cond.instanceMethod ({ cls := "WhoseGlass$Tall", name := "cost", desc := "()I" } : Jvm.MethodName)) ∈ lw_all := lw_g (lw_at lw_m4 187 rfl) rfl
theorem q961 : (Jvm.Cond.code ({ cls := "WhoseGlass$Tall", name := "cost", desc := "()I" } : Jvm.MethodName) prog_17_method_6_code (1 : Nat) (Option.some Jvm.ClassFile.FieldType.int)) ∈ lw_all := lw_g (lw_at lw_m4 188 rfl) rfl
theorem q1020 : (Jvm.Cond.selects "WhoseGlass$Tall" ({ cls := "WhoseGlass$Glass", name := "failure", desc := "()LWhoseGlass$Tossed;" } : Jvm.MethodName) ({ cls := "WhoseGlass$Glass", name := "failure", desc := "()LWhoseGlass$Tossed;" } : Jvm.MethodName)) ∈ lw_all := lw_g (lw_at lw_m5 7 rfl) rfl
theorem q1567 : (Jvm.Cond.sameMethod "WhoseGlass$Tall" "WhoseGlass$Tall" "like" "(LWhoseGlass$Glass;ZI)I") ∈ lw_all := lw_g (lw_at lw_m7 74 rfl) rfl
theorem q1572 : (Jvm.Cond.sameMethod "WhoseGlass$Tall" "WhoseGlass$Tall" "cost" "()I") ∈ lw_all := lw_g (lw_at lw_m7 79 rfl) rfl
theorem q1580 : (Jvm.Cond.castable "WhoseGlass$Tall" "WhoseGlass$Glass") ∈ lw_tbl := lw_at lw_m7 87 rfl
theorem in_X9 : ∀ w ∈ wsX90, w ∈ lw_all := lw_in wsX90 [293] (by decide +kernel) (by decide +kernel)

theorem q58 : (Jvm.Cond.initialized "java/lang/System") ∈ lw_all := lw_g (lw_at lw_m1 5 rfl) rfl
set_option maxRecDepth 100000
theorem q98 : (Jvm.Cond.static ({ cls := "java/lang/System", name := "arraycopy", desc := "(Ljava/lang/Object;ILjava/lang/Object;II)V" } : Jvm.MethodName)) ∈ lw_all := lw_g (lw_at lw_m1 45 rfl) rfl
theorem q99 : (Jvm.Cond.native ({ cls := "java/lang/System", name := "arraycopy", desc := "(Ljava/lang/Object;ILjava/lang/Object;II)V" } : Jvm.MethodName)) ∈ lw_all := lw_g (lw_at lw_m1 46 rfl) rfl

theorem q109 : (Jvm.Cond.arrayOver (Jvm.ClassFile.FieldType.array Jvm.ClassFile.FieldType.int)) ∈ lw_tbl := lw_at lw_m1 56 rfl
set_option maxRecDepth 100000
theorem q133 : (Jvm.Cond.arrayClass Jvm.ClassFile.FieldType.int) ∈ lw_all := lw_g (lw_at lw_m1 80 rfl) rfl
theorem q710 : (Jvm.Cond.arrayOver (Jvm.ClassFile.FieldType.object "WhoseGlass$Glass")) ∈ lw_tbl := lw_at lw_m3 177 rfl
theorem q800 : (Jvm.Cond.arrayClass Jvm.ClassFile.FieldType.boolean) ∈ lw_all := lw_g (lw_at lw_m4 27 rfl) rfl
theorem q802 : (Jvm.Cond.arrayOver (Jvm.ClassFile.FieldType.object "WhoseGlass$Shelf")) ∈ lw_tbl := lw_at lw_m4 29 rfl
theorem q865 : (Jvm.Cond.arrayClass Jvm.ClassFile.FieldType.byte) ∈ lw_all := lw_g (lw_at lw_m4 92 rfl) rfl
theorem q870 : (Jvm.Cond.arrayClass Jvm.ClassFile.FieldType.short) ∈ lw_all := lw_g (lw_at lw_m4 97 rfl) rfl
theorem q1211 : (Jvm.Cond.arrayClass Jvm.ClassFile.FieldType.long) ∈ lw_all := lw_g (lw_at lw_m5 198 rfl) rfl
