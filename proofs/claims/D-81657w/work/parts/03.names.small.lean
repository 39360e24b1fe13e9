/-! java/lang/Object -/
set_option maxRecDepth 100000
def RJ13 : String := "java/lang/Object"
abbrev cJ13_init : ByteArray := object_method_1_code
def yJ13_init : MethodName := ⟨RJ13, "<init>", "()V"⟩
theorem dJ13_init_0 : decode cJ13_init 0 = .ok (.return_, 1) := by decide +kernel
theorem q107 : (Jvm.Cond.instanceMethod ({ cls := "java/lang/Object", name := "<init>", desc := "()V" } : Jvm.MethodName)) ∈ lw_all := lw_g (lw_at lw_m1 28 rfl) rfl
theorem q108 : (Jvm.Cond.code ({ cls := "java/lang/Object", name := "<init>", desc := "()V" } : Jvm.MethodName) object_method_1_code (1 : Nat) (Option.none : Option Jvm.ClassFile.FieldType)) ∈ lw_all := lw_g (lw_at lw_m1 29 rfl) rfl

/-! java/lang/Throwable -/
set_option maxRecDepth 100000
def RJ0 : String := "java/lang/Throwable"
def TJ0 : u_T := fun k => match k with
  | 0 => ("java/lang/Throwable", "cause", "Ljava/lang/Throwable;", false)
  | 1 => ("java/lang/Throwable", "stackTrace", "[Ljava/lang/StackTraceElement;", false)
  | 2 => ("java/lang/Throwable", "suppressedExceptions", "Ljava/util/List;", false)
  | 3 => ("java/lang/Throwable", "detailMessage", "Ljava/lang/String;", false)
  | _ => ("java/lang/Throwable", "backtrace", "Ljava/lang/Object;", false)
def tyJ0 : Nat → FieldType := fun k => match k with
  | 0 => .object "java/lang/Throwable"
  | 1 => .array (.object "java/lang/StackTraceElement")
  | 2 => .object "java/util/List"
  | 3 => .object "java/lang/String"
  | _ => .object "java/lang/Object"
abbrev wsJ00 : List Cond := u_ws RJ0 TJ0 5
theorem nmJ0 : ∀ a, a < 5 → ∀ b, b < 5 → a ≠ b → (TJ0 a).2.1 ≠ (TJ0 b).2.1 := by decide +kernel
theorem tyJ0_ok : ∀ k, k < 5 → parseFieldDescriptor (TJ0 k).2.2.1 = some (tyJ0 k) := by decide +kernel
abbrev cJ0_init : ByteArray := prog_22_method_2_code
def yJ0_init : MethodName := ⟨RJ0, "<init>", "(Ljava/lang/String;)V"⟩
def dkwJ0_init_1 : List UInt8 := [182, 0, 27, 87, 42, 43, 181, 0, 31, 177]
abbrev dktJ0_init_1 : List UInt8 := dkwJ0_init_1 ++ []
def dkwJ0_init_0 : List UInt8 := [42, 183, 0, 1, 42, 42, 181, 0, 7, 42, 178, 0, 13, 181, 0, 17, 42, 178, 0, 20, 181, 0, 24, 42]
abbrev dktJ0_init_0 : List UInt8 := dkwJ0_init_0 ++ dktJ0_init_1
theorem dksJ0_init_0 : cJ0_init.data.toList.drop 0 = dktJ0_init_0 := by decide +kernel
theorem dksJ0_init_1 : cJ0_init.data.toList.drop 24 = dktJ0_init_1 := dk_seg dksJ0_init_0 24 rfl rfl
theorem dJ0_init_0 : decode cJ0_init 0 = .ok (.aload_n 0, 1) := dk_42 (dk_at dksJ0_init_0 0 rfl rfl)
theorem dJ0_init_1 : decode cJ0_init 1 = .ok (.invokespecial 1, 3) := dk_183 0 1 (dk_at dksJ0_init_0 1 rfl rfl)
theorem dJ0_init_4 : decode cJ0_init 4 = .ok (.aload_n 0, 1) := dk_42 (dk_at dksJ0_init_0 4 rfl rfl)
theorem dJ0_init_5 : decode cJ0_init 5 = .ok (.aload_n 0, 1) := dk_42 (dk_at dksJ0_init_0 5 rfl rfl)
theorem dJ0_init_6 : decode cJ0_init 6 = .ok (.putfield 7, 3) := dk_181 0 7 (dk_at dksJ0_init_0 6 rfl rfl)
theorem dJ0_init_9 : decode cJ0_init 9 = .ok (.aload_n 0, 1) := dk_42 (dk_at dksJ0_init_0 9 rfl rfl)
theorem dJ0_init_10 : decode cJ0_init 10 = .ok (.getstatic 13, 3) := dk_178 0 13 (dk_at dksJ0_init_0 10 rfl rfl)
theorem dJ0_init_13 : decode cJ0_init 13 = .ok (.putfield 17, 3) := dk_181 0 17 (dk_at dksJ0_init_0 13 rfl rfl)
theorem dJ0_init_16 : decode cJ0_init 16 = .ok (.aload_n 0, 1) := dk_42 (dk_at dksJ0_init_0 16 rfl rfl)
theorem dJ0_init_17 : decode cJ0_init 17 = .ok (.getstatic 20, 3) := dk_178 0 20 (dk_at dksJ0_init_0 17 rfl rfl)
theorem dJ0_init_20 : decode cJ0_init 20 = .ok (.putfield 24, 3) := dk_181 0 24 (dk_at dksJ0_init_0 20 rfl rfl)
theorem dJ0_init_23 : decode cJ0_init 23 = .ok (.aload_n 0, 1) := dk_42 (dk_at dksJ0_init_0 23 rfl rfl)
theorem dJ0_init_24 : decode cJ0_init 24 = .ok (.invokevirtual 27, 3) := dk_182 0 27 (dk_at dksJ0_init_1 0 rfl rfl)
theorem dJ0_init_27 : decode cJ0_init 27 = .ok (.pop, 1) := dk_87 (dk_at dksJ0_init_1 3 rfl rfl)
theorem dJ0_init_28 : decode cJ0_init 28 = .ok (.aload_n 0, 1) := dk_42 (dk_at dksJ0_init_1 4 rfl rfl)
theorem dJ0_init_29 : decode cJ0_init 29 = .ok (.aload_n 1, 1) := dk_43 (dk_at dksJ0_init_1 5 rfl rfl)
theorem dJ0_init_30 : decode cJ0_init 30 = .ok (.putfield 31, 3) := dk_181 0 31 (dk_at dksJ0_init_1 6 rfl rfl)
theorem dJ0_init_33 : decode cJ0_init 33 = .ok (.return_, 1) := dk_177 (dk_at dksJ0_init_1 9 rfl rfl)
abbrev cJ0_init_2 : ByteArray := prog_22_method_1_code
def yJ0_init_2 : MethodName := ⟨RJ0, "<init>", "()V"⟩
def dkwJ0_init_2_1 : List UInt8 := [182, 0, 27, 87, 177]
abbrev dktJ0_init_2_1 : List UInt8 := dkwJ0_init_2_1 ++ []
def dkwJ0_init_2_0 : List UInt8 := [42, 183, 0, 1, 42, 42, 181, 0, 7, 42, 178, 0, 13, 181, 0, 17, 42, 178, 0, 20, 181, 0, 24, 42]
abbrev dktJ0_init_2_0 : List UInt8 := dkwJ0_init_2_0 ++ dktJ0_init_2_1
theorem dksJ0_init_2_0 : cJ0_init_2.data.toList.drop 0 = dktJ0_init_2_0 := by decide +kernel
theorem dksJ0_init_2_1 : cJ0_init_2.data.toList.drop 24 = dktJ0_init_2_1 := dk_seg dksJ0_init_2_0 24 rfl rfl
theorem dJ0_init_2_0 : decode cJ0_init_2 0 = .ok (.aload_n 0, 1) := dk_42 (dk_at dksJ0_init_2_0 0 rfl rfl)
theorem dJ0_init_2_1 : decode cJ0_init_2 1 = .ok (.invokespecial 1, 3) := dk_183 0 1 (dk_at dksJ0_init_2_0 1 rfl rfl)
theorem dJ0_init_2_4 : decode cJ0_init_2 4 = .ok (.aload_n 0, 1) := dk_42 (dk_at dksJ0_init_2_0 4 rfl rfl)
theorem dJ0_init_2_5 : decode cJ0_init_2 5 = .ok (.aload_n 0, 1) := dk_42 (dk_at dksJ0_init_2_0 5 rfl rfl)
theorem dJ0_init_2_6 : decode cJ0_init_2 6 = .ok (.putfield 7, 3) := dk_181 0 7 (dk_at dksJ0_init_2_0 6 rfl rfl)
theorem dJ0_init_2_9 : decode cJ0_init_2 9 = .ok (.aload_n 0, 1) := dk_42 (dk_at dksJ0_init_2_0 9 rfl rfl)
theorem dJ0_init_2_10 : decode cJ0_init_2 10 = .ok (.getstatic 13, 3) := dk_178 0 13 (dk_at dksJ0_init_2_0 10 rfl rfl)
theorem dJ0_init_2_13 : decode cJ0_init_2 13 = .ok (.putfield 17, 3) := dk_181 0 17 (dk_at dksJ0_init_2_0 13 rfl rfl)
theorem dJ0_init_2_16 : decode cJ0_init_2 16 = .ok (.aload_n 0, 1) := dk_42 (dk_at dksJ0_init_2_0 16 rfl rfl)
theorem dJ0_init_2_17 : decode cJ0_init_2 17 = .ok (.getstatic 20, 3) := dk_178 0 20 (dk_at dksJ0_init_2_0 17 rfl rfl)
theorem dJ0_init_2_20 : decode cJ0_init_2 20 = .ok (.putfield 24, 3) := dk_181 0 24 (dk_at dksJ0_init_2_0 20 rfl rfl)
theorem dJ0_init_2_23 : decode cJ0_init_2 23 = .ok (.aload_n 0, 1) := dk_42 (dk_at dksJ0_init_2_0 23 rfl rfl)
theorem dJ0_init_2_24 : decode cJ0_init_2 24 = .ok (.invokevirtual 27, 3) := dk_182 0 27 (dk_at dksJ0_init_2_1 0 rfl rfl)
theorem dJ0_init_2_27 : decode cJ0_init_2 27 = .ok (.pop, 1) := dk_87 (dk_at dksJ0_init_2_1 3 rfl rfl)
theorem dJ0_init_2_28 : decode cJ0_init_2 28 = .ok (.return_, 1) := dk_177 (dk_at dksJ0_init_2_1 4 rfl rfl)
theorem q82 : (Jvm.Cond.initialized "java/lang/Throwable") ∈ lw_all := lw_g (lw_at lw_m1 3 rfl) rfl
theorem q233 : (Jvm.Cond.instanceMethod ({ cls := "java/lang/Throwable", name := "<init>", desc := "(Ljava/lang/String;)V" } : Jvm.MethodName)) ∈ lw_all := lw_g (lw_at lw_m1 154 rfl) rfl
theorem q234 : (Jvm.Cond.code ({ cls := "java/lang/Throwable", name := "<init>", desc := "(Ljava/lang/String;)V" } : Jvm.MethodName) prog_22_method_2_code (2 : Nat) (Option.none : Option Jvm.ClassFile.FieldType)) ∈ lw_all := lw_g (lw_at lw_m1 155 rfl) rfl
theorem q235 : (Jvm.Cond.methodLink "java/lang/Throwable" (1 : Nat) ({ cls := "java/lang/Object", name := "<init>", desc := "()V" } : Jvm.MethodName)) ∈ lw_all := lw_g (lw_at lw_m1 156 rfl) rfl
theorem q236 : (Jvm.Cond.fieldLink "java/lang/Throwable" (13 : Nat) "java/lang/Throwable" "UNASSIGNED_STACK" "[Ljava/lang/StackTraceElement;") ∈ lw_all := lw_g (lw_at lw_m1 157 rfl) rfl
theorem q237 : (Jvm.Cond.laysStatic "java/lang/Throwable" "UNASSIGNED_STACK" "[Ljava/lang/StackTraceElement;") ∈ lw_tbl := lw_at lw_m1 158 rfl
theorem q238 : (Jvm.Cond.fieldLink "java/lang/Throwable" (20 : Nat) "java/lang/Throwable" "SUPPRESSED_SENTINEL" "Ljava/util/List;") ∈ lw_all := lw_g (lw_at lw_m1 159 rfl) rfl
theorem q239 : (Jvm.Cond.laysStatic "java/lang/Throwable" "SUPPRESSED_SENTINEL" "Ljava/util/List;") ∈ lw_tbl := lw_at lw_m1 160 rfl
theorem q240 : (Jvm.Cond.methodLink "java/lang/Throwable" (27 : Nat) ({ cls := "java/lang/Throwable", name := "fillInStackTrace", desc := "()Ljava/lang/Throwable;" } : Jvm.MethodName)) ∈ lw_all := lw_g (lw_at lw_m1 161 rfl) rfl
theorem q241 : (Jvm.Cond.instanceMethod ({ cls := "java/lang/Throwable", name := "fillInStackTrace", desc := "()Ljava/lang/Throwable;" } : Jvm.MethodName)) ∈ lw_all := lw_g (lw_at lw_m1 162 rfl) rfl
theorem q242 : (Jvm.Cond.sameMethod "java/lang/Throwable" "java/lang/Throwable" "fillInStackTrace" "()Ljava/lang/Throwable;") ∈ lw_all := lw_g (lw_at lw_m1 163 rfl) rfl
theorem q257 : (Jvm.Cond.declares ({ cls := "java/lang/Throwable", name := "fillInStackTrace", desc := "()Ljava/lang/Throwable;" } : Jvm.MethodName)) ∈ lw_tbl := lw_at lw_m1 178 rfl
theorem q261 : (Jvm.Cond.codeSync ({ cls := "java/lang/Throwable", name := "fillInStackTrace", desc := "()Ljava/lang/Throwable;" } : Jvm.MethodName) prog_22_method_18_code (1 : Nat) (Option.some (Jvm.ClassFile.FieldType.object "java/lang/Throwable"))) ∈ lw_all := lw_g (lw_at lw_m1 182 rfl) rfl
theorem q262 : (Jvm.Cond.methodLink "java/lang/Throwable" (202 : Nat) ({ cls := "java/lang/Throwable", name := "fillInStackTrace", desc := "(I)Ljava/lang/Throwable;" } : Jvm.MethodName)) ∈ lw_all := lw_g (lw_at lw_m1 183 rfl) rfl
theorem q263 : (Jvm.Cond.privateMethod ({ cls := "java/lang/Throwable", name := "fillInStackTrace", desc := "(I)Ljava/lang/Throwable;" } : Jvm.MethodName)) ∈ lw_tbl := lw_at lw_m1 184 rfl
theorem q264 : (Jvm.Cond.instanceMethod ({ cls := "java/lang/Throwable", name := "fillInStackTrace", desc := "(I)Ljava/lang/Throwable;" } : Jvm.MethodName)) ∈ lw_all := lw_g (lw_at lw_m1 185 rfl) rfl
theorem q265 : (Jvm.Cond.instantiable "java/lang/Throwable" (6 : Nat)) ∈ lw_all := lw_g (lw_at lw_m1 186 rfl) rfl
theorem q266 : (Jvm.Cond.native ({ cls := "java/lang/Throwable", name := "fillInStackTrace", desc := "(I)Ljava/lang/Throwable;" } : Jvm.MethodName)) ∈ lw_all := lw_g (lw_at lw_m1 187 rfl) rfl
theorem q267 : (Jvm.Cond.fieldLink "java/lang/Throwable" (198 : Nat) "java/lang/Throwable" "backtrace" "Ljava/lang/Object;") ∈ lw_all := lw_g (lw_at lw_m1 188 rfl) rfl
theorem q268 : (Jvm.Cond.fieldLink "java/lang/Throwable" (31 : Nat) "java/lang/Throwable" "detailMessage" "Ljava/lang/String;") ∈ lw_all := lw_g (lw_at lw_m1 189 rfl) rfl
theorem q269 : (Jvm.Cond.fieldLink "java/lang/Throwable" (7 : Nat) "java/lang/Throwable" "cause" "Ljava/lang/Throwable;") ∈ lw_all := lw_g (lw_at lw_m1 190 rfl) rfl
theorem q270 : (Jvm.Cond.fieldLink "java/lang/Throwable" (17 : Nat) "java/lang/Throwable" "stackTrace" "[Ljava/lang/StackTraceElement;") ∈ lw_all := lw_g (lw_at lw_m1 191 rfl) rfl
theorem q271 : (Jvm.Cond.fieldLink "java/lang/Throwable" (24 : Nat) "java/lang/Throwable" "suppressedExceptions" "Ljava/util/List;") ∈ lw_all := lw_g (lw_at lw_m1 192 rfl) rfl
theorem q273 : (Jvm.Cond.soleField "java/lang/Throwable" "backtrace") ∈ lw_all := lw_g (lw_at lw_m1 194 rfl) rfl
theorem q275 : (Jvm.Cond.soleField "java/lang/Throwable" "detailMessage") ∈ lw_all := lw_g (lw_at lw_m1 196 rfl) rfl
theorem q277 : (Jvm.Cond.soleField "java/lang/Throwable" "cause") ∈ lw_all := lw_g (lw_at lw_m1 198 rfl) rfl
theorem q279 : (Jvm.Cond.soleField "java/lang/Throwable" "stackTrace") ∈ lw_all := lw_g (lw_at lw_m1 200 rfl) rfl
theorem q281 : (Jvm.Cond.soleField "java/lang/Throwable" "depth") ∈ lw_all := lw_g (lw_at lw_m1 202 rfl) rfl
theorem q283 : (Jvm.Cond.soleField "java/lang/Throwable" "suppressedExceptions") ∈ lw_all := lw_g (lw_at lw_m1 204 rfl) rfl
theorem q290 : (Jvm.Cond.declares ({ cls := "java/lang/Throwable", name := "<init>", desc := "()V" } : Jvm.MethodName)) ∈ lw_tbl := lw_at lw_m1 211 rfl
theorem q291 : (Jvm.Cond.declares ({ cls := "java/lang/Throwable", name := "<init>", desc := "(Ljava/lang/String;)V" } : Jvm.MethodName)) ∈ lw_tbl := lw_at lw_m1 212 rfl
theorem q293 : (Jvm.Cond.lays "java/lang/Throwable" "java/lang/Throwable" "cause" "Ljava/lang/Throwable;") ∈ lw_all := lw_g (lw_at lw_m1 214 rfl) rfl
theorem q294 : (Jvm.Cond.lays "java/lang/Throwable" "java/lang/Throwable" "stackTrace" "[Ljava/lang/StackTraceElement;") ∈ lw_all := lw_g (lw_at lw_m1 215 rfl) rfl
theorem q295 : (Jvm.Cond.lays "java/lang/Throwable" "java/lang/Throwable" "suppressedExceptions" "Ljava/util/List;") ∈ lw_all := lw_g (lw_at lw_m1 216 rfl) rfl
theorem q296 : (Jvm.Cond.lays "java/lang/Throwable" "java/lang/Throwable" "detailMessage" "Ljava/lang/String;") ∈ lw_all := lw_g (lw_at lw_m1 217 rfl) rfl
theorem q297 : (Jvm.Cond.lays "java/lang/Throwable" "java/lang/Throwable" "backtrace" "Ljava/lang/Object;") ∈ lw_all := lw_g (lw_at lw_m1 218 rfl) rfl
theorem q298 : (Jvm.Cond.fieldLink "java/lang/Throwable" (198 : Nat) "java/lang/Throwable" "backtrace" "Ljava/lang/Object;") ∈ lw_all := lw_g (lw_at lw_m1 219 rfl) rfl
theorem q299 : (Jvm.Cond.superclass "java/lang/Throwable" "java/lang/Object") ∈ lw_all := lw_g (lw_at lw_m1 220 rfl) rfl
theorem q300 : (Jvm.Cond.instanceMethod ({ cls := "java/lang/Throwable", name := "<init>", desc := "()V" } : Jvm.MethodName)) ∈ lw_all := lw_g (lw_at lw_m1 221 rfl) rfl
theorem q301 : (Jvm.Cond.code ({ cls := "java/lang/Throwable", name := "<init>", desc := "()V" } : Jvm.MethodName) prog_22_method_1_code (1 : Nat) (Option.none : Option Jvm.ClassFile.FieldType)) ∈ lw_all := lw_g (lw_at lw_m1 222 rfl) rfl
theorem q1399 : (Jvm.Cond.sameMethod "java/lang/Throwable" "java/lang/Throwable" "fillInStackTrace" "(I)Ljava/lang/Throwable;") ∈ lw_all := lw_g (lw_at lw_m6 120 rfl) rfl
theorem in_J0 : ∀ w ∈ wsJ00, w ∈ lw_all := lw_in wsJ00 [293, 294, 295, 296, 297] (by decide +kernel) (by decide +kernel)

/-! java/lang/Exception -/
set_option maxRecDepth 100000
def RJ1 : String := "java/lang/Exception"
abbrev cJ1_init : ByteArray := prog_12_method_2_code
def yJ1_init : MethodName := ⟨RJ1, "<init>", "(Ljava/lang/String;)V"⟩
def dkwJ1_init_0 : List UInt8 := [42, 43, 183, 0, 7, 177]
abbrev dktJ1_init_0 : List UInt8 := dkwJ1_init_0 ++ []
theorem dksJ1_init_0 : cJ1_init.data.toList.drop 0 = dktJ1_init_0 := by decide +kernel
theorem dJ1_init_0 : decode cJ1_init 0 = .ok (.aload_n 0, 1) := dk_42 (dk_at dksJ1_init_0 0 rfl rfl)
theorem dJ1_init_1 : decode cJ1_init 1 = .ok (.aload_n 1, 1) := dk_43 (dk_at dksJ1_init_0 1 rfl rfl)
theorem dJ1_init_2 : decode cJ1_init 2 = .ok (.invokespecial 7, 3) := dk_183 0 7 (dk_at dksJ1_init_0 2 rfl rfl)
theorem dJ1_init_5 : decode cJ1_init 5 = .ok (.return_, 1) := dk_177 (dk_at dksJ1_init_0 5 rfl rfl)
abbrev cJ1_init_2 : ByteArray := prog_12_method_1_code
def yJ1_init_2 : MethodName := ⟨RJ1, "<init>", "()V"⟩
theorem dJ1_init_2_0 : decode cJ1_init_2 0 = .ok (.aload_n 0, 1) := by decide +kernel
theorem dJ1_init_2_1 : decode cJ1_init_2 1 = .ok (.invokespecial 1, 3) := by decide +kernel
theorem dJ1_init_2_4 : decode cJ1_init_2 4 = .ok (.return_, 1) := by decide +kernel
theorem q83 : (Jvm.Cond.initialized "java/lang/Exception") ∈ lw_all := lw_g (lw_at lw_m1 4 rfl) rfl
theorem q230 : (Jvm.Cond.instanceMethod ({ cls := "java/lang/Exception", name := "<init>", desc := "(Ljava/lang/String;)V" } : Jvm.MethodName)) ∈ lw_all := lw_g (lw_at lw_m1 151 rfl) rfl
theorem q231 : (Jvm.Cond.code ({ cls := "java/lang/Exception", name := "<init>", desc := "(Ljava/lang/String;)V" } : Jvm.MethodName) prog_12_method_2_code (2 : Nat) (Option.none : Option Jvm.ClassFile.FieldType)) ∈ lw_all := lw_g (lw_at lw_m1 152 rfl) rfl
theorem q232 : (Jvm.Cond.methodLink "java/lang/Exception" (7 : Nat) ({ cls := "java/lang/Throwable", name := "<init>", desc := "(Ljava/lang/String;)V" } : Jvm.MethodName)) ∈ lw_all := lw_g (lw_at lw_m1 153 rfl) rfl
theorem q260 : (Jvm.Cond.superclass "java/lang/Exception" "java/lang/Throwable") ∈ lw_all := lw_g (lw_at lw_m1 181 rfl) rfl
theorem q288 : (Jvm.Cond.declares ({ cls := "java/lang/Exception", name := "<init>", desc := "()V" } : Jvm.MethodName)) ∈ lw_tbl := lw_at lw_m1 209 rfl
theorem q289 : (Jvm.Cond.declares ({ cls := "java/lang/Exception", name := "<init>", desc := "(Ljava/lang/String;)V" } : Jvm.MethodName)) ∈ lw_tbl := lw_at lw_m1 210 rfl
theorem q332 : (Jvm.Cond.instanceMethod ({ cls := "java/lang/Exception", name := "<init>", desc := "()V" } : Jvm.MethodName)) ∈ lw_all := lw_g (lw_at lw_m2 13 rfl) rfl
theorem q333 : (Jvm.Cond.code ({ cls := "java/lang/Exception", name := "<init>", desc := "()V" } : Jvm.MethodName) prog_12_method_1_code (1 : Nat) (Option.none : Option Jvm.ClassFile.FieldType)) ∈ lw_all := lw_g (lw_at lw_m2 14 rfl) rfl
theorem q334 : (Jvm.Cond.methodLink "java/lang/Exception" (1 : Nat) ({ cls := "java/lang/Throwable", name := "<init>", desc := "()V" } : Jvm.MethodName)) ∈ lw_all := lw_g (lw_at lw_m2 15 rfl) rfl

/-! java/lang/RuntimeException -/
set_option maxRecDepth 100000
def RJ2 : String := "java/lang/RuntimeException"
abbrev cJ2_init : ByteArray := prog_19_method_2_code
def yJ2_init : MethodName := ⟨RJ2, "<init>", "(Ljava/lang/String;)V"⟩
def dkwJ2_init_0 : List UInt8 := [42, 43, 183, 0, 7, 177]
abbrev dktJ2_init_0 : List UInt8 := dkwJ2_init_0 ++ []
theorem dksJ2_init_0 : cJ2_init.data.toList.drop 0 = dktJ2_init_0 := by decide +kernel
theorem dJ2_init_0 : decode cJ2_init 0 = .ok (.aload_n 0, 1) := dk_42 (dk_at dksJ2_init_0 0 rfl rfl)
theorem dJ2_init_1 : decode cJ2_init 1 = .ok (.aload_n 1, 1) := dk_43 (dk_at dksJ2_init_0 1 rfl rfl)
theorem dJ2_init_2 : decode cJ2_init 2 = .ok (.invokespecial 7, 3) := dk_183 0 7 (dk_at dksJ2_init_0 2 rfl rfl)
theorem dJ2_init_5 : decode cJ2_init 5 = .ok (.return_, 1) := dk_177 (dk_at dksJ2_init_0 5 rfl rfl)
abbrev cJ2_init_2 : ByteArray := prog_19_method_1_code
def yJ2_init_2 : MethodName := ⟨RJ2, "<init>", "()V"⟩
theorem dJ2_init_2_0 : decode cJ2_init_2 0 = .ok (.aload_n 0, 1) := by decide +kernel
theorem dJ2_init_2_1 : decode cJ2_init_2 1 = .ok (.invokespecial 1, 3) := by decide +kernel
theorem dJ2_init_2_4 : decode cJ2_init_2 4 = .ok (.return_, 1) := by decide +kernel
theorem q84 : (Jvm.Cond.initialized "java/lang/RuntimeException") ∈ lw_all := lw_g (lw_at lw_m1 5 rfl) rfl
theorem q227 : (Jvm.Cond.instanceMethod ({ cls := "java/lang/RuntimeException", name := "<init>", desc := "(Ljava/lang/String;)V" } : Jvm.MethodName)) ∈ lw_all := lw_g (lw_at lw_m1 148 rfl) rfl
theorem q228 : (Jvm.Cond.code ({ cls := "java/lang/RuntimeException", name := "<init>", desc := "(Ljava/lang/String;)V" } : Jvm.MethodName) prog_19_method_2_code (2 : Nat) (Option.none : Option Jvm.ClassFile.FieldType)) ∈ lw_all := lw_g (lw_at lw_m1 149 rfl) rfl
theorem q229 : (Jvm.Cond.methodLink "java/lang/RuntimeException" (7 : Nat) ({ cls := "java/lang/Exception", name := "<init>", desc := "(Ljava/lang/String;)V" } : Jvm.MethodName)) ∈ lw_all := lw_g (lw_at lw_m1 150 rfl) rfl
theorem q256 : (Jvm.Cond.sameMethod "java/lang/RuntimeException" "java/lang/Throwable" "fillInStackTrace" "()Ljava/lang/Throwable;") ∈ lw_all := lw_g (lw_at lw_m1 177 rfl) rfl
theorem q259 : (Jvm.Cond.superclass "java/lang/RuntimeException" "java/lang/Exception") ∈ lw_all := lw_g (lw_at lw_m1 180 rfl) rfl
theorem q286 : (Jvm.Cond.declares ({ cls := "java/lang/RuntimeException", name := "<init>", desc := "()V" } : Jvm.MethodName)) ∈ lw_tbl := lw_at lw_m1 207 rfl
theorem q287 : (Jvm.Cond.declares ({ cls := "java/lang/RuntimeException", name := "<init>", desc := "(Ljava/lang/String;)V" } : Jvm.MethodName)) ∈ lw_tbl := lw_at lw_m1 208 rfl
theorem q329 : (Jvm.Cond.instanceMethod ({ cls := "java/lang/RuntimeException", name := "<init>", desc := "()V" } : Jvm.MethodName)) ∈ lw_all := lw_g (lw_at lw_m2 10 rfl) rfl
theorem q330 : (Jvm.Cond.code ({ cls := "java/lang/RuntimeException", name := "<init>", desc := "()V" } : Jvm.MethodName) prog_19_method_1_code (1 : Nat) (Option.none : Option Jvm.ClassFile.FieldType)) ∈ lw_all := lw_g (lw_at lw_m2 11 rfl) rfl
theorem q331 : (Jvm.Cond.methodLink "java/lang/RuntimeException" (1 : Nat) ({ cls := "java/lang/Exception", name := "<init>", desc := "()V" } : Jvm.MethodName)) ∈ lw_all := lw_g (lw_at lw_m2 12 rfl) rfl
theorem q349 : (Jvm.Cond.castable "java/lang/RuntimeException" "java/lang/Throwable") ∈ lw_tbl := lw_at lw_m2 30 rfl

/-! java/lang/NegativeArraySizeException -/
set_option maxRecDepth 100000
def RJ3 : String := "java/lang/NegativeArraySizeException"
def TJ3 : u_T := fun k => match k with
  | 0 => ("java/lang/Throwable", "backtrace", "Ljava/lang/Object;", false)
  | 1 => ("java/lang/Throwable", "detailMessage", "Ljava/lang/String;", false)
  | 2 => ("java/lang/Throwable", "cause", "Ljava/lang/Throwable;", false)
  | 3 => ("java/lang/Throwable", "stackTrace", "[Ljava/lang/StackTraceElement;", false)
  | 4 => ("java/lang/Throwable", "depth", "I", false)
  | _ => ("java/lang/Throwable", "suppressedExceptions", "Ljava/util/List;", false)
def tyJ3 : Nat → FieldType := fun k => match k with
  | 0 => .object "java/lang/Object"
  | 1 => .object "java/lang/String"
  | 2 => .object "java/lang/Throwable"
  | 3 => .array (.object "java/lang/StackTraceElement")
  | 4 => .int
  | _ => .object "java/util/List"
abbrev wsJ30 : List Cond := u_ws RJ3 TJ3 6
theorem nmJ3 : ∀ a, a < 6 → ∀ b, b < 6 → a ≠ b → (TJ3 a).2.1 ≠ (TJ3 b).2.1 := by decide +kernel
theorem tyJ3_ok : ∀ k, k < 6 → parseFieldDescriptor (TJ3 k).2.2.1 = some (tyJ3 k) := by decide +kernel
abbrev cJ3_init : ByteArray := prog_17_method_2_code
def yJ3_init : MethodName := ⟨RJ3, "<init>", "(Ljava/lang/String;)V"⟩
def dkwJ3_init_0 : List UInt8 := [42, 43, 183, 0, 7, 177]
abbrev dktJ3_init_0 : List UInt8 := dkwJ3_init_0 ++ []
theorem dksJ3_init_0 : cJ3_init.data.toList.drop 0 = dktJ3_init_0 := by decide +kernel
theorem dJ3_init_0 : decode cJ3_init 0 = .ok (.aload_n 0, 1) := dk_42 (dk_at dksJ3_init_0 0 rfl rfl)
theorem dJ3_init_1 : decode cJ3_init 1 = .ok (.aload_n 1, 1) := dk_43 (dk_at dksJ3_init_0 1 rfl rfl)
theorem dJ3_init_2 : decode cJ3_init 2 = .ok (.invokespecial 7, 3) := dk_183 0 7 (dk_at dksJ3_init_0 2 rfl rfl)
theorem dJ3_init_5 : decode cJ3_init 5 = .ok (.return_, 1) := dk_177 (dk_at dksJ3_init_0 5 rfl rfl)
theorem q85 : (Jvm.Cond.initialized "java/lang/NegativeArraySizeException") ∈ lw_all := lw_g (lw_at lw_m1 6 rfl) rfl
theorem q223 : (Jvm.Cond.instantiable "java/lang/NegativeArraySizeException" (6 : Nat)) ∈ lw_all := lw_g (lw_at lw_m1 144 rfl) rfl
theorem q224 : (Jvm.Cond.instanceMethod ({ cls := "java/lang/NegativeArraySizeException", name := "<init>", desc := "(Ljava/lang/String;)V" } : Jvm.MethodName)) ∈ lw_all := lw_g (lw_at lw_m1 145 rfl) rfl
theorem q225 : (Jvm.Cond.code ({ cls := "java/lang/NegativeArraySizeException", name := "<init>", desc := "(Ljava/lang/String;)V" } : Jvm.MethodName) prog_17_method_2_code (2 : Nat) (Option.none : Option Jvm.ClassFile.FieldType)) ∈ lw_all := lw_g (lw_at lw_m1 146 rfl) rfl
theorem q226 : (Jvm.Cond.methodLink "java/lang/NegativeArraySizeException" (7 : Nat) ({ cls := "java/lang/RuntimeException", name := "<init>", desc := "(Ljava/lang/String;)V" } : Jvm.MethodName)) ∈ lw_all := lw_g (lw_at lw_m1 147 rfl) rfl
theorem q246 : (Jvm.Cond.selects "java/lang/NegativeArraySizeException" ({ cls := "java/lang/Throwable", name := "fillInStackTrace", desc := "()Ljava/lang/Throwable;" } : Jvm.MethodName) ({ cls := "java/lang/Throwable", name := "fillInStackTrace", desc := "()Ljava/lang/Throwable;" } : Jvm.MethodName)) ∈ lw_all := lw_g (lw_at lw_m1 167 rfl) rfl
theorem q272 : (Jvm.Cond.lays "java/lang/NegativeArraySizeException" "java/lang/Throwable" "backtrace" "Ljava/lang/Object;") ∈ lw_all := lw_g (lw_at lw_m1 193 rfl) rfl
theorem q274 : (Jvm.Cond.lays "java/lang/NegativeArraySizeException" "java/lang/Throwable" "detailMessage" "Ljava/lang/String;") ∈ lw_all := lw_g (lw_at lw_m1 195 rfl) rfl
theorem q276 : (Jvm.Cond.lays "java/lang/NegativeArraySizeException" "java/lang/Throwable" "cause" "Ljava/lang/Throwable;") ∈ lw_all := lw_g (lw_at lw_m1 197 rfl) rfl
theorem q278 : (Jvm.Cond.lays "java/lang/NegativeArraySizeException" "java/lang/Throwable" "stackTrace" "[Ljava/lang/StackTraceElement;") ∈ lw_all := lw_g (lw_at lw_m1 199 rfl) rfl
theorem q280 : (Jvm.Cond.lays "java/lang/NegativeArraySizeException" "java/lang/Throwable" "depth" "I") ∈ lw_all := lw_g (lw_at lw_m1 201 rfl) rfl
theorem q282 : (Jvm.Cond.lays "java/lang/NegativeArraySizeException" "java/lang/Throwable" "suppressedExceptions" "Ljava/util/List;") ∈ lw_all := lw_g (lw_at lw_m1 203 rfl) rfl
theorem q284 : (Jvm.Cond.superclass "java/lang/NegativeArraySizeException" "java/lang/RuntimeException") ∈ lw_all := lw_g (lw_at lw_m1 205 rfl) rfl
theorem q285 : (Jvm.Cond.castable "java/lang/NegativeArraySizeException" "java/lang/NegativeArraySizeException") ∈ lw_tbl := lw_at lw_m1 206 rfl
theorem q292 : (Jvm.Cond.selects "java/lang/NegativeArraySizeException" ({ cls := "java/lang/Throwable", name := "fillInStackTrace", desc := "(I)Ljava/lang/Throwable;" } : Jvm.MethodName) ({ cls := "java/lang/Throwable", name := "fillInStackTrace", desc := "(I)Ljava/lang/Throwable;" } : Jvm.MethodName)) ∈ lw_all := lw_g (lw_at lw_m1 213 rfl) rfl
theorem in_J3 : ∀ w ∈ wsJ30, w ∈ lw_all := lw_in wsJ30 [272, 274, 276, 278, 280, 282] (by decide +kernel) (by decide +kernel)

/-! java/lang/String -/
set_option maxRecDepth 100000
def RJ4 : String := "java/lang/String"
def TJ4 : u_T := fun k => match k with
  | 0 => ("java/lang/String", "value", "[B", true)
  | _ => ("java/lang/String", "coder", "B", true)
def tyJ4 : Nat → FieldType := fun k => match k with
  | 0 => .array .byte
  | _ => .byte
abbrev wsJ40 : List Cond := u_ws RJ4 TJ4 2
theorem nmJ4 : ∀ a, a < 2 → ∀ b, b < 2 → a ≠ b → (TJ4 a).2.1 ≠ (TJ4 b).2.1 := by decide +kernel
theorem tyJ4_ok : ∀ k, k < 2 → parseFieldDescriptor (TJ4 k).2.2.1 = some (tyJ4 k) := by decide +kernel
theorem q86 : (Jvm.Cond.initialized "java/lang/String") ∈ lw_all := lw_g (lw_at lw_m1 7 rfl) rfl
theorem q302 : (Jvm.Cond.instantiable "java/lang/String" (4 : Nat)) ∈ lw_all := lw_g (lw_at lw_m1 223 rfl) rfl
theorem q303 : (Jvm.Cond.laysFinal "java/lang/String" "java/lang/String" "value" "[B") ∈ lw_all := lw_g (lw_at lw_m1 224 rfl) rfl
theorem q304 : (Jvm.Cond.soleField "java/lang/String" "value") ∈ lw_all := lw_g (lw_at lw_m1 225 rfl) rfl
theorem q305 : (Jvm.Cond.laysFinal "java/lang/String" "java/lang/String" "coder" "B") ∈ lw_all := lw_g (lw_at lw_m1 226 rfl) rfl
theorem q306 : (Jvm.Cond.soleField "java/lang/String" "coder") ∈ lw_all := lw_g (lw_at lw_m1 227 rfl) rfl
theorem in_J4 : ∀ w ∈ wsJ40, w ∈ lw_all := lw_in wsJ40 [303, 305] (by decide +kernel) (by decide +kernel)

/-! java/lang/NullPointerException -/
set_option maxRecDepth 100000
def RJ5 : String := "java/lang/NullPointerException"
def TJ5 : u_T := fun k => match k with
  | 0 => ("java/lang/Throwable", "backtrace", "Ljava/lang/Object;", false)
  | 1 => ("java/lang/Throwable", "detailMessage", "Ljava/lang/String;", false)
  | 2 => ("java/lang/Throwable", "cause", "Ljava/lang/Throwable;", false)
  | 3 => ("java/lang/Throwable", "stackTrace", "[Ljava/lang/StackTraceElement;", false)
  | 4 => ("java/lang/Throwable", "depth", "I", false)
  | 5 => ("java/lang/Throwable", "suppressedExceptions", "Ljava/util/List;", false)
  | 6 => ("java/lang/NullPointerException", "extendedMessageState", "I", false)
  | _ => ("java/lang/NullPointerException", "extendedMessage", "Ljava/lang/String;", false)
def tyJ5 : Nat → FieldType := fun k => match k with
  | 0 => .object "java/lang/Object"
  | 1 => .object "java/lang/String"
  | 2 => .object "java/lang/Throwable"
  | 3 => .array (.object "java/lang/StackTraceElement")
  | 4 => .int
  | 5 => .object "java/util/List"
  | 6 => .int
  | _ => .object "java/lang/String"
abbrev wsJ50 : List Cond := u_ws RJ5 TJ5 8
theorem nmJ5 : ∀ a, a < 8 → ∀ b, b < 8 → a ≠ b → (TJ5 a).2.1 ≠ (TJ5 b).2.1 := by decide +kernel
theorem tyJ5_ok : ∀ k, k < 8 → parseFieldDescriptor (TJ5 k).2.2.1 = some (tyJ5 k) := by decide +kernel
abbrev cJ5_init : ByteArray := prog_18_method_1_code
def yJ5_init : MethodName := ⟨RJ5, "<init>", "()V"⟩
theorem dJ5_init_0 : decode cJ5_init 0 = .ok (.aload_n 0, 1) := by decide +kernel
theorem dJ5_init_1 : decode cJ5_init 1 = .ok (.invokespecial 1, 3) := by decide +kernel
theorem dJ5_init_4 : decode cJ5_init 4 = .ok (.return_, 1) := by decide +kernel
theorem q87 : (Jvm.Cond.initialized "java/lang/NullPointerException") ∈ lw_all := lw_g (lw_at lw_m1 8 rfl) rfl
theorem q247 : (Jvm.Cond.selects "java/lang/NullPointerException" ({ cls := "java/lang/Throwable", name := "fillInStackTrace", desc := "()Ljava/lang/Throwable;" } : Jvm.MethodName) ({ cls := "java/lang/NullPointerException", name := "fillInStackTrace", desc := "()Ljava/lang/Throwable;" } : Jvm.MethodName)) ∈ lw_all := lw_g (lw_at lw_m1 168 rfl) rfl
theorem q248 : (Jvm.Cond.instanceMethod ({ cls := "java/lang/NullPointerException", name := "fillInStackTrace", desc := "()Ljava/lang/Throwable;" } : Jvm.MethodName)) ∈ lw_all := lw_g (lw_at lw_m1 169 rfl) rfl
theorem q249 : (Jvm.Cond.codeSync ({ cls := "java/lang/NullPointerException", name := "fillInStackTrace", desc := "()Ljava/lang/Throwable;" } : Jvm.MethodName) prog_18_method_3_code (1 : Nat) (Option.some (Jvm.ClassFile.FieldType.object "java/lang/Throwable"))) ∈ lw_all := lw_g (lw_at lw_m1 170 rfl) rfl
theorem q250 : (Jvm.Cond.methodLink "java/lang/NullPointerException" (16 : Nat) ({ cls := "java/lang/NullPointerException", name := "getExtendedNPEMessage", desc := "()Ljava/lang/String;" } : Jvm.MethodName)) ∈ lw_all := lw_g (lw_at lw_m1 171 rfl) rfl
theorem q251 : (Jvm.Cond.privateMethod ({ cls := "java/lang/NullPointerException", name := "getExtendedNPEMessage", desc := "()Ljava/lang/String;" } : Jvm.MethodName)) ∈ lw_tbl := lw_at lw_m1 172 rfl
theorem q252 : (Jvm.Cond.instanceMethod ({ cls := "java/lang/NullPointerException", name := "getExtendedNPEMessage", desc := "()Ljava/lang/String;" } : Jvm.MethodName)) ∈ lw_all := lw_g (lw_at lw_m1 173 rfl) rfl
theorem q253 : (Jvm.Cond.instantiable "java/lang/NullPointerException" (8 : Nat)) ∈ lw_all := lw_g (lw_at lw_m1 174 rfl) rfl
theorem q254 : (Jvm.Cond.native ({ cls := "java/lang/NullPointerException", name := "getExtendedNPEMessage", desc := "()Ljava/lang/String;" } : Jvm.MethodName)) ∈ lw_all := lw_g (lw_at lw_m1 175 rfl) rfl
theorem q255 : (Jvm.Cond.methodLink "java/lang/NullPointerException" (24 : Nat) ({ cls := "java/lang/RuntimeException", name := "fillInStackTrace", desc := "()Ljava/lang/Throwable;" } : Jvm.MethodName)) ∈ lw_all := lw_g (lw_at lw_m1 176 rfl) rfl
theorem q258 : (Jvm.Cond.superclass "java/lang/NullPointerException" "java/lang/RuntimeException") ∈ lw_all := lw_g (lw_at lw_m1 179 rfl) rfl
theorem q326 : (Jvm.Cond.instanceMethod ({ cls := "java/lang/NullPointerException", name := "<init>", desc := "()V" } : Jvm.MethodName)) ∈ lw_all := lw_g (lw_at lw_m2 7 rfl) rfl
theorem q327 : (Jvm.Cond.code ({ cls := "java/lang/NullPointerException", name := "<init>", desc := "()V" } : Jvm.MethodName) prog_18_method_1_code (1 : Nat) (Option.none : Option Jvm.ClassFile.FieldType)) ∈ lw_all := lw_g (lw_at lw_m2 8 rfl) rfl
theorem q328 : (Jvm.Cond.methodLink "java/lang/NullPointerException" (1 : Nat) ({ cls := "java/lang/RuntimeException", name := "<init>", desc := "()V" } : Jvm.MethodName)) ∈ lw_all := lw_g (lw_at lw_m2 9 rfl) rfl
theorem q335 : (Jvm.Cond.fieldLink "java/lang/NullPointerException" (10 : Nat) "java/lang/NullPointerException" "extendedMessageState" "I") ∈ lw_all := lw_g (lw_at lw_m2 16 rfl) rfl
theorem q336 : (Jvm.Cond.fieldLink "java/lang/NullPointerException" (20 : Nat) "java/lang/NullPointerException" "extendedMessage" "Ljava/lang/String;") ∈ lw_all := lw_g (lw_at lw_m2 17 rfl) rfl
theorem q337 : (Jvm.Cond.lays "java/lang/NullPointerException" "java/lang/NullPointerException" "extendedMessageState" "I") ∈ lw_all := lw_g (lw_at lw_m2 18 rfl) rfl
theorem q338 : (Jvm.Cond.soleField "java/lang/NullPointerException" "extendedMessageState") ∈ lw_all := lw_g (lw_at lw_m2 19 rfl) rfl
theorem q339 : (Jvm.Cond.lays "java/lang/NullPointerException" "java/lang/NullPointerException" "extendedMessage" "Ljava/lang/String;") ∈ lw_all := lw_g (lw_at lw_m2 20 rfl) rfl
theorem q340 : (Jvm.Cond.soleField "java/lang/NullPointerException" "extendedMessage") ∈ lw_all := lw_g (lw_at lw_m2 21 rfl) rfl
theorem q341 : (Jvm.Cond.lays "java/lang/NullPointerException" "java/lang/Throwable" "backtrace" "Ljava/lang/Object;") ∈ lw_all := lw_g (lw_at lw_m2 22 rfl) rfl
theorem q342 : (Jvm.Cond.lays "java/lang/NullPointerException" "java/lang/Throwable" "detailMessage" "Ljava/lang/String;") ∈ lw_all := lw_g (lw_at lw_m2 23 rfl) rfl
theorem q343 : (Jvm.Cond.lays "java/lang/NullPointerException" "java/lang/Throwable" "cause" "Ljava/lang/Throwable;") ∈ lw_all := lw_g (lw_at lw_m2 24 rfl) rfl
theorem q344 : (Jvm.Cond.lays "java/lang/NullPointerException" "java/lang/Throwable" "stackTrace" "[Ljava/lang/StackTraceElement;") ∈ lw_all := lw_g (lw_at lw_m2 25 rfl) rfl
theorem q345 : (Jvm.Cond.lays "java/lang/NullPointerException" "java/lang/Throwable" "depth" "I") ∈ lw_all := lw_g (lw_at lw_m2 26 rfl) rfl
theorem q346 : (Jvm.Cond.lays "java/lang/NullPointerException" "java/lang/Throwable" "suppressedExceptions" "Ljava/util/List;") ∈ lw_all := lw_g (lw_at lw_m2 27 rfl) rfl
theorem q347 : (Jvm.Cond.castable "java/lang/NullPointerException" "java/lang/NullPointerException") ∈ lw_tbl := lw_at lw_m2 28 rfl
theorem q348 : (Jvm.Cond.selects "java/lang/NullPointerException" ({ cls := "java/lang/Throwable", name := "fillInStackTrace", desc := "(I)Ljava/lang/Throwable;" } : Jvm.MethodName) ({ cls := "java/lang/Throwable", name := "fillInStackTrace", desc := "(I)Ljava/lang/Throwable;" } : Jvm.MethodName)) ∈ lw_all := lw_g (lw_at lw_m2 29 rfl) rfl
theorem in_J5 : ∀ w ∈ wsJ50, w ∈ lw_all := lw_in wsJ50 [341, 342, 343, 344, 345, 346, 337, 339] (by decide +kernel) (by decide +kernel)

/-! java/lang/IndexOutOfBoundsException -/
set_option maxRecDepth 100000
def RJ6 : String := "java/lang/IndexOutOfBoundsException"
abbrev cJ6_init : ByteArray := prog_13_method_2_code
def yJ6_init : MethodName := ⟨RJ6, "<init>", "(Ljava/lang/String;)V"⟩
def dkwJ6_init_0 : List UInt8 := [42, 43, 183, 0, 7, 177]
abbrev dktJ6_init_0 : List UInt8 := dkwJ6_init_0 ++ []
theorem dksJ6_init_0 : cJ6_init.data.toList.drop 0 = dktJ6_init_0 := by decide +kernel
theorem dJ6_init_0 : decode cJ6_init 0 = .ok (.aload_n 0, 1) := dk_42 (dk_at dksJ6_init_0 0 rfl rfl)
theorem dJ6_init_1 : decode cJ6_init 1 = .ok (.aload_n 1, 1) := dk_43 (dk_at dksJ6_init_0 1 rfl rfl)
theorem dJ6_init_2 : decode cJ6_init 2 = .ok (.invokespecial 7, 3) := dk_183 0 7 (dk_at dksJ6_init_0 2 rfl rfl)
theorem dJ6_init_5 : decode cJ6_init 5 = .ok (.return_, 1) := dk_177 (dk_at dksJ6_init_0 5 rfl rfl)
theorem q88 : (Jvm.Cond.initialized "java/lang/IndexOutOfBoundsException") ∈ lw_all := lw_g (lw_at lw_m1 9 rfl) rfl
theorem q355 : (Jvm.Cond.instanceMethod ({ cls := "java/lang/IndexOutOfBoundsException", name := "<init>", desc := "(Ljava/lang/String;)V" } : Jvm.MethodName)) ∈ lw_all := lw_g (lw_at lw_m2 36 rfl) rfl
theorem q356 : (Jvm.Cond.code ({ cls := "java/lang/IndexOutOfBoundsException", name := "<init>", desc := "(Ljava/lang/String;)V" } : Jvm.MethodName) prog_13_method_2_code (2 : Nat) (Option.none : Option Jvm.ClassFile.FieldType)) ∈ lw_all := lw_g (lw_at lw_m2 37 rfl) rfl
theorem q357 : (Jvm.Cond.methodLink "java/lang/IndexOutOfBoundsException" (7 : Nat) ({ cls := "java/lang/RuntimeException", name := "<init>", desc := "(Ljava/lang/String;)V" } : Jvm.MethodName)) ∈ lw_all := lw_g (lw_at lw_m2 38 rfl) rfl
theorem q366 : (Jvm.Cond.declares ({ cls := "java/lang/IndexOutOfBoundsException", name := "<init>", desc := "()V" } : Jvm.MethodName)) ∈ lw_tbl := lw_at lw_m2 47 rfl
theorem q367 : (Jvm.Cond.declares ({ cls := "java/lang/IndexOutOfBoundsException", name := "<init>", desc := "(Ljava/lang/String;)V" } : Jvm.MethodName)) ∈ lw_tbl := lw_at lw_m2 48 rfl

/-! java/lang/ArrayIndexOutOfBoundsException -/
set_option maxRecDepth 100000
def RJ7 : String := "java/lang/ArrayIndexOutOfBoundsException"
def TJ7 : u_T := fun k => match k with
  | 0 => ("java/lang/Throwable", "backtrace", "Ljava/lang/Object;", false)
  | 1 => ("java/lang/Throwable", "detailMessage", "Ljava/lang/String;", false)
  | 2 => ("java/lang/Throwable", "cause", "Ljava/lang/Throwable;", false)
  | 3 => ("java/lang/Throwable", "stackTrace", "[Ljava/lang/StackTraceElement;", false)
  | 4 => ("java/lang/Throwable", "depth", "I", false)
  | _ => ("java/lang/Throwable", "suppressedExceptions", "Ljava/util/List;", false)
def tyJ7 : Nat → FieldType := fun k => match k with
  | 0 => .object "java/lang/Object"
  | 1 => .object "java/lang/String"
  | 2 => .object "java/lang/Throwable"
  | 3 => .array (.object "java/lang/StackTraceElement")
  | 4 => .int
  | _ => .object "java/util/List"
abbrev wsJ70 : List Cond := u_ws RJ7 TJ7 6
theorem nmJ7 : ∀ a, a < 6 → ∀ b, b < 6 → a ≠ b → (TJ7 a).2.1 ≠ (TJ7 b).2.1 := by decide +kernel
theorem tyJ7_ok : ∀ k, k < 6 → parseFieldDescriptor (TJ7 k).2.2.1 = some (tyJ7 k) := by decide +kernel
abbrev cJ7_init : ByteArray := prog_10_method_2_code
def yJ7_init : MethodName := ⟨RJ7, "<init>", "(Ljava/lang/String;)V"⟩
def dkwJ7_init_0 : List UInt8 := [42, 43, 183, 0, 7, 177]
abbrev dktJ7_init_0 : List UInt8 := dkwJ7_init_0 ++ []
theorem dksJ7_init_0 : cJ7_init.data.toList.drop 0 = dktJ7_init_0 := by decide +kernel
theorem dJ7_init_0 : decode cJ7_init 0 = .ok (.aload_n 0, 1) := dk_42 (dk_at dksJ7_init_0 0 rfl rfl)
theorem dJ7_init_1 : decode cJ7_init 1 = .ok (.aload_n 1, 1) := dk_43 (dk_at dksJ7_init_0 1 rfl rfl)
theorem dJ7_init_2 : decode cJ7_init 2 = .ok (.invokespecial 7, 3) := dk_183 0 7 (dk_at dksJ7_init_0 2 rfl rfl)
theorem dJ7_init_5 : decode cJ7_init 5 = .ok (.return_, 1) := dk_177 (dk_at dksJ7_init_0 5 rfl rfl)
theorem q89 : (Jvm.Cond.initialized "java/lang/ArrayIndexOutOfBoundsException") ∈ lw_all := lw_g (lw_at lw_m1 10 rfl) rfl
theorem q244 : (Jvm.Cond.selects "java/lang/ArrayIndexOutOfBoundsException" ({ cls := "java/lang/Throwable", name := "fillInStackTrace", desc := "()Ljava/lang/Throwable;" } : Jvm.MethodName) ({ cls := "java/lang/Throwable", name := "fillInStackTrace", desc := "()Ljava/lang/Throwable;" } : Jvm.MethodName)) ∈ lw_all := lw_g (lw_at lw_m1 165 rfl) rfl
theorem q351 : (Jvm.Cond.instantiable "java/lang/ArrayIndexOutOfBoundsException" (6 : Nat)) ∈ lw_all := lw_g (lw_at lw_m2 32 rfl) rfl
theorem q352 : (Jvm.Cond.instanceMethod ({ cls := "java/lang/ArrayIndexOutOfBoundsException", name := "<init>", desc := "(Ljava/lang/String;)V" } : Jvm.MethodName)) ∈ lw_all := lw_g (lw_at lw_m2 33 rfl) rfl
theorem q353 : (Jvm.Cond.code ({ cls := "java/lang/ArrayIndexOutOfBoundsException", name := "<init>", desc := "(Ljava/lang/String;)V" } : Jvm.MethodName) prog_10_method_2_code (2 : Nat) (Option.none : Option Jvm.ClassFile.FieldType)) ∈ lw_all := lw_g (lw_at lw_m2 34 rfl) rfl
theorem q354 : (Jvm.Cond.methodLink "java/lang/ArrayIndexOutOfBoundsException" (7 : Nat) ({ cls := "java/lang/IndexOutOfBoundsException", name := "<init>", desc := "(Ljava/lang/String;)V" } : Jvm.MethodName)) ∈ lw_all := lw_g (lw_at lw_m2 35 rfl) rfl
theorem q358 : (Jvm.Cond.lays "java/lang/ArrayIndexOutOfBoundsException" "java/lang/Throwable" "backtrace" "Ljava/lang/Object;") ∈ lw_all := lw_g (lw_at lw_m2 39 rfl) rfl
theorem q359 : (Jvm.Cond.lays "java/lang/ArrayIndexOutOfBoundsException" "java/lang/Throwable" "detailMessage" "Ljava/lang/String;") ∈ lw_all := lw_g (lw_at lw_m2 40 rfl) rfl
theorem q360 : (Jvm.Cond.lays "java/lang/ArrayIndexOutOfBoundsException" "java/lang/Throwable" "cause" "Ljava/lang/Throwable;") ∈ lw_all := lw_g (lw_at lw_m2 41 rfl) rfl
theorem q361 : (Jvm.Cond.lays "java/lang/ArrayIndexOutOfBoundsException" "java/lang/Throwable" "stackTrace" "[Ljava/lang/StackTraceElement;") ∈ lw_all := lw_g (lw_at lw_m2 42 rfl) rfl
theorem q362 : (Jvm.Cond.lays "java/lang/ArrayIndexOutOfBoundsException" "java/lang/Throwable" "depth" "I") ∈ lw_all := lw_g (lw_at lw_m2 43 rfl) rfl
theorem q363 : (Jvm.Cond.lays "java/lang/ArrayIndexOutOfBoundsException" "java/lang/Throwable" "suppressedExceptions" "Ljava/util/List;") ∈ lw_all := lw_g (lw_at lw_m2 44 rfl) rfl
theorem q364 : (Jvm.Cond.superclass "java/lang/ArrayIndexOutOfBoundsException" "java/lang/IndexOutOfBoundsException") ∈ lw_all := lw_g (lw_at lw_m2 45 rfl) rfl
theorem q365 : (Jvm.Cond.castable "java/lang/ArrayIndexOutOfBoundsException" "java/lang/ArrayIndexOutOfBoundsException") ∈ lw_tbl := lw_at lw_m2 46 rfl
theorem q368 : (Jvm.Cond.selects "java/lang/ArrayIndexOutOfBoundsException" ({ cls := "java/lang/Throwable", name := "fillInStackTrace", desc := "(I)Ljava/lang/Throwable;" } : Jvm.MethodName) ({ cls := "java/lang/Throwable", name := "fillInStackTrace", desc := "(I)Ljava/lang/Throwable;" } : Jvm.MethodName)) ∈ lw_all := lw_g (lw_at lw_m2 49 rfl) rfl
theorem q1401 : (Jvm.Cond.castable "java/lang/ArrayIndexOutOfBoundsException" "java/lang/IndexOutOfBoundsException") ∈ lw_tbl := lw_at lw_m6 122 rfl
theorem in_J7 : ∀ w ∈ wsJ70, w ∈ lw_all := lw_in wsJ70 [358, 359, 360, 361, 362, 363] (by decide +kernel) (by decide +kernel)

/-! java/lang/ArithmeticException -/
set_option maxRecDepth 100000
def RJ8 : String := "java/lang/ArithmeticException"
def TJ8 : u_T := fun k => match k with
  | 0 => ("java/lang/Throwable", "backtrace", "Ljava/lang/Object;", false)
  | 1 => ("java/lang/Throwable", "detailMessage", "Ljava/lang/String;", false)
  | 2 => ("java/lang/Throwable", "cause", "Ljava/lang/Throwable;", false)
  | 3 => ("java/lang/Throwable", "stackTrace", "[Ljava/lang/StackTraceElement;", false)
  | 4 => ("java/lang/Throwable", "depth", "I", false)
  | _ => ("java/lang/Throwable", "suppressedExceptions", "Ljava/util/List;", false)
def tyJ8 : Nat → FieldType := fun k => match k with
  | 0 => .object "java/lang/Object"
  | 1 => .object "java/lang/String"
  | 2 => .object "java/lang/Throwable"
  | 3 => .array (.object "java/lang/StackTraceElement")
  | 4 => .int
  | _ => .object "java/util/List"
abbrev wsJ80 : List Cond := u_ws RJ8 TJ8 6
theorem nmJ8 : ∀ a, a < 6 → ∀ b, b < 6 → a ≠ b → (TJ8 a).2.1 ≠ (TJ8 b).2.1 := by decide +kernel
theorem tyJ8_ok : ∀ k, k < 6 → parseFieldDescriptor (TJ8 k).2.2.1 = some (tyJ8 k) := by decide +kernel
abbrev cJ8_init : ByteArray := prog_9_method_2_code
def yJ8_init : MethodName := ⟨RJ8, "<init>", "(Ljava/lang/String;)V"⟩
def dkwJ8_init_0 : List UInt8 := [42, 43, 183, 0, 7, 177]
abbrev dktJ8_init_0 : List UInt8 := dkwJ8_init_0 ++ []
theorem dksJ8_init_0 : cJ8_init.data.toList.drop 0 = dktJ8_init_0 := by decide +kernel
theorem dJ8_init_0 : decode cJ8_init 0 = .ok (.aload_n 0, 1) := dk_42 (dk_at dksJ8_init_0 0 rfl rfl)
theorem dJ8_init_1 : decode cJ8_init 1 = .ok (.aload_n 1, 1) := dk_43 (dk_at dksJ8_init_0 1 rfl rfl)
theorem dJ8_init_2 : decode cJ8_init 2 = .ok (.invokespecial 7, 3) := dk_183 0 7 (dk_at dksJ8_init_0 2 rfl rfl)
theorem dJ8_init_5 : decode cJ8_init 5 = .ok (.return_, 1) := dk_177 (dk_at dksJ8_init_0 5 rfl rfl)
theorem q91 : (Jvm.Cond.initialized "java/lang/ArithmeticException") ∈ lw_all := lw_g (lw_at lw_m1 12 rfl) rfl
theorem q243 : (Jvm.Cond.selects "java/lang/ArithmeticException" ({ cls := "java/lang/Throwable", name := "fillInStackTrace", desc := "()Ljava/lang/Throwable;" } : Jvm.MethodName) ({ cls := "java/lang/Throwable", name := "fillInStackTrace", desc := "()Ljava/lang/Throwable;" } : Jvm.MethodName)) ∈ lw_all := lw_g (lw_at lw_m1 164 rfl) rfl
theorem q391 : (Jvm.Cond.instantiable "java/lang/ArithmeticException" (6 : Nat)) ∈ lw_all := lw_g (lw_at lw_m2 72 rfl) rfl
theorem q392 : (Jvm.Cond.instanceMethod ({ cls := "java/lang/ArithmeticException", name := "<init>", desc := "(Ljava/lang/String;)V" } : Jvm.MethodName)) ∈ lw_all := lw_g (lw_at lw_m2 73 rfl) rfl
theorem q393 : (Jvm.Cond.code ({ cls := "java/lang/ArithmeticException", name := "<init>", desc := "(Ljava/lang/String;)V" } : Jvm.MethodName) prog_9_method_2_code (2 : Nat) (Option.none : Option Jvm.ClassFile.FieldType)) ∈ lw_all := lw_g (lw_at lw_m2 74 rfl) rfl
theorem q394 : (Jvm.Cond.methodLink "java/lang/ArithmeticException" (7 : Nat) ({ cls := "java/lang/RuntimeException", name := "<init>", desc := "(Ljava/lang/String;)V" } : Jvm.MethodName)) ∈ lw_all := lw_g (lw_at lw_m2 75 rfl) rfl
theorem q395 : (Jvm.Cond.lays "java/lang/ArithmeticException" "java/lang/Throwable" "backtrace" "Ljava/lang/Object;") ∈ lw_all := lw_g (lw_at lw_m2 76 rfl) rfl
theorem q396 : (Jvm.Cond.lays "java/lang/ArithmeticException" "java/lang/Throwable" "detailMessage" "Ljava/lang/String;") ∈ lw_all := lw_g (lw_at lw_m2 77 rfl) rfl
theorem q397 : (Jvm.Cond.lays "java/lang/ArithmeticException" "java/lang/Throwable" "cause" "Ljava/lang/Throwable;") ∈ lw_all := lw_g (lw_at lw_m2 78 rfl) rfl
theorem q398 : (Jvm.Cond.lays "java/lang/ArithmeticException" "java/lang/Throwable" "stackTrace" "[Ljava/lang/StackTraceElement;") ∈ lw_all := lw_g (lw_at lw_m2 79 rfl) rfl
theorem q399 : (Jvm.Cond.lays "java/lang/ArithmeticException" "java/lang/Throwable" "depth" "I") ∈ lw_all := lw_g (lw_at lw_m2 80 rfl) rfl
theorem q400 : (Jvm.Cond.lays "java/lang/ArithmeticException" "java/lang/Throwable" "suppressedExceptions" "Ljava/util/List;") ∈ lw_all := lw_g (lw_at lw_m2 81 rfl) rfl
theorem q401 : (Jvm.Cond.superclass "java/lang/ArithmeticException" "java/lang/RuntimeException") ∈ lw_all := lw_g (lw_at lw_m2 82 rfl) rfl
theorem q402 : (Jvm.Cond.castable "java/lang/ArithmeticException" "java/lang/ArithmeticException") ∈ lw_tbl := lw_at lw_m2 83 rfl
theorem q403 : (Jvm.Cond.selects "java/lang/ArithmeticException" ({ cls := "java/lang/Throwable", name := "fillInStackTrace", desc := "(I)Ljava/lang/Throwable;" } : Jvm.MethodName) ({ cls := "java/lang/Throwable", name := "fillInStackTrace", desc := "(I)Ljava/lang/Throwable;" } : Jvm.MethodName)) ∈ lw_all := lw_g (lw_at lw_m2 84 rfl) rfl
theorem in_J8 : ∀ w ∈ wsJ80, w ∈ lw_all := lw_in wsJ80 [395, 396, 397, 398, 399, 400] (by decide +kernel) (by decide +kernel)

/-! java/lang/Math -/
set_option maxRecDepth 100000
def RJ9 : String := "java/lang/Math"
abbrev cJ9_min : ByteArray := prog_16_method_69_code
def yJ9_min : MethodName := ⟨RJ9, "min", "(II)I"⟩
def dkwJ9_min_0 : List UInt8 := [26, 27, 163, 0, 7, 26, 167, 0, 4, 27, 172]
abbrev dktJ9_min_0 : List UInt8 := dkwJ9_min_0 ++ []
theorem dksJ9_min_0 : cJ9_min.data.toList.drop 0 = dktJ9_min_0 := by decide +kernel
theorem dJ9_min_0 : decode cJ9_min 0 = .ok (.iload_n 0, 1) := dk_26 (dk_at dksJ9_min_0 0 rfl rfl)
theorem dJ9_min_1 : decode cJ9_min 1 = .ok (.iload_n 1, 1) := dk_27 (dk_at dksJ9_min_0 1 rfl rfl)
theorem dJ9_min_2 : decode cJ9_min 2 = .ok (.if_icmp .gt 7, 3) := dk_163 0 7 (dk_at dksJ9_min_0 2 rfl rfl)
theorem dJ9_min_5 : decode cJ9_min 5 = .ok (.iload_n 0, 1) := dk_26 (dk_at dksJ9_min_0 5 rfl rfl)
theorem dJ9_min_6 : decode cJ9_min 6 = .ok (.goto 4, 3) := dk_167 0 4 (dk_at dksJ9_min_0 6 rfl rfl)
theorem dJ9_min_9 : decode cJ9_min 9 = .ok (.iload_n 1, 1) := dk_27 (dk_at dksJ9_min_0 9 rfl rfl)
theorem dJ9_min_10 : decode cJ9_min 10 = .ok (.ireturn, 1) := dk_172 (dk_at dksJ9_min_0 10 rfl rfl)
theorem q93 : (Jvm.Cond.initialized "java/lang/Math") ∈ lw_all := lw_g (lw_at lw_m1 14 rfl) rfl
theorem q461 : (Jvm.Cond.static ({ cls := "java/lang/Math", name := "min", desc := "(II)I" } : Jvm.MethodName)) ∈ lw_all := lw_g (lw_at lw_m2 142 rfl) rfl
theorem q462 : (Jvm.Cond.code ({ cls := "java/lang/Math", name := "min", desc := "(II)I" } : Jvm.MethodName) prog_16_method_69_code (2 : Nat) (Option.some Jvm.ClassFile.FieldType.int)) ∈ lw_all := lw_g (lw_at lw_m2 143 rfl) rfl

/-! java/lang/ClassCastException -/
set_option maxRecDepth 100000
def RJ10 : String := "java/lang/ClassCastException"
def TJ10 : u_T := fun k => match k with
  | 0 => ("java/lang/Throwable", "backtrace", "Ljava/lang/Object;", false)
  | 1 => ("java/lang/Throwable", "detailMessage", "Ljava/lang/String;", false)
  | 2 => ("java/lang/Throwable", "cause", "Ljava/lang/Throwable;", false)
  | 3 => ("java/lang/Throwable", "stackTrace", "[Ljava/lang/StackTraceElement;", false)
  | 4 => ("java/lang/Throwable", "depth", "I", false)
  | _ => ("java/lang/Throwable", "suppressedExceptions", "Ljava/util/List;", false)
def tyJ10 : Nat → FieldType := fun k => match k with
  | 0 => .object "java/lang/Object"
  | 1 => .object "java/lang/String"
  | 2 => .object "java/lang/Throwable"
  | 3 => .array (.object "java/lang/StackTraceElement")
  | 4 => .int
  | _ => .object "java/util/List"
abbrev wsJ100 : List Cond := u_ws RJ10 TJ10 6
theorem nmJ10 : ∀ a, a < 6 → ∀ b, b < 6 → a ≠ b → (TJ10 a).2.1 ≠ (TJ10 b).2.1 := by decide +kernel
theorem tyJ10_ok : ∀ k, k < 6 → parseFieldDescriptor (TJ10 k).2.2.1 = some (tyJ10 k) := by decide +kernel
abbrev cJ10_init : ByteArray := prog_11_method_2_code
def yJ10_init : MethodName := ⟨RJ10, "<init>", "(Ljava/lang/String;)V"⟩
def dkwJ10_init_0 : List UInt8 := [42, 43, 183, 0, 7, 177]
abbrev dktJ10_init_0 : List UInt8 := dkwJ10_init_0 ++ []
theorem dksJ10_init_0 : cJ10_init.data.toList.drop 0 = dktJ10_init_0 := by decide +kernel
theorem dJ10_init_0 : decode cJ10_init 0 = .ok (.aload_n 0, 1) := dk_42 (dk_at dksJ10_init_0 0 rfl rfl)
theorem dJ10_init_1 : decode cJ10_init 1 = .ok (.aload_n 1, 1) := dk_43 (dk_at dksJ10_init_0 1 rfl rfl)
theorem dJ10_init_2 : decode cJ10_init 2 = .ok (.invokespecial 7, 3) := dk_183 0 7 (dk_at dksJ10_init_0 2 rfl rfl)
theorem dJ10_init_5 : decode cJ10_init 5 = .ok (.return_, 1) := dk_177 (dk_at dksJ10_init_0 5 rfl rfl)
theorem q98 : (Jvm.Cond.initialized "java/lang/ClassCastException") ∈ lw_all := lw_g (lw_at lw_m1 19 rfl) rfl
theorem q245 : (Jvm.Cond.selects "java/lang/ClassCastException" ({ cls := "java/lang/Throwable", name := "fillInStackTrace", desc := "()Ljava/lang/Throwable;" } : Jvm.MethodName) ({ cls := "java/lang/Throwable", name := "fillInStackTrace", desc := "()Ljava/lang/Throwable;" } : Jvm.MethodName)) ∈ lw_all := lw_g (lw_at lw_m1 166 rfl) rfl
theorem q601 : (Jvm.Cond.instantiable "java/lang/ClassCastException" (6 : Nat)) ∈ lw_all := lw_g (lw_at lw_m3 42 rfl) rfl
theorem q602 : (Jvm.Cond.instanceMethod ({ cls := "java/lang/ClassCastException", name := "<init>", desc := "(Ljava/lang/String;)V" } : Jvm.MethodName)) ∈ lw_all := lw_g (lw_at lw_m3 43 rfl) rfl
theorem q603 : (Jvm.Cond.code ({ cls := "java/lang/ClassCastException", name := "<init>", desc := "(Ljava/lang/String;)V" } : Jvm.MethodName) prog_11_method_2_code (2 : Nat) (Option.none : Option Jvm.ClassFile.FieldType)) ∈ lw_all := lw_g (lw_at lw_m3 44 rfl) rfl
theorem q604 : (Jvm.Cond.methodLink "java/lang/ClassCastException" (7 : Nat) ({ cls := "java/lang/RuntimeException", name := "<init>", desc := "(Ljava/lang/String;)V" } : Jvm.MethodName)) ∈ lw_all := lw_g (lw_at lw_m3 45 rfl) rfl
theorem q605 : (Jvm.Cond.lays "java/lang/ClassCastException" "java/lang/Throwable" "backtrace" "Ljava/lang/Object;") ∈ lw_all := lw_g (lw_at lw_m3 46 rfl) rfl
theorem q606 : (Jvm.Cond.lays "java/lang/ClassCastException" "java/lang/Throwable" "detailMessage" "Ljava/lang/String;") ∈ lw_all := lw_g (lw_at lw_m3 47 rfl) rfl
theorem q607 : (Jvm.Cond.lays "java/lang/ClassCastException" "java/lang/Throwable" "cause" "Ljava/lang/Throwable;") ∈ lw_all := lw_g (lw_at lw_m3 48 rfl) rfl
theorem q608 : (Jvm.Cond.lays "java/lang/ClassCastException" "java/lang/Throwable" "stackTrace" "[Ljava/lang/StackTraceElement;") ∈ lw_all := lw_g (lw_at lw_m3 49 rfl) rfl
theorem q609 : (Jvm.Cond.lays "java/lang/ClassCastException" "java/lang/Throwable" "depth" "I") ∈ lw_all := lw_g (lw_at lw_m3 50 rfl) rfl
theorem q610 : (Jvm.Cond.lays "java/lang/ClassCastException" "java/lang/Throwable" "suppressedExceptions" "Ljava/util/List;") ∈ lw_all := lw_g (lw_at lw_m3 51 rfl) rfl
theorem q611 : (Jvm.Cond.superclass "java/lang/ClassCastException" "java/lang/RuntimeException") ∈ lw_all := lw_g (lw_at lw_m3 52 rfl) rfl
theorem q612 : (Jvm.Cond.castable "java/lang/ClassCastException" "java/lang/ClassCastException") ∈ lw_tbl := lw_at lw_m3 53 rfl
theorem q613 : (Jvm.Cond.selects "java/lang/ClassCastException" ({ cls := "java/lang/Throwable", name := "fillInStackTrace", desc := "(I)Ljava/lang/Throwable;" } : Jvm.MethodName) ({ cls := "java/lang/Throwable", name := "fillInStackTrace", desc := "(I)Ljava/lang/Throwable;" } : Jvm.MethodName)) ∈ lw_all := lw_g (lw_at lw_m3 54 rfl) rfl
theorem in_J10 : ∀ w ∈ wsJ100, w ∈ lw_all := lw_in wsJ100 [605, 606, 607, 608, 609, 610] (by decide +kernel) (by decide +kernel)

/-! java/lang/Long -/
set_option maxRecDepth 100000
def RJ11 : String := "java/lang/Long"
abbrev cJ11_bitCount : ByteArray := prog_15_method_50_code
def yJ11_bitCount : MethodName := ⟨RJ11, "bitCount", "(J)I"⟩
def dkwJ11_bitCount_2 : List UInt8 := [30, 30, 16, 32, 125, 97, 63, 30, 136, 16, 127, 126, 172]
abbrev dktJ11_bitCount_2 : List UInt8 := dkwJ11_bitCount_2 ++ []
def dkwJ11_bitCount_1 : List UInt8 := [30, 30, 7, 125, 97, 20, 1, 62, 127, 63, 30, 30, 16, 8, 125, 97, 63, 30, 30, 16, 16, 125, 97, 63]
abbrev dktJ11_bitCount_1 : List UInt8 := dkwJ11_bitCount_1 ++ dktJ11_bitCount_2
def dkwJ11_bitCount_0 : List UInt8 := [30, 30, 4, 125, 20, 1, 58, 127, 101, 63, 30, 20, 1, 60, 127, 30, 5, 125, 20, 1, 60, 127, 97, 63]
abbrev dktJ11_bitCount_0 : List UInt8 := dkwJ11_bitCount_0 ++ dktJ11_bitCount_1
theorem dksJ11_bitCount_0 : cJ11_bitCount.data.toList.drop 0 = dktJ11_bitCount_0 := by decide +kernel
theorem dksJ11_bitCount_1 : cJ11_bitCount.data.toList.drop 24 = dktJ11_bitCount_1 := dk_seg dksJ11_bitCount_0 24 rfl rfl
theorem dksJ11_bitCount_2 : cJ11_bitCount.data.toList.drop 48 = dktJ11_bitCount_2 := dk_seg dksJ11_bitCount_1 24 rfl rfl
theorem dJ11_bitCount_0 : decode cJ11_bitCount 0 = .ok (.lload_n 0, 1) := dk_30 (dk_at dksJ11_bitCount_0 0 rfl rfl)
theorem dJ11_bitCount_1 : decode cJ11_bitCount 1 = .ok (.lload_n 0, 1) := dk_30 (dk_at dksJ11_bitCount_0 1 rfl rfl)
theorem dJ11_bitCount_2 : decode cJ11_bitCount 2 = .ok (.iconst 1, 1) := dk_4 (dk_at dksJ11_bitCount_0 2 rfl rfl)
theorem dJ11_bitCount_3 : decode cJ11_bitCount 3 = .ok (.lushr, 1) := dk_125 (dk_at dksJ11_bitCount_0 3 rfl rfl)
theorem dJ11_bitCount_4 : decode cJ11_bitCount 4 = .ok (.ldc2_w 314, 3) := dk_20 1 58 (dk_at dksJ11_bitCount_0 4 rfl rfl)
theorem dJ11_bitCount_7 : decode cJ11_bitCount 7 = .ok (.land, 1) := dk_127 (dk_at dksJ11_bitCount_0 7 rfl rfl)
theorem dJ11_bitCount_8 : decode cJ11_bitCount 8 = .ok (.lsub, 1) := dk_101 (dk_at dksJ11_bitCount_0 8 rfl rfl)
theorem dJ11_bitCount_9 : decode cJ11_bitCount 9 = .ok (.lstore_n 0, 1) := dk_63 (dk_at dksJ11_bitCount_0 9 rfl rfl)
theorem dJ11_bitCount_10 : decode cJ11_bitCount 10 = .ok (.lload_n 0, 1) := dk_30 (dk_at dksJ11_bitCount_0 10 rfl rfl)
theorem dJ11_bitCount_11 : decode cJ11_bitCount 11 = .ok (.ldc2_w 316, 3) := dk_20 1 60 (dk_at dksJ11_bitCount_0 11 rfl rfl)
theorem dJ11_bitCount_14 : decode cJ11_bitCount 14 = .ok (.land, 1) := dk_127 (dk_at dksJ11_bitCount_0 14 rfl rfl)
theorem dJ11_bitCount_15 : decode cJ11_bitCount 15 = .ok (.lload_n 0, 1) := dk_30 (dk_at dksJ11_bitCount_0 15 rfl rfl)
theorem dJ11_bitCount_16 : decode cJ11_bitCount 16 = .ok (.iconst 2, 1) := dk_5 (dk_at dksJ11_bitCount_0 16 rfl rfl)
theorem dJ11_bitCount_17 : decode cJ11_bitCount 17 = .ok (.lushr, 1) := dk_125 (dk_at dksJ11_bitCount_0 17 rfl rfl)
theorem dJ11_bitCount_18 : decode cJ11_bitCount 18 = .ok (.ldc2_w 316, 3) := dk_20 1 60 (dk_at dksJ11_bitCount_0 18 rfl rfl)
theorem dJ11_bitCount_21 : decode cJ11_bitCount 21 = .ok (.land, 1) := dk_127 (dk_at dksJ11_bitCount_0 21 rfl rfl)
theorem dJ11_bitCount_22 : decode cJ11_bitCount 22 = .ok (.ladd, 1) := dk_97 (dk_at dksJ11_bitCount_0 22 rfl rfl)
theorem dJ11_bitCount_23 : decode cJ11_bitCount 23 = .ok (.lstore_n 0, 1) := dk_63 (dk_at dksJ11_bitCount_0 23 rfl rfl)
theorem dJ11_bitCount_24 : decode cJ11_bitCount 24 = .ok (.lload_n 0, 1) := dk_30 (dk_at dksJ11_bitCount_1 0 rfl rfl)
theorem dJ11_bitCount_25 : decode cJ11_bitCount 25 = .ok (.lload_n 0, 1) := dk_30 (dk_at dksJ11_bitCount_1 1 rfl rfl)
theorem dJ11_bitCount_26 : decode cJ11_bitCount 26 = .ok (.iconst 4, 1) := dk_7 (dk_at dksJ11_bitCount_1 2 rfl rfl)
theorem dJ11_bitCount_27 : decode cJ11_bitCount 27 = .ok (.lushr, 1) := dk_125 (dk_at dksJ11_bitCount_1 3 rfl rfl)
theorem dJ11_bitCount_28 : decode cJ11_bitCount 28 = .ok (.ladd, 1) := dk_97 (dk_at dksJ11_bitCount_1 4 rfl rfl)
theorem dJ11_bitCount_29 : decode cJ11_bitCount 29 = .ok (.ldc2_w 318, 3) := dk_20 1 62 (dk_at dksJ11_bitCount_1 5 rfl rfl)
theorem dJ11_bitCount_32 : decode cJ11_bitCount 32 = .ok (.land, 1) := dk_127 (dk_at dksJ11_bitCount_1 8 rfl rfl)
theorem dJ11_bitCount_33 : decode cJ11_bitCount 33 = .ok (.lstore_n 0, 1) := dk_63 (dk_at dksJ11_bitCount_1 9 rfl rfl)
theorem dJ11_bitCount_34 : decode cJ11_bitCount 34 = .ok (.lload_n 0, 1) := dk_30 (dk_at dksJ11_bitCount_1 10 rfl rfl)
theorem dJ11_bitCount_35 : decode cJ11_bitCount 35 = .ok (.lload_n 0, 1) := dk_30 (dk_at dksJ11_bitCount_1 11 rfl rfl)
theorem dJ11_bitCount_36 : decode cJ11_bitCount 36 = .ok (.bipush 8, 2) := dk_16 8 (dk_at dksJ11_bitCount_1 12 rfl rfl)
theorem dJ11_bitCount_38 : decode cJ11_bitCount 38 = .ok (.lushr, 1) := dk_125 (dk_at dksJ11_bitCount_1 14 rfl rfl)
theorem dJ11_bitCount_39 : decode cJ11_bitCount 39 = .ok (.ladd, 1) := dk_97 (dk_at dksJ11_bitCount_1 15 rfl rfl)
theorem dJ11_bitCount_40 : decode cJ11_bitCount 40 = .ok (.lstore_n 0, 1) := dk_63 (dk_at dksJ11_bitCount_1 16 rfl rfl)
theorem dJ11_bitCount_41 : decode cJ11_bitCount 41 = .ok (.lload_n 0, 1) := dk_30 (dk_at dksJ11_bitCount_1 17 rfl rfl)
theorem dJ11_bitCount_42 : decode cJ11_bitCount 42 = .ok (.lload_n 0, 1) := dk_30 (dk_at dksJ11_bitCount_1 18 rfl rfl)
theorem dJ11_bitCount_43 : decode cJ11_bitCount 43 = .ok (.bipush 16, 2) := dk_16 16 (dk_at dksJ11_bitCount_1 19 rfl rfl)
theorem dJ11_bitCount_45 : decode cJ11_bitCount 45 = .ok (.lushr, 1) := dk_125 (dk_at dksJ11_bitCount_1 21 rfl rfl)
theorem dJ11_bitCount_46 : decode cJ11_bitCount 46 = .ok (.ladd, 1) := dk_97 (dk_at dksJ11_bitCount_1 22 rfl rfl)
theorem dJ11_bitCount_47 : decode cJ11_bitCount 47 = .ok (.lstore_n 0, 1) := dk_63 (dk_at dksJ11_bitCount_1 23 rfl rfl)
theorem dJ11_bitCount_48 : decode cJ11_bitCount 48 = .ok (.lload_n 0, 1) := dk_30 (dk_at dksJ11_bitCount_2 0 rfl rfl)
theorem dJ11_bitCount_49 : decode cJ11_bitCount 49 = .ok (.lload_n 0, 1) := dk_30 (dk_at dksJ11_bitCount_2 1 rfl rfl)
theorem dJ11_bitCount_50 : decode cJ11_bitCount 50 = .ok (.bipush 32, 2) := dk_16 32 (dk_at dksJ11_bitCount_2 2 rfl rfl)
theorem dJ11_bitCount_52 : decode cJ11_bitCount 52 = .ok (.lushr, 1) := dk_125 (dk_at dksJ11_bitCount_2 4 rfl rfl)
theorem dJ11_bitCount_53 : decode cJ11_bitCount 53 = .ok (.ladd, 1) := dk_97 (dk_at dksJ11_bitCount_2 5 rfl rfl)
theorem dJ11_bitCount_54 : decode cJ11_bitCount 54 = .ok (.lstore_n 0, 1) := dk_63 (dk_at dksJ11_bitCount_2 6 rfl rfl)
theorem dJ11_bitCount_55 : decode cJ11_bitCount 55 = .ok (.lload_n 0, 1) := dk_30 (dk_at dksJ11_bitCount_2 7 rfl rfl)
theorem dJ11_bitCount_56 : decode cJ11_bitCount 56 = .ok (.l2i, 1) := dk_136 (dk_at dksJ11_bitCount_2 8 rfl rfl)
theorem dJ11_bitCount_57 : decode cJ11_bitCount 57 = .ok (.bipush 127, 2) := dk_16 127 (dk_at dksJ11_bitCount_2 9 rfl rfl)
theorem dJ11_bitCount_59 : decode cJ11_bitCount 59 = .ok (.iand, 1) := dk_126 (dk_at dksJ11_bitCount_2 11 rfl rfl)
theorem dJ11_bitCount_60 : decode cJ11_bitCount 60 = .ok (.ireturn, 1) := dk_172 (dk_at dksJ11_bitCount_2 12 rfl rfl)
theorem q99 : (Jvm.Cond.initialized "java/lang/Long") ∈ lw_all := lw_g (lw_at lw_m1 20 rfl) rfl
theorem q642 : (Jvm.Cond.static ({ cls := "java/lang/Long", name := "bitCount", desc := "(J)I" } : Jvm.MethodName)) ∈ lw_all := lw_g (lw_at lw_m3 83 rfl) rfl
theorem q643 : (Jvm.Cond.code ({ cls := "java/lang/Long", name := "bitCount", desc := "(J)I" } : Jvm.MethodName) prog_15_method_50_code (2 : Nat) (Option.some Jvm.ClassFile.FieldType.int)) ∈ lw_all := lw_g (lw_at lw_m3 84 rfl) rfl
theorem q644 : (Jvm.Cond.constantLong "java/lang/Long" (314 : Nat) (6148914691236517205 : Int64)) ∈ lw_all := lw_g (lw_at lw_m3 85 rfl) rfl
theorem q645 : (Jvm.Cond.constantLong "java/lang/Long" (316 : Nat) (3689348814741910323 : Int64)) ∈ lw_all := lw_g (lw_at lw_m3 86 rfl) rfl
theorem q646 : (Jvm.Cond.constantLong "java/lang/Long" (318 : Nat) (1085102592571150095 : Int64)) ∈ lw_all := lw_g (lw_at lw_m3 87 rfl) rfl

/-! java/lang/Integer -/
set_option maxRecDepth 100000
def RJ12 : String := "java/lang/Integer"
abbrev cJ12_bitCount : ByteArray := prog_14_method_49_code
def yJ12_bitCount : MethodName := ⟨RJ12, "bitCount", "(I)I"⟩
def dkwJ12_bitCount_2 : List UInt8 := [26, 16, 63, 126, 172]
abbrev dktJ12_bitCount_2 : List UInt8 := dkwJ12_bitCount_2 ++ []
def dkwJ12_bitCount_1 : List UInt8 := [26, 26, 7, 124, 96, 19, 1, 11, 126, 59, 26, 26, 16, 8, 124, 96, 59, 26, 26, 16, 16, 124, 96, 59]
abbrev dktJ12_bitCount_1 : List UInt8 := dkwJ12_bitCount_1 ++ dktJ12_bitCount_2
def dkwJ12_bitCount_0 : List UInt8 := [26, 26, 4, 124, 19, 1, 9, 126, 100, 59, 26, 19, 1, 10, 126, 26, 5, 124, 19, 1, 10, 126, 96, 59]
abbrev dktJ12_bitCount_0 : List UInt8 := dkwJ12_bitCount_0 ++ dktJ12_bitCount_1
theorem dksJ12_bitCount_0 : cJ12_bitCount.data.toList.drop 0 = dktJ12_bitCount_0 := by decide +kernel
theorem dksJ12_bitCount_1 : cJ12_bitCount.data.toList.drop 24 = dktJ12_bitCount_1 := dk_seg dksJ12_bitCount_0 24 rfl rfl
theorem dksJ12_bitCount_2 : cJ12_bitCount.data.toList.drop 48 = dktJ12_bitCount_2 := dk_seg dksJ12_bitCount_1 24 rfl rfl
theorem dJ12_bitCount_0 : decode cJ12_bitCount 0 = .ok (.iload_n 0, 1) := dk_26 (dk_at dksJ12_bitCount_0 0 rfl rfl)
theorem dJ12_bitCount_1 : decode cJ12_bitCount 1 = .ok (.iload_n 0, 1) := dk_26 (dk_at dksJ12_bitCount_0 1 rfl rfl)
theorem dJ12_bitCount_2 : decode cJ12_bitCount 2 = .ok (.iconst 1, 1) := dk_4 (dk_at dksJ12_bitCount_0 2 rfl rfl)
theorem dJ12_bitCount_3 : decode cJ12_bitCount 3 = .ok (.iushr, 1) := dk_124 (dk_at dksJ12_bitCount_0 3 rfl rfl)
theorem dJ12_bitCount_4 : decode cJ12_bitCount 4 = .ok (.ldc_w 265, 3) := dk_19 1 9 (dk_at dksJ12_bitCount_0 4 rfl rfl)
theorem dJ12_bitCount_7 : decode cJ12_bitCount 7 = .ok (.iand, 1) := dk_126 (dk_at dksJ12_bitCount_0 7 rfl rfl)
theorem dJ12_bitCount_8 : decode cJ12_bitCount 8 = .ok (.isub, 1) := dk_100 (dk_at dksJ12_bitCount_0 8 rfl rfl)
theorem dJ12_bitCount_9 : decode cJ12_bitCount 9 = .ok (.istore_n 0, 1) := dk_59 (dk_at dksJ12_bitCount_0 9 rfl rfl)
theorem dJ12_bitCount_10 : decode cJ12_bitCount 10 = .ok (.iload_n 0, 1) := dk_26 (dk_at dksJ12_bitCount_0 10 rfl rfl)
theorem dJ12_bitCount_11 : decode cJ12_bitCount 11 = .ok (.ldc_w 266, 3) := dk_19 1 10 (dk_at dksJ12_bitCount_0 11 rfl rfl)
theorem dJ12_bitCount_14 : decode cJ12_bitCount 14 = .ok (.iand, 1) := dk_126 (dk_at dksJ12_bitCount_0 14 rfl rfl)
theorem dJ12_bitCount_15 : decode cJ12_bitCount 15 = .ok (.iload_n 0, 1) := dk_26 (dk_at dksJ12_bitCount_0 15 rfl rfl)
theorem dJ12_bitCount_16 : decode cJ12_bitCount 16 = .ok (.iconst 2, 1) := dk_5 (dk_at dksJ12_bitCount_0 16 rfl rfl)
theorem dJ12_bitCount_17 : decode cJ12_bitCount 17 = .ok (.iushr, 1) := dk_124 (dk_at dksJ12_bitCount_0 17 rfl rfl)
theorem dJ12_bitCount_18 : decode cJ12_bitCount 18 = .ok (.ldc_w 266, 3) := dk_19 1 10 (dk_at dksJ12_bitCount_0 18 rfl rfl)
theorem dJ12_bitCount_21 : decode cJ12_bitCount 21 = .ok (.iand, 1) := dk_126 (dk_at dksJ12_bitCount_0 21 rfl rfl)
theorem dJ12_bitCount_22 : decode cJ12_bitCount 22 = .ok (.iadd, 1) := dk_96 (dk_at dksJ12_bitCount_0 22 rfl rfl)
theorem dJ12_bitCount_23 : decode cJ12_bitCount 23 = .ok (.istore_n 0, 1) := dk_59 (dk_at dksJ12_bitCount_0 23 rfl rfl)
theorem dJ12_bitCount_24 : decode cJ12_bitCount 24 = .ok (.iload_n 0, 1) := dk_26 (dk_at dksJ12_bitCount_1 0 rfl rfl)
theorem dJ12_bitCount_25 : decode cJ12_bitCount 25 = .ok (.iload_n 0, 1) := dk_26 (dk_at dksJ12_bitCount_1 1 rfl rfl)
theorem dJ12_bitCount_26 : decode cJ12_bitCount 26 = .ok (.iconst 4, 1) := dk_7 (dk_at dksJ12_bitCount_1 2 rfl rfl)
theorem dJ12_bitCount_27 : decode cJ12_bitCount 27 = .ok (.iushr, 1) := dk_124 (dk_at dksJ12_bitCount_1 3 rfl rfl)
theorem dJ12_bitCount_28 : decode cJ12_bitCount 28 = .ok (.iadd, 1) := dk_96 (dk_at dksJ12_bitCount_1 4 rfl rfl)
theorem dJ12_bitCount_29 : decode cJ12_bitCount 29 = .ok (.ldc_w 267, 3) := dk_19 1 11 (dk_at dksJ12_bitCount_1 5 rfl rfl)
theorem dJ12_bitCount_32 : decode cJ12_bitCount 32 = .ok (.iand, 1) := dk_126 (dk_at dksJ12_bitCount_1 8 rfl rfl)
theorem dJ12_bitCount_33 : decode cJ12_bitCount 33 = .ok (.istore_n 0, 1) := dk_59 (dk_at dksJ12_bitCount_1 9 rfl rfl)
theorem dJ12_bitCount_34 : decode cJ12_bitCount 34 = .ok (.iload_n 0, 1) := dk_26 (dk_at dksJ12_bitCount_1 10 rfl rfl)
theorem dJ12_bitCount_35 : decode cJ12_bitCount 35 = .ok (.iload_n 0, 1) := dk_26 (dk_at dksJ12_bitCount_1 11 rfl rfl)
theorem dJ12_bitCount_36 : decode cJ12_bitCount 36 = .ok (.bipush 8, 2) := dk_16 8 (dk_at dksJ12_bitCount_1 12 rfl rfl)
theorem dJ12_bitCount_38 : decode cJ12_bitCount 38 = .ok (.iushr, 1) := dk_124 (dk_at dksJ12_bitCount_1 14 rfl rfl)
theorem dJ12_bitCount_39 : decode cJ12_bitCount 39 = .ok (.iadd, 1) := dk_96 (dk_at dksJ12_bitCount_1 15 rfl rfl)
theorem dJ12_bitCount_40 : decode cJ12_bitCount 40 = .ok (.istore_n 0, 1) := dk_59 (dk_at dksJ12_bitCount_1 16 rfl rfl)
theorem dJ12_bitCount_41 : decode cJ12_bitCount 41 = .ok (.iload_n 0, 1) := dk_26 (dk_at dksJ12_bitCount_1 17 rfl rfl)
theorem dJ12_bitCount_42 : decode cJ12_bitCount 42 = .ok (.iload_n 0, 1) := dk_26 (dk_at dksJ12_bitCount_1 18 rfl rfl)
theorem dJ12_bitCount_43 : decode cJ12_bitCount 43 = .ok (.bipush 16, 2) := dk_16 16 (dk_at dksJ12_bitCount_1 19 rfl rfl)
theorem dJ12_bitCount_45 : decode cJ12_bitCount 45 = .ok (.iushr, 1) := dk_124 (dk_at dksJ12_bitCount_1 21 rfl rfl)
theorem dJ12_bitCount_46 : decode cJ12_bitCount 46 = .ok (.iadd, 1) := dk_96 (dk_at dksJ12_bitCount_1 22 rfl rfl)
theorem dJ12_bitCount_47 : decode cJ12_bitCount 47 = .ok (.istore_n 0, 1) := dk_59 (dk_at dksJ12_bitCount_1 23 rfl rfl)
theorem dJ12_bitCount_48 : decode cJ12_bitCount 48 = .ok (.iload_n 0, 1) := dk_26 (dk_at dksJ12_bitCount_2 0 rfl rfl)
theorem dJ12_bitCount_49 : decode cJ12_bitCount 49 = .ok (.bipush 63, 2) := dk_16 63 (dk_at dksJ12_bitCount_2 1 rfl rfl)
theorem dJ12_bitCount_51 : decode cJ12_bitCount 51 = .ok (.iand, 1) := dk_126 (dk_at dksJ12_bitCount_2 3 rfl rfl)
theorem dJ12_bitCount_52 : decode cJ12_bitCount 52 = .ok (.ireturn, 1) := dk_172 (dk_at dksJ12_bitCount_2 4 rfl rfl)
theorem q100 : (Jvm.Cond.initialized "java/lang/Integer") ∈ lw_all := lw_g (lw_at lw_m1 21 rfl) rfl
theorem q692 : (Jvm.Cond.static ({ cls := "java/lang/Integer", name := "bitCount", desc := "(I)I" } : Jvm.MethodName)) ∈ lw_all := lw_g (lw_at lw_m3 133 rfl) rfl
theorem q693 : (Jvm.Cond.code ({ cls := "java/lang/Integer", name := "bitCount", desc := "(I)I" } : Jvm.MethodName) prog_14_method_49_code (1 : Nat) (Option.some Jvm.ClassFile.FieldType.int)) ∈ lw_all := lw_g (lw_at lw_m3 134 rfl) rfl
theorem q694 : (Jvm.Cond.constant "java/lang/Integer" (265 : Nat) (1431655765 : Int32)) ∈ lw_all := lw_g (lw_at lw_m3 135 rfl) rfl
theorem q695 : (Jvm.Cond.constant "java/lang/Integer" (266 : Nat) (858993459 : Int32)) ∈ lw_all := lw_g (lw_at lw_m3 136 rfl) rfl
theorem q696 : (Jvm.Cond.constant "java/lang/Integer" (267 : Nat) (252645135 : Int32)) ∈ lw_all := lw_g (lw_at lw_m3 137 rfl) rfl

/-! WithinWords$Word -/
set_option maxRecDepth 100000
def RX2 : String := "WithinWords$Word"
def TX2 : u_T := fun k => match k with
  | _ => ("WithinWords$Word", "letters", "[B", true)
def tyX2 : Nat → FieldType := fun k => match k with
  | _ => .array .byte
abbrev wsX20 : List Cond := u_ws RX2 TX2 1
theorem nmX2 : ∀ a, a < 1 → ∀ b, b < 1 → a ≠ b → (TX2 a).2.1 ≠ (TX2 b).2.1 := by decide +kernel
theorem tyX2_ok : ∀ k, k < 1 → parseFieldDescriptor (TX2 k).2.2.1 = some (tyX2 k) := by decide +kernel
abbrev cX2_init : ByteArray := prog_6_method_1_code
def yX2_init : MethodName := ⟨RX2, "<init>", "([B)V"⟩
def dkwX2_init_0 : List UInt8 := [42, 183, 0, 3, 42, 43, 181, 0, 9, 177]
abbrev dktX2_init_0 : List UInt8 := dkwX2_init_0 ++ []
theorem dksX2_init_0 : cX2_init.data.toList.drop 0 = dktX2_init_0 := by decide +kernel
theorem dX2_init_0 : decode cX2_init 0 = .ok (.aload_n 0, 1) := dk_42 (dk_at dksX2_init_0 0 rfl rfl)
theorem dX2_init_1 : decode cX2_init 1 = .ok (.invokespecial 3, 3) := dk_183 0 3 (dk_at dksX2_init_0 1 rfl rfl)
theorem dX2_init_4 : decode cX2_init 4 = .ok (.aload_n 0, 1) := dk_42 (dk_at dksX2_init_0 4 rfl rfl)
theorem dX2_init_5 : decode cX2_init 5 = .ok (.aload_n 1, 1) := dk_43 (dk_at dksX2_init_0 5 rfl rfl)
theorem dX2_init_6 : decode cX2_init 6 = .ok (.putfield 9, 3) := dk_181 0 9 (dk_at dksX2_init_0 6 rfl rfl)
theorem dX2_init_9 : decode cX2_init 9 = .ok (.return_, 1) := dk_177 (dk_at dksX2_init_0 9 rfl rfl)
abbrev cX2_kind : ByteArray := prog_6_method_2_code
def yX2_kind : MethodName := ⟨RX2, "kind", "()I"⟩
theorem dX2_kind_0 : decode cX2_kind 0 = .ok (.iconst 0, 1) := by decide +kernel
theorem dX2_kind_1 : decode cX2_kind 1 = .ok (.ireturn, 1) := by decide +kernel
abbrev cX2_is : ByteArray := prog_6_method_3_code
def yX2_is : MethodName := ⟨RX2, "is", "(I)Z"⟩
def dkwX2_is_0 : List UInt8 := [27, 154, 0, 7, 4, 167, 0, 4, 3, 172]
abbrev dktX2_is_0 : List UInt8 := dkwX2_is_0 ++ []
theorem dksX2_is_0 : cX2_is.data.toList.drop 0 = dktX2_is_0 := by decide +kernel
theorem dX2_is_0 : decode cX2_is 0 = .ok (.iload_n 1, 1) := dk_27 (dk_at dksX2_is_0 0 rfl rfl)
theorem dX2_is_1 : decode cX2_is 1 = .ok (.ifCond .ne 7, 3) := dk_154 0 7 (dk_at dksX2_is_0 1 rfl rfl)
theorem dX2_is_4 : decode cX2_is 4 = .ok (.iconst 1, 1) := dk_4 (dk_at dksX2_is_0 4 rfl rfl)
theorem dX2_is_5 : decode cX2_is 5 = .ok (.goto 4, 3) := dk_167 0 4 (dk_at dksX2_is_0 5 rfl rfl)
theorem dX2_is_8 : decode cX2_is 8 = .ok (.iconst 0, 1) := dk_3 (dk_at dksX2_is_0 8 rfl rfl)
theorem dX2_is_9 : decode cX2_is 9 = .ok (.ireturn, 1) := dk_172 (dk_at dksX2_is_0 9 rfl rfl)
abbrev cX2_tells : ByteArray := prog_6_method_4_code
def yX2_tells : MethodName := ⟨RX2, "tells", "()I"⟩
theorem dX2_tells_0 : decode cX2_tells 0 = .ok (.iconst 0, 1) := by decide +kernel
theorem dX2_tells_1 : decode cX2_tells 1 = .ok (.ireturn, 1) := by decide +kernel
theorem q92 : (Jvm.Cond.initialized "WithinWords$Word") ∈ lw_all := lw_g (lw_at lw_m1 13 rfl) rfl
theorem q426 : (Jvm.Cond.instantiable "WithinWords$Word" (1 : Nat)) ∈ lw_all := lw_g (lw_at lw_m2 107 rfl) rfl
theorem q428 : (Jvm.Cond.instanceMethod ({ cls := "WithinWords$Word", name := "<init>", desc := "([B)V" } : Jvm.MethodName)) ∈ lw_all := lw_g (lw_at lw_m2 109 rfl) rfl
theorem q429 : (Jvm.Cond.code ({ cls := "WithinWords$Word", name := "<init>", desc := "([B)V" } : Jvm.MethodName) prog_6_method_1_code (2 : Nat) (Option.none : Option Jvm.ClassFile.FieldType)) ∈ lw_all := lw_g (lw_at lw_m2 110 rfl) rfl
theorem q430 : (Jvm.Cond.methodLink "WithinWords$Word" (3 : Nat) ({ cls := "java/lang/Object", name := "<init>", desc := "()V" } : Jvm.MethodName)) ∈ lw_all := lw_g (lw_at lw_m2 111 rfl) rfl
theorem q431 : (Jvm.Cond.fieldLink "WithinWords$Word" (9 : Nat) "WithinWords$Word" "letters" "[B") ∈ lw_all := lw_g (lw_at lw_m2 112 rfl) rfl
theorem q433 : (Jvm.Cond.laysFinal "WithinWords$Word" "WithinWords$Word" "letters" "[B") ∈ lw_all := lw_g (lw_at lw_m2 114 rfl) rfl
theorem q434 : (Jvm.Cond.soleField "WithinWords$Word" "letters") ∈ lw_all := lw_g (lw_at lw_m2 115 rfl) rfl
theorem q435 : (Jvm.Cond.superclass "WithinWords$Word" "java/lang/Object") ∈ lw_all := lw_g (lw_at lw_m2 116 rfl) rfl
theorem q580 : (Jvm.Cond.instanceMethod ({ cls := "WithinWords$Word", name := "kind", desc := "()I" } : Jvm.MethodName)) ∈ lw_all := lw_g (lw_at lw_m3 21 rfl) rfl
theorem q581 : (Jvm.Cond.selects "WithinWords$Word" ({ cls := "WithinWords$Word", name := "kind", desc := "()I" } : Jvm.MethodName) ({ cls := "WithinWords$Word", name := "kind", desc := "()I" } : Jvm.MethodName)) ∈ lw_all := lw_g (lw_at lw_m3 22 rfl) rfl
theorem q582 : (Jvm.Cond.sameMethod "WithinWords$Word" "WithinWords$Word" "kind" "()I") ∈ lw_all := lw_g (lw_at lw_m3 23 rfl) rfl
theorem q595 : (Jvm.Cond.code ({ cls := "WithinWords$Word", name := "kind", desc := "()I" } : Jvm.MethodName) prog_6_method_2_code (1 : Nat) (Option.some Jvm.ClassFile.FieldType.int)) ∈ lw_all := lw_g (lw_at lw_m3 36 rfl) rfl
theorem q800 : (Jvm.Cond.instanceMethod ({ cls := "WithinWords$Word", name := "is", desc := "(I)Z" } : Jvm.MethodName)) ∈ lw_all := lw_g (lw_at lw_m4 1 rfl) rfl
theorem q801 : (Jvm.Cond.selects "WithinWords$Word" ({ cls := "WithinWords$Word", name := "is", desc := "(I)Z" } : Jvm.MethodName) ({ cls := "WithinWords$Word", name := "is", desc := "(I)Z" } : Jvm.MethodName)) ∈ lw_all := lw_g (lw_at lw_m4 2 rfl) rfl
theorem q802 : (Jvm.Cond.sameMethod "WithinWords$Word" "WithinWords$Word" "is" "(I)Z") ∈ lw_all := lw_g (lw_at lw_m4 3 rfl) rfl
theorem q819 : (Jvm.Cond.code ({ cls := "WithinWords$Word", name := "is", desc := "(I)Z" } : Jvm.MethodName) prog_6_method_3_code (2 : Nat) (Option.some Jvm.ClassFile.FieldType.boolean)) ∈ lw_all := lw_g (lw_at lw_m4 20 rfl) rfl
theorem q847 : (Jvm.Cond.instanceMethod ({ cls := "WithinWords$Word", name := "tells", desc := "()I" } : Jvm.MethodName)) ∈ lw_all := lw_g (lw_at lw_m4 48 rfl) rfl
theorem q848 : (Jvm.Cond.selects "WithinWords$Word" ({ cls := "WithinWords$Word", name := "tells", desc := "()I" } : Jvm.MethodName) ({ cls := "WithinWords$Word", name := "tells", desc := "()I" } : Jvm.MethodName)) ∈ lw_all := lw_g (lw_at lw_m4 49 rfl) rfl
theorem q849 : (Jvm.Cond.sameMethod "WithinWords$Word" "WithinWords$Word" "tells" "()I") ∈ lw_all := lw_g (lw_at lw_m4 50 rfl) rfl
theorem q862 : (Jvm.Cond.code ({ cls := "WithinWords$Word", name := "tells", desc := "()I" } : Jvm.MethodName) prog_6_method_4_code (1 : Nat) (Option.some Jvm.ClassFile.FieldType.int)) ∈ lw_all := lw_g (lw_at lw_m4 63 rfl) rfl
theorem in_X2 : ∀ w ∈ wsX20, w ∈ lw_all := lw_in wsX20 [433] (by decide +kernel) (by decide +kernel)

/-! WithinWords$Told -/
set_option maxRecDepth 100000
def RX3 : String := "WithinWords$Told"
def TX3 : u_T := fun k => match k with
  | 0 => ("WithinWords$Word", "letters", "[B", true)
  | _ => ("WithinWords$Told", "bytes", "I", true)
def tyX3 : Nat → FieldType := fun k => match k with
  | 0 => .array .byte
  | _ => .int
abbrev wsX30 : List Cond := u_ws RX3 TX3 2
theorem nmX3 : ∀ a, a < 2 → ∀ b, b < 2 → a ≠ b → (TX3 a).2.1 ≠ (TX3 b).2.1 := by decide +kernel
theorem tyX3_ok : ∀ k, k < 2 → parseFieldDescriptor (TX3 k).2.2.1 = some (tyX3 k) := by decide +kernel
abbrev cX3_init : ByteArray := prog_4_method_1_code
def yX3_init : MethodName := ⟨RX3, "<init>", "([BI)V"⟩
def dkwX3_init_0 : List UInt8 := [42, 43, 183, 0, 3, 42, 28, 181, 0, 9, 177]
abbrev dktX3_init_0 : List UInt8 := dkwX3_init_0 ++ []
theorem dksX3_init_0 : cX3_init.data.toList.drop 0 = dktX3_init_0 := by decide +kernel
theorem dX3_init_0 : decode cX3_init 0 = .ok (.aload_n 0, 1) := dk_42 (dk_at dksX3_init_0 0 rfl rfl)
theorem dX3_init_1 : decode cX3_init 1 = .ok (.aload_n 1, 1) := dk_43 (dk_at dksX3_init_0 1 rfl rfl)
theorem dX3_init_2 : decode cX3_init 2 = .ok (.invokespecial 3, 3) := dk_183 0 3 (dk_at dksX3_init_0 2 rfl rfl)
theorem dX3_init_5 : decode cX3_init 5 = .ok (.aload_n 0, 1) := dk_42 (dk_at dksX3_init_0 5 rfl rfl)
theorem dX3_init_6 : decode cX3_init 6 = .ok (.iload_n 2, 1) := dk_28 (dk_at dksX3_init_0 6 rfl rfl)
theorem dX3_init_7 : decode cX3_init 7 = .ok (.putfield 9, 3) := dk_181 0 9 (dk_at dksX3_init_0 7 rfl rfl)
theorem dX3_init_10 : decode cX3_init 10 = .ok (.return_, 1) := dk_177 (dk_at dksX3_init_0 10 rfl rfl)
abbrev cX3_kind : ByteArray := prog_4_method_2_code
def yX3_kind : MethodName := ⟨RX3, "kind", "()I"⟩
theorem dX3_kind_0 : decode cX3_kind 0 = .ok (.iconst 1, 1) := by decide +kernel
theorem dX3_kind_1 : decode cX3_kind 1 = .ok (.ireturn, 1) := by decide +kernel
abbrev cX3_is : ByteArray := prog_4_method_3_code
def yX3_is : MethodName := ⟨RX3, "is", "(I)Z"⟩
def dkwX3_is_0 : List UInt8 := [27, 4, 159, 0, 11, 42, 27, 183, 0, 15, 153, 0, 7, 4, 167, 0, 4, 3, 172]
abbrev dktX3_is_0 : List UInt8 := dkwX3_is_0 ++ []
theorem dksX3_is_0 : cX3_is.data.toList.drop 0 = dktX3_is_0 := by decide +kernel
theorem dX3_is_0 : decode cX3_is 0 = .ok (.iload_n 1, 1) := dk_27 (dk_at dksX3_is_0 0 rfl rfl)
theorem dX3_is_1 : decode cX3_is 1 = .ok (.iconst 1, 1) := dk_4 (dk_at dksX3_is_0 1 rfl rfl)
theorem dX3_is_2 : decode cX3_is 2 = .ok (.if_icmp .eq 11, 3) := dk_159 0 11 (dk_at dksX3_is_0 2 rfl rfl)
theorem dX3_is_5 : decode cX3_is 5 = .ok (.aload_n 0, 1) := dk_42 (dk_at dksX3_is_0 5 rfl rfl)
theorem dX3_is_6 : decode cX3_is 6 = .ok (.iload_n 1, 1) := dk_27 (dk_at dksX3_is_0 6 rfl rfl)
theorem dX3_is_7 : decode cX3_is 7 = .ok (.invokespecial 15, 3) := dk_183 0 15 (dk_at dksX3_is_0 7 rfl rfl)
theorem dX3_is_10 : decode cX3_is 10 = .ok (.ifCond .eq 7, 3) := dk_153 0 7 (dk_at dksX3_is_0 10 rfl rfl)
theorem dX3_is_13 : decode cX3_is 13 = .ok (.iconst 1, 1) := dk_4 (dk_at dksX3_is_0 13 rfl rfl)
theorem dX3_is_14 : decode cX3_is 14 = .ok (.goto 4, 3) := dk_167 0 4 (dk_at dksX3_is_0 14 rfl rfl)
theorem dX3_is_17 : decode cX3_is 17 = .ok (.iconst 0, 1) := dk_3 (dk_at dksX3_is_0 17 rfl rfl)
theorem dX3_is_18 : decode cX3_is 18 = .ok (.ireturn, 1) := dk_172 (dk_at dksX3_is_0 18 rfl rfl)
abbrev cX3_tells : ByteArray := prog_4_method_4_code
def yX3_tells : MethodName := ⟨RX3, "tells", "()I"⟩
theorem dX3_tells_0 : decode cX3_tells 0 = .ok (.aload_n 0, 1) := by decide +kernel
theorem dX3_tells_1 : decode cX3_tells 1 = .ok (.getfield 9, 3) := by decide +kernel
theorem dX3_tells_4 : decode cX3_tells 4 = .ok (.ireturn, 1) := by decide +kernel
theorem q94 : (Jvm.Cond.initialized "WithinWords$Told") ∈ lw_all := lw_g (lw_at lw_m1 15 rfl) rfl
theorem q472 : (Jvm.Cond.instantiable "WithinWords$Told" (2 : Nat)) ∈ lw_all := lw_g (lw_at lw_m2 153 rfl) rfl
theorem q477 : (Jvm.Cond.instanceMethod ({ cls := "WithinWords$Told", name := "<init>", desc := "([BI)V" } : Jvm.MethodName)) ∈ lw_all := lw_g (lw_at lw_m2 158 rfl) rfl
theorem q478 : (Jvm.Cond.code ({ cls := "WithinWords$Told", name := "<init>", desc := "([BI)V" } : Jvm.MethodName) prog_4_method_1_code (3 : Nat) (Option.none : Option Jvm.ClassFile.FieldType)) ∈ lw_all := lw_g (lw_at lw_m2 159 rfl) rfl
theorem q479 : (Jvm.Cond.methodLink "WithinWords$Told" (3 : Nat) ({ cls := "WithinWords$Word", name := "<init>", desc := "([B)V" } : Jvm.MethodName)) ∈ lw_all := lw_g (lw_at lw_m2 160 rfl) rfl
theorem q480 : (Jvm.Cond.fieldLink "WithinWords$Told" (9 : Nat) "WithinWords$Told" "bytes" "I") ∈ lw_all := lw_g (lw_at lw_m2 161 rfl) rfl
theorem q482 : (Jvm.Cond.laysFinal "WithinWords$Told" "WithinWords$Told" "bytes" "I") ∈ lw_all := lw_g (lw_at lw_m2 163 rfl) rfl
theorem q483 : (Jvm.Cond.soleField "WithinWords$Told" "bytes") ∈ lw_all := lw_g (lw_at lw_m2 164 rfl) rfl
theorem q484 : (Jvm.Cond.laysFinal "WithinWords$Told" "WithinWords$Word" "letters" "[B") ∈ lw_all := lw_g (lw_at lw_m2 165 rfl) rfl
theorem q485 : (Jvm.Cond.superclass "WithinWords$Told" "WithinWords$Word") ∈ lw_all := lw_g (lw_at lw_m2 166 rfl) rfl
theorem q589 : (Jvm.Cond.selects "WithinWords$Told" ({ cls := "WithinWords$Word", name := "kind", desc := "()I" } : Jvm.MethodName) ({ cls := "WithinWords$Told", name := "kind", desc := "()I" } : Jvm.MethodName)) ∈ lw_all := lw_g (lw_at lw_m3 30 rfl) rfl
theorem q590 : (Jvm.Cond.instanceMethod ({ cls := "WithinWords$Told", name := "kind", desc := "()I" } : Jvm.MethodName)) ∈ lw_all := lw_g (lw_at lw_m3 31 rfl) rfl
theorem q591 : (Jvm.Cond.code ({ cls := "WithinWords$Told", name := "kind", desc := "()I" } : Jvm.MethodName) prog_4_method_2_code (1 : Nat) (Option.some Jvm.ClassFile.FieldType.int)) ∈ lw_all := lw_g (lw_at lw_m3 32 rfl) rfl
theorem q811 : (Jvm.Cond.selects "WithinWords$Told" ({ cls := "WithinWords$Word", name := "is", desc := "(I)Z" } : Jvm.MethodName) ({ cls := "WithinWords$Told", name := "is", desc := "(I)Z" } : Jvm.MethodName)) ∈ lw_all := lw_g (lw_at lw_m4 12 rfl) rfl
theorem q812 : (Jvm.Cond.instanceMethod ({ cls := "WithinWords$Told", name := "is", desc := "(I)Z" } : Jvm.MethodName)) ∈ lw_all := lw_g (lw_at lw_m4 13 rfl) rfl
theorem q813 : (Jvm.Cond.code ({ cls := "WithinWords$Told", name := "is", desc := "(I)Z" } : Jvm.MethodName) prog_4_method_3_code (2 : Nat) (Option.some Jvm.ClassFile.FieldType.boolean)) ∈ lw_all := lw_g (lw_at lw_m4 14 rfl) rfl
theorem q814 : (Jvm.Cond.methodLink "WithinWords$Told" (15 : Nat) ({ cls := "WithinWords$Word", name := "is", desc := "(I)Z" } : Jvm.MethodName)) ∈ lw_all := lw_g (lw_at lw_m4 15 rfl) rfl
theorem q856 : (Jvm.Cond.selects "WithinWords$Told" ({ cls := "WithinWords$Word", name := "tells", desc := "()I" } : Jvm.MethodName) ({ cls := "WithinWords$Told", name := "tells", desc := "()I" } : Jvm.MethodName)) ∈ lw_all := lw_g (lw_at lw_m4 57 rfl) rfl
theorem q857 : (Jvm.Cond.instanceMethod ({ cls := "WithinWords$Told", name := "tells", desc := "()I" } : Jvm.MethodName)) ∈ lw_all := lw_g (lw_at lw_m4 58 rfl) rfl
theorem q858 : (Jvm.Cond.code ({ cls := "WithinWords$Told", name := "tells", desc := "()I" } : Jvm.MethodName) prog_4_method_4_code (1 : Nat) (Option.some Jvm.ClassFile.FieldType.int)) ∈ lw_all := lw_g (lw_at lw_m4 59 rfl) rfl
theorem q1404 : (Jvm.Cond.castable "WithinWords$Told" "WithinWords$Word") ∈ lw_tbl := lw_at lw_m6 125 rfl
theorem in_X3 : ∀ w ∈ wsX30, w ∈ lw_all := lw_in wsX30 [484, 482] (by decide +kernel) (by decide +kernel)

/-! WithinWords$Made -/
set_option maxRecDepth 100000
def RX4 : String := "WithinWords$Made"
def TX4 : u_T := fun k => match k with
  | 0 => ("WithinWords$Word", "letters", "[B", true)
  | _ => ("WithinWords$Made", "from", "I", true)
def tyX4 : Nat → FieldType := fun k => match k with
  | 0 => .array .byte
  | _ => .int
abbrev wsX40 : List Cond := u_ws RX4 TX4 2
theorem nmX4 : ∀ a, a < 2 → ∀ b, b < 2 → a ≠ b → (TX4 a).2.1 ≠ (TX4 b).2.1 := by decide +kernel
theorem tyX4_ok : ∀ k, k < 2 → parseFieldDescriptor (TX4 k).2.2.1 = some (tyX4 k) := by decide +kernel
abbrev cX4_init : ByteArray := prog_3_method_1_code
def yX4_init : MethodName := ⟨RX4, "<init>", "([BI)V"⟩
def dkwX4_init_0 : List UInt8 := [42, 43, 183, 0, 3, 42, 28, 181, 0, 9, 177]
abbrev dktX4_init_0 : List UInt8 := dkwX4_init_0 ++ []
theorem dksX4_init_0 : cX4_init.data.toList.drop 0 = dktX4_init_0 := by decide +kernel
theorem dX4_init_0 : decode cX4_init 0 = .ok (.aload_n 0, 1) := dk_42 (dk_at dksX4_init_0 0 rfl rfl)
theorem dX4_init_1 : decode cX4_init 1 = .ok (.aload_n 1, 1) := dk_43 (dk_at dksX4_init_0 1 rfl rfl)
theorem dX4_init_2 : decode cX4_init 2 = .ok (.invokespecial 3, 3) := dk_183 0 3 (dk_at dksX4_init_0 2 rfl rfl)
theorem dX4_init_5 : decode cX4_init 5 = .ok (.aload_n 0, 1) := dk_42 (dk_at dksX4_init_0 5 rfl rfl)
theorem dX4_init_6 : decode cX4_init 6 = .ok (.iload_n 2, 1) := dk_28 (dk_at dksX4_init_0 6 rfl rfl)
theorem dX4_init_7 : decode cX4_init 7 = .ok (.putfield 9, 3) := dk_181 0 9 (dk_at dksX4_init_0 7 rfl rfl)
theorem dX4_init_10 : decode cX4_init 10 = .ok (.return_, 1) := dk_177 (dk_at dksX4_init_0 10 rfl rfl)
abbrev cX4_kind : ByteArray := prog_3_method_2_code
def yX4_kind : MethodName := ⟨RX4, "kind", "()I"⟩
theorem dX4_kind_0 : decode cX4_kind 0 = .ok (.iconst 2, 1) := by decide +kernel
theorem dX4_kind_1 : decode cX4_kind 1 = .ok (.ireturn, 1) := by decide +kernel
abbrev cX4_is : ByteArray := prog_3_method_3_code
def yX4_is : MethodName := ⟨RX4, "is", "(I)Z"⟩
def dkwX4_is_0 : List UInt8 := [27, 5, 159, 0, 11, 42, 27, 183, 0, 15, 153, 0, 7, 4, 167, 0, 4, 3, 172]
abbrev dktX4_is_0 : List UInt8 := dkwX4_is_0 ++ []
theorem dksX4_is_0 : cX4_is.data.toList.drop 0 = dktX4_is_0 := by decide +kernel
theorem dX4_is_0 : decode cX4_is 0 = .ok (.iload_n 1, 1) := dk_27 (dk_at dksX4_is_0 0 rfl rfl)
theorem dX4_is_1 : decode cX4_is 1 = .ok (.iconst 2, 1) := dk_5 (dk_at dksX4_is_0 1 rfl rfl)
theorem dX4_is_2 : decode cX4_is 2 = .ok (.if_icmp .eq 11, 3) := dk_159 0 11 (dk_at dksX4_is_0 2 rfl rfl)
theorem dX4_is_5 : decode cX4_is 5 = .ok (.aload_n 0, 1) := dk_42 (dk_at dksX4_is_0 5 rfl rfl)
theorem dX4_is_6 : decode cX4_is 6 = .ok (.iload_n 1, 1) := dk_27 (dk_at dksX4_is_0 6 rfl rfl)
theorem dX4_is_7 : decode cX4_is 7 = .ok (.invokespecial 15, 3) := dk_183 0 15 (dk_at dksX4_is_0 7 rfl rfl)
theorem dX4_is_10 : decode cX4_is 10 = .ok (.ifCond .eq 7, 3) := dk_153 0 7 (dk_at dksX4_is_0 10 rfl rfl)
theorem dX4_is_13 : decode cX4_is 13 = .ok (.iconst 1, 1) := dk_4 (dk_at dksX4_is_0 13 rfl rfl)
theorem dX4_is_14 : decode cX4_is 14 = .ok (.goto 4, 3) := dk_167 0 4 (dk_at dksX4_is_0 14 rfl rfl)
theorem dX4_is_17 : decode cX4_is 17 = .ok (.iconst 0, 1) := dk_3 (dk_at dksX4_is_0 17 rfl rfl)
theorem dX4_is_18 : decode cX4_is 18 = .ok (.ireturn, 1) := dk_172 (dk_at dksX4_is_0 18 rfl rfl)
abbrev cX4_tells : ByteArray := prog_3_method_4_code
def yX4_tells : MethodName := ⟨RX4, "tells", "()I"⟩
theorem dX4_tells_0 : decode cX4_tells 0 = .ok (.aload_n 0, 1) := by decide +kernel
theorem dX4_tells_1 : decode cX4_tells 1 = .ok (.getfield 9, 3) := by decide +kernel
theorem dX4_tells_4 : decode cX4_tells 4 = .ok (.ireturn, 1) := by decide +kernel
theorem q95 : (Jvm.Cond.initialized "WithinWords$Made") ∈ lw_all := lw_g (lw_at lw_m1 16 rfl) rfl
theorem q499 : (Jvm.Cond.instantiable "WithinWords$Made" (2 : Nat)) ∈ lw_all := lw_g (lw_at lw_m2 180 rfl) rfl
theorem q501 : (Jvm.Cond.instanceMethod ({ cls := "WithinWords$Made", name := "<init>", desc := "([BI)V" } : Jvm.MethodName)) ∈ lw_all := lw_g (lw_at lw_m2 182 rfl) rfl
theorem q502 : (Jvm.Cond.code ({ cls := "WithinWords$Made", name := "<init>", desc := "([BI)V" } : Jvm.MethodName) prog_3_method_1_code (3 : Nat) (Option.none : Option Jvm.ClassFile.FieldType)) ∈ lw_all := lw_g (lw_at lw_m2 183 rfl) rfl
theorem q503 : (Jvm.Cond.methodLink "WithinWords$Made" (3 : Nat) ({ cls := "WithinWords$Word", name := "<init>", desc := "([B)V" } : Jvm.MethodName)) ∈ lw_all := lw_g (lw_at lw_m2 184 rfl) rfl
theorem q504 : (Jvm.Cond.fieldLink "WithinWords$Made" (9 : Nat) "WithinWords$Made" "from" "I") ∈ lw_all := lw_g (lw_at lw_m2 185 rfl) rfl
theorem q506 : (Jvm.Cond.laysFinal "WithinWords$Made" "WithinWords$Made" "from" "I") ∈ lw_all := lw_g (lw_at lw_m2 187 rfl) rfl
theorem q507 : (Jvm.Cond.soleField "WithinWords$Made" "from") ∈ lw_all := lw_g (lw_at lw_m2 188 rfl) rfl
theorem q508 : (Jvm.Cond.laysFinal "WithinWords$Made" "WithinWords$Word" "letters" "[B") ∈ lw_all := lw_g (lw_at lw_m2 189 rfl) rfl
theorem q509 : (Jvm.Cond.superclass "WithinWords$Made" "WithinWords$Word") ∈ lw_all := lw_g (lw_at lw_m2 190 rfl) rfl
theorem q586 : (Jvm.Cond.selects "WithinWords$Made" ({ cls := "WithinWords$Word", name := "kind", desc := "()I" } : Jvm.MethodName) ({ cls := "WithinWords$Made", name := "kind", desc := "()I" } : Jvm.MethodName)) ∈ lw_all := lw_g (lw_at lw_m3 27 rfl) rfl
theorem q587 : (Jvm.Cond.instanceMethod ({ cls := "WithinWords$Made", name := "kind", desc := "()I" } : Jvm.MethodName)) ∈ lw_all := lw_g (lw_at lw_m3 28 rfl) rfl
theorem q588 : (Jvm.Cond.code ({ cls := "WithinWords$Made", name := "kind", desc := "()I" } : Jvm.MethodName) prog_3_method_2_code (1 : Nat) (Option.some Jvm.ClassFile.FieldType.int)) ∈ lw_all := lw_g (lw_at lw_m3 29 rfl) rfl
theorem q807 : (Jvm.Cond.instanceMethod ({ cls := "WithinWords$Made", name := "is", desc := "(I)Z" } : Jvm.MethodName)) ∈ lw_all := lw_g (lw_at lw_m4 8 rfl) rfl
theorem q808 : (Jvm.Cond.code ({ cls := "WithinWords$Made", name := "is", desc := "(I)Z" } : Jvm.MethodName) prog_3_method_3_code (2 : Nat) (Option.some Jvm.ClassFile.FieldType.boolean)) ∈ lw_all := lw_g (lw_at lw_m4 9 rfl) rfl
theorem q809 : (Jvm.Cond.methodLink "WithinWords$Made" (15 : Nat) ({ cls := "WithinWords$Word", name := "is", desc := "(I)Z" } : Jvm.MethodName)) ∈ lw_all := lw_g (lw_at lw_m4 10 rfl) rfl
theorem q810 : (Jvm.Cond.selects "WithinWords$Made" ({ cls := "WithinWords$Word", name := "is", desc := "(I)Z" } : Jvm.MethodName) ({ cls := "WithinWords$Made", name := "is", desc := "(I)Z" } : Jvm.MethodName)) ∈ lw_all := lw_g (lw_at lw_m4 11 rfl) rfl
theorem q853 : (Jvm.Cond.selects "WithinWords$Made" ({ cls := "WithinWords$Word", name := "tells", desc := "()I" } : Jvm.MethodName) ({ cls := "WithinWords$Made", name := "tells", desc := "()I" } : Jvm.MethodName)) ∈ lw_all := lw_g (lw_at lw_m4 54 rfl) rfl
theorem q854 : (Jvm.Cond.instanceMethod ({ cls := "WithinWords$Made", name := "tells", desc := "()I" } : Jvm.MethodName)) ∈ lw_all := lw_g (lw_at lw_m4 55 rfl) rfl
theorem q855 : (Jvm.Cond.code ({ cls := "WithinWords$Made", name := "tells", desc := "()I" } : Jvm.MethodName) prog_3_method_4_code (1 : Nat) (Option.some Jvm.ClassFile.FieldType.int)) ∈ lw_all := lw_g (lw_at lw_m4 56 rfl) rfl
theorem q1400 : (Jvm.Cond.sameMethod "WithinWords$Made" "WithinWords$Made" "is" "(I)Z") ∈ lw_all := lw_g (lw_at lw_m6 121 rfl) rfl
theorem q1405 : (Jvm.Cond.castable "WithinWords$Made" "WithinWords$Word") ∈ lw_tbl := lw_at lw_m6 126 rfl
theorem in_X4 : ∀ w ∈ wsX40, w ∈ lw_all := lw_in wsX40 [508, 506] (by decide +kernel) (by decide +kernel)

/-! WithinWords$Turned -/
set_option maxRecDepth 100000
def RX5 : String := "WithinWords$Turned"
def TX5 : u_T := fun k => match k with
  | 0 => ("WithinWords$Word", "letters", "[B", true)
  | 1 => ("WithinWords$Made", "from", "I", true)
  | _ => ("WithinWords$Turned", "how", "I", true)
def tyX5 : Nat → FieldType := fun k => match k with
  | 0 => .array .byte
  | 1 => .int
  | _ => .int
abbrev wsX50 : List Cond := u_ws RX5 TX5 3
theorem nmX5 : ∀ a, a < 3 → ∀ b, b < 3 → a ≠ b → (TX5 a).2.1 ≠ (TX5 b).2.1 := by decide +kernel
theorem tyX5_ok : ∀ k, k < 3 → parseFieldDescriptor (TX5 k).2.2.1 = some (tyX5 k) := by decide +kernel
abbrev cX5_init : ByteArray := prog_5_method_1_code
def yX5_init : MethodName := ⟨RX5, "<init>", "([BII)V"⟩
def dkwX5_init_0 : List UInt8 := [42, 43, 28, 183, 0, 3, 42, 29, 181, 0, 9, 177]
abbrev dktX5_init_0 : List UInt8 := dkwX5_init_0 ++ []
theorem dksX5_init_0 : cX5_init.data.toList.drop 0 = dktX5_init_0 := by decide +kernel
theorem dX5_init_0 : decode cX5_init 0 = .ok (.aload_n 0, 1) := dk_42 (dk_at dksX5_init_0 0 rfl rfl)
theorem dX5_init_1 : decode cX5_init 1 = .ok (.aload_n 1, 1) := dk_43 (dk_at dksX5_init_0 1 rfl rfl)
theorem dX5_init_2 : decode cX5_init 2 = .ok (.iload_n 2, 1) := dk_28 (dk_at dksX5_init_0 2 rfl rfl)
theorem dX5_init_3 : decode cX5_init 3 = .ok (.invokespecial 3, 3) := dk_183 0 3 (dk_at dksX5_init_0 3 rfl rfl)
theorem dX5_init_6 : decode cX5_init 6 = .ok (.aload_n 0, 1) := dk_42 (dk_at dksX5_init_0 6 rfl rfl)
theorem dX5_init_7 : decode cX5_init 7 = .ok (.iload_n 3, 1) := dk_29 (dk_at dksX5_init_0 7 rfl rfl)
theorem dX5_init_8 : decode cX5_init 8 = .ok (.putfield 9, 3) := dk_181 0 9 (dk_at dksX5_init_0 8 rfl rfl)
theorem dX5_init_11 : decode cX5_init 11 = .ok (.return_, 1) := dk_177 (dk_at dksX5_init_0 11 rfl rfl)
abbrev cX5_kind : ByteArray := prog_5_method_2_code
def yX5_kind : MethodName := ⟨RX5, "kind", "()I"⟩
theorem dX5_kind_0 : decode cX5_kind 0 = .ok (.iconst 3, 1) := by decide +kernel
theorem dX5_kind_1 : decode cX5_kind 1 = .ok (.ireturn, 1) := by decide +kernel
abbrev cX5_is : ByteArray := prog_5_method_3_code
def yX5_is : MethodName := ⟨RX5, "is", "(I)Z"⟩
def dkwX5_is_0 : List UInt8 := [27, 6, 159, 0, 11, 42, 27, 183, 0, 15, 153, 0, 7, 4, 167, 0, 4, 3, 172]
abbrev dktX5_is_0 : List UInt8 := dkwX5_is_0 ++ []
theorem dksX5_is_0 : cX5_is.data.toList.drop 0 = dktX5_is_0 := by decide +kernel
theorem dX5_is_0 : decode cX5_is 0 = .ok (.iload_n 1, 1) := dk_27 (dk_at dksX5_is_0 0 rfl rfl)
theorem dX5_is_1 : decode cX5_is 1 = .ok (.iconst 3, 1) := dk_6 (dk_at dksX5_is_0 1 rfl rfl)
theorem dX5_is_2 : decode cX5_is 2 = .ok (.if_icmp .eq 11, 3) := dk_159 0 11 (dk_at dksX5_is_0 2 rfl rfl)
theorem dX5_is_5 : decode cX5_is 5 = .ok (.aload_n 0, 1) := dk_42 (dk_at dksX5_is_0 5 rfl rfl)
theorem dX5_is_6 : decode cX5_is 6 = .ok (.iload_n 1, 1) := dk_27 (dk_at dksX5_is_0 6 rfl rfl)
theorem dX5_is_7 : decode cX5_is 7 = .ok (.invokespecial 15, 3) := dk_183 0 15 (dk_at dksX5_is_0 7 rfl rfl)
theorem dX5_is_10 : decode cX5_is 10 = .ok (.ifCond .eq 7, 3) := dk_153 0 7 (dk_at dksX5_is_0 10 rfl rfl)
theorem dX5_is_13 : decode cX5_is 13 = .ok (.iconst 1, 1) := dk_4 (dk_at dksX5_is_0 13 rfl rfl)
theorem dX5_is_14 : decode cX5_is 14 = .ok (.goto 4, 3) := dk_167 0 4 (dk_at dksX5_is_0 14 rfl rfl)
theorem dX5_is_17 : decode cX5_is 17 = .ok (.iconst 0, 1) := dk_3 (dk_at dksX5_is_0 17 rfl rfl)
theorem dX5_is_18 : decode cX5_is 18 = .ok (.ireturn, 1) := dk_172 (dk_at dksX5_is_0 18 rfl rfl)
abbrev cX5_tells : ByteArray := prog_5_method_4_code
def yX5_tells : MethodName := ⟨RX5, "tells", "()I"⟩
theorem dX5_tells_0 : decode cX5_tells 0 = .ok (.aload_n 0, 1) := by decide +kernel
theorem dX5_tells_1 : decode cX5_tells 1 = .ok (.getfield 9, 3) := by decide +kernel
theorem dX5_tells_4 : decode cX5_tells 4 = .ok (.ireturn, 1) := by decide +kernel
theorem q96 : (Jvm.Cond.initialized "WithinWords$Turned") ∈ lw_all := lw_g (lw_at lw_m1 17 rfl) rfl
theorem q523 : (Jvm.Cond.instantiable "WithinWords$Turned" (3 : Nat)) ∈ lw_all := lw_g (lw_at lw_m2 204 rfl) rfl
theorem q525 : (Jvm.Cond.instanceMethod ({ cls := "WithinWords$Turned", name := "<init>", desc := "([BII)V" } : Jvm.MethodName)) ∈ lw_all := lw_g (lw_at lw_m2 206 rfl) rfl
theorem q526 : (Jvm.Cond.code ({ cls := "WithinWords$Turned", name := "<init>", desc := "([BII)V" } : Jvm.MethodName) prog_5_method_1_code (4 : Nat) (Option.none : Option Jvm.ClassFile.FieldType)) ∈ lw_all := lw_g (lw_at lw_m2 207 rfl) rfl
theorem q527 : (Jvm.Cond.methodLink "WithinWords$Turned" (3 : Nat) ({ cls := "WithinWords$Made", name := "<init>", desc := "([BI)V" } : Jvm.MethodName)) ∈ lw_all := lw_g (lw_at lw_m2 208 rfl) rfl
theorem q528 : (Jvm.Cond.fieldLink "WithinWords$Turned" (9 : Nat) "WithinWords$Turned" "how" "I") ∈ lw_all := lw_g (lw_at lw_m2 209 rfl) rfl
theorem q530 : (Jvm.Cond.laysFinal "WithinWords$Turned" "WithinWords$Turned" "how" "I") ∈ lw_all := lw_g (lw_at lw_m2 211 rfl) rfl
theorem q531 : (Jvm.Cond.soleField "WithinWords$Turned" "how") ∈ lw_all := lw_g (lw_at lw_m2 212 rfl) rfl
theorem q532 : (Jvm.Cond.laysFinal "WithinWords$Turned" "WithinWords$Made" "from" "I") ∈ lw_all := lw_g (lw_at lw_m2 213 rfl) rfl
theorem q533 : (Jvm.Cond.laysFinal "WithinWords$Turned" "WithinWords$Word" "letters" "[B") ∈ lw_all := lw_g (lw_at lw_m2 214 rfl) rfl
theorem q534 : (Jvm.Cond.superclass "WithinWords$Turned" "WithinWords$Made") ∈ lw_all := lw_g (lw_at lw_m2 215 rfl) rfl
theorem q592 : (Jvm.Cond.selects "WithinWords$Turned" ({ cls := "WithinWords$Word", name := "kind", desc := "()I" } : Jvm.MethodName) ({ cls := "WithinWords$Turned", name := "kind", desc := "()I" } : Jvm.MethodName)) ∈ lw_all := lw_g (lw_at lw_m3 33 rfl) rfl
theorem q593 : (Jvm.Cond.instanceMethod ({ cls := "WithinWords$Turned", name := "kind", desc := "()I" } : Jvm.MethodName)) ∈ lw_all := lw_g (lw_at lw_m3 34 rfl) rfl
theorem q594 : (Jvm.Cond.code ({ cls := "WithinWords$Turned", name := "kind", desc := "()I" } : Jvm.MethodName) prog_5_method_2_code (1 : Nat) (Option.some Jvm.ClassFile.FieldType.int)) ∈ lw_all := lw_g (lw_at lw_m3 35 rfl) rfl
theorem q815 : (Jvm.Cond.selects "WithinWords$Turned" ({ cls := "WithinWords$Word", name := "is", desc := "(I)Z" } : Jvm.MethodName) ({ cls := "WithinWords$Turned", name := "is", desc := "(I)Z" } : Jvm.MethodName)) ∈ lw_all := lw_g (lw_at lw_m4 16 rfl) rfl
theorem q816 : (Jvm.Cond.instanceMethod ({ cls := "WithinWords$Turned", name := "is", desc := "(I)Z" } : Jvm.MethodName)) ∈ lw_all := lw_g (lw_at lw_m4 17 rfl) rfl
theorem q817 : (Jvm.Cond.code ({ cls := "WithinWords$Turned", name := "is", desc := "(I)Z" } : Jvm.MethodName) prog_5_method_3_code (2 : Nat) (Option.some Jvm.ClassFile.FieldType.boolean)) ∈ lw_all := lw_g (lw_at lw_m4 18 rfl) rfl
theorem q818 : (Jvm.Cond.methodLink "WithinWords$Turned" (15 : Nat) ({ cls := "WithinWords$Made", name := "is", desc := "(I)Z" } : Jvm.MethodName)) ∈ lw_all := lw_g (lw_at lw_m4 19 rfl) rfl
theorem q859 : (Jvm.Cond.selects "WithinWords$Turned" ({ cls := "WithinWords$Word", name := "tells", desc := "()I" } : Jvm.MethodName) ({ cls := "WithinWords$Turned", name := "tells", desc := "()I" } : Jvm.MethodName)) ∈ lw_all := lw_g (lw_at lw_m4 60 rfl) rfl
theorem q860 : (Jvm.Cond.instanceMethod ({ cls := "WithinWords$Turned", name := "tells", desc := "()I" } : Jvm.MethodName)) ∈ lw_all := lw_g (lw_at lw_m4 61 rfl) rfl
theorem q861 : (Jvm.Cond.code ({ cls := "WithinWords$Turned", name := "tells", desc := "()I" } : Jvm.MethodName) prog_5_method_4_code (1 : Nat) (Option.some Jvm.ClassFile.FieldType.int)) ∈ lw_all := lw_g (lw_at lw_m4 62 rfl) rfl
theorem q1403 : (Jvm.Cond.castable "WithinWords$Turned" "WithinWords$Made") ∈ lw_tbl := lw_at lw_m6 124 rfl
theorem q1406 : (Jvm.Cond.castable "WithinWords$Turned" "WithinWords$Word") ∈ lw_tbl := lw_at lw_m6 127 rfl
theorem in_X5 : ∀ w ∈ wsX50, w ∈ lw_all := lw_in wsX50 [533, 532, 530] (by decide +kernel) (by decide +kernel)

/-! WithinWords$Dropped -/
set_option maxRecDepth 100000
def RX6 : String := "WithinWords$Dropped"
def TX6 : u_T := fun k => match k with
  | 0 => ("WithinWords$Word", "letters", "[B", true)
  | 1 => ("WithinWords$Made", "from", "I", true)
  | _ => ("WithinWords$Dropped", "depth", "I", true)
def tyX6 : Nat → FieldType := fun k => match k with
  | 0 => .array .byte
  | 1 => .int
  | _ => .int
abbrev wsX60 : List Cond := u_ws RX6 TX6 3
theorem nmX6 : ∀ a, a < 3 → ∀ b, b < 3 → a ≠ b → (TX6 a).2.1 ≠ (TX6 b).2.1 := by decide +kernel
theorem tyX6_ok : ∀ k, k < 3 → parseFieldDescriptor (TX6 k).2.2.1 = some (tyX6 k) := by decide +kernel
abbrev cX6_init : ByteArray := prog_2_method_1_code
def yX6_init : MethodName := ⟨RX6, "<init>", "([BII)V"⟩
def dkwX6_init_0 : List UInt8 := [42, 43, 28, 183, 0, 3, 42, 29, 181, 0, 9, 177]
abbrev dktX6_init_0 : List UInt8 := dkwX6_init_0 ++ []
theorem dksX6_init_0 : cX6_init.data.toList.drop 0 = dktX6_init_0 := by decide +kernel
theorem dX6_init_0 : decode cX6_init 0 = .ok (.aload_n 0, 1) := dk_42 (dk_at dksX6_init_0 0 rfl rfl)
theorem dX6_init_1 : decode cX6_init 1 = .ok (.aload_n 1, 1) := dk_43 (dk_at dksX6_init_0 1 rfl rfl)
theorem dX6_init_2 : decode cX6_init 2 = .ok (.iload_n 2, 1) := dk_28 (dk_at dksX6_init_0 2 rfl rfl)
theorem dX6_init_3 : decode cX6_init 3 = .ok (.invokespecial 3, 3) := dk_183 0 3 (dk_at dksX6_init_0 3 rfl rfl)
theorem dX6_init_6 : decode cX6_init 6 = .ok (.aload_n 0, 1) := dk_42 (dk_at dksX6_init_0 6 rfl rfl)
theorem dX6_init_7 : decode cX6_init 7 = .ok (.iload_n 3, 1) := dk_29 (dk_at dksX6_init_0 7 rfl rfl)
theorem dX6_init_8 : decode cX6_init 8 = .ok (.putfield 9, 3) := dk_181 0 9 (dk_at dksX6_init_0 8 rfl rfl)
theorem dX6_init_11 : decode cX6_init 11 = .ok (.return_, 1) := dk_177 (dk_at dksX6_init_0 11 rfl rfl)
abbrev cX6_kind : ByteArray := prog_2_method_2_code
def yX6_kind : MethodName := ⟨RX6, "kind", "()I"⟩
theorem dX6_kind_0 : decode cX6_kind 0 = .ok (.iconst 4, 1) := by decide +kernel
theorem dX6_kind_1 : decode cX6_kind 1 = .ok (.ireturn, 1) := by decide +kernel
abbrev cX6_is : ByteArray := prog_2_method_3_code
def yX6_is : MethodName := ⟨RX6, "is", "(I)Z"⟩
def dkwX6_is_0 : List UInt8 := [27, 7, 159, 0, 11, 42, 27, 183, 0, 15, 153, 0, 7, 4, 167, 0, 4, 3, 172]
abbrev dktX6_is_0 : List UInt8 := dkwX6_is_0 ++ []
theorem dksX6_is_0 : cX6_is.data.toList.drop 0 = dktX6_is_0 := by decide +kernel
theorem dX6_is_0 : decode cX6_is 0 = .ok (.iload_n 1, 1) := dk_27 (dk_at dksX6_is_0 0 rfl rfl)
theorem dX6_is_1 : decode cX6_is 1 = .ok (.iconst 4, 1) := dk_7 (dk_at dksX6_is_0 1 rfl rfl)
theorem dX6_is_2 : decode cX6_is 2 = .ok (.if_icmp .eq 11, 3) := dk_159 0 11 (dk_at dksX6_is_0 2 rfl rfl)
theorem dX6_is_5 : decode cX6_is 5 = .ok (.aload_n 0, 1) := dk_42 (dk_at dksX6_is_0 5 rfl rfl)
theorem dX6_is_6 : decode cX6_is 6 = .ok (.iload_n 1, 1) := dk_27 (dk_at dksX6_is_0 6 rfl rfl)
theorem dX6_is_7 : decode cX6_is 7 = .ok (.invokespecial 15, 3) := dk_183 0 15 (dk_at dksX6_is_0 7 rfl rfl)
theorem dX6_is_10 : decode cX6_is 10 = .ok (.ifCond .eq 7, 3) := dk_153 0 7 (dk_at dksX6_is_0 10 rfl rfl)
theorem dX6_is_13 : decode cX6_is 13 = .ok (.iconst 1, 1) := dk_4 (dk_at dksX6_is_0 13 rfl rfl)
theorem dX6_is_14 : decode cX6_is 14 = .ok (.goto 4, 3) := dk_167 0 4 (dk_at dksX6_is_0 14 rfl rfl)
theorem dX6_is_17 : decode cX6_is 17 = .ok (.iconst 0, 1) := dk_3 (dk_at dksX6_is_0 17 rfl rfl)
theorem dX6_is_18 : decode cX6_is 18 = .ok (.ireturn, 1) := dk_172 (dk_at dksX6_is_0 18 rfl rfl)
abbrev cX6_tells : ByteArray := prog_2_method_4_code
def yX6_tells : MethodName := ⟨RX6, "tells", "()I"⟩
theorem dX6_tells_0 : decode cX6_tells 0 = .ok (.aload_n 0, 1) := by decide +kernel
theorem dX6_tells_1 : decode cX6_tells 1 = .ok (.getfield 9, 3) := by decide +kernel
theorem dX6_tells_4 : decode cX6_tells 4 = .ok (.ireturn, 1) := by decide +kernel
theorem q97 : (Jvm.Cond.initialized "WithinWords$Dropped") ∈ lw_all := lw_g (lw_at lw_m1 18 rfl) rfl
theorem q551 : (Jvm.Cond.instantiable "WithinWords$Dropped" (3 : Nat)) ∈ lw_all := lw_g (lw_at lw_m2 232 rfl) rfl
theorem q553 : (Jvm.Cond.instanceMethod ({ cls := "WithinWords$Dropped", name := "<init>", desc := "([BII)V" } : Jvm.MethodName)) ∈ lw_all := lw_g (lw_at lw_m2 234 rfl) rfl
theorem q554 : (Jvm.Cond.code ({ cls := "WithinWords$Dropped", name := "<init>", desc := "([BII)V" } : Jvm.MethodName) prog_2_method_1_code (4 : Nat) (Option.none : Option Jvm.ClassFile.FieldType)) ∈ lw_all := lw_g (lw_at lw_m2 235 rfl) rfl
theorem q555 : (Jvm.Cond.methodLink "WithinWords$Dropped" (3 : Nat) ({ cls := "WithinWords$Made", name := "<init>", desc := "([BI)V" } : Jvm.MethodName)) ∈ lw_all := lw_g (lw_at lw_m2 236 rfl) rfl
theorem q556 : (Jvm.Cond.fieldLink "WithinWords$Dropped" (9 : Nat) "WithinWords$Dropped" "depth" "I") ∈ lw_all := lw_g (lw_at lw_m2 237 rfl) rfl
theorem q558 : (Jvm.Cond.laysFinal "WithinWords$Dropped" "WithinWords$Dropped" "depth" "I") ∈ lw_all := lw_g (lw_at lw_m2 239 rfl) rfl
theorem q559 : (Jvm.Cond.soleField "WithinWords$Dropped" "depth") ∈ lw_all := lw_g (lw_at lw_m3 0 rfl) rfl
theorem q560 : (Jvm.Cond.laysFinal "WithinWords$Dropped" "WithinWords$Made" "from" "I") ∈ lw_all := lw_g (lw_at lw_m3 1 rfl) rfl
theorem q561 : (Jvm.Cond.laysFinal "WithinWords$Dropped" "WithinWords$Word" "letters" "[B") ∈ lw_all := lw_g (lw_at lw_m3 2 rfl) rfl
theorem q562 : (Jvm.Cond.superclass "WithinWords$Dropped" "WithinWords$Made") ∈ lw_all := lw_g (lw_at lw_m3 3 rfl) rfl
theorem q583 : (Jvm.Cond.selects "WithinWords$Dropped" ({ cls := "WithinWords$Word", name := "kind", desc := "()I" } : Jvm.MethodName) ({ cls := "WithinWords$Dropped", name := "kind", desc := "()I" } : Jvm.MethodName)) ∈ lw_all := lw_g (lw_at lw_m3 24 rfl) rfl
theorem q584 : (Jvm.Cond.instanceMethod ({ cls := "WithinWords$Dropped", name := "kind", desc := "()I" } : Jvm.MethodName)) ∈ lw_all := lw_g (lw_at lw_m3 25 rfl) rfl
theorem q585 : (Jvm.Cond.code ({ cls := "WithinWords$Dropped", name := "kind", desc := "()I" } : Jvm.MethodName) prog_2_method_2_code (1 : Nat) (Option.some Jvm.ClassFile.FieldType.int)) ∈ lw_all := lw_g (lw_at lw_m3 26 rfl) rfl
theorem q803 : (Jvm.Cond.selects "WithinWords$Dropped" ({ cls := "WithinWords$Word", name := "is", desc := "(I)Z" } : Jvm.MethodName) ({ cls := "WithinWords$Dropped", name := "is", desc := "(I)Z" } : Jvm.MethodName)) ∈ lw_all := lw_g (lw_at lw_m4 4 rfl) rfl
theorem q804 : (Jvm.Cond.instanceMethod ({ cls := "WithinWords$Dropped", name := "is", desc := "(I)Z" } : Jvm.MethodName)) ∈ lw_all := lw_g (lw_at lw_m4 5 rfl) rfl
theorem q805 : (Jvm.Cond.code ({ cls := "WithinWords$Dropped", name := "is", desc := "(I)Z" } : Jvm.MethodName) prog_2_method_3_code (2 : Nat) (Option.some Jvm.ClassFile.FieldType.boolean)) ∈ lw_all := lw_g (lw_at lw_m4 6 rfl) rfl
theorem q806 : (Jvm.Cond.methodLink "WithinWords$Dropped" (15 : Nat) ({ cls := "WithinWords$Made", name := "is", desc := "(I)Z" } : Jvm.MethodName)) ∈ lw_all := lw_g (lw_at lw_m4 7 rfl) rfl
theorem q850 : (Jvm.Cond.selects "WithinWords$Dropped" ({ cls := "WithinWords$Word", name := "tells", desc := "()I" } : Jvm.MethodName) ({ cls := "WithinWords$Dropped", name := "tells", desc := "()I" } : Jvm.MethodName)) ∈ lw_all := lw_g (lw_at lw_m4 51 rfl) rfl
theorem q851 : (Jvm.Cond.instanceMethod ({ cls := "WithinWords$Dropped", name := "tells", desc := "()I" } : Jvm.MethodName)) ∈ lw_all := lw_g (lw_at lw_m4 52 rfl) rfl
theorem q852 : (Jvm.Cond.code ({ cls := "WithinWords$Dropped", name := "tells", desc := "()I" } : Jvm.MethodName) prog_2_method_4_code (1 : Nat) (Option.some Jvm.ClassFile.FieldType.int)) ∈ lw_all := lw_g (lw_at lw_m4 53 rfl) rfl
theorem q1402 : (Jvm.Cond.castable "WithinWords$Dropped" "WithinWords$Made") ∈ lw_tbl := lw_at lw_m6 123 rfl
theorem q1407 : (Jvm.Cond.castable "WithinWords$Dropped" "WithinWords$Word") ∈ lw_tbl := lw_at lw_m6 128 rfl
theorem in_X6 : ∀ w ∈ wsX60, w ∈ lw_all := lw_in wsX60 [561, 560, 558] (by decide +kernel) (by decide +kernel)

theorem q110 : (Jvm.Cond.arrayOver (Jvm.ClassFile.FieldType.array Jvm.ClassFile.FieldType.int)) ∈ lw_tbl := lw_at lw_m1 31 rfl
set_option maxRecDepth 100000
theorem q112 : (Jvm.Cond.arrayOver (Jvm.ClassFile.FieldType.array Jvm.ClassFile.FieldType.byte)) ∈ lw_tbl := lw_at lw_m1 33 rfl
theorem q114 : (Jvm.Cond.arrayOver (Jvm.ClassFile.FieldType.object "WithinWords$Word")) ∈ lw_tbl := lw_at lw_m1 35 rfl
theorem q215 : (Jvm.Cond.arrayClass Jvm.ClassFile.FieldType.int) ∈ lw_all := lw_g (lw_at lw_m1 136 rfl) rfl
theorem q216 : (Jvm.Cond.arrayClass Jvm.ClassFile.FieldType.byte) ∈ lw_all := lw_g (lw_at lw_m1 137 rfl) rfl
theorem q217 : (Jvm.Cond.arrayClass Jvm.ClassFile.FieldType.long) ∈ lw_all := lw_g (lw_at lw_m1 138 rfl) rfl
theorem q1002 : (Jvm.Cond.arrayClass Jvm.ClassFile.FieldType.boolean) ∈ lw_all := lw_g (lw_at lw_m4 203 rfl) rfl

theorem q79 : (Jvm.Cond.initialized "WithinWordsLaw") ∈ lw_all := lw_g (lw_at lw_m1 0 rfl) rfl
set_option maxRecDepth 100000
theorem q101 : (Jvm.Cond.classLink "WithinWordsLaw" (7 : Nat) "WithinWords") ∈ lw_all := lw_g (lw_at lw_m1 22 rfl) rfl
theorem q103 : (Jvm.Cond.methodLink "WithinWordsLaw" (9 : Nat) ({ cls := "WithinWords", name := "<init>", desc := "()V" } : Jvm.MethodName)) ∈ lw_all := lw_g (lw_at lw_m1 24 rfl) rfl
theorem q218 : (Jvm.Cond.methodLink "WithinWordsLaw" (13 : Nat) ({ cls := "WithinWords", name := "row", desc := "(II)I" } : Jvm.MethodName)) ∈ lw_all := lw_g (lw_at lw_m1 139 rfl) rfl
theorem q317 : (Jvm.Cond.methodLink "WithinWordsLaw" (18 : Nat) ({ cls := "WithinWords", name := "lay", desc := "(III)I" } : Jvm.MethodName)) ∈ lw_all := lw_g (lw_at lw_m1 238 rfl) rfl
theorem q373 : (Jvm.Cond.methodLink "WithinWordsLaw" (23 : Nat) ({ cls := "WithinWords", name := "at", desc := "(II)I" } : Jvm.MethodName)) ∈ lw_all := lw_g (lw_at lw_m2 54 rfl) rfl
theorem q374 : (Jvm.Cond.methodLink "WithinWordsLaw" (27 : Nat) ({ cls := "WithinWords", name := "tear", desc := "(I)I" } : Jvm.MethodName)) ∈ lw_all := lw_g (lw_at lw_m2 55 rfl) rfl
theorem q378 : (Jvm.Cond.methodLink "WithinWordsLaw" (32 : Nat) ({ cls := "WithinWords", name := "copy", desc := "(IIIII)I" } : Jvm.MethodName)) ∈ lw_all := lw_g (lw_at lw_m2 59 rfl) rfl
theorem q386 : (Jvm.Cond.methodLink "WithinWordsLaw" (37 : Nat) ({ cls := "WithinWords", name := "mean", desc := "(I)I" } : Jvm.MethodName)) ∈ lw_all := lw_g (lw_at lw_m2 67 rfl) rfl
theorem q404 : (Jvm.Cond.methodLink "WithinWordsLaw" (41 : Nat) ({ cls := "WithinWords", name := "text", desc := "(II)I" } : Jvm.MethodName)) ∈ lw_all := lw_g (lw_at lw_m2 85 rfl) rfl
theorem q411 : (Jvm.Cond.methodLink "WithinWordsLaw" (45 : Nat) ({ cls := "WithinWords", name := "put", desc := "(III)I" } : Jvm.MethodName)) ∈ lw_all := lw_g (lw_at lw_m2 92 rfl) rfl
theorem q415 : (Jvm.Cond.methodLink "WithinWordsLaw" (49 : Nat) ({ cls := "WithinWords", name := "letters", desc := "(I)I" } : Jvm.MethodName)) ∈ lw_all := lw_g (lw_at lw_m2 96 rfl) rfl
theorem q419 : (Jvm.Cond.methodLink "WithinWordsLaw" (53 : Nat) ({ cls := "WithinWords", name := "word", desc := "(II)I" } : Jvm.MethodName)) ∈ lw_all := lw_g (lw_at lw_m2 100 rfl) rfl
theorem q436 : (Jvm.Cond.methodLink "WithinWordsLaw" (57 : Nat) ({ cls := "WithinWords", name := "fault", desc := "(I)I" } : Jvm.MethodName)) ∈ lw_all := lw_g (lw_at lw_m2 117 rfl) rfl
theorem q467 : (Jvm.Cond.methodLink "WithinWordsLaw" (61 : Nat) ({ cls := "WithinWords", name := "tell", desc := "(II)I" } : Jvm.MethodName)) ∈ lw_all := lw_g (lw_at lw_m2 148 rfl) rfl
theorem q486 : (Jvm.Cond.methodLink "WithinWordsLaw" (65 : Nat) ({ cls := "WithinWords", name := "join", desc := "(III)I" } : Jvm.MethodName)) ∈ lw_all := lw_g (lw_at lw_m2 167 rfl) rfl
theorem q510 : (Jvm.Cond.methodLink "WithinWordsLaw" (69 : Nat) ({ cls := "WithinWords", name := "part", desc := "(IIII)I" } : Jvm.MethodName)) ∈ lw_all := lw_g (lw_at lw_m2 191 rfl) rfl
theorem q514 : (Jvm.Cond.methodLink "WithinWordsLaw" (74 : Nat) ({ cls := "WithinWords", name := "turn", desc := "(III)I" } : Jvm.MethodName)) ∈ lw_all := lw_g (lw_at lw_m2 195 rfl) rfl
theorem q535 : (Jvm.Cond.methodLink "WithinWordsLaw" (78 : Nat) ({ cls := "WithinWords", name := "drop", desc := "(III)I" } : Jvm.MethodName)) ∈ lw_all := lw_g (lw_at lw_m2 216 rfl) rfl
theorem q563 : (Jvm.Cond.methodLink "WithinWordsLaw" (82 : Nat) ({ cls := "WithinWords", name := "erase", desc := "(I)I" } : Jvm.MethodName)) ∈ lw_all := lw_g (lw_at lw_m3 4 rfl) rfl
theorem q567 : (Jvm.Cond.methodLink "WithinWordsLaw" (86 : Nat) ({ cls := "WithinWords", name := "size", desc := "(I)I" } : Jvm.MethodName)) ∈ lw_all := lw_g (lw_at lw_m3 8 rfl) rfl
theorem q571 : (Jvm.Cond.methodLink "WithinWordsLaw" (90 : Nat) ({ cls := "WithinWords", name := "letter", desc := "(II)I" } : Jvm.MethodName)) ∈ lw_all := lw_g (lw_at lw_m3 12 rfl) rfl
theorem q575 : (Jvm.Cond.methodLink "WithinWordsLaw" (94 : Nat) ({ cls := "WithinWords", name := "kind", desc := "(I)I" } : Jvm.MethodName)) ∈ lw_all := lw_g (lw_at lw_m3 16 rfl) rfl
theorem q596 : (Jvm.Cond.methodLink "WithinWordsLaw" (98 : Nat) ({ cls := "WithinWords", name := "mark", desc := "(II)I" } : Jvm.MethodName)) ∈ lw_all := lw_g (lw_at lw_m3 37 rfl) rfl
theorem q614 : (Jvm.Cond.methodLink "WithinWordsLaw" (102 : Nat) ({ cls := "WithinWords", name := "ways", desc := "(II)I" } : Jvm.MethodName)) ∈ lw_all := lw_g (lw_at lw_m3 55 rfl) rfl
theorem q625 : (Jvm.Cond.methodLink "WithinWordsLaw" (106 : Nat) ({ cls := "WithinWords", name := "way", desc := "(IIIZ)I" } : Jvm.MethodName)) ∈ lw_all := lw_g (lw_at lw_m3 66 rfl) rfl
theorem q637 : (Jvm.Cond.methodLink "WithinWordsLaw" (111 : Nat) ({ cls := "WithinWords", name := "places", desc := "(IIZ)I" } : Jvm.MethodName)) ∈ lw_all := lw_g (lw_at lw_m3 78 rfl) rfl
theorem q647 : (Jvm.Cond.methodLink "WithinWordsLaw" (116 : Nat) ({ cls := "WithinWords", name := "judge", desc := "(III)I" } : Jvm.MethodName)) ∈ lw_all := lw_g (lw_at lw_m3 88 rfl) rfl
theorem q651 : (Jvm.Cond.methodLink "WithinWordsLaw" (120 : Nat) ({ cls := "WithinWords", name := "bar", desc := "(II)I" } : Jvm.MethodName)) ∈ lw_all := lw_g (lw_at lw_m3 92 rfl) rfl
theorem q655 : (Jvm.Cond.methodLink "WithinWordsLaw" (124 : Nat) ({ cls := "WithinWords", name := "inner", desc := "(II)I" } : Jvm.MethodName)) ∈ lw_all := lw_g (lw_at lw_m3 96 rfl) rfl
theorem q663 : (Jvm.Cond.methodLink "WithinWordsLaw" (128 : Nat) ({ cls := "WithinWords", name := "rank", desc := "(II)I" } : Jvm.MethodName)) ∈ lw_all := lw_g (lw_at lw_m3 104 rfl) rfl
theorem q667 : (Jvm.Cond.methodLink "WithinWordsLaw" (132 : Nat) ({ cls := "WithinWords", name := "byRank", desc := "(IIII)I" } : Jvm.MethodName)) ∈ lw_all := lw_g (lw_at lw_m3 108 rfl) rfl
theorem q675 : (Jvm.Cond.methodLink "WithinWordsLaw" (136 : Nat) ({ cls := "WithinWords", name := "arches", desc := "(I)I" } : Jvm.MethodName)) ∈ lw_all := lw_g (lw_at lw_m3 116 rfl) rfl
theorem q683 : (Jvm.Cond.methodLink "WithinWordsLaw" (140 : Nat) ({ cls := "WithinWords", name := "absent", desc := "(II)I" } : Jvm.MethodName)) ∈ lw_all := lw_g (lw_at lw_m3 124 rfl) rfl
theorem q687 : (Jvm.Cond.methodLink "WithinWordsLaw" (144 : Nat) ({ cls := "WithinWords", name := "added", desc := "(II)I" } : Jvm.MethodName)) ∈ lw_all := lw_g (lw_at lw_m3 128 rfl) rfl
theorem q697 : (Jvm.Cond.methodLink "WithinWordsLaw" (148 : Nat) ({ cls := "WithinWords", name := "alike", desc := "(III)I" } : Jvm.MethodName)) ∈ lw_all := lw_g (lw_at lw_m3 138 rfl) rfl
theorem q701 : (Jvm.Cond.methodLink "WithinWordsLaw" (152 : Nat) ({ cls := "WithinWords", name := "parting", desc := "(III)I" } : Jvm.MethodName)) ∈ lw_all := lw_g (lw_at lw_m3 142 rfl) rfl
theorem q705 : (Jvm.Cond.methodLink "WithinWordsLaw" (156 : Nat) ({ cls := "WithinWords", name := "common", desc := "(II)I" } : Jvm.MethodName)) ∈ lw_all := lw_g (lw_at lw_m3 146 rfl) rfl
theorem q721 : (Jvm.Cond.methodLink "WithinWordsLaw" (160 : Nat) ({ cls := "WithinWords", name := "cover", desc := "(II)I" } : Jvm.MethodName)) ∈ lw_all := lw_g (lw_at lw_m3 162 rfl) rfl
theorem q729 : (Jvm.Cond.methodLink "WithinWordsLaw" (164 : Nat) ({ cls := "WithinWords", name := "both", desc := "(II)I" } : Jvm.MethodName)) ∈ lw_all := lw_g (lw_at lw_m3 170 rfl) rfl
theorem q733 : (Jvm.Cond.methodLink "WithinWordsLaw" (168 : Nat) ({ cls := "WithinWords", name := "twins", desc := "(III)I" } : Jvm.MethodName)) ∈ lw_all := lw_g (lw_at lw_m3 174 rfl) rfl
theorem q748 : (Jvm.Cond.methodLink "WithinWordsLaw" (172 : Nat) ({ cls := "WithinWords", name := "odds", desc := "(II)I" } : Jvm.MethodName)) ∈ lw_all := lw_g (lw_at lw_m3 189 rfl) rfl
theorem q759 : (Jvm.Cond.methodLink "WithinWordsLaw" (176 : Nat) ({ cls := "WithinWords", name := "byChance", desc := "(II)I" } : Jvm.MethodName)) ∈ lw_all := lw_g (lw_at lw_m3 200 rfl) rfl
theorem q763 : (Jvm.Cond.methodLink "WithinWordsLaw" (180 : Nat) ({ cls := "WithinWords", name := "asked", desc := "()I" } : Jvm.MethodName)) ∈ lw_all := lw_g (lw_at lw_m3 204 rfl) rfl
theorem q767 : (Jvm.Cond.methodLink "WithinWordsLaw" (185 : Nat) ({ cls := "WithinWords", name := "many", desc := "()J" } : Jvm.MethodName)) ∈ lw_all := lw_g (lw_at lw_m3 208 rfl) rfl
theorem q771 : (Jvm.Cond.methodLink "WithinWordsLaw" (190 : Nat) ({ cls := "WithinWords", name := "upper", desc := "()J" } : Jvm.MethodName)) ∈ lw_all := lw_g (lw_at lw_m3 212 rfl) rfl
theorem q775 : (Jvm.Cond.methodLink "WithinWordsLaw" (194 : Nat) ({ cls := "WithinWords", name := "lower", desc := "()J" } : Jvm.MethodName)) ∈ lw_all := lw_g (lw_at lw_m3 216 rfl) rfl
theorem q779 : (Jvm.Cond.methodLink "WithinWordsLaw" (198 : Nat) ({ cls := "WithinWords", name := "count", desc := "(I)I" } : Jvm.MethodName)) ∈ lw_all := lw_g (lw_at lw_m3 220 rfl) rfl
theorem q824 : (Jvm.Cond.methodLink "WithinWordsLaw" (202 : Nat) ({ cls := "WithinWords", name := "finding", desc := "()I" } : Jvm.MethodName)) ∈ lw_all := lw_g (lw_at lw_m4 25 rfl) rfl
theorem q828 : (Jvm.Cond.methodLink "WithinWordsLaw" (206 : Nat) ({ cls := "WithinWords", name := "findings", desc := "(I)I" } : Jvm.MethodName)) ∈ lw_all := lw_g (lw_at lw_m4 29 rfl) rfl
theorem q832 : (Jvm.Cond.methodLink "WithinWordsLaw" (210 : Nat) ({ cls := "WithinWords", name := "digest", desc := "()J" } : Jvm.MethodName)) ∈ lw_all := lw_g (lw_at lw_m4 33 rfl) rfl
theorem q863 : (Jvm.Cond.classLink "WithinWordsLaw" (10 : Nat) "WithinWordsModel") ∈ lw_all := lw_g (lw_at lw_m4 64 rfl) rfl
theorem q865 : (Jvm.Cond.methodLink "WithinWordsLaw" (12 : Nat) ({ cls := "WithinWordsModel", name := "<init>", desc := "()V" } : Jvm.MethodName)) ∈ lw_all := lw_g (lw_at lw_m4 66 rfl) rfl
theorem q1003 : (Jvm.Cond.methodLink "WithinWordsLaw" (205 : Nat) ({ cls := "WithinWordsModel", name := "finding", desc := "()I" } : Jvm.MethodName)) ∈ lw_all := lw_g (lw_at lw_m4 204 rfl) rfl
theorem q1007 : (Jvm.Cond.methodLink "WithinWordsLaw" (209 : Nat) ({ cls := "WithinWordsModel", name := "findings", desc := "(I)I" } : Jvm.MethodName)) ∈ lw_all := lw_g (lw_at lw_m4 208 rfl) rfl
theorem q1014 : (Jvm.Cond.methodLink "WithinWordsLaw" (184 : Nat) ({ cls := "WithinWordsModel", name := "asked", desc := "()I" } : Jvm.MethodName)) ∈ lw_all := lw_g (lw_at lw_m4 215 rfl) rfl
theorem q1018 : (Jvm.Cond.methodLink "WithinWordsLaw" (189 : Nat) ({ cls := "WithinWordsModel", name := "many", desc := "()J" } : Jvm.MethodName)) ∈ lw_all := lw_g (lw_at lw_m4 219 rfl) rfl
theorem q1022 : (Jvm.Cond.methodLink "WithinWordsLaw" (193 : Nat) ({ cls := "WithinWordsModel", name := "upper", desc := "()J" } : Jvm.MethodName)) ∈ lw_all := lw_g (lw_at lw_m4 223 rfl) rfl
theorem q1026 : (Jvm.Cond.methodLink "WithinWordsLaw" (197 : Nat) ({ cls := "WithinWordsModel", name := "lower", desc := "()J" } : Jvm.MethodName)) ∈ lw_all := lw_g (lw_at lw_m4 227 rfl) rfl
theorem q1030 : (Jvm.Cond.methodLink "WithinWordsLaw" (17 : Nat) ({ cls := "WithinWordsModel", name := "row", desc := "(II)I" } : Jvm.MethodName)) ∈ lw_all := lw_g (lw_at lw_m4 231 rfl) rfl
theorem q1041 : (Jvm.Cond.methodLink "WithinWordsLaw" (22 : Nat) ({ cls := "WithinWordsModel", name := "lay", desc := "(III)I" } : Jvm.MethodName)) ∈ lw_all := lw_g (lw_at lw_m5 2 rfl) rfl
theorem q1053 : (Jvm.Cond.methodLink "WithinWordsLaw" (26 : Nat) ({ cls := "WithinWordsModel", name := "at", desc := "(II)I" } : Jvm.MethodName)) ∈ lw_all := lw_g (lw_at lw_m5 14 rfl) rfl
theorem q1057 : (Jvm.Cond.methodLink "WithinWordsLaw" (31 : Nat) ({ cls := "WithinWordsModel", name := "tear", desc := "(I)I" } : Jvm.MethodName)) ∈ lw_all := lw_g (lw_at lw_m5 18 rfl) rfl
theorem q1061 : (Jvm.Cond.methodLink "WithinWordsLaw" (36 : Nat) ({ cls := "WithinWordsModel", name := "copy", desc := "(IIIII)I" } : Jvm.MethodName)) ∈ lw_all := lw_g (lw_at lw_m5 22 rfl) rfl
theorem q1065 : (Jvm.Cond.methodLink "WithinWordsLaw" (40 : Nat) ({ cls := "WithinWordsModel", name := "mean", desc := "(I)I" } : Jvm.MethodName)) ∈ lw_all := lw_g (lw_at lw_m5 26 rfl) rfl
theorem q1069 : (Jvm.Cond.methodLink "WithinWordsLaw" (44 : Nat) ({ cls := "WithinWordsModel", name := "text", desc := "(II)I" } : Jvm.MethodName)) ∈ lw_all := lw_g (lw_at lw_m5 30 rfl) rfl
theorem q1076 : (Jvm.Cond.methodLink "WithinWordsLaw" (48 : Nat) ({ cls := "WithinWordsModel", name := "put", desc := "(III)I" } : Jvm.MethodName)) ∈ lw_all := lw_g (lw_at lw_m5 37 rfl) rfl
theorem q1080 : (Jvm.Cond.methodLink "WithinWordsLaw" (52 : Nat) ({ cls := "WithinWordsModel", name := "letters", desc := "(I)I" } : Jvm.MethodName)) ∈ lw_all := lw_g (lw_at lw_m5 41 rfl) rfl
theorem q1088 : (Jvm.Cond.methodLink "WithinWordsLaw" (56 : Nat) ({ cls := "WithinWordsModel", name := "word", desc := "(II)I" } : Jvm.MethodName)) ∈ lw_all := lw_g (lw_at lw_m5 49 rfl) rfl
theorem q1103 : (Jvm.Cond.methodLink "WithinWordsLaw" (60 : Nat) ({ cls := "WithinWordsModel", name := "fault", desc := "(I)I" } : Jvm.MethodName)) ∈ lw_all := lw_g (lw_at lw_m5 64 rfl) rfl
theorem q1127 : (Jvm.Cond.methodLink "WithinWordsLaw" (64 : Nat) ({ cls := "WithinWordsModel", name := "tell", desc := "(II)I" } : Jvm.MethodName)) ∈ lw_all := lw_g (lw_at lw_m5 88 rfl) rfl
theorem q1131 : (Jvm.Cond.methodLink "WithinWordsLaw" (68 : Nat) ({ cls := "WithinWordsModel", name := "join", desc := "(III)I" } : Jvm.MethodName)) ∈ lw_all := lw_g (lw_at lw_m5 92 rfl) rfl
theorem q1143 : (Jvm.Cond.methodLink "WithinWordsLaw" (73 : Nat) ({ cls := "WithinWordsModel", name := "part", desc := "(IIII)I" } : Jvm.MethodName)) ∈ lw_all := lw_g (lw_at lw_m5 104 rfl) rfl
theorem q1147 : (Jvm.Cond.methodLink "WithinWordsLaw" (77 : Nat) ({ cls := "WithinWordsModel", name := "turn", desc := "(III)I" } : Jvm.MethodName)) ∈ lw_all := lw_g (lw_at lw_m5 108 rfl) rfl
theorem q1155 : (Jvm.Cond.methodLink "WithinWordsLaw" (85 : Nat) ({ cls := "WithinWordsModel", name := "erase", desc := "(I)I" } : Jvm.MethodName)) ∈ lw_all := lw_g (lw_at lw_m5 116 rfl) rfl
theorem q1159 : (Jvm.Cond.methodLink "WithinWordsLaw" (89 : Nat) ({ cls := "WithinWordsModel", name := "size", desc := "(I)I" } : Jvm.MethodName)) ∈ lw_all := lw_g (lw_at lw_m5 120 rfl) rfl
theorem q1163 : (Jvm.Cond.methodLink "WithinWordsLaw" (93 : Nat) ({ cls := "WithinWordsModel", name := "letter", desc := "(II)I" } : Jvm.MethodName)) ∈ lw_all := lw_g (lw_at lw_m5 124 rfl) rfl
theorem q1167 : (Jvm.Cond.methodLink "WithinWordsLaw" (97 : Nat) ({ cls := "WithinWordsModel", name := "kind", desc := "(I)I" } : Jvm.MethodName)) ∈ lw_all := lw_g (lw_at lw_m5 128 rfl) rfl
theorem q1171 : (Jvm.Cond.methodLink "WithinWordsLaw" (101 : Nat) ({ cls := "WithinWordsModel", name := "mark", desc := "(II)I" } : Jvm.MethodName)) ∈ lw_all := lw_g (lw_at lw_m5 132 rfl) rfl
theorem q1179 : (Jvm.Cond.methodLink "WithinWordsLaw" (105 : Nat) ({ cls := "WithinWordsModel", name := "ways", desc := "(II)I" } : Jvm.MethodName)) ∈ lw_all := lw_g (lw_at lw_m5 140 rfl) rfl
theorem q1191 : (Jvm.Cond.methodLink "WithinWordsLaw" (110 : Nat) ({ cls := "WithinWordsModel", name := "way", desc := "(IIIZ)I" } : Jvm.MethodName)) ∈ lw_all := lw_g (lw_at lw_m5 152 rfl) rfl
theorem q1207 : (Jvm.Cond.methodLink "WithinWordsLaw" (115 : Nat) ({ cls := "WithinWordsModel", name := "places", desc := "(IIZ)I" } : Jvm.MethodName)) ∈ lw_all := lw_g (lw_at lw_m5 168 rfl) rfl
theorem q1211 : (Jvm.Cond.methodLink "WithinWordsLaw" (119 : Nat) ({ cls := "WithinWordsModel", name := "judge", desc := "(III)I" } : Jvm.MethodName)) ∈ lw_all := lw_g (lw_at lw_m5 172 rfl) rfl
theorem q1215 : (Jvm.Cond.methodLink "WithinWordsLaw" (123 : Nat) ({ cls := "WithinWordsModel", name := "bar", desc := "(II)I" } : Jvm.MethodName)) ∈ lw_all := lw_g (lw_at lw_m5 176 rfl) rfl
theorem q1219 : (Jvm.Cond.methodLink "WithinWordsLaw" (127 : Nat) ({ cls := "WithinWordsModel", name := "inner", desc := "(II)I" } : Jvm.MethodName)) ∈ lw_all := lw_g (lw_at lw_m5 180 rfl) rfl
theorem q1227 : (Jvm.Cond.methodLink "WithinWordsLaw" (131 : Nat) ({ cls := "WithinWordsModel", name := "rank", desc := "(II)I" } : Jvm.MethodName)) ∈ lw_all := lw_g (lw_at lw_m5 188 rfl) rfl
theorem q1231 : (Jvm.Cond.methodLink "WithinWordsLaw" (135 : Nat) ({ cls := "WithinWordsModel", name := "byRank", desc := "(IIII)I" } : Jvm.MethodName)) ∈ lw_all := lw_g (lw_at lw_m5 192 rfl) rfl
theorem q1239 : (Jvm.Cond.methodLink "WithinWordsLaw" (139 : Nat) ({ cls := "WithinWordsModel", name := "arches", desc := "(I)I" } : Jvm.MethodName)) ∈ lw_all := lw_g (lw_at lw_m5 200 rfl) rfl
theorem q1247 : (Jvm.Cond.methodLink "WithinWordsLaw" (143 : Nat) ({ cls := "WithinWordsModel", name := "absent", desc := "(II)I" } : Jvm.MethodName)) ∈ lw_all := lw_g (lw_at lw_m5 208 rfl) rfl
theorem q1262 : (Jvm.Cond.methodLink "WithinWordsLaw" (147 : Nat) ({ cls := "WithinWordsModel", name := "added", desc := "(II)I" } : Jvm.MethodName)) ∈ lw_all := lw_g (lw_at lw_m5 223 rfl) rfl
theorem q1269 : (Jvm.Cond.methodLink "WithinWordsLaw" (151 : Nat) ({ cls := "WithinWordsModel", name := "alike", desc := "(III)I" } : Jvm.MethodName)) ∈ lw_all := lw_g (lw_at lw_m5 230 rfl) rfl
theorem q1289 : (Jvm.Cond.methodLink "WithinWordsLaw" (155 : Nat) ({ cls := "WithinWordsModel", name := "parting", desc := "(III)I" } : Jvm.MethodName)) ∈ lw_all := lw_g (lw_at lw_m6 10 rfl) rfl
theorem q1293 : (Jvm.Cond.methodLink "WithinWordsLaw" (81 : Nat) ({ cls := "WithinWordsModel", name := "drop", desc := "(III)I" } : Jvm.MethodName)) ∈ lw_all := lw_g (lw_at lw_m6 14 rfl) rfl
theorem q1305 : (Jvm.Cond.methodLink "WithinWordsLaw" (159 : Nat) ({ cls := "WithinWordsModel", name := "common", desc := "(II)I" } : Jvm.MethodName)) ∈ lw_all := lw_g (lw_at lw_m6 26 rfl) rfl
theorem q1332 : (Jvm.Cond.methodLink "WithinWordsLaw" (163 : Nat) ({ cls := "WithinWordsModel", name := "cover", desc := "(II)I" } : Jvm.MethodName)) ∈ lw_all := lw_g (lw_at lw_m6 53 rfl) rfl
theorem q1340 : (Jvm.Cond.methodLink "WithinWordsLaw" (167 : Nat) ({ cls := "WithinWordsModel", name := "both", desc := "(II)I" } : Jvm.MethodName)) ∈ lw_all := lw_g (lw_at lw_m6 61 rfl) rfl
theorem q1344 : (Jvm.Cond.methodLink "WithinWordsLaw" (171 : Nat) ({ cls := "WithinWordsModel", name := "twins", desc := "(III)I" } : Jvm.MethodName)) ∈ lw_all := lw_g (lw_at lw_m6 65 rfl) rfl
theorem q1361 : (Jvm.Cond.methodLink "WithinWordsLaw" (175 : Nat) ({ cls := "WithinWordsModel", name := "odds", desc := "(II)I" } : Jvm.MethodName)) ∈ lw_all := lw_g (lw_at lw_m6 82 rfl) rfl
theorem q1372 : (Jvm.Cond.methodLink "WithinWordsLaw" (179 : Nat) ({ cls := "WithinWordsModel", name := "byChance", desc := "(II)I" } : Jvm.MethodName)) ∈ lw_all := lw_g (lw_at lw_m6 93 rfl) rfl
theorem q1376 : (Jvm.Cond.methodLink "WithinWordsLaw" (201 : Nat) ({ cls := "WithinWordsModel", name := "count", desc := "(I)I" } : Jvm.MethodName)) ∈ lw_all := lw_g (lw_at lw_m6 97 rfl) rfl
theorem q1384 : (Jvm.Cond.methodLink "WithinWordsLaw" (213 : Nat) ({ cls := "WithinWordsModel", name := "digest", desc := "()J" } : Jvm.MethodName)) ∈ lw_all := lw_g (lw_at lw_m6 105 rfl) rfl

theorem q90 : (Jvm.Cond.initialized "java/lang/System") ∈ lw_all := lw_g (lw_at lw_m1 11 rfl) rfl
set_option maxRecDepth 100000
theorem q384 : (Jvm.Cond.static ({ cls := "java/lang/System", name := "arraycopy", desc := "(Ljava/lang/Object;ILjava/lang/Object;II)V" } : Jvm.MethodName)) ∈ lw_all := lw_g (lw_at lw_m2 65 rfl) rfl
theorem q385 : (Jvm.Cond.native ({ cls := "java/lang/System", name := "arraycopy", desc := "(Ljava/lang/Object;ILjava/lang/Object;II)V" } : Jvm.MethodName)) ∈ lw_all := lw_g (lw_at lw_m2 66 rfl) rfl
