/-! java/lang/Throwable -/
set_option maxRecDepth 100000
def RJ0 : String := "java/lang/Throwable"
def TJ0 : u_T := fun k => match k with
  | 0 => ("java/lang/Throwable", "cause", "Ljava/lang/Throwable;", false)
  | 1 => ("java/lang/Throwable", "stackTrace", "[Ljava/lang/StackTraceElement;", false)
  | 2 => ("java/lang/Throwable", "suppressedExceptions", "Ljava/util/List;", false)
  | 3 => ("java/lang/Throwable", "detailMessage", "Ljava/lang/String;", false)
  | _ => ("java/lang/Throwable", "backtrace", "Ljava/lang/Object;", false)
def tyJ0 : Nat → FieldType := fun k => match k with
  | 0 => .object "java/lang/Throwable"
  | 1 => .array (.object "java/lang/StackTraceElement")
  | 2 => .object "java/util/List"
  | 3 => .object "java/lang/String"
  | _ => .object "java/lang/Object"
abbrev wsJ00 : List Cond := u_ws RJ0 TJ0 5
theorem nmJ0 : ∀ a, a < 5 → ∀ b, b < 5 → a ≠ b → (TJ0 a).2.1 ≠ (TJ0 b).2.1 := by decide +kernel
theorem tyJ0_ok : ∀ k, k < 5 → parseFieldDescriptor (TJ0 k).2.2.1 = some (tyJ0 k) := by decide +kernel
abbrev cJ0_init : ByteArray := prog_30_method_2_code
def yJ0_init : MethodName := ⟨RJ0, "<init>", "(Ljava/lang/String;)V"⟩
def dkwJ0_init_1 : List UInt8 := [182, 0, 27, 87, 42, 43, 181, 0, 31, 177]
abbrev dktJ0_init_1 : List UInt8 := dkwJ0_init_1 ++ []
def dkwJ0_init_0 : List UInt8 := [42, 183, 0, 1, 42, 42, 181, 0, 7, 42, 178, 0, 13, 181, 0, 17, 42, 178, 0, 20, 181, 0, 24, 42]
abbrev dktJ0_init_0 : List UInt8 := dkwJ0_init_0 ++ dktJ0_init_1
theorem dksJ0_init_0 : cJ0_init.data.toList.drop 0 = dktJ0_init_0 := by decide +kernel
theorem dksJ0_init_1 : cJ0_init.data.toList.drop 24 = dktJ0_init_1 := dk_seg dksJ0_init_0 24 rfl rfl
theorem dJ0_init_0 : decode cJ0_init 0 = .ok (.aload_n 0, 1) := dk_42 (dk_at dksJ0_init_0 0 rfl rfl)
theorem dJ0_init_1 : decode cJ0_init 1 = .ok (.invokespecial 1, 3) := dk_183 0 1 (dk_at dksJ0_init_0 1 rfl rfl)
theorem dJ0_init_4 : decode cJ0_init 4 = .ok (.aload_n 0, 1) := dk_42 (dk_at dksJ0_init_0 4 rfl rfl)
theorem dJ0_init_5 : decode cJ0_init 5 = .ok (.aload_n 0, 1) := dk_42 (dk_at dksJ0_init_0 5 rfl rfl)
theorem dJ0_init_6 : decode cJ0_init 6 = .ok (.putfield 7, 3) := dk_181 0 7 (dk_at dksJ0_init_0 6 rfl rfl)
theorem dJ0_init_9 : decode cJ0_init 9 = .ok (.aload_n 0, 1) := dk_42 (dk_at dksJ0_init_0 9 rfl rfl)
theorem dJ0_init_10 : decode cJ0_init 10 = .ok (.getstatic 13, 3) := dk_178 0 13 (dk_at dksJ0_init_0 10 rfl rfl)
theorem dJ0_init_13 : decode cJ0_init 13 = .ok (.putfield 17, 3) := dk_181 0 17 (dk_at dksJ0_init_0 13 rfl rfl)
theorem dJ0_init_16 : decode cJ0_init 16 = .ok (.aload_n 0, 1) := dk_42 (dk_at dksJ0_init_0 16 rfl rfl)
theorem dJ0_init_17 : decode cJ0_init 17 = .ok (.getstatic 20, 3) := dk_178 0 20 (dk_at dksJ0_init_0 17 rfl rfl)
theorem dJ0_init_20 : decode cJ0_init 20 = .ok (.putfield 24, 3) := dk_181 0 24 (dk_at dksJ0_init_0 20 rfl rfl)
theorem dJ0_init_23 : decode cJ0_init 23 = .ok (.aload_n 0, 1) := dk_42 (dk_at dksJ0_init_0 23 rfl rfl)
theorem dJ0_init_24 : decode cJ0_init 24 = .ok (.invokevirtual 27, 3) := dk_182 0 27 (dk_at dksJ0_init_1 0 rfl rfl)
theorem dJ0_init_27 : decode cJ0_init 27 = .ok (.pop, 1) := dk_87 (dk_at dksJ0_init_1 3 rfl rfl)
theorem dJ0_init_28 : decode cJ0_init 28 = .ok (.aload_n 0, 1) := dk_42 (dk_at dksJ0_init_1 4 rfl rfl)
theorem dJ0_init_29 : decode cJ0_init 29 = .ok (.aload_n 1, 1) := dk_43 (dk_at dksJ0_init_1 5 rfl rfl)
theorem dJ0_init_30 : decode cJ0_init 30 = .ok (.putfield 31, 3) := dk_181 0 31 (dk_at dksJ0_init_1 6 rfl rfl)
theorem dJ0_init_33 : decode cJ0_init 33 = .ok (.return_, 1) := dk_177 (dk_at dksJ0_init_1 9 rfl rfl)
abbrev cJ0_init_2 : ByteArray := prog_30_method_1_code
def yJ0_init_2 : MethodName := ⟨RJ0, "<init>", "()V"⟩
def dkwJ0_init_2_1 : List UInt8 := [182, 0, 27, 87, 177]
abbrev dktJ0_init_2_1 : List UInt8 := dkwJ0_init_2_1 ++ []
def dkwJ0_init_2_0 : List UInt8 := [42, 183, 0, 1, 42, 42, 181, 0, 7, 42, 178, 0, 13, 181, 0, 17, 42, 178, 0, 20, 181, 0, 24, 42]
abbrev dktJ0_init_2_0 : List UInt8 := dkwJ0_init_2_0 ++ dktJ0_init_2_1
theorem dksJ0_init_2_0 : cJ0_init_2.data.toList.drop 0 = dktJ0_init_2_0 := by decide +kernel
theorem dksJ0_init_2_1 : cJ0_init_2.data.toList.drop 24 = dktJ0_init_2_1 := dk_seg dksJ0_init_2_0 24 rfl rfl
theorem dJ0_init_2_0 : decode cJ0_init_2 0 = .ok (.aload_n 0, 1) := dk_42 (dk_at dksJ0_init_2_0 0 rfl rfl)
theorem dJ0_init_2_1 : decode cJ0_init_2 1 = .ok (.invokespecial 1, 3) := dk_183 0 1 (dk_at dksJ0_init_2_0 1 rfl rfl)
theorem dJ0_init_2_4 : decode cJ0_init_2 4 = .ok (.aload_n 0, 1) := dk_42 (dk_at dksJ0_init_2_0 4 rfl rfl)
theorem dJ0_init_2_5 : decode cJ0_init_2 5 = .ok (.aload_n 0, 1) := dk_42 (dk_at dksJ0_init_2_0 5 rfl rfl)
theorem dJ0_init_2_6 : decode cJ0_init_2 6 = .ok (.putfield 7, 3) := dk_181 0 7 (dk_at dksJ0_init_2_0 6 rfl rfl)
theorem dJ0_init_2_9 : decode cJ0_init_2 9 = .ok (.aload_n 0, 1) := dk_42 (dk_at dksJ0_init_2_0 9 rfl rfl)
theorem dJ0_init_2_10 : decode cJ0_init_2 10 = .ok (.getstatic 13, 3) := dk_178 0 13 (dk_at dksJ0_init_2_0 10 rfl rfl)
theorem dJ0_init_2_13 : decode cJ0_init_2 13 = .ok (.putfield 17, 3) := dk_181 0 17 (dk_at dksJ0_init_2_0 13 rfl rfl)
theorem dJ0_init_2_16 : decode cJ0_init_2 16 = .ok (.aload_n 0, 1) := dk_42 (dk_at dksJ0_init_2_0 16 rfl rfl)
theorem dJ0_init_2_17 : decode cJ0_init_2 17 = .ok (.getstatic 20, 3) := dk_178 0 20 (dk_at dksJ0_init_2_0 17 rfl rfl)
theorem dJ0_init_2_20 : decode cJ0_init_2 20 = .ok (.putfield 24, 3) := dk_181 0 24 (dk_at dksJ0_init_2_0 20 rfl rfl)
theorem dJ0_init_2_23 : decode cJ0_init_2 23 = .ok (.aload_n 0, 1) := dk_42 (dk_at dksJ0_init_2_0 23 rfl rfl)
theorem dJ0_init_2_24 : decode cJ0_init_2 24 = .ok (.invokevirtual 27, 3) := dk_182 0 27 (dk_at dksJ0_init_2_1 0 rfl rfl)
theorem dJ0_init_2_27 : decode cJ0_init_2 27 = .ok (.pop, 1) := dk_87 (dk_at dksJ0_init_2_1 3 rfl rfl)
theorem dJ0_init_2_28 : decode cJ0_init_2 28 = .ok (.return_, 1) := dk_177 (dk_at dksJ0_init_2_1 4 rfl rfl)
theorem q55 : (Jvm.Cond.initialized "java/lang/Throwable") ∈ lw_all := lw_g (lw_at lw_m1 4 rfl) rfl
theorem q230 : (Jvm.Cond.instanceMethod ({ cls := "java/lang/Throwable", name := "<init>", desc := "(Ljava/lang/String;)V" } : Jvm.MethodName)) ∈ lw_all := lw_g (lw_at lw_m1 179 rfl) rfl
theorem q231 : (Jvm.Cond.code ({ cls := "java/lang/Throwable", name := "<init>", desc := "(Ljava/lang/String;)V" } : Jvm.MethodName) prog_30_method_2_code (2 : Nat) (Option.none : Option Jvm.ClassFile.FieldType)) ∈ lw_all := lw_g (lw_at lw_m1 180 rfl) rfl
theorem q232 : (Jvm.Cond.methodLink "java/lang/Throwable" (1 : Nat) ({ cls := "java/lang/Object", name := "<init>", desc := "()V" } : Jvm.MethodName)) ∈ lw_all := lw_g (lw_at lw_m1 181 rfl) rfl
theorem q233 : (Jvm.Cond.fieldLink "java/lang/Throwable" (13 : Nat) "java/lang/Throwable" "UNASSIGNED_STACK" "[Ljava/lang/StackTraceElement;") ∈ lw_all := lw_g (lw_at lw_m1 182 rfl) rfl
theorem q234 : (Jvm.Cond.laysStatic "java/lang/Throwable" "UNASSIGNED_STACK" "[Ljava/lang/StackTraceElement;") ∈ lw_tbl := lw_at lw_m1 183 rfl
theorem q235 : (Jvm.Cond.fieldLink "java/lang/Throwable" (20 : Nat) "java/lang/Throwable" "SUPPRESSED_SENTINEL" "Ljava/util/List;") ∈ lw_all := lw_g (lw_at lw_m1 184 rfl) rfl
theorem q236 : (Jvm.Cond.laysStatic "java/lang/Throwable" "SUPPRESSED_SENTINEL" "Ljava/util/List;") ∈ lw_tbl := lw_at lw_m1 185 rfl
theorem q237 : (Jvm.Cond.methodLink "java/lang/Throwable" (27 : Nat) ({ cls := "java/lang/Throwable", name := "fillInStackTrace", desc := "()Ljava/lang/Throwable;" } : Jvm.MethodName)) ∈ lw_all := lw_g (lw_at lw_m1 186 rfl) rfl
theorem q238 : (Jvm.Cond.instanceMethod ({ cls := "java/lang/Throwable", name := "fillInStackTrace", desc := "()Ljava/lang/Throwable;" } : Jvm.MethodName)) ∈ lw_all := lw_g (lw_at lw_m1 187 rfl) rfl
theorem q239 : (Jvm.Cond.sameMethod "java/lang/Throwable" "java/lang/Throwable" "fillInStackTrace" "()Ljava/lang/Throwable;") ∈ lw_all := lw_g (lw_at lw_m1 188 rfl) rfl
theorem q255 : (Jvm.Cond.declares ({ cls := "java/lang/Throwable", name := "fillInStackTrace", desc := "()Ljava/lang/Throwable;" } : Jvm.MethodName)) ∈ lw_tbl := lw_at lw_m1 204 rfl
theorem q259 : (Jvm.Cond.codeSync ({ cls := "java/lang/Throwable", name := "fillInStackTrace", desc := "()Ljava/lang/Throwable;" } : Jvm.MethodName) prog_30_method_18_code (1 : Nat) (Option.some (Jvm.ClassFile.FieldType.object "java/lang/Throwable"))) ∈ lw_all := lw_g (lw_at lw_m1 208 rfl) rfl
theorem q260 : (Jvm.Cond.methodLink "java/lang/Throwable" (202 : Nat) ({ cls := "java/lang/Throwable", name := "fillInStackTrace", desc := "(I)Ljava/lang/Throwable;" } : Jvm.MethodName)) ∈ lw_all := lw_g (lw_at lw_m1 209 rfl) rfl
theorem q261 : (Jvm.Cond.privateMethod ({ cls := "java/lang/Throwable", name := "fillInStackTrace", desc := "(I)Ljava/lang/Throwable;" } : Jvm.MethodName)) ∈ lw_tbl := lw_at lw_m1 210 rfl
theorem q262 : (Jvm.Cond.instanceMethod ({ cls := "java/lang/Throwable", name := "fillInStackTrace", desc := "(I)Ljava/lang/Throwable;" } : Jvm.MethodName)) ∈ lw_all := lw_g (lw_at lw_m1 211 rfl) rfl
theorem q263 : (Jvm.Cond.instantiable "java/lang/Throwable" (6 : Nat)) ∈ lw_all := lw_g (lw_at lw_m1 212 rfl) rfl
theorem q264 : (Jvm.Cond.native ({ cls := "java/lang/Throwable", name := "fillInStackTrace", desc := "(I)Ljava/lang/Throwable;" } : Jvm.MethodName)) ∈ lw_all := lw_g (lw_at lw_m1 213 rfl) rfl
theorem q265 : (Jvm.Cond.fieldLink "java/lang/Throwable" (198 : Nat) "java/lang/Throwable" "backtrace" "Ljava/lang/Object;") ∈ lw_all := lw_g (lw_at lw_m1 214 rfl) rfl
theorem q266 : (Jvm.Cond.fieldLink "java/lang/Throwable" (31 : Nat) "java/lang/Throwable" "detailMessage" "Ljava/lang/String;") ∈ lw_all := lw_g (lw_at lw_m1 215 rfl) rfl
theorem q267 : (Jvm.Cond.fieldLink "java/lang/Throwable" (7 : Nat) "java/lang/Throwable" "cause" "Ljava/lang/Throwable;") ∈ lw_all := lw_g (lw_at lw_m1 216 rfl) rfl
theorem q268 : (Jvm.Cond.fieldLink "java/lang/Throwable" (17 : Nat) "java/lang/Throwable" "stackTrace" "[Ljava/lang/StackTraceElement;") ∈ lw_all := lw_g (lw_at lw_m1 217 rfl) rfl
theorem q269 : (Jvm.Cond.fieldLink "java/lang/Throwable" (24 : Nat) "java/lang/Throwable" "suppressedExceptions" "Ljava/util/List;") ∈ lw_all := lw_g (lw_at lw_m1 218 rfl) rfl
theorem q271 : (Jvm.Cond.soleField "java/lang/Throwable" "backtrace") ∈ lw_all := lw_g (lw_at lw_m1 220 rfl) rfl
theorem q273 : (Jvm.Cond.soleField "java/lang/Throwable" "detailMessage") ∈ lw_all := lw_g (lw_at lw_m1 222 rfl) rfl
theorem q275 : (Jvm.Cond.soleField "java/lang/Throwable" "cause") ∈ lw_all := lw_g (lw_at lw_m1 224 rfl) rfl
theorem q277 : (Jvm.Cond.soleField "java/lang/Throwable" "stackTrace") ∈ lw_all := lw_g (lw_at lw_m1 226 rfl) rfl
theorem q279 : (Jvm.Cond.soleField "java/lang/Throwable" "depth") ∈ lw_all := lw_g (lw_at lw_m1 228 rfl) rfl
theorem q281 : (Jvm.Cond.soleField "java/lang/Throwable" "suppressedExceptions") ∈ lw_all := lw_g (lw_at lw_m1 230 rfl) rfl
theorem q288 : (Jvm.Cond.declares ({ cls := "java/lang/Throwable", name := "<init>", desc := "()V" } : Jvm.MethodName)) ∈ lw_tbl := lw_at lw_m1 237 rfl
theorem q289 : (Jvm.Cond.declares ({ cls := "java/lang/Throwable", name := "<init>", desc := "(Ljava/lang/String;)V" } : Jvm.MethodName)) ∈ lw_tbl := lw_at lw_m1 238 rfl
theorem q291 : (Jvm.Cond.lays "java/lang/Throwable" "java/lang/Throwable" "cause" "Ljava/lang/Throwable;") ∈ lw_all := lw_g (lw_at lw_m2 0 rfl) rfl
theorem q292 : (Jvm.Cond.lays "java/lang/Throwable" "java/lang/Throwable" "stackTrace" "[Ljava/lang/StackTraceElement;") ∈ lw_all := lw_g (lw_at lw_m2 1 rfl) rfl
theorem q293 : (Jvm.Cond.lays "java/lang/Throwable" "java/lang/Throwable" "suppressedExceptions" "Ljava/util/List;") ∈ lw_all := lw_g (lw_at lw_m2 2 rfl) rfl
theorem q294 : (Jvm.Cond.lays "java/lang/Throwable" "java/lang/Throwable" "detailMessage" "Ljava/lang/String;") ∈ lw_all := lw_g (lw_at lw_m2 3 rfl) rfl
theorem q295 : (Jvm.Cond.lays "java/lang/Throwable" "java/lang/Throwable" "backtrace" "Ljava/lang/Object;") ∈ lw_all := lw_g (lw_at lw_m2 4 rfl) rfl
theorem q296 : (Jvm.Cond.fieldLink "java/lang/Throwable" (198 : Nat) "java/lang/Throwable" "backtrace" "Ljava/lang/Object;") ∈ lw_all := lw_g (lw_at lw_m2 5 rfl) rfl
theorem q297 : (Jvm.Cond.superclass "java/lang/Throwable" "java/lang/Object") ∈ lw_all := lw_g (lw_at lw_m2 6 rfl) rfl
theorem q298 : (Jvm.Cond.instanceMethod ({ cls := "java/lang/Throwable", name := "<init>", desc := "()V" } : Jvm.MethodName)) ∈ lw_all := lw_g (lw_at lw_m2 7 rfl) rfl
theorem q299 : (Jvm.Cond.code ({ cls := "java/lang/Throwable", name := "<init>", desc := "()V" } : Jvm.MethodName) prog_30_method_1_code (1 : Nat) (Option.none : Option Jvm.ClassFile.FieldType)) ∈ lw_all := lw_g (lw_at lw_m2 8 rfl) rfl
theorem q1327 : (Jvm.Cond.sameMethod "java/lang/Throwable" "java/lang/Throwable" "fillInStackTrace" "(I)Ljava/lang/Throwable;") ∈ lw_all := lw_g (lw_at lw_m6 76 rfl) rfl
theorem in_J0 : ∀ w ∈ wsJ00, w ∈ lw_all := lw_in wsJ00 [291, 292, 293, 294, 295] (by decide +kernel) (by decide +kernel)

/-! java/lang/Exception -/
set_option maxRecDepth 100000
def RJ1 : String := "java/lang/Exception"
abbrev cJ1_init : ByteArray := prog_20_method_2_code
def yJ1_init : MethodName := ⟨RJ1, "<init>", "(Ljava/lang/String;)V"⟩
def dkwJ1_init_0 : List UInt8 := [42, 43, 183, 0, 7, 177]
abbrev dktJ1_init_0 : List UInt8 := dkwJ1_init_0 ++ []
theorem dksJ1_init_0 : cJ1_init.data.toList.drop 0 = dktJ1_init_0 := by decide +kernel
theorem dJ1_init_0 : decode cJ1_init 0 = .ok (.aload_n 0, 1) := dk_42 (dk_at dksJ1_init_0 0 rfl rfl)
theorem dJ1_init_1 : decode cJ1_init 1 = .ok (.aload_n 1, 1) := dk_43 (dk_at dksJ1_init_0 1 rfl rfl)
theorem dJ1_init_2 : decode cJ1_init 2 = .ok (.invokespecial 7, 3) := dk_183 0 7 (dk_at dksJ1_init_0 2 rfl rfl)
theorem dJ1_init_5 : decode cJ1_init 5 = .ok (.return_, 1) := dk_177 (dk_at dksJ1_init_0 5 rfl rfl)
abbrev cJ1_init_2 : ByteArray := prog_20_method_1_code
def yJ1_init_2 : MethodName := ⟨RJ1, "<init>", "()V"⟩
theorem dJ1_init_2_0 : decode cJ1_init_2 0 = .ok (.aload_n 0, 1) := by decide +kernel
theorem dJ1_init_2_1 : decode cJ1_init_2 1 = .ok (.invokespecial 1, 3) := by decide +kernel
theorem dJ1_init_2_4 : decode cJ1_init_2 4 = .ok (.return_, 1) := by decide +kernel
theorem q56 : (Jvm.Cond.initialized "java/lang/Exception") ∈ lw_all := lw_g (lw_at lw_m1 5 rfl) rfl
theorem q227 : (Jvm.Cond.instanceMethod ({ cls := "java/lang/Exception", name := "<init>", desc := "(Ljava/lang/String;)V" } : Jvm.MethodName)) ∈ lw_all := lw_g (lw_at lw_m1 176 rfl) rfl
theorem q228 : (Jvm.Cond.code ({ cls := "java/lang/Exception", name := "<init>", desc := "(Ljava/lang/String;)V" } : Jvm.MethodName) prog_20_method_2_code (2 : Nat) (Option.none : Option Jvm.ClassFile.FieldType)) ∈ lw_all := lw_g (lw_at lw_m1 177 rfl) rfl
theorem q229 : (Jvm.Cond.methodLink "java/lang/Exception" (7 : Nat) ({ cls := "java/lang/Throwable", name := "<init>", desc := "(Ljava/lang/String;)V" } : Jvm.MethodName)) ∈ lw_all := lw_g (lw_at lw_m1 178 rfl) rfl
theorem q258 : (Jvm.Cond.superclass "java/lang/Exception" "java/lang/Throwable") ∈ lw_all := lw_g (lw_at lw_m1 207 rfl) rfl
theorem q286 : (Jvm.Cond.declares ({ cls := "java/lang/Exception", name := "<init>", desc := "()V" } : Jvm.MethodName)) ∈ lw_tbl := lw_at lw_m1 235 rfl
theorem q287 : (Jvm.Cond.declares ({ cls := "java/lang/Exception", name := "<init>", desc := "(Ljava/lang/String;)V" } : Jvm.MethodName)) ∈ lw_tbl := lw_at lw_m1 236 rfl
theorem q579 : (Jvm.Cond.instanceMethod ({ cls := "java/lang/Exception", name := "<init>", desc := "()V" } : Jvm.MethodName)) ∈ lw_all := lw_g (lw_at lw_m3 48 rfl) rfl
theorem q580 : (Jvm.Cond.code ({ cls := "java/lang/Exception", name := "<init>", desc := "()V" } : Jvm.MethodName) prog_20_method_1_code (1 : Nat) (Option.none : Option Jvm.ClassFile.FieldType)) ∈ lw_all := lw_g (lw_at lw_m3 49 rfl) rfl
theorem q581 : (Jvm.Cond.methodLink "java/lang/Exception" (1 : Nat) ({ cls := "java/lang/Throwable", name := "<init>", desc := "()V" } : Jvm.MethodName)) ∈ lw_all := lw_g (lw_at lw_m3 50 rfl) rfl

/-! java/lang/ArrayStoreException -/
set_option maxRecDepth 100000
def RJ10 : String := "java/lang/ArrayStoreException"
def TJ10 : u_T := fun k => match k with
  | 0 => ("java/lang/Throwable", "backtrace", "Ljava/lang/Object;", false)
  | 1 => ("java/lang/Throwable", "detailMessage", "Ljava/lang/String;", false)
  | 2 => ("java/lang/Throwable", "cause", "Ljava/lang/Throwable;", false)
  | 3 => ("java/lang/Throwable", "stackTrace", "[Ljava/lang/StackTraceElement;", false)
  | 4 => ("java/lang/Throwable", "depth", "I", false)
  | _ => ("java/lang/Throwable", "suppressedExceptions", "Ljava/util/List;", false)
def tyJ10 : Nat → FieldType := fun k => match k with
  | 0 => .object "java/lang/Object"
  | 1 => .object "java/lang/String"
  | 2 => .object "java/lang/Throwable"
  | 3 => .array (.object "java/lang/StackTraceElement")
  | 4 => .int
  | _ => .object "java/util/List"
abbrev wsJ100 : List Cond := u_ws RJ10 TJ10 6
theorem nmJ10 : ∀ a, a < 6 → ∀ b, b < 6 → a ≠ b → (TJ10 a).2.1 ≠ (TJ10 b).2.1 := by decide +kernel
theorem tyJ10_ok : ∀ k, k < 6 → parseFieldDescriptor (TJ10 k).2.2.1 = some (tyJ10 k) := by decide +kernel
abbrev cJ10_init : ByteArray := prog_17_method_2_code
def yJ10_init : MethodName := ⟨RJ10, "<init>", "(Ljava/lang/String;)V"⟩
def dkwJ10_init_0 : List UInt8 := [42, 43, 183, 0, 7, 177]
abbrev dktJ10_init_0 : List UInt8 := dkwJ10_init_0 ++ []
theorem dksJ10_init_0 : cJ10_init.data.toList.drop 0 = dktJ10_init_0 := by decide +kernel
theorem dJ10_init_0 : decode cJ10_init 0 = .ok (.aload_n 0, 1) := dk_42 (dk_at dksJ10_init_0 0 rfl rfl)
theorem dJ10_init_1 : decode cJ10_init 1 = .ok (.aload_n 1, 1) := dk_43 (dk_at dksJ10_init_0 1 rfl rfl)
theorem dJ10_init_2 : decode cJ10_init 2 = .ok (.invokespecial 7, 3) := dk_183 0 7 (dk_at dksJ10_init_0 2 rfl rfl)
theorem dJ10_init_5 : decode cJ10_init 5 = .ok (.return_, 1) := dk_177 (dk_at dksJ10_init_0 5 rfl rfl)
theorem q77 : (Jvm.Cond.initialized "java/lang/ArrayStoreException") ∈ lw_all := lw_g (lw_at lw_m1 26 rfl) rfl
theorem q242 : (Jvm.Cond.selects "java/lang/ArrayStoreException" ({ cls := "java/lang/Throwable", name := "fillInStackTrace", desc := "()Ljava/lang/Throwable;" } : Jvm.MethodName) ({ cls := "java/lang/Throwable", name := "fillInStackTrace", desc := "()Ljava/lang/Throwable;" } : Jvm.MethodName)) ∈ lw_all := lw_g (lw_at lw_m1 191 rfl) rfl
theorem q657 : (Jvm.Cond.instantiable "java/lang/ArrayStoreException" (6 : Nat)) ∈ lw_all := lw_g (lw_at lw_m3 126 rfl) rfl
theorem q658 : (Jvm.Cond.instanceMethod ({ cls := "java/lang/ArrayStoreException", name := "<init>", desc := "(Ljava/lang/String;)V" } : Jvm.MethodName)) ∈ lw_all := lw_g (lw_at lw_m3 127 rfl) rfl
theorem q659 : (Jvm.Cond.code ({ cls := "java/lang/ArrayStoreException", name := "<init>", desc := "(Ljava/lang/String;)V" } : Jvm.MethodName) prog_17_method_2_code (2 : Nat) (Option.none : Option Jvm.ClassFile.FieldType)) ∈ lw_all := lw_g (lw_at lw_m3 128 rfl) rfl
theorem q660 : (Jvm.Cond.methodLink "java/lang/ArrayStoreException" (7 : Nat) ({ cls := "java/lang/RuntimeException", name := "<init>", desc := "(Ljava/lang/String;)V" } : Jvm.MethodName)) ∈ lw_all := lw_g (lw_at lw_m3 129 rfl) rfl
theorem q661 : (Jvm.Cond.lays "java/lang/ArrayStoreException" "java/lang/Throwable" "backtrace" "Ljava/lang/Object;") ∈ lw_all := lw_g (lw_at lw_m3 130 rfl) rfl
theorem q662 : (Jvm.Cond.lays "java/lang/ArrayStoreException" "java/lang/Throwable" "detailMessage" "Ljava/lang/String;") ∈ lw_all := lw_g (lw_at lw_m3 131 rfl) rfl
theorem q663 : (Jvm.Cond.lays "java/lang/ArrayStoreException" "java/lang/Throwable" "cause" "Ljava/lang/Throwable;") ∈ lw_all := lw_g (lw_at lw_m3 132 rfl) rfl
theorem q664 : (Jvm.Cond.lays "java/lang/ArrayStoreException" "java/lang/Throwable" "stackTrace" "[Ljava/lang/StackTraceElement;") ∈ lw_all := lw_g (lw_at lw_m3 133 rfl) rfl
theorem q665 : (Jvm.Cond.lays "java/lang/ArrayStoreException" "java/lang/Throwable" "depth" "I") ∈ lw_all := lw_g (lw_at lw_m3 134 rfl) rfl
theorem q666 : (Jvm.Cond.lays "java/lang/ArrayStoreException" "java/lang/Throwable" "suppressedExceptions" "Ljava/util/List;") ∈ lw_all := lw_g (lw_at lw_m3 135 rfl) rfl
theorem q667 : (Jvm.Cond.superclass "java/lang/ArrayStoreException" "java/lang/RuntimeException") ∈ lw_all := lw_g (lw_at lw_m3 136 rfl) rfl
theorem q668 : (Jvm.Cond.castable "java/lang/ArrayStoreException" "java/lang/ArrayStoreException") ∈ lw_tbl := lw_at lw_m3 137 rfl
theorem q669 : (Jvm.Cond.selects "java/lang/ArrayStoreException" ({ cls := "java/lang/Throwable", name := "fillInStackTrace", desc := "(I)Ljava/lang/Throwable;" } : Jvm.MethodName) ({ cls := "java/lang/Throwable", name := "fillInStackTrace", desc := "(I)Ljava/lang/Throwable;" } : Jvm.MethodName)) ∈ lw_all := lw_g (lw_at lw_m3 138 rfl) rfl
theorem in_J10 : ∀ w ∈ wsJ100, w ∈ lw_all := lw_in wsJ100 [661, 662, 663, 664, 665, 666] (by decide +kernel) (by decide +kernel)

/-! java/lang/Math -/
set_option maxRecDepth 100000
def RJ11 : String := "java/lang/Math"
abbrev cJ11_max : ByteArray := prog_23_method_65_code
def yJ11_max : MethodName := ⟨RJ11, "max", "(II)I"⟩
def dkwJ11_max_0 : List UInt8 := [26, 27, 161, 0, 7, 26, 167, 0, 4, 27, 172]
abbrev dktJ11_max_0 : List UInt8 := dkwJ11_max_0 ++ []
theorem dksJ11_max_0 : cJ11_max.data.toList.drop 0 = dktJ11_max_0 := by decide +kernel
theorem dJ11_max_0 : decode cJ11_max 0 = .ok (.iload_n 0, 1) := dk_26 (dk_at dksJ11_max_0 0 rfl rfl)
theorem dJ11_max_1 : decode cJ11_max 1 = .ok (.iload_n 1, 1) := dk_27 (dk_at dksJ11_max_0 1 rfl rfl)
theorem dJ11_max_2 : decode cJ11_max 2 = .ok (.if_icmp .lt 7, 3) := dk_161 0 7 (dk_at dksJ11_max_0 2 rfl rfl)
theorem dJ11_max_5 : decode cJ11_max 5 = .ok (.iload_n 0, 1) := dk_26 (dk_at dksJ11_max_0 5 rfl rfl)
theorem dJ11_max_6 : decode cJ11_max 6 = .ok (.goto 4, 3) := dk_167 0 4 (dk_at dksJ11_max_0 6 rfl rfl)
theorem dJ11_max_9 : decode cJ11_max 9 = .ok (.iload_n 1, 1) := dk_27 (dk_at dksJ11_max_0 9 rfl rfl)
theorem dJ11_max_10 : decode cJ11_max 10 = .ok (.ireturn, 1) := dk_172 (dk_at dksJ11_max_0 10 rfl rfl)
abbrev cJ11_max_2 : ByteArray := prog_23_method_67_code
def yJ11_max_2 : MethodName := ⟨RJ11, "max", "(FF)F"⟩
def dkwJ11_max_2_1 : List UInt8 := [133, 178, 0, 170, 148, 154, 0, 5, 35, 174, 34, 35, 149, 155, 0, 7, 34, 167, 0, 4, 35, 174]
abbrev dktJ11_max_2_1 : List UInt8 := dkwJ11_max_2_1 ++ []
def dkwJ11_max_2_0 : List UInt8 := [34, 34, 149, 153, 0, 5, 34, 174, 34, 11, 149, 154, 0, 23, 35, 11, 149, 154, 0, 17, 34, 184, 0, 68]
abbrev dktJ11_max_2_0 : List UInt8 := dkwJ11_max_2_0 ++ dktJ11_max_2_1
theorem dksJ11_max_2_0 : cJ11_max_2.data.toList.drop 0 = dktJ11_max_2_0 := by decide +kernel
theorem dksJ11_max_2_1 : cJ11_max_2.data.toList.drop 24 = dktJ11_max_2_1 := dk_seg dksJ11_max_2_0 24 rfl rfl
theorem dJ11_max_2_0 : decode cJ11_max_2 0 = .ok (.fload_n 0, 1) := dk_34 (dk_at dksJ11_max_2_0 0 rfl rfl)
theorem dJ11_max_2_1 : decode cJ11_max_2 1 = .ok (.fload_n 0, 1) := dk_34 (dk_at dksJ11_max_2_0 1 rfl rfl)
theorem dJ11_max_2_2 : decode cJ11_max_2 2 = .ok (.fcmp .l, 1) := dk_149 (dk_at dksJ11_max_2_0 2 rfl rfl)
theorem dJ11_max_2_3 : decode cJ11_max_2 3 = .ok (.ifCond .eq 5, 3) := dk_153 0 5 (dk_at dksJ11_max_2_0 3 rfl rfl)
theorem dJ11_max_2_6 : decode cJ11_max_2 6 = .ok (.fload_n 0, 1) := dk_34 (dk_at dksJ11_max_2_0 6 rfl rfl)
theorem dJ11_max_2_7 : decode cJ11_max_2 7 = .ok (.freturn, 1) := dk_174 (dk_at dksJ11_max_2_0 7 rfl rfl)
theorem dJ11_max_2_8 : decode cJ11_max_2 8 = .ok (.fload_n 0, 1) := dk_34 (dk_at dksJ11_max_2_0 8 rfl rfl)
theorem dJ11_max_2_9 : decode cJ11_max_2 9 = .ok (.fconst 0, 1) := dk_11 (dk_at dksJ11_max_2_0 9 rfl rfl)
theorem dJ11_max_2_10 : decode cJ11_max_2 10 = .ok (.fcmp .l, 1) := dk_149 (dk_at dksJ11_max_2_0 10 rfl rfl)
theorem dJ11_max_2_11 : decode cJ11_max_2 11 = .ok (.ifCond .ne 23, 3) := dk_154 0 23 (dk_at dksJ11_max_2_0 11 rfl rfl)
theorem dJ11_max_2_14 : decode cJ11_max_2 14 = .ok (.fload_n 1, 1) := dk_35 (dk_at dksJ11_max_2_0 14 rfl rfl)
theorem dJ11_max_2_15 : decode cJ11_max_2 15 = .ok (.fconst 0, 1) := dk_11 (dk_at dksJ11_max_2_0 15 rfl rfl)
theorem dJ11_max_2_16 : decode cJ11_max_2 16 = .ok (.fcmp .l, 1) := dk_149 (dk_at dksJ11_max_2_0 16 rfl rfl)
theorem dJ11_max_2_17 : decode cJ11_max_2 17 = .ok (.ifCond .ne 17, 3) := dk_154 0 17 (dk_at dksJ11_max_2_0 17 rfl rfl)
theorem dJ11_max_2_20 : decode cJ11_max_2 20 = .ok (.fload_n 0, 1) := dk_34 (dk_at dksJ11_max_2_0 20 rfl rfl)
theorem dJ11_max_2_21 : decode cJ11_max_2 21 = .ok (.invokestatic 68, 3) := dk_184 0 68 (dk_at dksJ11_max_2_0 21 rfl rfl)
theorem dJ11_max_2_24 : decode cJ11_max_2 24 = .ok (.i2l, 1) := dk_133 (dk_at dksJ11_max_2_1 0 rfl rfl)
theorem dJ11_max_2_25 : decode cJ11_max_2 25 = .ok (.getstatic 170, 3) := dk_178 0 170 (dk_at dksJ11_max_2_1 1 rfl rfl)
theorem dJ11_max_2_28 : decode cJ11_max_2 28 = .ok (.lcmp, 1) := dk_148 (dk_at dksJ11_max_2_1 4 rfl rfl)
theorem dJ11_max_2_29 : decode cJ11_max_2 29 = .ok (.ifCond .ne 5, 3) := dk_154 0 5 (dk_at dksJ11_max_2_1 5 rfl rfl)
theorem dJ11_max_2_32 : decode cJ11_max_2 32 = .ok (.fload_n 1, 1) := dk_35 (dk_at dksJ11_max_2_1 8 rfl rfl)
theorem dJ11_max_2_33 : decode cJ11_max_2 33 = .ok (.freturn, 1) := dk_174 (dk_at dksJ11_max_2_1 9 rfl rfl)
theorem dJ11_max_2_34 : decode cJ11_max_2 34 = .ok (.fload_n 0, 1) := dk_34 (dk_at dksJ11_max_2_1 10 rfl rfl)
theorem dJ11_max_2_35 : decode cJ11_max_2 35 = .ok (.fload_n 1, 1) := dk_35 (dk_at dksJ11_max_2_1 11 rfl rfl)
theorem dJ11_max_2_36 : decode cJ11_max_2 36 = .ok (.fcmp .l, 1) := dk_149 (dk_at dksJ11_max_2_1 12 rfl rfl)
theorem dJ11_max_2_37 : decode cJ11_max_2 37 = .ok (.ifCond .lt 7, 3) := dk_155 0 7 (dk_at dksJ11_max_2_1 13 rfl rfl)
theorem dJ11_max_2_40 : decode cJ11_max_2 40 = .ok (.fload_n 0, 1) := dk_34 (dk_at dksJ11_max_2_1 16 rfl rfl)
theorem dJ11_max_2_41 : decode cJ11_max_2 41 = .ok (.goto 4, 3) := dk_167 0 4 (dk_at dksJ11_max_2_1 17 rfl rfl)
theorem dJ11_max_2_44 : decode cJ11_max_2 44 = .ok (.fload_n 1, 1) := dk_35 (dk_at dksJ11_max_2_1 20 rfl rfl)
theorem dJ11_max_2_45 : decode cJ11_max_2 45 = .ok (.freturn, 1) := dk_174 (dk_at dksJ11_max_2_1 21 rfl rfl)
abbrev cJ11_abs : ByteArray := prog_23_method_63_code
def yJ11_abs : MethodName := ⟨RJ11, "abs", "(F)F"⟩
def dkwJ11_abs_0 : List UInt8 := [34, 184, 0, 68, 18, 134, 126, 184, 0, 162, 174]
abbrev dktJ11_abs_0 : List UInt8 := dkwJ11_abs_0 ++ []
theorem dksJ11_abs_0 : cJ11_abs.data.toList.drop 0 = dktJ11_abs_0 := by decide +kernel
theorem dJ11_abs_0 : decode cJ11_abs 0 = .ok (.fload_n 0, 1) := dk_34 (dk_at dksJ11_abs_0 0 rfl rfl)
theorem dJ11_abs_1 : decode cJ11_abs 1 = .ok (.invokestatic 68, 3) := dk_184 0 68 (dk_at dksJ11_abs_0 1 rfl rfl)
theorem dJ11_abs_4 : decode cJ11_abs 4 = .ok (.ldc 134, 2) := dk_18 134 (dk_at dksJ11_abs_0 4 rfl rfl)
theorem dJ11_abs_6 : decode cJ11_abs 6 = .ok (.iand, 1) := dk_126 (dk_at dksJ11_abs_0 6 rfl rfl)
theorem dJ11_abs_7 : decode cJ11_abs 7 = .ok (.invokestatic 162, 3) := dk_184 0 162 (dk_at dksJ11_abs_0 7 rfl rfl)
theorem dJ11_abs_10 : decode cJ11_abs 10 = .ok (.freturn, 1) := dk_174 (dk_at dksJ11_abs_0 10 rfl rfl)
abbrev cJ11_copySign : ByteArray := prog_23_method_90_code
def yJ11_copySign : MethodName := ⟨RJ11, "copySign", "(FF)F"⟩
def dkwJ11_copySign_0 : List UInt8 := [35, 184, 0, 68, 18, 137, 126, 34, 184, 0, 68, 18, 134, 126, 128, 184, 0, 162, 174]
abbrev dktJ11_copySign_0 : List UInt8 := dkwJ11_copySign_0 ++ []
theorem dksJ11_copySign_0 : cJ11_copySign.data.toList.drop 0 = dktJ11_copySign_0 := by decide +kernel
theorem dJ11_copySign_0 : decode cJ11_copySign 0 = .ok (.fload_n 1, 1) := dk_35 (dk_at dksJ11_copySign_0 0 rfl rfl)
theorem dJ11_copySign_1 : decode cJ11_copySign 1 = .ok (.invokestatic 68, 3) := dk_184 0 68 (dk_at dksJ11_copySign_0 1 rfl rfl)
theorem dJ11_copySign_4 : decode cJ11_copySign 4 = .ok (.ldc 137, 2) := dk_18 137 (dk_at dksJ11_copySign_0 4 rfl rfl)
theorem dJ11_copySign_6 : decode cJ11_copySign 6 = .ok (.iand, 1) := dk_126 (dk_at dksJ11_copySign_0 6 rfl rfl)
theorem dJ11_copySign_7 : decode cJ11_copySign 7 = .ok (.fload_n 0, 1) := dk_34 (dk_at dksJ11_copySign_0 7 rfl rfl)
theorem dJ11_copySign_8 : decode cJ11_copySign 8 = .ok (.invokestatic 68, 3) := dk_184 0 68 (dk_at dksJ11_copySign_0 8 rfl rfl)
theorem dJ11_copySign_11 : decode cJ11_copySign 11 = .ok (.ldc 134, 2) := dk_18 134 (dk_at dksJ11_copySign_0 11 rfl rfl)
theorem dJ11_copySign_13 : decode cJ11_copySign 13 = .ok (.iand, 1) := dk_126 (dk_at dksJ11_copySign_0 13 rfl rfl)
theorem dJ11_copySign_14 : decode cJ11_copySign 14 = .ok (.ior, 1) := dk_128 (dk_at dksJ11_copySign_0 14 rfl rfl)
theorem dJ11_copySign_15 : decode cJ11_copySign 15 = .ok (.invokestatic 162, 3) := dk_184 0 162 (dk_at dksJ11_copySign_0 15 rfl rfl)
theorem dJ11_copySign_18 : decode cJ11_copySign 18 = .ok (.freturn, 1) := dk_174 (dk_at dksJ11_copySign_0 18 rfl rfl)
abbrev cJ11_rint : ByteArray := prog_23_method_18_code
def yJ11_rint : MethodName := ⟨RJ11, "rint", "(D)D"⟩
theorem dJ11_rint_0 : decode cJ11_rint 0 = .ok (.dload_n 0, 1) := by decide +kernel
theorem dJ11_rint_1 : decode cJ11_rint 1 = .ok (.invokestatic 59, 3) := by decide +kernel
theorem dJ11_rint_4 : decode cJ11_rint 4 = .ok (.dreturn, 1) := by decide +kernel
abbrev cJ11_copySign_2 : ByteArray := prog_23_method_89_code
def yJ11_copySign_2 : MethodName := ⟨RJ11, "copySign", "(DD)D"⟩
def dkwJ11_copySign_2_0 : List UInt8 := [40, 184, 0, 79, 20, 0, 128, 127, 38, 184, 0, 79, 20, 0, 135, 127, 129, 184, 0, 166, 175]
abbrev dktJ11_copySign_2_0 : List UInt8 := dkwJ11_copySign_2_0 ++ []
theorem dksJ11_copySign_2_0 : cJ11_copySign_2.data.toList.drop 0 = dktJ11_copySign_2_0 := by decide +kernel
theorem dJ11_copySign_2_0 : decode cJ11_copySign_2 0 = .ok (.dload_n 2, 1) := dk_40 (dk_at dksJ11_copySign_2_0 0 rfl rfl)
theorem dJ11_copySign_2_1 : decode cJ11_copySign_2 1 = .ok (.invokestatic 79, 3) := dk_184 0 79 (dk_at dksJ11_copySign_2_0 1 rfl rfl)
theorem dJ11_copySign_2_4 : decode cJ11_copySign_2 4 = .ok (.ldc2_w 128, 3) := dk_20 0 128 (dk_at dksJ11_copySign_2_0 4 rfl rfl)
theorem dJ11_copySign_2_7 : decode cJ11_copySign_2 7 = .ok (.land, 1) := dk_127 (dk_at dksJ11_copySign_2_0 7 rfl rfl)
theorem dJ11_copySign_2_8 : decode cJ11_copySign_2 8 = .ok (.dload_n 0, 1) := dk_38 (dk_at dksJ11_copySign_2_0 8 rfl rfl)
theorem dJ11_copySign_2_9 : decode cJ11_copySign_2 9 = .ok (.invokestatic 79, 3) := dk_184 0 79 (dk_at dksJ11_copySign_2_0 9 rfl rfl)
theorem dJ11_copySign_2_12 : decode cJ11_copySign_2 12 = .ok (.ldc2_w 135, 3) := dk_20 0 135 (dk_at dksJ11_copySign_2_0 12 rfl rfl)
theorem dJ11_copySign_2_15 : decode cJ11_copySign_2 15 = .ok (.land, 1) := dk_127 (dk_at dksJ11_copySign_2_0 15 rfl rfl)
theorem dJ11_copySign_2_16 : decode cJ11_copySign_2 16 = .ok (.lor, 1) := dk_129 (dk_at dksJ11_copySign_2_0 16 rfl rfl)
theorem dJ11_copySign_2_17 : decode cJ11_copySign_2 17 = .ok (.invokestatic 166, 3) := dk_184 0 166 (dk_at dksJ11_copySign_2_0 17 rfl rfl)
theorem dJ11_copySign_2_20 : decode cJ11_copySign_2 20 = .ok (.dreturn, 1) := dk_175 (dk_at dksJ11_copySign_2_0 20 rfl rfl)
abbrev cJ11_abs_2 : ByteArray := prog_23_method_64_code
def yJ11_abs_2 : MethodName := ⟨RJ11, "abs", "(D)D"⟩
def dkwJ11_abs_2_0 : List UInt8 := [38, 184, 0, 79, 20, 0, 135, 127, 184, 0, 166, 175]
abbrev dktJ11_abs_2_0 : List UInt8 := dkwJ11_abs_2_0 ++ []
theorem dksJ11_abs_2_0 : cJ11_abs_2.data.toList.drop 0 = dktJ11_abs_2_0 := by decide +kernel
theorem dJ11_abs_2_0 : decode cJ11_abs_2 0 = .ok (.dload_n 0, 1) := dk_38 (dk_at dksJ11_abs_2_0 0 rfl rfl)
theorem dJ11_abs_2_1 : decode cJ11_abs_2 1 = .ok (.invokestatic 79, 3) := dk_184 0 79 (dk_at dksJ11_abs_2_0 1 rfl rfl)
theorem dJ11_abs_2_4 : decode cJ11_abs_2 4 = .ok (.ldc2_w 135, 3) := dk_20 0 135 (dk_at dksJ11_abs_2_0 4 rfl rfl)
theorem dJ11_abs_2_7 : decode cJ11_abs_2 7 = .ok (.land, 1) := dk_127 (dk_at dksJ11_abs_2_0 7 rfl rfl)
theorem dJ11_abs_2_8 : decode cJ11_abs_2 8 = .ok (.invokestatic 166, 3) := dk_184 0 166 (dk_at dksJ11_abs_2_0 8 rfl rfl)
theorem dJ11_abs_2_11 : decode cJ11_abs_2 11 = .ok (.dreturn, 1) := dk_175 (dk_at dksJ11_abs_2_0 11 rfl rfl)
abbrev cJ11_min : ByteArray := prog_23_method_69_code
def yJ11_min : MethodName := ⟨RJ11, "min", "(II)I"⟩
def dkwJ11_min_0 : List UInt8 := [26, 27, 163, 0, 7, 26, 167, 0, 4, 27, 172]
abbrev dktJ11_min_0 : List UInt8 := dkwJ11_min_0 ++ []
theorem dksJ11_min_0 : cJ11_min.data.toList.drop 0 = dktJ11_min_0 := by decide +kernel
theorem dJ11_min_0 : decode cJ11_min 0 = .ok (.iload_n 0, 1) := dk_26 (dk_at dksJ11_min_0 0 rfl rfl)
theorem dJ11_min_1 : decode cJ11_min 1 = .ok (.iload_n 1, 1) := dk_27 (dk_at dksJ11_min_0 1 rfl rfl)
theorem dJ11_min_2 : decode cJ11_min 2 = .ok (.if_icmp .gt 7, 3) := dk_163 0 7 (dk_at dksJ11_min_0 2 rfl rfl)
theorem dJ11_min_5 : decode cJ11_min 5 = .ok (.iload_n 0, 1) := dk_26 (dk_at dksJ11_min_0 5 rfl rfl)
theorem dJ11_min_6 : decode cJ11_min 6 = .ok (.goto 4, 3) := dk_167 0 4 (dk_at dksJ11_min_0 6 rfl rfl)
theorem dJ11_min_9 : decode cJ11_min 9 = .ok (.iload_n 1, 1) := dk_27 (dk_at dksJ11_min_0 9 rfl rfl)
theorem dJ11_min_10 : decode cJ11_min 10 = .ok (.ireturn, 1) := dk_172 (dk_at dksJ11_min_0 10 rfl rfl)
theorem q78 : (Jvm.Cond.initialized "java/lang/Math") ∈ lw_all := lw_g (lw_at lw_m1 27 rfl) rfl
theorem q728 : (Jvm.Cond.static ({ cls := "java/lang/Math", name := "max", desc := "(II)I" } : Jvm.MethodName)) ∈ lw_all := lw_g (lw_at lw_m3 197 rfl) rfl
theorem q729 : (Jvm.Cond.code ({ cls := "java/lang/Math", name := "max", desc := "(II)I" } : Jvm.MethodName) prog_23_method_65_code (2 : Nat) (Option.some Jvm.ClassFile.FieldType.int)) ∈ lw_all := lw_g (lw_at lw_m3 198 rfl) rfl
theorem q779 : (Jvm.Cond.static ({ cls := "java/lang/Math", name := "max", desc := "(FF)F" } : Jvm.MethodName)) ∈ lw_all := lw_g (lw_at lw_m4 8 rfl) rfl
theorem q780 : (Jvm.Cond.code ({ cls := "java/lang/Math", name := "max", desc := "(FF)F" } : Jvm.MethodName) prog_23_method_67_code (2 : Nat) (Option.some Jvm.ClassFile.FieldType.float)) ∈ lw_all := lw_g (lw_at lw_m4 9 rfl) rfl
theorem q781 : (Jvm.Cond.methodLink "java/lang/Math" (68 : Nat) ({ cls := "java/lang/Float", name := "floatToRawIntBits", desc := "(F)I" } : Jvm.MethodName)) ∈ lw_all := lw_g (lw_at lw_m4 10 rfl) rfl
theorem q782 : (Jvm.Cond.fieldLink "java/lang/Math" (170 : Nat) "java/lang/Math" "negativeZeroFloatBits" "J") ∈ lw_all := lw_g (lw_at lw_m4 11 rfl) rfl
theorem q783 : (Jvm.Cond.laysStatic "java/lang/Math" "negativeZeroFloatBits" "J") ∈ lw_tbl := lw_at lw_m4 12 rfl
theorem q799 : (Jvm.Cond.static ({ cls := "java/lang/Math", name := "abs", desc := "(F)F" } : Jvm.MethodName)) ∈ lw_all := lw_g (lw_at lw_m4 28 rfl) rfl
theorem q800 : (Jvm.Cond.code ({ cls := "java/lang/Math", name := "abs", desc := "(F)F" } : Jvm.MethodName) prog_23_method_63_code (1 : Nat) (Option.some Jvm.ClassFile.FieldType.float)) ∈ lw_all := lw_g (lw_at lw_m4 29 rfl) rfl
theorem q801 : (Jvm.Cond.constant "java/lang/Math" (134 : Nat) (2147483647 : Int32)) ∈ lw_all := lw_g (lw_at lw_m4 30 rfl) rfl
theorem q802 : (Jvm.Cond.methodLink "java/lang/Math" (162 : Nat) ({ cls := "java/lang/Float", name := "intBitsToFloat", desc := "(I)F" } : Jvm.MethodName)) ∈ lw_all := lw_g (lw_at lw_m4 31 rfl) rfl
theorem q804 : (Jvm.Cond.static ({ cls := "java/lang/Math", name := "copySign", desc := "(FF)F" } : Jvm.MethodName)) ∈ lw_all := lw_g (lw_at lw_m4 33 rfl) rfl
theorem q805 : (Jvm.Cond.code ({ cls := "java/lang/Math", name := "copySign", desc := "(FF)F" } : Jvm.MethodName) prog_23_method_90_code (2 : Nat) (Option.some Jvm.ClassFile.FieldType.float)) ∈ lw_all := lw_g (lw_at lw_m4 34 rfl) rfl
theorem q806 : (Jvm.Cond.constant "java/lang/Math" (137 : Nat) (-2147483648 : Int32)) ∈ lw_all := lw_g (lw_at lw_m4 35 rfl) rfl
theorem q811 : (Jvm.Cond.static ({ cls := "java/lang/Math", name := "rint", desc := "(D)D" } : Jvm.MethodName)) ∈ lw_all := lw_g (lw_at lw_m4 40 rfl) rfl
theorem q812 : (Jvm.Cond.code ({ cls := "java/lang/Math", name := "rint", desc := "(D)D" } : Jvm.MethodName) prog_23_method_18_code (2 : Nat) (Option.some Jvm.ClassFile.FieldType.double)) ∈ lw_all := lw_g (lw_at lw_m4 41 rfl) rfl
theorem q813 : (Jvm.Cond.methodLink "java/lang/Math" (59 : Nat) ({ cls := "java/lang/StrictMath", name := "rint", desc := "(D)D" } : Jvm.MethodName)) ∈ lw_all := lw_g (lw_at lw_m4 42 rfl) rfl
theorem q818 : (Jvm.Cond.static ({ cls := "java/lang/Math", name := "copySign", desc := "(DD)D" } : Jvm.MethodName)) ∈ lw_all := lw_g (lw_at lw_m4 47 rfl) rfl
theorem q819 : (Jvm.Cond.code ({ cls := "java/lang/Math", name := "copySign", desc := "(DD)D" } : Jvm.MethodName) prog_23_method_89_code (4 : Nat) (Option.some Jvm.ClassFile.FieldType.double)) ∈ lw_all := lw_g (lw_at lw_m4 48 rfl) rfl
theorem q820 : (Jvm.Cond.methodLink "java/lang/Math" (79 : Nat) ({ cls := "java/lang/Double", name := "doubleToRawLongBits", desc := "(D)J" } : Jvm.MethodName)) ∈ lw_all := lw_g (lw_at lw_m4 49 rfl) rfl
theorem q823 : (Jvm.Cond.constantLong "java/lang/Math" (128 : Nat) (-9223372036854775808 : Int64)) ∈ lw_all := lw_g (lw_at lw_m4 52 rfl) rfl
theorem q824 : (Jvm.Cond.constantLong "java/lang/Math" (135 : Nat) (9223372036854775807 : Int64)) ∈ lw_all := lw_g (lw_at lw_m4 53 rfl) rfl
theorem q825 : (Jvm.Cond.methodLink "java/lang/Math" (166 : Nat) ({ cls := "java/lang/Double", name := "longBitsToDouble", desc := "(J)D" } : Jvm.MethodName)) ∈ lw_all := lw_g (lw_at lw_m4 54 rfl) rfl
theorem q827 : (Jvm.Cond.static ({ cls := "java/lang/Math", name := "abs", desc := "(D)D" } : Jvm.MethodName)) ∈ lw_all := lw_g (lw_at lw_m4 56 rfl) rfl
theorem q828 : (Jvm.Cond.code ({ cls := "java/lang/Math", name := "abs", desc := "(D)D" } : Jvm.MethodName) prog_23_method_64_code (2 : Nat) (Option.some Jvm.ClassFile.FieldType.double)) ∈ lw_all := lw_g (lw_at lw_m4 57 rfl) rfl
theorem q907 : (Jvm.Cond.static ({ cls := "java/lang/Math", name := "min", desc := "(II)I" } : Jvm.MethodName)) ∈ lw_all := lw_g (lw_at lw_m4 136 rfl) rfl
theorem q908 : (Jvm.Cond.code ({ cls := "java/lang/Math", name := "min", desc := "(II)I" } : Jvm.MethodName) prog_23_method_69_code (2 : Nat) (Option.some Jvm.ClassFile.FieldType.int)) ∈ lw_all := lw_g (lw_at lw_m4 137 rfl) rfl

/-! java/lang/ArithmeticException -/
set_option maxRecDepth 100000
def RJ12 : String := "java/lang/ArithmeticException"
def TJ12 : u_T := fun k => match k with
  | 0 => ("java/lang/Throwable", "backtrace", "Ljava/lang/Object;", false)
  | 1 => ("java/lang/Throwable", "detailMessage", "Ljava/lang/String;", false)
  | 2 => ("java/lang/Throwable", "cause", "Ljava/lang/Throwable;", false)
  | 3 => ("java/lang/Throwable", "stackTrace", "[Ljava/lang/StackTraceElement;", false)
  | 4 => ("java/lang/Throwable", "depth", "I", false)
  | _ => ("java/lang/Throwable", "suppressedExceptions", "Ljava/util/List;", false)
def tyJ12 : Nat → FieldType := fun k => match k with
  | 0 => .object "java/lang/Object"
  | 1 => .object "java/lang/String"
  | 2 => .object "java/lang/Throwable"
  | 3 => .array (.object "java/lang/StackTraceElement")
  | 4 => .int
  | _ => .object "java/util/List"
abbrev wsJ120 : List Cond := u_ws RJ12 TJ12 6
theorem nmJ12 : ∀ a, a < 6 → ∀ b, b < 6 → a ≠ b → (TJ12 a).2.1 ≠ (TJ12 b).2.1 := by decide +kernel
theorem tyJ12_ok : ∀ k, k < 6 → parseFieldDescriptor (TJ12 k).2.2.1 = some (tyJ12 k) := by decide +kernel
abbrev cJ12_init : ByteArray := prog_15_method_2_code
def yJ12_init : MethodName := ⟨RJ12, "<init>", "(Ljava/lang/String;)V"⟩
def dkwJ12_init_0 : List UInt8 := [42, 43, 183, 0, 7, 177]
abbrev dktJ12_init_0 : List UInt8 := dkwJ12_init_0 ++ []
theorem dksJ12_init_0 : cJ12_init.data.toList.drop 0 = dktJ12_init_0 := by decide +kernel
theorem dJ12_init_0 : decode cJ12_init 0 = .ok (.aload_n 0, 1) := dk_42 (dk_at dksJ12_init_0 0 rfl rfl)
theorem dJ12_init_1 : decode cJ12_init 1 = .ok (.aload_n 1, 1) := dk_43 (dk_at dksJ12_init_0 1 rfl rfl)
theorem dJ12_init_2 : decode cJ12_init 2 = .ok (.invokespecial 7, 3) := dk_183 0 7 (dk_at dksJ12_init_0 2 rfl rfl)
theorem dJ12_init_5 : decode cJ12_init 5 = .ok (.return_, 1) := dk_177 (dk_at dksJ12_init_0 5 rfl rfl)
theorem q79 : (Jvm.Cond.initialized "java/lang/ArithmeticException") ∈ lw_all := lw_g (lw_at lw_m1 28 rfl) rfl
theorem q240 : (Jvm.Cond.selects "java/lang/ArithmeticException" ({ cls := "java/lang/Throwable", name := "fillInStackTrace", desc := "()Ljava/lang/Throwable;" } : Jvm.MethodName) ({ cls := "java/lang/Throwable", name := "fillInStackTrace", desc := "()Ljava/lang/Throwable;" } : Jvm.MethodName)) ∈ lw_all := lw_g (lw_at lw_m1 189 rfl) rfl
theorem q739 : (Jvm.Cond.instantiable "java/lang/ArithmeticException" (6 : Nat)) ∈ lw_all := lw_g (lw_at lw_m3 208 rfl) rfl
theorem q740 : (Jvm.Cond.instanceMethod ({ cls := "java/lang/ArithmeticException", name := "<init>", desc := "(Ljava/lang/String;)V" } : Jvm.MethodName)) ∈ lw_all := lw_g (lw_at lw_m3 209 rfl) rfl
theorem q741 : (Jvm.Cond.code ({ cls := "java/lang/ArithmeticException", name := "<init>", desc := "(Ljava/lang/String;)V" } : Jvm.MethodName) prog_15_method_2_code (2 : Nat) (Option.none : Option Jvm.ClassFile.FieldType)) ∈ lw_all := lw_g (lw_at lw_m3 210 rfl) rfl
theorem q742 : (Jvm.Cond.methodLink "java/lang/ArithmeticException" (7 : Nat) ({ cls := "java/lang/RuntimeException", name := "<init>", desc := "(Ljava/lang/String;)V" } : Jvm.MethodName)) ∈ lw_all := lw_g (lw_at lw_m3 211 rfl) rfl
theorem q743 : (Jvm.Cond.lays "java/lang/ArithmeticException" "java/lang/Throwable" "backtrace" "Ljava/lang/Object;") ∈ lw_all := lw_g (lw_at lw_m3 212 rfl) rfl
theorem q744 : (Jvm.Cond.lays "java/lang/ArithmeticException" "java/lang/Throwable" "detailMessage" "Ljava/lang/String;") ∈ lw_all := lw_g (lw_at lw_m3 213 rfl) rfl
theorem q745 : (Jvm.Cond.lays "java/lang/ArithmeticException" "java/lang/Throwable" "cause" "Ljava/lang/Throwable;") ∈ lw_all := lw_g (lw_at lw_m3 214 rfl) rfl
theorem q746 : (Jvm.Cond.lays "java/lang/ArithmeticException" "java/lang/Throwable" "stackTrace" "[Ljava/lang/StackTraceElement;") ∈ lw_all := lw_g (lw_at lw_m3 215 rfl) rfl
theorem q747 : (Jvm.Cond.lays "java/lang/ArithmeticException" "java/lang/Throwable" "depth" "I") ∈ lw_all := lw_g (lw_at lw_m3 216 rfl) rfl
theorem q748 : (Jvm.Cond.lays "java/lang/ArithmeticException" "java/lang/Throwable" "suppressedExceptions" "Ljava/util/List;") ∈ lw_all := lw_g (lw_at lw_m3 217 rfl) rfl
theorem q749 : (Jvm.Cond.superclass "java/lang/ArithmeticException" "java/lang/RuntimeException") ∈ lw_all := lw_g (lw_at lw_m3 218 rfl) rfl
theorem q750 : (Jvm.Cond.castable "java/lang/ArithmeticException" "java/lang/ArithmeticException") ∈ lw_tbl := lw_at lw_m3 219 rfl
theorem q751 : (Jvm.Cond.selects "java/lang/ArithmeticException" ({ cls := "java/lang/Throwable", name := "fillInStackTrace", desc := "(I)Ljava/lang/Throwable;" } : Jvm.MethodName) ({ cls := "java/lang/Throwable", name := "fillInStackTrace", desc := "(I)Ljava/lang/Throwable;" } : Jvm.MethodName)) ∈ lw_all := lw_g (lw_at lw_m3 220 rfl) rfl
theorem in_J12 : ∀ w ∈ wsJ120, w ∈ lw_all := lw_in wsJ120 [743, 744, 745, 746, 747, 748] (by decide +kernel) (by decide +kernel)

/-! java/lang/StrictMath -/
set_option maxRecDepth 100000
def RJ13 : String := "java/lang/StrictMath"
abbrev cJ13_rint : ByteArray := prog_28_method_19_code
def yJ13_rint : MethodName := ⟨RJ13, "rint", "(D)D"⟩
def dkwJ13_rint_1 : List UInt8 := [99, 40, 103, 71, 24, 4, 38, 107, 175]
abbrev dktJ13_rint_1 : List UInt8 := dkwJ13_rint_1 ++ []
def dkwJ13_rint_0 : List UInt8 := [20, 0, 93, 73, 15, 38, 184, 0, 95, 57, 4, 38, 184, 0, 98, 71, 38, 40, 152, 156, 0, 9, 40, 38]
abbrev dktJ13_rint_0 : List UInt8 := dkwJ13_rint_0 ++ dktJ13_rint_1
theorem dksJ13_rint_0 : cJ13_rint.data.toList.drop 0 = dktJ13_rint_0 := by decide +kernel
theorem dksJ13_rint_1 : cJ13_rint.data.toList.drop 24 = dktJ13_rint_1 := dk_seg dksJ13_rint_0 24 rfl rfl
theorem dJ13_rint_0 : decode cJ13_rint 0 = .ok (.ldc2_w 93, 3) := dk_20 0 93 (dk_at dksJ13_rint_0 0 rfl rfl)
theorem dJ13_rint_3 : decode cJ13_rint 3 = .ok (.dstore_n 2, 1) := dk_73 (dk_at dksJ13_rint_0 3 rfl rfl)
theorem dJ13_rint_4 : decode cJ13_rint 4 = .ok (.dconst 1, 1) := dk_15 (dk_at dksJ13_rint_0 4 rfl rfl)
theorem dJ13_rint_5 : decode cJ13_rint 5 = .ok (.dload_n 0, 1) := dk_38 (dk_at dksJ13_rint_0 5 rfl rfl)
theorem dJ13_rint_6 : decode cJ13_rint 6 = .ok (.invokestatic 95, 3) := dk_184 0 95 (dk_at dksJ13_rint_0 6 rfl rfl)
theorem dJ13_rint_9 : decode cJ13_rint 9 = .ok (.dstore 4, 2) := dk_57 4 (dk_at dksJ13_rint_0 9 rfl rfl)
theorem dJ13_rint_11 : decode cJ13_rint 11 = .ok (.dload_n 0, 1) := dk_38 (dk_at dksJ13_rint_0 11 rfl rfl)
theorem dJ13_rint_12 : decode cJ13_rint 12 = .ok (.invokestatic 98, 3) := dk_184 0 98 (dk_at dksJ13_rint_0 12 rfl rfl)
theorem dJ13_rint_15 : decode cJ13_rint 15 = .ok (.dstore_n 0, 1) := dk_71 (dk_at dksJ13_rint_0 15 rfl rfl)
theorem dJ13_rint_16 : decode cJ13_rint 16 = .ok (.dload_n 0, 1) := dk_38 (dk_at dksJ13_rint_0 16 rfl rfl)
theorem dJ13_rint_17 : decode cJ13_rint 17 = .ok (.dload_n 2, 1) := dk_40 (dk_at dksJ13_rint_0 17 rfl rfl)
theorem dJ13_rint_18 : decode cJ13_rint 18 = .ok (.dcmp .g, 1) := dk_152 (dk_at dksJ13_rint_0 18 rfl rfl)
theorem dJ13_rint_19 : decode cJ13_rint 19 = .ok (.ifCond .ge 9, 3) := dk_156 0 9 (dk_at dksJ13_rint_0 19 rfl rfl)
theorem dJ13_rint_22 : decode cJ13_rint 22 = .ok (.dload_n 2, 1) := dk_40 (dk_at dksJ13_rint_0 22 rfl rfl)
theorem dJ13_rint_23 : decode cJ13_rint 23 = .ok (.dload_n 0, 1) := dk_38 (dk_at dksJ13_rint_0 23 rfl rfl)
theorem dJ13_rint_24 : decode cJ13_rint 24 = .ok (.dadd, 1) := dk_99 (dk_at dksJ13_rint_1 0 rfl rfl)
theorem dJ13_rint_25 : decode cJ13_rint 25 = .ok (.dload_n 2, 1) := dk_40 (dk_at dksJ13_rint_1 1 rfl rfl)
theorem dJ13_rint_26 : decode cJ13_rint 26 = .ok (.dsub, 1) := dk_103 (dk_at dksJ13_rint_1 2 rfl rfl)
theorem dJ13_rint_27 : decode cJ13_rint 27 = .ok (.dstore_n 0, 1) := dk_71 (dk_at dksJ13_rint_1 3 rfl rfl)
theorem dJ13_rint_28 : decode cJ13_rint 28 = .ok (.dload 4, 2) := dk_24 4 (dk_at dksJ13_rint_1 4 rfl rfl)
theorem dJ13_rint_30 : decode cJ13_rint 30 = .ok (.dload_n 0, 1) := dk_38 (dk_at dksJ13_rint_1 6 rfl rfl)
theorem dJ13_rint_31 : decode cJ13_rint 31 = .ok (.dmul, 1) := dk_107 (dk_at dksJ13_rint_1 7 rfl rfl)
theorem dJ13_rint_32 : decode cJ13_rint 32 = .ok (.dreturn, 1) := dk_175 (dk_at dksJ13_rint_1 8 rfl rfl)
theorem q80 : (Jvm.Cond.initialized "java/lang/StrictMath") ∈ lw_all := lw_g (lw_at lw_m1 29 rfl) rfl
theorem q814 : (Jvm.Cond.static ({ cls := "java/lang/StrictMath", name := "rint", desc := "(D)D" } : Jvm.MethodName)) ∈ lw_all := lw_g (lw_at lw_m4 43 rfl) rfl
theorem q815 : (Jvm.Cond.code ({ cls := "java/lang/StrictMath", name := "rint", desc := "(D)D" } : Jvm.MethodName) prog_28_method_19_code (6 : Nat) (Option.some Jvm.ClassFile.FieldType.double)) ∈ lw_all := lw_g (lw_at lw_m4 44 rfl) rfl
theorem q816 : (Jvm.Cond.constantDouble "java/lang/StrictMath" (93 : Nat) (4841369599423283200 : UInt64)) ∈ lw_all := lw_g (lw_at lw_m4 45 rfl) rfl
theorem q817 : (Jvm.Cond.methodLink "java/lang/StrictMath" (95 : Nat) ({ cls := "java/lang/Math", name := "copySign", desc := "(DD)D" } : Jvm.MethodName)) ∈ lw_all := lw_g (lw_at lw_m4 46 rfl) rfl
theorem q826 : (Jvm.Cond.methodLink "java/lang/StrictMath" (98 : Nat) ({ cls := "java/lang/Math", name := "abs", desc := "(D)D" } : Jvm.MethodName)) ∈ lw_all := lw_g (lw_at lw_m4 55 rfl) rfl

/-! java/lang/Object -/
set_option maxRecDepth 100000
def RJ14 : String := "java/lang/Object"
abbrev cJ14_init : ByteArray := object_method_1_code
def yJ14_init : MethodName := ⟨RJ14, "<init>", "()V"⟩
theorem dJ14_init_0 : decode cJ14_init 0 = .ok (.return_, 1) := by decide +kernel
theorem q87 : (Jvm.Cond.instanceMethod ({ cls := "java/lang/Object", name := "<init>", desc := "()V" } : Jvm.MethodName)) ∈ lw_all := lw_g (lw_at lw_m1 36 rfl) rfl
theorem q88 : (Jvm.Cond.code ({ cls := "java/lang/Object", name := "<init>", desc := "()V" } : Jvm.MethodName) object_method_1_code (1 : Nat) (Option.none : Option Jvm.ClassFile.FieldType)) ∈ lw_all := lw_g (lw_at lw_m1 37 rfl) rfl

/-! java/lang/RuntimeException -/
set_option maxRecDepth 100000
def RJ2 : String := "java/lang/RuntimeException"
abbrev cJ2_init : ByteArray := prog_27_method_2_code
def yJ2_init : MethodName := ⟨RJ2, "<init>", "(Ljava/lang/String;)V"⟩
def dkwJ2_init_0 : List UInt8 := [42, 43, 183, 0, 7, 177]
abbrev dktJ2_init_0 : List UInt8 := dkwJ2_init_0 ++ []
theorem dksJ2_init_0 : cJ2_init.data.toList.drop 0 = dktJ2_init_0 := by decide +kernel
theorem dJ2_init_0 : decode cJ2_init 0 = .ok (.aload_n 0, 1) := dk_42 (dk_at dksJ2_init_0 0 rfl rfl)
theorem dJ2_init_1 : decode cJ2_init 1 = .ok (.aload_n 1, 1) := dk_43 (dk_at dksJ2_init_0 1 rfl rfl)
theorem dJ2_init_2 : decode cJ2_init 2 = .ok (.invokespecial 7, 3) := dk_183 0 7 (dk_at dksJ2_init_0 2 rfl rfl)
theorem dJ2_init_5 : decode cJ2_init 5 = .ok (.return_, 1) := dk_177 (dk_at dksJ2_init_0 5 rfl rfl)
abbrev cJ2_init_2 : ByteArray := prog_27_method_1_code
def yJ2_init_2 : MethodName := ⟨RJ2, "<init>", "()V"⟩
theorem dJ2_init_2_0 : decode cJ2_init_2 0 = .ok (.aload_n 0, 1) := by decide +kernel
theorem dJ2_init_2_1 : decode cJ2_init_2 1 = .ok (.invokespecial 1, 3) := by decide +kernel
theorem dJ2_init_2_4 : decode cJ2_init_2 4 = .ok (.return_, 1) := by decide +kernel
theorem q57 : (Jvm.Cond.initialized "java/lang/RuntimeException") ∈ lw_all := lw_g (lw_at lw_m1 6 rfl) rfl
theorem q224 : (Jvm.Cond.instanceMethod ({ cls := "java/lang/RuntimeException", name := "<init>", desc := "(Ljava/lang/String;)V" } : Jvm.MethodName)) ∈ lw_all := lw_g (lw_at lw_m1 173 rfl) rfl
theorem q225 : (Jvm.Cond.code ({ cls := "java/lang/RuntimeException", name := "<init>", desc := "(Ljava/lang/String;)V" } : Jvm.MethodName) prog_27_method_2_code (2 : Nat) (Option.none : Option Jvm.ClassFile.FieldType)) ∈ lw_all := lw_g (lw_at lw_m1 174 rfl) rfl
theorem q226 : (Jvm.Cond.methodLink "java/lang/RuntimeException" (7 : Nat) ({ cls := "java/lang/Exception", name := "<init>", desc := "(Ljava/lang/String;)V" } : Jvm.MethodName)) ∈ lw_all := lw_g (lw_at lw_m1 175 rfl) rfl
theorem q254 : (Jvm.Cond.sameMethod "java/lang/RuntimeException" "java/lang/Throwable" "fillInStackTrace" "()Ljava/lang/Throwable;") ∈ lw_all := lw_g (lw_at lw_m1 203 rfl) rfl
theorem q257 : (Jvm.Cond.superclass "java/lang/RuntimeException" "java/lang/Exception") ∈ lw_all := lw_g (lw_at lw_m1 206 rfl) rfl
theorem q284 : (Jvm.Cond.declares ({ cls := "java/lang/RuntimeException", name := "<init>", desc := "()V" } : Jvm.MethodName)) ∈ lw_tbl := lw_at lw_m1 233 rfl
theorem q285 : (Jvm.Cond.declares ({ cls := "java/lang/RuntimeException", name := "<init>", desc := "(Ljava/lang/String;)V" } : Jvm.MethodName)) ∈ lw_tbl := lw_at lw_m1 234 rfl
theorem q576 : (Jvm.Cond.instanceMethod ({ cls := "java/lang/RuntimeException", name := "<init>", desc := "()V" } : Jvm.MethodName)) ∈ lw_all := lw_g (lw_at lw_m3 45 rfl) rfl
theorem q577 : (Jvm.Cond.code ({ cls := "java/lang/RuntimeException", name := "<init>", desc := "()V" } : Jvm.MethodName) prog_27_method_1_code (1 : Nat) (Option.none : Option Jvm.ClassFile.FieldType)) ∈ lw_all := lw_g (lw_at lw_m3 46 rfl) rfl
theorem q578 : (Jvm.Cond.methodLink "java/lang/RuntimeException" (1 : Nat) ({ cls := "java/lang/Exception", name := "<init>", desc := "()V" } : Jvm.MethodName)) ∈ lw_all := lw_g (lw_at lw_m3 47 rfl) rfl
theorem q596 : (Jvm.Cond.castable "java/lang/RuntimeException" "java/lang/Throwable") ∈ lw_tbl := lw_at lw_m3 65 rfl

/-! java/lang/NegativeArraySizeException -/
set_option maxRecDepth 100000
def RJ3 : String := "java/lang/NegativeArraySizeException"
def TJ3 : u_T := fun k => match k with
  | 0 => ("java/lang/Throwable", "backtrace", "Ljava/lang/Object;", false)
  | 1 => ("java/lang/Throwable", "detailMessage", "Ljava/lang/String;", false)
  | 2 => ("java/lang/Throwable", "cause", "Ljava/lang/Throwable;", false)
  | 3 => ("java/lang/Throwable", "stackTrace", "[Ljava/lang/StackTraceElement;", false)
  | 4 => ("java/lang/Throwable", "depth", "I", false)
  | _ => ("java/lang/Throwable", "suppressedExceptions", "Ljava/util/List;", false)
def tyJ3 : Nat → FieldType := fun k => match k with
  | 0 => .object "java/lang/Object"
  | 1 => .object "java/lang/String"
  | 2 => .object "java/lang/Throwable"
  | 3 => .array (.object "java/lang/StackTraceElement")
  | 4 => .int
  | _ => .object "java/util/List"
abbrev wsJ30 : List Cond := u_ws RJ3 TJ3 6
theorem nmJ3 : ∀ a, a < 6 → ∀ b, b < 6 → a ≠ b → (TJ3 a).2.1 ≠ (TJ3 b).2.1 := by decide +kernel
theorem tyJ3_ok : ∀ k, k < 6 → parseFieldDescriptor (TJ3 k).2.2.1 = some (tyJ3 k) := by decide +kernel
abbrev cJ3_init : ByteArray := prog_24_method_2_code
def yJ3_init : MethodName := ⟨RJ3, "<init>", "(Ljava/lang/String;)V"⟩
def dkwJ3_init_0 : List UInt8 := [42, 43, 183, 0, 7, 177]
abbrev dktJ3_init_0 : List UInt8 := dkwJ3_init_0 ++ []
theorem dksJ3_init_0 : cJ3_init.data.toList.drop 0 = dktJ3_init_0 := by decide +kernel
theorem dJ3_init_0 : decode cJ3_init 0 = .ok (.aload_n 0, 1) := dk_42 (dk_at dksJ3_init_0 0 rfl rfl)
theorem dJ3_init_1 : decode cJ3_init 1 = .ok (.aload_n 1, 1) := dk_43 (dk_at dksJ3_init_0 1 rfl rfl)
theorem dJ3_init_2 : decode cJ3_init 2 = .ok (.invokespecial 7, 3) := dk_183 0 7 (dk_at dksJ3_init_0 2 rfl rfl)
theorem dJ3_init_5 : decode cJ3_init 5 = .ok (.return_, 1) := dk_177 (dk_at dksJ3_init_0 5 rfl rfl)
theorem q58 : (Jvm.Cond.initialized "java/lang/NegativeArraySizeException") ∈ lw_all := lw_g (lw_at lw_m1 7 rfl) rfl
theorem q220 : (Jvm.Cond.instantiable "java/lang/NegativeArraySizeException" (6 : Nat)) ∈ lw_all := lw_g (lw_at lw_m1 169 rfl) rfl
theorem q221 : (Jvm.Cond.instanceMethod ({ cls := "java/lang/NegativeArraySizeException", name := "<init>", desc := "(Ljava/lang/String;)V" } : Jvm.MethodName)) ∈ lw_all := lw_g (lw_at lw_m1 170 rfl) rfl
theorem q222 : (Jvm.Cond.code ({ cls := "java/lang/NegativeArraySizeException", name := "<init>", desc := "(Ljava/lang/String;)V" } : Jvm.MethodName) prog_24_method_2_code (2 : Nat) (Option.none : Option Jvm.ClassFile.FieldType)) ∈ lw_all := lw_g (lw_at lw_m1 171 rfl) rfl
theorem q223 : (Jvm.Cond.methodLink "java/lang/NegativeArraySizeException" (7 : Nat) ({ cls := "java/lang/RuntimeException", name := "<init>", desc := "(Ljava/lang/String;)V" } : Jvm.MethodName)) ∈ lw_all := lw_g (lw_at lw_m1 172 rfl) rfl
theorem q244 : (Jvm.Cond.selects "java/lang/NegativeArraySizeException" ({ cls := "java/lang/Throwable", name := "fillInStackTrace", desc := "()Ljava/lang/Throwable;" } : Jvm.MethodName) ({ cls := "java/lang/Throwable", name := "fillInStackTrace", desc := "()Ljava/lang/Throwable;" } : Jvm.MethodName)) ∈ lw_all := lw_g (lw_at lw_m1 193 rfl) rfl
theorem q270 : (Jvm.Cond.lays "java/lang/NegativeArraySizeException" "java/lang/Throwable" "backtrace" "Ljava/lang/Object;") ∈ lw_all := lw_g (lw_at lw_m1 219 rfl) rfl
theorem q272 : (Jvm.Cond.lays "java/lang/NegativeArraySizeException" "java/lang/Throwable" "detailMessage" "Ljava/lang/String;") ∈ lw_all := lw_g (lw_at lw_m1 221 rfl) rfl
theorem q274 : (Jvm.Cond.lays "java/lang/NegativeArraySizeException" "java/lang/Throwable" "cause" "Ljava/lang/Throwable;") ∈ lw_all := lw_g (lw_at lw_m1 223 rfl) rfl
theorem q276 : (Jvm.Cond.lays "java/lang/NegativeArraySizeException" "java/lang/Throwable" "stackTrace" "[Ljava/lang/StackTraceElement;") ∈ lw_all := lw_g (lw_at lw_m1 225 rfl) rfl
theorem q278 : (Jvm.Cond.lays "java/lang/NegativeArraySizeException" "java/lang/Throwable" "depth" "I") ∈ lw_all := lw_g (lw_at lw_m1 227 rfl) rfl
theorem q280 : (Jvm.Cond.lays "java/lang/NegativeArraySizeException" "java/lang/Throwable" "suppressedExceptions" "Ljava/util/List;") ∈ lw_all := lw_g (lw_at lw_m1 229 rfl) rfl
theorem q282 : (Jvm.Cond.superclass "java/lang/NegativeArraySizeException" "java/lang/RuntimeException") ∈ lw_all := lw_g (lw_at lw_m1 231 rfl) rfl
theorem q283 : (Jvm.Cond.castable "java/lang/NegativeArraySizeException" "java/lang/NegativeArraySizeException") ∈ lw_tbl := lw_at lw_m1 232 rfl
theorem q290 : (Jvm.Cond.selects "java/lang/NegativeArraySizeException" ({ cls := "java/lang/Throwable", name := "fillInStackTrace", desc := "(I)Ljava/lang/Throwable;" } : Jvm.MethodName) ({ cls := "java/lang/Throwable", name := "fillInStackTrace", desc := "(I)Ljava/lang/Throwable;" } : Jvm.MethodName)) ∈ lw_all := lw_g (lw_at lw_m1 239 rfl) rfl
theorem in_J3 : ∀ w ∈ wsJ30, w ∈ lw_all := lw_in wsJ30 [270, 272, 274, 276, 278, 280] (by decide +kernel) (by decide +kernel)

/-! java/lang/String -/
set_option maxRecDepth 100000
def RJ4 : String := "java/lang/String"
def TJ4 : u_T := fun k => match k with
  | 0 => ("java/lang/String", "value", "[B", true)
  | _ => ("java/lang/String", "coder", "B", true)
def tyJ4 : Nat → FieldType := fun k => match k with
  | 0 => .array .byte
  | _ => .byte
abbrev wsJ40 : List Cond := u_ws RJ4 TJ4 2
theorem nmJ4 : ∀ a, a < 2 → ∀ b, b < 2 → a ≠ b → (TJ4 a).2.1 ≠ (TJ4 b).2.1 := by decide +kernel
theorem tyJ4_ok : ∀ k, k < 2 → parseFieldDescriptor (TJ4 k).2.2.1 = some (tyJ4 k) := by decide +kernel
theorem q59 : (Jvm.Cond.initialized "java/lang/String") ∈ lw_all := lw_g (lw_at lw_m1 8 rfl) rfl
theorem q300 : (Jvm.Cond.instantiable "java/lang/String" (4 : Nat)) ∈ lw_all := lw_g (lw_at lw_m2 9 rfl) rfl
theorem q302 : (Jvm.Cond.laysFinal "java/lang/String" "java/lang/String" "value" "[B") ∈ lw_all := lw_g (lw_at lw_m2 11 rfl) rfl
theorem q303 : (Jvm.Cond.soleField "java/lang/String" "value") ∈ lw_all := lw_g (lw_at lw_m2 12 rfl) rfl
theorem q304 : (Jvm.Cond.laysFinal "java/lang/String" "java/lang/String" "coder" "B") ∈ lw_all := lw_g (lw_at lw_m2 13 rfl) rfl
theorem q305 : (Jvm.Cond.soleField "java/lang/String" "coder") ∈ lw_all := lw_g (lw_at lw_m2 14 rfl) rfl
theorem in_J4 : ∀ w ∈ wsJ40, w ∈ lw_all := lw_in wsJ40 [302, 304] (by decide +kernel) (by decide +kernel)

/-! java/lang/ClassCastException -/
set_option maxRecDepth 100000
def RJ5 : String := "java/lang/ClassCastException"
def TJ5 : u_T := fun k => match k with
  | 0 => ("java/lang/Throwable", "backtrace", "Ljava/lang/Object;", false)
  | 1 => ("java/lang/Throwable", "detailMessage", "Ljava/lang/String;", false)
  | 2 => ("java/lang/Throwable", "cause", "Ljava/lang/Throwable;", false)
  | 3 => ("java/lang/Throwable", "stackTrace", "[Ljava/lang/StackTraceElement;", false)
  | 4 => ("java/lang/Throwable", "depth", "I", false)
  | _ => ("java/lang/Throwable", "suppressedExceptions", "Ljava/util/List;", false)
def tyJ5 : Nat → FieldType := fun k => match k with
  | 0 => .object "java/lang/Object"
  | 1 => .object "java/lang/String"
  | 2 => .object "java/lang/Throwable"
  | 3 => .array (.object "java/lang/StackTraceElement")
  | 4 => .int
  | _ => .object "java/util/List"
abbrev wsJ50 : List Cond := u_ws RJ5 TJ5 6
theorem nmJ5 : ∀ a, a < 6 → ∀ b, b < 6 → a ≠ b → (TJ5 a).2.1 ≠ (TJ5 b).2.1 := by decide +kernel
theorem tyJ5_ok : ∀ k, k < 6 → parseFieldDescriptor (TJ5 k).2.2.1 = some (tyJ5 k) := by decide +kernel
abbrev cJ5_init : ByteArray := prog_18_method_2_code
def yJ5_init : MethodName := ⟨RJ5, "<init>", "(Ljava/lang/String;)V"⟩
def dkwJ5_init_0 : List UInt8 := [42, 43, 183, 0, 7, 177]
abbrev dktJ5_init_0 : List UInt8 := dkwJ5_init_0 ++ []
theorem dksJ5_init_0 : cJ5_init.data.toList.drop 0 = dktJ5_init_0 := by decide +kernel
theorem dJ5_init_0 : decode cJ5_init 0 = .ok (.aload_n 0, 1) := dk_42 (dk_at dksJ5_init_0 0 rfl rfl)
theorem dJ5_init_1 : decode cJ5_init 1 = .ok (.aload_n 1, 1) := dk_43 (dk_at dksJ5_init_0 1 rfl rfl)
theorem dJ5_init_2 : decode cJ5_init 2 = .ok (.invokespecial 7, 3) := dk_183 0 7 (dk_at dksJ5_init_0 2 rfl rfl)
theorem dJ5_init_5 : decode cJ5_init 5 = .ok (.return_, 1) := dk_177 (dk_at dksJ5_init_0 5 rfl rfl)
theorem q61 : (Jvm.Cond.initialized "java/lang/ClassCastException") ∈ lw_all := lw_g (lw_at lw_m1 10 rfl) rfl
theorem q243 : (Jvm.Cond.selects "java/lang/ClassCastException" ({ cls := "java/lang/Throwable", name := "fillInStackTrace", desc := "()Ljava/lang/Throwable;" } : Jvm.MethodName) ({ cls := "java/lang/Throwable", name := "fillInStackTrace", desc := "()Ljava/lang/Throwable;" } : Jvm.MethodName)) ∈ lw_all := lw_g (lw_at lw_m1 192 rfl) rfl
theorem q338 : (Jvm.Cond.instantiable "java/lang/ClassCastException" (6 : Nat)) ∈ lw_all := lw_g (lw_at lw_m2 47 rfl) rfl
theorem q339 : (Jvm.Cond.instanceMethod ({ cls := "java/lang/ClassCastException", name := "<init>", desc := "(Ljava/lang/String;)V" } : Jvm.MethodName)) ∈ lw_all := lw_g (lw_at lw_m2 48 rfl) rfl
theorem q340 : (Jvm.Cond.code ({ cls := "java/lang/ClassCastException", name := "<init>", desc := "(Ljava/lang/String;)V" } : Jvm.MethodName) prog_18_method_2_code (2 : Nat) (Option.none : Option Jvm.ClassFile.FieldType)) ∈ lw_all := lw_g (lw_at lw_m2 49 rfl) rfl
theorem q341 : (Jvm.Cond.methodLink "java/lang/ClassCastException" (7 : Nat) ({ cls := "java/lang/RuntimeException", name := "<init>", desc := "(Ljava/lang/String;)V" } : Jvm.MethodName)) ∈ lw_all := lw_g (lw_at lw_m2 50 rfl) rfl
theorem q342 : (Jvm.Cond.lays "java/lang/ClassCastException" "java/lang/Throwable" "backtrace" "Ljava/lang/Object;") ∈ lw_all := lw_g (lw_at lw_m2 51 rfl) rfl
theorem q343 : (Jvm.Cond.lays "java/lang/ClassCastException" "java/lang/Throwable" "detailMessage" "Ljava/lang/String;") ∈ lw_all := lw_g (lw_at lw_m2 52 rfl) rfl
theorem q344 : (Jvm.Cond.lays "java/lang/ClassCastException" "java/lang/Throwable" "cause" "Ljava/lang/Throwable;") ∈ lw_all := lw_g (lw_at lw_m2 53 rfl) rfl
theorem q345 : (Jvm.Cond.lays "java/lang/ClassCastException" "java/lang/Throwable" "stackTrace" "[Ljava/lang/StackTraceElement;") ∈ lw_all := lw_g (lw_at lw_m2 54 rfl) rfl
theorem q346 : (Jvm.Cond.lays "java/lang/ClassCastException" "java/lang/Throwable" "depth" "I") ∈ lw_all := lw_g (lw_at lw_m2 55 rfl) rfl
theorem q347 : (Jvm.Cond.lays "java/lang/ClassCastException" "java/lang/Throwable" "suppressedExceptions" "Ljava/util/List;") ∈ lw_all := lw_g (lw_at lw_m2 56 rfl) rfl
theorem q348 : (Jvm.Cond.superclass "java/lang/ClassCastException" "java/lang/RuntimeException") ∈ lw_all := lw_g (lw_at lw_m2 57 rfl) rfl
theorem q349 : (Jvm.Cond.castable "java/lang/ClassCastException" "java/lang/ClassCastException") ∈ lw_tbl := lw_at lw_m2 58 rfl
theorem q350 : (Jvm.Cond.selects "java/lang/ClassCastException" ({ cls := "java/lang/Throwable", name := "fillInStackTrace", desc := "(I)Ljava/lang/Throwable;" } : Jvm.MethodName) ({ cls := "java/lang/Throwable", name := "fillInStackTrace", desc := "(I)Ljava/lang/Throwable;" } : Jvm.MethodName)) ∈ lw_all := lw_g (lw_at lw_m2 59 rfl) rfl
theorem in_J5 : ∀ w ∈ wsJ50, w ∈ lw_all := lw_in wsJ50 [342, 343, 344, 345, 346, 347] (by decide +kernel) (by decide +kernel)

/-! java/lang/IndexOutOfBoundsException -/
set_option maxRecDepth 100000
def RJ6 : String := "java/lang/IndexOutOfBoundsException"
abbrev cJ6_init : ByteArray := prog_22_method_2_code
def yJ6_init : MethodName := ⟨RJ6, "<init>", "(Ljava/lang/String;)V"⟩
def dkwJ6_init_0 : List UInt8 := [42, 43, 183, 0, 7, 177]
abbrev dktJ6_init_0 : List UInt8 := dkwJ6_init_0 ++ []
theorem dksJ6_init_0 : cJ6_init.data.toList.drop 0 = dktJ6_init_0 := by decide +kernel
theorem dJ6_init_0 : decode cJ6_init 0 = .ok (.aload_n 0, 1) := dk_42 (dk_at dksJ6_init_0 0 rfl rfl)
theorem dJ6_init_1 : decode cJ6_init 1 = .ok (.aload_n 1, 1) := dk_43 (dk_at dksJ6_init_0 1 rfl rfl)
theorem dJ6_init_2 : decode cJ6_init 2 = .ok (.invokespecial 7, 3) := dk_183 0 7 (dk_at dksJ6_init_0 2 rfl rfl)
theorem dJ6_init_5 : decode cJ6_init 5 = .ok (.return_, 1) := dk_177 (dk_at dksJ6_init_0 5 rfl rfl)
theorem q62 : (Jvm.Cond.initialized "java/lang/IndexOutOfBoundsException") ∈ lw_all := lw_g (lw_at lw_m1 11 rfl) rfl
theorem q356 : (Jvm.Cond.instanceMethod ({ cls := "java/lang/IndexOutOfBoundsException", name := "<init>", desc := "(Ljava/lang/String;)V" } : Jvm.MethodName)) ∈ lw_all := lw_g (lw_at lw_m2 65 rfl) rfl
theorem q357 : (Jvm.Cond.code ({ cls := "java/lang/IndexOutOfBoundsException", name := "<init>", desc := "(Ljava/lang/String;)V" } : Jvm.MethodName) prog_22_method_2_code (2 : Nat) (Option.none : Option Jvm.ClassFile.FieldType)) ∈ lw_all := lw_g (lw_at lw_m2 66 rfl) rfl
theorem q358 : (Jvm.Cond.methodLink "java/lang/IndexOutOfBoundsException" (7 : Nat) ({ cls := "java/lang/RuntimeException", name := "<init>", desc := "(Ljava/lang/String;)V" } : Jvm.MethodName)) ∈ lw_all := lw_g (lw_at lw_m2 67 rfl) rfl
theorem q367 : (Jvm.Cond.declares ({ cls := "java/lang/IndexOutOfBoundsException", name := "<init>", desc := "()V" } : Jvm.MethodName)) ∈ lw_tbl := lw_at lw_m2 76 rfl
theorem q368 : (Jvm.Cond.declares ({ cls := "java/lang/IndexOutOfBoundsException", name := "<init>", desc := "(Ljava/lang/String;)V" } : Jvm.MethodName)) ∈ lw_tbl := lw_at lw_m2 77 rfl

/-! java/lang/ArrayIndexOutOfBoundsException -/
set_option maxRecDepth 100000
def RJ7 : String := "java/lang/ArrayIndexOutOfBoundsException"
def TJ7 : u_T := fun k => match k with
  | 0 => ("java/lang/Throwable", "backtrace", "Ljava/lang/Object;", false)
  | 1 => ("java/lang/Throwable", "detailMessage", "Ljava/lang/String;", false)
  | 2 => ("java/lang/Throwable", "cause", "Ljava/lang/Throwable;", false)
  | 3 => ("java/lang/Throwable", "stackTrace", "[Ljava/lang/StackTraceElement;", false)
  | 4 => ("java/lang/Throwable", "depth", "I", false)
  | _ => ("java/lang/Throwable", "suppressedExceptions", "Ljava/util/List;", false)
def tyJ7 : Nat → FieldType := fun k => match k with
  | 0 => .object "java/lang/Object"
  | 1 => .object "java/lang/String"
  | 2 => .object "java/lang/Throwable"
  | 3 => .array (.object "java/lang/StackTraceElement")
  | 4 => .int
  | _ => .object "java/util/List"
abbrev wsJ70 : List Cond := u_ws RJ7 TJ7 6
theorem nmJ7 : ∀ a, a < 6 → ∀ b, b < 6 → a ≠ b → (TJ7 a).2.1 ≠ (TJ7 b).2.1 := by decide +kernel
theorem tyJ7_ok : ∀ k, k < 6 → parseFieldDescriptor (TJ7 k).2.2.1 = some (tyJ7 k) := by decide +kernel
abbrev cJ7_init : ByteArray := prog_16_method_2_code
def yJ7_init : MethodName := ⟨RJ7, "<init>", "(Ljava/lang/String;)V"⟩
def dkwJ7_init_0 : List UInt8 := [42, 43, 183, 0, 7, 177]
abbrev dktJ7_init_0 : List UInt8 := dkwJ7_init_0 ++ []
theorem dksJ7_init_0 : cJ7_init.data.toList.drop 0 = dktJ7_init_0 := by decide +kernel
theorem dJ7_init_0 : decode cJ7_init 0 = .ok (.aload_n 0, 1) := dk_42 (dk_at dksJ7_init_0 0 rfl rfl)
theorem dJ7_init_1 : decode cJ7_init 1 = .ok (.aload_n 1, 1) := dk_43 (dk_at dksJ7_init_0 1 rfl rfl)
theorem dJ7_init_2 : decode cJ7_init 2 = .ok (.invokespecial 7, 3) := dk_183 0 7 (dk_at dksJ7_init_0 2 rfl rfl)
theorem dJ7_init_5 : decode cJ7_init 5 = .ok (.return_, 1) := dk_177 (dk_at dksJ7_init_0 5 rfl rfl)
theorem q63 : (Jvm.Cond.initialized "java/lang/ArrayIndexOutOfBoundsException") ∈ lw_all := lw_g (lw_at lw_m1 12 rfl) rfl
theorem q241 : (Jvm.Cond.selects "java/lang/ArrayIndexOutOfBoundsException" ({ cls := "java/lang/Throwable", name := "fillInStackTrace", desc := "()Ljava/lang/Throwable;" } : Jvm.MethodName) ({ cls := "java/lang/Throwable", name := "fillInStackTrace", desc := "()Ljava/lang/Throwable;" } : Jvm.MethodName)) ∈ lw_all := lw_g (lw_at lw_m1 190 rfl) rfl
theorem q352 : (Jvm.Cond.instantiable "java/lang/ArrayIndexOutOfBoundsException" (6 : Nat)) ∈ lw_all := lw_g (lw_at lw_m2 61 rfl) rfl
theorem q353 : (Jvm.Cond.instanceMethod ({ cls := "java/lang/ArrayIndexOutOfBoundsException", name := "<init>", desc := "(Ljava/lang/String;)V" } : Jvm.MethodName)) ∈ lw_all := lw_g (lw_at lw_m2 62 rfl) rfl
theorem q354 : (Jvm.Cond.code ({ cls := "java/lang/ArrayIndexOutOfBoundsException", name := "<init>", desc := "(Ljava/lang/String;)V" } : Jvm.MethodName) prog_16_method_2_code (2 : Nat) (Option.none : Option Jvm.ClassFile.FieldType)) ∈ lw_all := lw_g (lw_at lw_m2 63 rfl) rfl
theorem q355 : (Jvm.Cond.methodLink "java/lang/ArrayIndexOutOfBoundsException" (7 : Nat) ({ cls := "java/lang/IndexOutOfBoundsException", name := "<init>", desc := "(Ljava/lang/String;)V" } : Jvm.MethodName)) ∈ lw_all := lw_g (lw_at lw_m2 64 rfl) rfl
theorem q359 : (Jvm.Cond.lays "java/lang/ArrayIndexOutOfBoundsException" "java/lang/Throwable" "backtrace" "Ljava/lang/Object;") ∈ lw_all := lw_g (lw_at lw_m2 68 rfl) rfl
theorem q360 : (Jvm.Cond.lays "java/lang/ArrayIndexOutOfBoundsException" "java/lang/Throwable" "detailMessage" "Ljava/lang/String;") ∈ lw_all := lw_g (lw_at lw_m2 69 rfl) rfl
theorem q361 : (Jvm.Cond.lays "java/lang/ArrayIndexOutOfBoundsException" "java/lang/Throwable" "cause" "Ljava/lang/Throwable;") ∈ lw_all := lw_g (lw_at lw_m2 70 rfl) rfl
theorem q362 : (Jvm.Cond.lays "java/lang/ArrayIndexOutOfBoundsException" "java/lang/Throwable" "stackTrace" "[Ljava/lang/StackTraceElement;") ∈ lw_all := lw_g (lw_at lw_m2 71 rfl) rfl
theorem q363 : (Jvm.Cond.lays "java/lang/ArrayIndexOutOfBoundsException" "java/lang/Throwable" "depth" "I") ∈ lw_all := lw_g (lw_at lw_m2 72 rfl) rfl
theorem q364 : (Jvm.Cond.lays "java/lang/ArrayIndexOutOfBoundsException" "java/lang/Throwable" "suppressedExceptions" "Ljava/util/List;") ∈ lw_all := lw_g (lw_at lw_m2 73 rfl) rfl
theorem q365 : (Jvm.Cond.superclass "java/lang/ArrayIndexOutOfBoundsException" "java/lang/IndexOutOfBoundsException") ∈ lw_all := lw_g (lw_at lw_m2 74 rfl) rfl
theorem q366 : (Jvm.Cond.castable "java/lang/ArrayIndexOutOfBoundsException" "java/lang/ArrayIndexOutOfBoundsException") ∈ lw_tbl := lw_at lw_m2 75 rfl
theorem q369 : (Jvm.Cond.selects "java/lang/ArrayIndexOutOfBoundsException" ({ cls := "java/lang/Throwable", name := "fillInStackTrace", desc := "(I)Ljava/lang/Throwable;" } : Jvm.MethodName) ({ cls := "java/lang/Throwable", name := "fillInStackTrace", desc := "(I)Ljava/lang/Throwable;" } : Jvm.MethodName)) ∈ lw_all := lw_g (lw_at lw_m2 78 rfl) rfl
theorem in_J7 : ∀ w ∈ wsJ70, w ∈ lw_all := lw_in wsJ70 [359, 360, 361, 362, 363, 364] (by decide +kernel) (by decide +kernel)

/-! java/lang/Float -/
set_option maxRecDepth 100000
def RJ8 : String := "java/lang/Float"
abbrev cJ8_floatToIntBits : ByteArray := prog_21_method_24_code
def yJ8_floatToIntBits : MethodName := ⟨RJ8, "floatToIntBits", "(F)I"⟩
def dkwJ8_floatToIntBits_0 : List UInt8 := [34, 184, 0, 59, 154, 0, 8, 34, 184, 0, 74, 172, 18, 77, 172]
abbrev dktJ8_floatToIntBits_0 : List UInt8 := dkwJ8_floatToIntBits_0 ++ []
theorem dksJ8_floatToIntBits_0 : cJ8_floatToIntBits.data.toList.drop 0 = dktJ8_floatToIntBits_0 := by decide +kernel
theorem dJ8_floatToIntBits_0 : decode cJ8_floatToIntBits 0 = .ok (.fload_n 0, 1) := dk_34 (dk_at dksJ8_floatToIntBits_0 0 rfl rfl)
theorem dJ8_floatToIntBits_1 : decode cJ8_floatToIntBits 1 = .ok (.invokestatic 59, 3) := dk_184 0 59 (dk_at dksJ8_floatToIntBits_0 1 rfl rfl)
theorem dJ8_floatToIntBits_4 : decode cJ8_floatToIntBits 4 = .ok (.ifCond .ne 8, 3) := dk_154 0 8 (dk_at dksJ8_floatToIntBits_0 4 rfl rfl)
theorem dJ8_floatToIntBits_7 : decode cJ8_floatToIntBits 7 = .ok (.fload_n 0, 1) := dk_34 (dk_at dksJ8_floatToIntBits_0 7 rfl rfl)
theorem dJ8_floatToIntBits_8 : decode cJ8_floatToIntBits 8 = .ok (.invokestatic 74, 3) := dk_184 0 74 (dk_at dksJ8_floatToIntBits_0 8 rfl rfl)
theorem dJ8_floatToIntBits_11 : decode cJ8_floatToIntBits 11 = .ok (.ireturn, 1) := dk_172 (dk_at dksJ8_floatToIntBits_0 11 rfl rfl)
theorem dJ8_floatToIntBits_12 : decode cJ8_floatToIntBits 12 = .ok (.ldc 77, 2) := dk_18 77 (dk_at dksJ8_floatToIntBits_0 12 rfl rfl)
theorem dJ8_floatToIntBits_14 : decode cJ8_floatToIntBits 14 = .ok (.ireturn, 1) := dk_172 (dk_at dksJ8_floatToIntBits_0 14 rfl rfl)
abbrev cJ8_isNaN : ByteArray := prog_21_method_6_code
def yJ8_isNaN : MethodName := ⟨RJ8, "isNaN", "(F)Z"⟩
def dkwJ8_isNaN_0 : List UInt8 := [34, 34, 149, 153, 0, 7, 4, 167, 0, 4, 3, 172]
abbrev dktJ8_isNaN_0 : List UInt8 := dkwJ8_isNaN_0 ++ []
theorem dksJ8_isNaN_0 : cJ8_isNaN.data.toList.drop 0 = dktJ8_isNaN_0 := by decide +kernel
theorem dJ8_isNaN_0 : decode cJ8_isNaN 0 = .ok (.fload_n 0, 1) := dk_34 (dk_at dksJ8_isNaN_0 0 rfl rfl)
theorem dJ8_isNaN_1 : decode cJ8_isNaN 1 = .ok (.fload_n 0, 1) := dk_34 (dk_at dksJ8_isNaN_0 1 rfl rfl)
theorem dJ8_isNaN_2 : decode cJ8_isNaN 2 = .ok (.fcmp .l, 1) := dk_149 (dk_at dksJ8_isNaN_0 2 rfl rfl)
theorem dJ8_isNaN_3 : decode cJ8_isNaN 3 = .ok (.ifCond .eq 7, 3) := dk_153 0 7 (dk_at dksJ8_isNaN_0 3 rfl rfl)
theorem dJ8_isNaN_6 : decode cJ8_isNaN 6 = .ok (.iconst 1, 1) := dk_4 (dk_at dksJ8_isNaN_0 6 rfl rfl)
theorem dJ8_isNaN_7 : decode cJ8_isNaN 7 = .ok (.goto 4, 3) := dk_167 0 4 (dk_at dksJ8_isNaN_0 7 rfl rfl)
theorem dJ8_isNaN_10 : decode cJ8_isNaN 10 = .ok (.iconst 0, 1) := dk_3 (dk_at dksJ8_isNaN_0 10 rfl rfl)
theorem dJ8_isNaN_11 : decode cJ8_isNaN 11 = .ok (.ireturn, 1) := dk_172 (dk_at dksJ8_isNaN_0 11 rfl rfl)
theorem q65 : (Jvm.Cond.initialized "java/lang/Float") ∈ lw_all := lw_g (lw_at lw_m1 14 rfl) rfl
theorem q390 : (Jvm.Cond.static ({ cls := "java/lang/Float", name := "intBitsToFloat", desc := "(I)F" } : Jvm.MethodName)) ∈ lw_all := lw_g (lw_at lw_m2 99 rfl) rfl
theorem q391 : (Jvm.Cond.native ({ cls := "java/lang/Float", name := "intBitsToFloat", desc := "(I)F" } : Jvm.MethodName)) ∈ lw_all := lw_g (lw_at lw_m2 100 rfl) rfl
theorem q417 : (Jvm.Cond.static ({ cls := "java/lang/Float", name := "floatToIntBits", desc := "(F)I" } : Jvm.MethodName)) ∈ lw_all := lw_g (lw_at lw_m2 126 rfl) rfl
theorem q418 : (Jvm.Cond.code ({ cls := "java/lang/Float", name := "floatToIntBits", desc := "(F)I" } : Jvm.MethodName) prog_21_method_24_code (1 : Nat) (Option.some Jvm.ClassFile.FieldType.int)) ∈ lw_all := lw_g (lw_at lw_m2 127 rfl) rfl
theorem q419 : (Jvm.Cond.methodLink "java/lang/Float" (59 : Nat) ({ cls := "java/lang/Float", name := "isNaN", desc := "(F)Z" } : Jvm.MethodName)) ∈ lw_all := lw_g (lw_at lw_m2 128 rfl) rfl
theorem q420 : (Jvm.Cond.static ({ cls := "java/lang/Float", name := "isNaN", desc := "(F)Z" } : Jvm.MethodName)) ∈ lw_all := lw_g (lw_at lw_m2 129 rfl) rfl
theorem q421 : (Jvm.Cond.code ({ cls := "java/lang/Float", name := "isNaN", desc := "(F)Z" } : Jvm.MethodName) prog_21_method_6_code (1 : Nat) (Option.some Jvm.ClassFile.FieldType.boolean)) ∈ lw_all := lw_g (lw_at lw_m2 130 rfl) rfl
theorem q422 : (Jvm.Cond.methodLink "java/lang/Float" (74 : Nat) ({ cls := "java/lang/Float", name := "floatToRawIntBits", desc := "(F)I" } : Jvm.MethodName)) ∈ lw_all := lw_g (lw_at lw_m2 131 rfl) rfl
theorem q423 : (Jvm.Cond.static ({ cls := "java/lang/Float", name := "floatToRawIntBits", desc := "(F)I" } : Jvm.MethodName)) ∈ lw_all := lw_g (lw_at lw_m2 132 rfl) rfl
theorem q424 : (Jvm.Cond.native ({ cls := "java/lang/Float", name := "floatToRawIntBits", desc := "(F)I" } : Jvm.MethodName)) ∈ lw_all := lw_g (lw_at lw_m2 133 rfl) rfl
theorem q425 : (Jvm.Cond.constant "java/lang/Float" (77 : Nat) (2143289344 : Int32)) ∈ lw_all := lw_g (lw_at lw_m2 134 rfl) rfl

/-! java/lang/NullPointerException -/
set_option maxRecDepth 100000
def RJ9 : String := "java/lang/NullPointerException"
def TJ9 : u_T := fun k => match k with
  | 0 => ("java/lang/Throwable", "backtrace", "Ljava/lang/Object;", false)
  | 1 => ("java/lang/Throwable", "detailMessage", "Ljava/lang/String;", false)
  | 2 => ("java/lang/Throwable", "cause", "Ljava/lang/Throwable;", false)
  | 3 => ("java/lang/Throwable", "stackTrace", "[Ljava/lang/StackTraceElement;", false)
  | 4 => ("java/lang/Throwable", "depth", "I", false)
  | 5 => ("java/lang/Throwable", "suppressedExceptions", "Ljava/util/List;", false)
  | 6 => ("java/lang/NullPointerException", "extendedMessageState", "I", false)
  | _ => ("java/lang/NullPointerException", "extendedMessage", "Ljava/lang/String;", false)
def tyJ9 : Nat → FieldType := fun k => match k with
  | 0 => .object "java/lang/Object"
  | 1 => .object "java/lang/String"
  | 2 => .object "java/lang/Throwable"
  | 3 => .array (.object "java/lang/StackTraceElement")
  | 4 => .int
  | 5 => .object "java/util/List"
  | 6 => .int
  | _ => .object "java/lang/String"
abbrev wsJ90 : List Cond := u_ws RJ9 TJ9 8
theorem nmJ9 : ∀ a, a < 8 → ∀ b, b < 8 → a ≠ b → (TJ9 a).2.1 ≠ (TJ9 b).2.1 := by decide +kernel
theorem tyJ9_ok : ∀ k, k < 8 → parseFieldDescriptor (TJ9 k).2.2.1 = some (tyJ9 k) := by decide +kernel
abbrev cJ9_init : ByteArray := prog_25_method_1_code
def yJ9_init : MethodName := ⟨RJ9, "<init>", "()V"⟩
theorem dJ9_init_0 : decode cJ9_init 0 = .ok (.aload_n 0, 1) := by decide +kernel
theorem dJ9_init_1 : decode cJ9_init 1 = .ok (.invokespecial 1, 3) := by decide +kernel
theorem dJ9_init_4 : decode cJ9_init 4 = .ok (.return_, 1) := by decide +kernel
theorem q76 : (Jvm.Cond.initialized "java/lang/NullPointerException") ∈ lw_all := lw_g (lw_at lw_m1 25 rfl) rfl
theorem q245 : (Jvm.Cond.selects "java/lang/NullPointerException" ({ cls := "java/lang/Throwable", name := "fillInStackTrace", desc := "()Ljava/lang/Throwable;" } : Jvm.MethodName) ({ cls := "java/lang/NullPointerException", name := "fillInStackTrace", desc := "()Ljava/lang/Throwable;" } : Jvm.MethodName)) ∈ lw_all := lw_g (lw_at lw_m1 194 rfl) rfl
theorem q246 : (Jvm.Cond.instanceMethod ({ cls := "java/lang/NullPointerException", name := "fillInStackTrace", desc := "()Ljava/lang/Throwable;" } : Jvm.MethodName)) ∈ lw_all := lw_g (lw_at lw_m1 195 rfl) rfl
theorem q247 : (Jvm.Cond.codeSync ({ cls := "java/lang/NullPointerException", name := "fillInStackTrace", desc := "()Ljava/lang/Throwable;" } : Jvm.MethodName) prog_25_method_3_code (1 : Nat) (Option.some (Jvm.ClassFile.FieldType.object "java/lang/Throwable"))) ∈ lw_all := lw_g (lw_at lw_m1 196 rfl) rfl
theorem q248 : (Jvm.Cond.methodLink "java/lang/NullPointerException" (16 : Nat) ({ cls := "java/lang/NullPointerException", name := "getExtendedNPEMessage", desc := "()Ljava/lang/String;" } : Jvm.MethodName)) ∈ lw_all := lw_g (lw_at lw_m1 197 rfl) rfl
theorem q249 : (Jvm.Cond.privateMethod ({ cls := "java/lang/NullPointerException", name := "getExtendedNPEMessage", desc := "()Ljava/lang/String;" } : Jvm.MethodName)) ∈ lw_tbl := lw_at lw_m1 198 rfl
theorem q250 : (Jvm.Cond.instanceMethod ({ cls := "java/lang/NullPointerException", name := "getExtendedNPEMessage", desc := "()Ljava/lang/String;" } : Jvm.MethodName)) ∈ lw_all := lw_g (lw_at lw_m1 199 rfl) rfl
theorem q251 : (Jvm.Cond.instantiable "java/lang/NullPointerException" (8 : Nat)) ∈ lw_all := lw_g (lw_at lw_m1 200 rfl) rfl
theorem q252 : (Jvm.Cond.native ({ cls := "java/lang/NullPointerException", name := "getExtendedNPEMessage", desc := "()Ljava/lang/String;" } : Jvm.MethodName)) ∈ lw_all := lw_g (lw_at lw_m1 201 rfl) rfl
theorem q253 : (Jvm.Cond.methodLink "java/lang/NullPointerException" (24 : Nat) ({ cls := "java/lang/RuntimeException", name := "fillInStackTrace", desc := "()Ljava/lang/Throwable;" } : Jvm.MethodName)) ∈ lw_all := lw_g (lw_at lw_m1 202 rfl) rfl
theorem q256 : (Jvm.Cond.superclass "java/lang/NullPointerException" "java/lang/RuntimeException") ∈ lw_all := lw_g (lw_at lw_m1 205 rfl) rfl
theorem q573 : (Jvm.Cond.instanceMethod ({ cls := "java/lang/NullPointerException", name := "<init>", desc := "()V" } : Jvm.MethodName)) ∈ lw_all := lw_g (lw_at lw_m3 42 rfl) rfl
theorem q574 : (Jvm.Cond.code ({ cls := "java/lang/NullPointerException", name := "<init>", desc := "()V" } : Jvm.MethodName) prog_25_method_1_code (1 : Nat) (Option.none : Option Jvm.ClassFile.FieldType)) ∈ lw_all := lw_g (lw_at lw_m3 43 rfl) rfl
theorem q575 : (Jvm.Cond.methodLink "java/lang/NullPointerException" (1 : Nat) ({ cls := "java/lang/RuntimeException", name := "<init>", desc := "()V" } : Jvm.MethodName)) ∈ lw_all := lw_g (lw_at lw_m3 44 rfl) rfl
theorem q582 : (Jvm.Cond.fieldLink "java/lang/NullPointerException" (10 : Nat) "java/lang/NullPointerException" "extendedMessageState" "I") ∈ lw_all := lw_g (lw_at lw_m3 51 rfl) rfl
theorem q583 : (Jvm.Cond.fieldLink "java/lang/NullPointerException" (20 : Nat) "java/lang/NullPointerException" "extendedMessage" "Ljava/lang/String;") ∈ lw_all := lw_g (lw_at lw_m3 52 rfl) rfl
theorem q584 : (Jvm.Cond.lays "java/lang/NullPointerException" "java/lang/NullPointerException" "extendedMessageState" "I") ∈ lw_all := lw_g (lw_at lw_m3 53 rfl) rfl
theorem q585 : (Jvm.Cond.soleField "java/lang/NullPointerException" "extendedMessageState") ∈ lw_all := lw_g (lw_at lw_m3 54 rfl) rfl
theorem q586 : (Jvm.Cond.lays "java/lang/NullPointerException" "java/lang/NullPointerException" "extendedMessage" "Ljava/lang/String;") ∈ lw_all := lw_g (lw_at lw_m3 55 rfl) rfl
theorem q587 : (Jvm.Cond.soleField "java/lang/NullPointerException" "extendedMessage") ∈ lw_all := lw_g (lw_at lw_m3 56 rfl) rfl
theorem q588 : (Jvm.Cond.lays "java/lang/NullPointerException" "java/lang/Throwable" "backtrace" "Ljava/lang/Object;") ∈ lw_all := lw_g (lw_at lw_m3 57 rfl) rfl
theorem q589 : (Jvm.Cond.lays "java/lang/NullPointerException" "java/lang/Throwable" "detailMessage" "Ljava/lang/String;") ∈ lw_all := lw_g (lw_at lw_m3 58 rfl) rfl
theorem q590 : (Jvm.Cond.lays "java/lang/NullPointerException" "java/lang/Throwable" "cause" "Ljava/lang/Throwable;") ∈ lw_all := lw_g (lw_at lw_m3 59 rfl) rfl
theorem q591 : (Jvm.Cond.lays "java/lang/NullPointerException" "java/lang/Throwable" "stackTrace" "[Ljava/lang/StackTraceElement;") ∈ lw_all := lw_g (lw_at lw_m3 60 rfl) rfl
theorem q592 : (Jvm.Cond.lays "java/lang/NullPointerException" "java/lang/Throwable" "depth" "I") ∈ lw_all := lw_g (lw_at lw_m3 61 rfl) rfl
theorem q593 : (Jvm.Cond.lays "java/lang/NullPointerException" "java/lang/Throwable" "suppressedExceptions" "Ljava/util/List;") ∈ lw_all := lw_g (lw_at lw_m3 62 rfl) rfl
theorem q594 : (Jvm.Cond.castable "java/lang/NullPointerException" "java/lang/NullPointerException") ∈ lw_tbl := lw_at lw_m3 63 rfl
theorem q595 : (Jvm.Cond.selects "java/lang/NullPointerException" ({ cls := "java/lang/Throwable", name := "fillInStackTrace", desc := "(I)Ljava/lang/Throwable;" } : Jvm.MethodName) ({ cls := "java/lang/Throwable", name := "fillInStackTrace", desc := "(I)Ljava/lang/Throwable;" } : Jvm.MethodName)) ∈ lw_all := lw_g (lw_at lw_m3 64 rfl) rfl
theorem in_J9 : ∀ w ∈ wsJ90, w ∈ lw_all := lw_in wsJ90 [588, 589, 590, 591, 592, 593, 584, 586] (by decide +kernel) (by decide +kernel)

theorem q51 : (Jvm.Cond.initialized "ScoreThreadsLaw") ∈ lw_all := lw_g (lw_at lw_m1 0 rfl) rfl
set_option maxRecDepth 100000
theorem q81 : (Jvm.Cond.classLink "ScoreThreadsLaw" (7 : Nat) "ScoreThreads") ∈ lw_all := lw_g (lw_at lw_m1 30 rfl) rfl
theorem q83 : (Jvm.Cond.methodLink "ScoreThreadsLaw" (9 : Nat) ({ cls := "ScoreThreads", name := "<init>", desc := "()V" } : Jvm.MethodName)) ∈ lw_all := lw_g (lw_at lw_m1 32 rfl) rfl
theorem q215 : (Jvm.Cond.methodLink "ScoreThreadsLaw" (13 : Nat) ({ cls := "ScoreThreads", name := "clip", desc := "(II)I" } : Jvm.MethodName)) ∈ lw_all := lw_g (lw_at lw_m1 164 rfl) rfl
theorem q333 : (Jvm.Cond.methodLink "ScoreThreadsLaw" (20 : Nat) ({ cls := "ScoreThreads", name := "number", desc := "(IIIJ)I" } : Jvm.MethodName)) ∈ lw_all := lw_g (lw_at lw_m2 42 rfl) rfl
theorem q396 : (Jvm.Cond.methodLink "ScoreThreadsLaw" (25 : Nat) ({ cls := "ScoreThreads", name := "sample", desc := "(II)I" } : Jvm.MethodName)) ∈ lw_all := lw_g (lw_at lw_m2 105 rfl) rfl
theorem q426 : (Jvm.Cond.methodLink "ScoreThreadsLaw" (29 : Nat) ({ cls := "ScoreThreads", name := "plug", desc := "(III)I" } : Jvm.MethodName)) ∈ lw_all := lw_g (lw_at lw_m2 135 rfl) rfl
theorem q568 : (Jvm.Cond.methodLink "ScoreThreadsLaw" (34 : Nat) ({ cls := "ScoreThreads", name := "plugged", desc := "(II)I" } : Jvm.MethodName)) ∈ lw_all := lw_g (lw_at lw_m3 37 rfl) rfl
theorem q641 : (Jvm.Cond.methodLink "ScoreThreadsLaw" (38 : Nat) ({ cls := "ScoreThreads", name := "track", desc := "(IIIZ)I" } : Jvm.MethodName)) ∈ lw_all := lw_g (lw_at lw_m3 110 rfl) rfl
theorem q675 : (Jvm.Cond.methodLink "ScoreThreadsLaw" (43 : Nat) ({ cls := "ScoreThreads", name := "pure", desc := "(IZ)I" } : Jvm.MethodName)) ∈ lw_all := lw_g (lw_at lw_m3 144 rfl) rfl
theorem q679 : (Jvm.Cond.methodLink "ScoreThreadsLaw" (48 : Nat) ({ cls := "ScoreThreads", name := "chain", desc := "(III)I" } : Jvm.MethodName)) ∈ lw_all := lw_g (lw_at lw_m3 148 rfl) rfl
theorem q683 : (Jvm.Cond.methodLink "ScoreThreadsLaw" (52 : Nat) ({ cls := "ScoreThreads", name := "level", desc := "(II)I" } : Jvm.MethodName)) ∈ lw_all := lw_g (lw_at lw_m3 152 rfl) rfl
theorem q687 : (Jvm.Cond.methodLink "ScoreThreadsLaw" (56 : Nat) ({ cls := "ScoreThreads", name := "on", desc := "(IZ)I" } : Jvm.MethodName)) ∈ lw_all := lw_g (lw_at lw_m3 156 rfl) rfl
theorem q691 : (Jvm.Cond.methodLink "ScoreThreadsLaw" (60 : Nat) ({ cls := "ScoreThreads", name := "line", desc := "(II)I" } : Jvm.MethodName)) ∈ lw_all := lw_g (lw_at lw_m3 160 rfl) rfl
theorem q695 : (Jvm.Cond.methodLink "ScoreThreadsLaw" (64 : Nat) ({ cls := "ScoreThreads", name := "hire", desc := "(I)I" } : Jvm.MethodName)) ∈ lw_all := lw_g (lw_at lw_m3 164 rfl) rfl
theorem q699 : (Jvm.Cond.methodLink "ScoreThreadsLaw" (69 : Nat) ({ cls := "ScoreThreads", name := "render", desc := "(I)I" } : Jvm.MethodName)) ∈ lw_all := lw_g (lw_at lw_m3 168 rfl) rfl
theorem q707 : (Jvm.Cond.methodLink "ScoreThreadsLaw" (73 : Nat) ({ cls := "ScoreThreads", name := "turn", desc := "(I)I" } : Jvm.MethodName)) ∈ lw_all := lw_g (lw_at lw_m3 176 rfl) rfl
theorem q870 : (Jvm.Cond.methodLink "ScoreThreadsLaw" (77 : Nat) ({ cls := "ScoreThreads", name := "rounds", desc := "(II)I" } : Jvm.MethodName)) ∈ lw_all := lw_g (lw_at lw_m4 99 rfl) rfl
theorem q874 : (Jvm.Cond.methodLink "ScoreThreadsLaw" (81 : Nat) ({ cls := "ScoreThreads", name := "stop", desc := "()I" } : Jvm.MethodName)) ∈ lw_all := lw_g (lw_at lw_m4 103 rfl) rfl
theorem q878 : (Jvm.Cond.methodLink "ScoreThreadsLaw" (86 : Nat) ({ cls := "ScoreThreads", name := "out", desc := "(I)I" } : Jvm.MethodName)) ∈ lw_all := lw_g (lw_at lw_m4 107 rfl) rfl
theorem q882 : (Jvm.Cond.methodLink "ScoreThreadsLaw" (90 : Nat) ({ cls := "ScoreThreads", name := "told", desc := "(II)I" } : Jvm.MethodName)) ∈ lw_all := lw_g (lw_at lw_m4 111 rfl) rfl
theorem q898 : (Jvm.Cond.methodLink "ScoreThreadsLaw" (94 : Nat) ({ cls := "ScoreThreads", name := "worker", desc := "(I)I" } : Jvm.MethodName)) ∈ lw_all := lw_g (lw_at lw_m4 127 rfl) rfl
theorem q902 : (Jvm.Cond.methodLink "ScoreThreadsLaw" (98 : Nat) ({ cls := "ScoreThreads", name := "fault", desc := "(II)I" } : Jvm.MethodName)) ∈ lw_all := lw_g (lw_at lw_m4 131 rfl) rfl
theorem q909 : (Jvm.Cond.methodLink "ScoreThreadsLaw" (102 : Nat) ({ cls := "ScoreThreads", name := "found", desc := "(I)I" } : Jvm.MethodName)) ∈ lw_all := lw_g (lw_at lw_m4 138 rfl) rfl
theorem q913 : (Jvm.Cond.methodLink "ScoreThreadsLaw" (106 : Nat) ({ cls := "ScoreThreads", name := "about", desc := "(I)I" } : Jvm.MethodName)) ∈ lw_all := lw_g (lw_at lw_m4 142 rfl) rfl
theorem q917 : (Jvm.Cond.methodLink "ScoreThreadsLaw" (110 : Nat) ({ cls := "ScoreThreads", name := "digest", desc := "()J" } : Jvm.MethodName)) ∈ lw_all := lw_g (lw_at lw_m4 146 rfl) rfl
theorem q926 : (Jvm.Cond.classLink "ScoreThreadsLaw" (10 : Nat) "ScoreThreadsModel") ∈ lw_all := lw_g (lw_at lw_m4 155 rfl) rfl
theorem q928 : (Jvm.Cond.methodLink "ScoreThreadsLaw" (12 : Nat) ({ cls := "ScoreThreadsModel", name := "<init>", desc := "()V" } : Jvm.MethodName)) ∈ lw_all := lw_g (lw_at lw_m4 157 rfl) rfl
theorem q1094 : (Jvm.Cond.methodLink "ScoreThreadsLaw" (17 : Nat) ({ cls := "ScoreThreadsModel", name := "clip", desc := "(II)I" } : Jvm.MethodName)) ∈ lw_all := lw_g (lw_at lw_m5 83 rfl) rfl
theorem q1105 : (Jvm.Cond.methodLink "ScoreThreadsLaw" (24 : Nat) ({ cls := "ScoreThreadsModel", name := "number", desc := "(IIIJ)I" } : Jvm.MethodName)) ∈ lw_all := lw_g (lw_at lw_m5 94 rfl) rfl
theorem q1116 : (Jvm.Cond.methodLink "ScoreThreadsLaw" (28 : Nat) ({ cls := "ScoreThreadsModel", name := "sample", desc := "(II)I" } : Jvm.MethodName)) ∈ lw_all := lw_g (lw_at lw_m5 105 rfl) rfl
theorem q1135 : (Jvm.Cond.methodLink "ScoreThreadsLaw" (33 : Nat) ({ cls := "ScoreThreadsModel", name := "plug", desc := "(III)I" } : Jvm.MethodName)) ∈ lw_all := lw_g (lw_at lw_m5 124 rfl) rfl
theorem q1147 : (Jvm.Cond.methodLink "ScoreThreadsLaw" (37 : Nat) ({ cls := "ScoreThreadsModel", name := "plugged", desc := "(II)I" } : Jvm.MethodName)) ∈ lw_all := lw_g (lw_at lw_m5 136 rfl) rfl
theorem q1155 : (Jvm.Cond.methodLink "ScoreThreadsLaw" (42 : Nat) ({ cls := "ScoreThreadsModel", name := "track", desc := "(IIIZ)I" } : Jvm.MethodName)) ∈ lw_all := lw_g (lw_at lw_m5 144 rfl) rfl
theorem q1170 : (Jvm.Cond.methodLink "ScoreThreadsLaw" (47 : Nat) ({ cls := "ScoreThreadsModel", name := "pure", desc := "(IZ)I" } : Jvm.MethodName)) ∈ lw_all := lw_g (lw_at lw_m5 159 rfl) rfl
theorem q1174 : (Jvm.Cond.methodLink "ScoreThreadsLaw" (51 : Nat) ({ cls := "ScoreThreadsModel", name := "chain", desc := "(III)I" } : Jvm.MethodName)) ∈ lw_all := lw_g (lw_at lw_m5 163 rfl) rfl
theorem q1178 : (Jvm.Cond.methodLink "ScoreThreadsLaw" (55 : Nat) ({ cls := "ScoreThreadsModel", name := "level", desc := "(II)I" } : Jvm.MethodName)) ∈ lw_all := lw_g (lw_at lw_m5 167 rfl) rfl
theorem q1182 : (Jvm.Cond.methodLink "ScoreThreadsLaw" (59 : Nat) ({ cls := "ScoreThreadsModel", name := "on", desc := "(IZ)I" } : Jvm.MethodName)) ∈ lw_all := lw_g (lw_at lw_m5 171 rfl) rfl
theorem q1186 : (Jvm.Cond.methodLink "ScoreThreadsLaw" (63 : Nat) ({ cls := "ScoreThreadsModel", name := "line", desc := "(II)I" } : Jvm.MethodName)) ∈ lw_all := lw_g (lw_at lw_m5 175 rfl) rfl
theorem q1190 : (Jvm.Cond.methodLink "ScoreThreadsLaw" (68 : Nat) ({ cls := "ScoreThreadsModel", name := "hire", desc := "(I)I" } : Jvm.MethodName)) ∈ lw_all := lw_g (lw_at lw_m5 179 rfl) rfl
theorem q1194 : (Jvm.Cond.methodLink "ScoreThreadsLaw" (72 : Nat) ({ cls := "ScoreThreadsModel", name := "render", desc := "(I)I" } : Jvm.MethodName)) ∈ lw_all := lw_g (lw_at lw_m5 183 rfl) rfl
theorem q1202 : (Jvm.Cond.methodLink "ScoreThreadsLaw" (76 : Nat) ({ cls := "ScoreThreadsModel", name := "turn", desc := "(I)I" } : Jvm.MethodName)) ∈ lw_all := lw_g (lw_at lw_m5 191 rfl) rfl
theorem q1272 : (Jvm.Cond.methodLink "ScoreThreadsLaw" (80 : Nat) ({ cls := "ScoreThreadsModel", name := "rounds", desc := "(II)I" } : Jvm.MethodName)) ∈ lw_all := lw_g (lw_at lw_m6 21 rfl) rfl
theorem q1276 : (Jvm.Cond.methodLink "ScoreThreadsLaw" (85 : Nat) ({ cls := "ScoreThreadsModel", name := "stop", desc := "()I" } : Jvm.MethodName)) ∈ lw_all := lw_g (lw_at lw_m6 25 rfl) rfl
theorem q1280 : (Jvm.Cond.methodLink "ScoreThreadsLaw" (89 : Nat) ({ cls := "ScoreThreadsModel", name := "out", desc := "(I)I" } : Jvm.MethodName)) ∈ lw_all := lw_g (lw_at lw_m6 29 rfl) rfl
theorem q1284 : (Jvm.Cond.methodLink "ScoreThreadsLaw" (93 : Nat) ({ cls := "ScoreThreadsModel", name := "told", desc := "(II)I" } : Jvm.MethodName)) ∈ lw_all := lw_g (lw_at lw_m6 33 rfl) rfl
theorem q1292 : (Jvm.Cond.methodLink "ScoreThreadsLaw" (97 : Nat) ({ cls := "ScoreThreadsModel", name := "worker", desc := "(I)I" } : Jvm.MethodName)) ∈ lw_all := lw_g (lw_at lw_m6 41 rfl) rfl
theorem q1296 : (Jvm.Cond.methodLink "ScoreThreadsLaw" (101 : Nat) ({ cls := "ScoreThreadsModel", name := "fault", desc := "(II)I" } : Jvm.MethodName)) ∈ lw_all := lw_g (lw_at lw_m6 45 rfl) rfl
theorem q1308 : (Jvm.Cond.methodLink "ScoreThreadsLaw" (105 : Nat) ({ cls := "ScoreThreadsModel", name := "found", desc := "(I)I" } : Jvm.MethodName)) ∈ lw_all := lw_g (lw_at lw_m6 57 rfl) rfl
theorem q1312 : (Jvm.Cond.methodLink "ScoreThreadsLaw" (109 : Nat) ({ cls := "ScoreThreadsModel", name := "about", desc := "(I)I" } : Jvm.MethodName)) ∈ lw_all := lw_g (lw_at lw_m6 61 rfl) rfl
theorem q1316 : (Jvm.Cond.methodLink "ScoreThreadsLaw" (114 : Nat) ({ cls := "ScoreThreadsModel", name := "digest", desc := "()J" } : Jvm.MethodName)) ∈ lw_all := lw_g (lw_at lw_m6 65 rfl) rfl
theorem q1326 : (Jvm.Cond.constantLong "ScoreThreadsLaw" (18 : Nat) (4294967295 : Int64)) ∈ lw_all := lw_g (lw_at lw_m6 75 rfl) rfl

theorem q66 : (Jvm.Cond.initialized "java/lang/Double") ∈ lw_all := lw_g (lw_at lw_m1 15 rfl) rfl
set_option maxRecDepth 100000
theorem q394 : (Jvm.Cond.static ({ cls := "java/lang/Double", name := "longBitsToDouble", desc := "(J)D" } : Jvm.MethodName)) ∈ lw_all := lw_g (lw_at lw_m2 103 rfl) rfl
theorem q395 : (Jvm.Cond.native ({ cls := "java/lang/Double", name := "longBitsToDouble", desc := "(J)D" } : Jvm.MethodName)) ∈ lw_all := lw_g (lw_at lw_m2 104 rfl) rfl
theorem q821 : (Jvm.Cond.static ({ cls := "java/lang/Double", name := "doubleToRawLongBits", desc := "(D)J" } : Jvm.MethodName)) ∈ lw_all := lw_g (lw_at lw_m4 50 rfl) rfl
theorem q822 : (Jvm.Cond.native ({ cls := "java/lang/Double", name := "doubleToRawLongBits", desc := "(D)J" } : Jvm.MethodName)) ∈ lw_all := lw_g (lw_at lw_m4 51 rfl) rfl

theorem q64 : (Jvm.Cond.initialized "java/lang/Number") ∈ lw_all := lw_g (lw_at lw_m1 13 rfl) rfl
set_option maxRecDepth 100000

theorem q90 : (Jvm.Cond.arrayOver (Jvm.ClassFile.FieldType.object "ScoreThreads$Clip")) ∈ lw_tbl := lw_at lw_m1 39 rfl
set_option maxRecDepth 100000
theorem q92 : (Jvm.Cond.arrayOver (Jvm.ClassFile.FieldType.object "ScoreThreads$Plug")) ∈ lw_tbl := lw_at lw_m1 41 rfl
theorem q94 : (Jvm.Cond.arrayOver (Jvm.ClassFile.FieldType.object "ScoreThreads$Track")) ∈ lw_tbl := lw_at lw_m1 43 rfl
theorem q152 : (Jvm.Cond.arrayClass Jvm.ClassFile.FieldType.int) ∈ lw_all := lw_g (lw_at lw_m1 101 rfl) rfl
theorem q153 : (Jvm.Cond.arrayClass Jvm.ClassFile.FieldType.float) ∈ lw_all := lw_g (lw_at lw_m1 102 rfl) rfl
theorem q301 : (Jvm.Cond.arrayClass Jvm.ClassFile.FieldType.byte) ∈ lw_all := lw_g (lw_at lw_m2 10 rfl) rfl
theorem q327 : (Jvm.Cond.arrayClass Jvm.ClassFile.FieldType.short) ∈ lw_all := lw_g (lw_at lw_m2 36 rfl) rfl
theorem q328 : (Jvm.Cond.arrayClass Jvm.ClassFile.FieldType.double) ∈ lw_all := lw_g (lw_at lw_m2 37 rfl) rfl
theorem q674 : (Jvm.Cond.arrayOver (Jvm.ClassFile.FieldType.object "ScoreThreads$Gain")) ∈ lw_tbl := lw_at lw_m3 143 rfl
theorem q1092 : (Jvm.Cond.arrayClass Jvm.ClassFile.FieldType.long) ∈ lw_all := lw_g (lw_at lw_m5 81 rfl) rfl
theorem q1093 : (Jvm.Cond.arrayClass Jvm.ClassFile.FieldType.boolean) ∈ lw_all := lw_g (lw_at lw_m5 82 rfl) rfl
