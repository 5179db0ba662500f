/-! java/lang/Throwable -/
set_option maxRecDepth 100000
def RJ4 : String := "java/lang/Throwable"
def TJ4 : u_T := fun k => match k with
  | 0 => ("java/lang/Throwable", "cause", "Ljava/lang/Throwable;", false)
  | 1 => ("java/lang/Throwable", "stackTrace", "[Ljava/lang/StackTraceElement;", false)
  | 2 => ("java/lang/Throwable", "suppressedExceptions", "Ljava/util/List;", false)
  | 3 => ("java/lang/Throwable", "detailMessage", "Ljava/lang/String;", false)
  | _ => ("java/lang/Throwable", "backtrace", "Ljava/lang/Object;", false)
def tyJ4 : Nat → FieldType := fun k => match k with
  | 0 => .object "java/lang/Throwable"
  | 1 => .array (.object "java/lang/StackTraceElement")
  | 2 => .object "java/util/List"
  | 3 => .object "java/lang/String"
  | _ => .object "java/lang/Object"
abbrev wsJ40 : List Cond := u_ws RJ4 TJ4 5
theorem nmJ4 : ∀ a, a < 5 → ∀ b, b < 5 → a ≠ b → (TJ4 a).2.1 ≠ (TJ4 b).2.1 := by decide +kernel
theorem tyJ4_ok : ∀ k, k < 5 → parseFieldDescriptor (TJ4 k).2.2.1 = some (tyJ4 k) := by decide +kernel
abbrev cJ4_init : ByteArray := prog_30_method_2_code
def yJ4_init : MethodName := ⟨RJ4, "<init>", "(Ljava/lang/String;)V"⟩
def dkwJ4_init_1 : List UInt8 := [182, 0, 27, 87, 42, 43, 181, 0, 31, 177]
abbrev dktJ4_init_1 : List UInt8 := dkwJ4_init_1 ++ []
def dkwJ4_init_0 : List UInt8 := [42, 183, 0, 1, 42, 42, 181, 0, 7, 42, 178, 0, 13, 181, 0, 17, 42, 178, 0, 20, 181, 0, 24, 42]
abbrev dktJ4_init_0 : List UInt8 := dkwJ4_init_0 ++ dktJ4_init_1
theorem dksJ4_init_0 : cJ4_init.data.toList.drop 0 = dktJ4_init_0 := by decide +kernel
theorem dksJ4_init_1 : cJ4_init.data.toList.drop 24 = dktJ4_init_1 := dk_seg dksJ4_init_0 24 rfl rfl
theorem dJ4_init_0 : decode cJ4_init 0 = .ok (.aload_n 0, 1) := dk_42 (dk_at dksJ4_init_0 0 rfl rfl)
theorem dJ4_init_1 : decode cJ4_init 1 = .ok (.invokespecial 1, 3) := dk_183 0 1 (dk_at dksJ4_init_0 1 rfl rfl)
theorem dJ4_init_4 : decode cJ4_init 4 = .ok (.aload_n 0, 1) := dk_42 (dk_at dksJ4_init_0 4 rfl rfl)
theorem dJ4_init_5 : decode cJ4_init 5 = .ok (.aload_n 0, 1) := dk_42 (dk_at dksJ4_init_0 5 rfl rfl)
theorem dJ4_init_6 : decode cJ4_init 6 = .ok (.putfield 7, 3) := dk_181 0 7 (dk_at dksJ4_init_0 6 rfl rfl)
theorem dJ4_init_9 : decode cJ4_init 9 = .ok (.aload_n 0, 1) := dk_42 (dk_at dksJ4_init_0 9 rfl rfl)
theorem dJ4_init_10 : decode cJ4_init 10 = .ok (.getstatic 13, 3) := dk_178 0 13 (dk_at dksJ4_init_0 10 rfl rfl)
theorem dJ4_init_13 : decode cJ4_init 13 = .ok (.putfield 17, 3) := dk_181 0 17 (dk_at dksJ4_init_0 13 rfl rfl)
theorem dJ4_init_16 : decode cJ4_init 16 = .ok (.aload_n 0, 1) := dk_42 (dk_at dksJ4_init_0 16 rfl rfl)
theorem dJ4_init_17 : decode cJ4_init 17 = .ok (.getstatic 20, 3) := dk_178 0 20 (dk_at dksJ4_init_0 17 rfl rfl)
theorem dJ4_init_20 : decode cJ4_init 20 = .ok (.putfield 24, 3) := dk_181 0 24 (dk_at dksJ4_init_0 20 rfl rfl)
theorem dJ4_init_23 : decode cJ4_init 23 = .ok (.aload_n 0, 1) := dk_42 (dk_at dksJ4_init_0 23 rfl rfl)
theorem dJ4_init_24 : decode cJ4_init 24 = .ok (.invokevirtual 27, 3) := dk_182 0 27 (dk_at dksJ4_init_1 0 rfl rfl)
theorem dJ4_init_27 : decode cJ4_init 27 = .ok (.pop, 1) := dk_87 (dk_at dksJ4_init_1 3 rfl rfl)
theorem dJ4_init_28 : decode cJ4_init 28 = .ok (.aload_n 0, 1) := dk_42 (dk_at dksJ4_init_1 4 rfl rfl)
theorem dJ4_init_29 : decode cJ4_init 29 = .ok (.aload_n 1, 1) := dk_43 (dk_at dksJ4_init_1 5 rfl rfl)
theorem dJ4_init_30 : decode cJ4_init 30 = .ok (.putfield 31, 3) := dk_181 0 31 (dk_at dksJ4_init_1 6 rfl rfl)
theorem dJ4_init_33 : decode cJ4_init 33 = .ok (.return_, 1) := dk_177 (dk_at dksJ4_init_1 9 rfl rfl)
abbrev cJ4_init_2 : ByteArray := prog_30_method_1_code
def yJ4_init_2 : MethodName := ⟨RJ4, "<init>", "()V"⟩
def dkwJ4_init_2_1 : List UInt8 := [182, 0, 27, 87, 177]
abbrev dktJ4_init_2_1 : List UInt8 := dkwJ4_init_2_1 ++ []
def dkwJ4_init_2_0 : List UInt8 := [42, 183, 0, 1, 42, 42, 181, 0, 7, 42, 178, 0, 13, 181, 0, 17, 42, 178, 0, 20, 181, 0, 24, 42]
abbrev dktJ4_init_2_0 : List UInt8 := dkwJ4_init_2_0 ++ dktJ4_init_2_1
theorem dksJ4_init_2_0 : cJ4_init_2.data.toList.drop 0 = dktJ4_init_2_0 := by decide +kernel
theorem dksJ4_init_2_1 : cJ4_init_2.data.toList.drop 24 = dktJ4_init_2_1 := dk_seg dksJ4_init_2_0 24 rfl rfl
theorem dJ4_init_2_0 : decode cJ4_init_2 0 = .ok (.aload_n 0, 1) := dk_42 (dk_at dksJ4_init_2_0 0 rfl rfl)
theorem dJ4_init_2_1 : decode cJ4_init_2 1 = .ok (.invokespecial 1, 3) := dk_183 0 1 (dk_at dksJ4_init_2_0 1 rfl rfl)
theorem dJ4_init_2_4 : decode cJ4_init_2 4 = .ok (.aload_n 0, 1) := dk_42 (dk_at dksJ4_init_2_0 4 rfl rfl)
theorem dJ4_init_2_5 : decode cJ4_init_2 5 = .ok (.aload_n 0, 1) := dk_42 (dk_at dksJ4_init_2_0 5 rfl rfl)
theorem dJ4_init_2_6 : decode cJ4_init_2 6 = .ok (.putfield 7, 3) := dk_181 0 7 (dk_at dksJ4_init_2_0 6 rfl rfl)
theorem dJ4_init_2_9 : decode cJ4_init_2 9 = .ok (.aload_n 0, 1) := dk_42 (dk_at dksJ4_init_2_0 9 rfl rfl)
theorem dJ4_init_2_10 : decode cJ4_init_2 10 = .ok (.getstatic 13, 3) := dk_178 0 13 (dk_at dksJ4_init_2_0 10 rfl rfl)
theorem dJ4_init_2_13 : decode cJ4_init_2 13 = .ok (.putfield 17, 3) := dk_181 0 17 (dk_at dksJ4_init_2_0 13 rfl rfl)
theorem dJ4_init_2_16 : decode cJ4_init_2 16 = .ok (.aload_n 0, 1) := dk_42 (dk_at dksJ4_init_2_0 16 rfl rfl)
theorem dJ4_init_2_17 : decode cJ4_init_2 17 = .ok (.getstatic 20, 3) := dk_178 0 20 (dk_at dksJ4_init_2_0 17 rfl rfl)
theorem dJ4_init_2_20 : decode cJ4_init_2 20 = .ok (.putfield 24, 3) := dk_181 0 24 (dk_at dksJ4_init_2_0 20 rfl rfl)
theorem dJ4_init_2_23 : decode cJ4_init_2 23 = .ok (.aload_n 0, 1) := dk_42 (dk_at dksJ4_init_2_0 23 rfl rfl)
theorem dJ4_init_2_24 : decode cJ4_init_2 24 = .ok (.invokevirtual 27, 3) := dk_182 0 27 (dk_at dksJ4_init_2_1 0 rfl rfl)
theorem dJ4_init_2_27 : decode cJ4_init_2 27 = .ok (.pop, 1) := dk_87 (dk_at dksJ4_init_2_1 3 rfl rfl)
theorem dJ4_init_2_28 : decode cJ4_init_2 28 = .ok (.return_, 1) := dk_177 (dk_at dksJ4_init_2_1 4 rfl rfl)
theorem q45 : (Jvm.Cond.initialized "java/lang/Throwable") ∈ lw_all := lw_g (lw_at lw_m1 8 rfl) rfl
theorem q224 : (Jvm.Cond.instanceMethod ({ cls := "java/lang/Throwable", name := "<init>", desc := "(Ljava/lang/String;)V" } : Jvm.MethodName)) ∈ lw_all := lw_g (lw_at lw_m1 187 rfl) rfl
theorem q225 : (Jvm.Cond.code ({ cls := "java/lang/Throwable", name := "<init>", desc := "(Ljava/lang/String;)V" } : Jvm.MethodName) prog_30_method_2_code (2 : Nat) (Option.none : Option Jvm.ClassFile.FieldType)) ∈ lw_all := lw_g (lw_at lw_m1 188 rfl) rfl
theorem q226 : (Jvm.Cond.methodLink "java/lang/Throwable" (1 : Nat) ({ cls := "java/lang/Object", name := "<init>", desc := "()V" } : Jvm.MethodName)) ∈ lw_all := lw_g (lw_at lw_m1 189 rfl) rfl
theorem q227 : (Jvm.Cond.fieldLink "java/lang/Throwable" (13 : Nat) "java/lang/Throwable" "UNASSIGNED_STACK" "[Ljava/lang/StackTraceElement;") ∈ lw_all := lw_g (lw_at lw_m1 190 rfl) rfl
theorem q228 : (Jvm.Cond.laysStatic "java/lang/Throwable" "UNASSIGNED_STACK" "[Ljava/lang/StackTraceElement;") ∈ lw_tbl := lw_at lw_m1 191 rfl
theorem q229 : (Jvm.Cond.fieldLink "java/lang/Throwable" (20 : Nat) "java/lang/Throwable" "SUPPRESSED_SENTINEL" "Ljava/util/List;") ∈ lw_all := lw_g (lw_at lw_m1 192 rfl) rfl
theorem q230 : (Jvm.Cond.laysStatic "java/lang/Throwable" "SUPPRESSED_SENTINEL" "Ljava/util/List;") ∈ lw_tbl := lw_at lw_m1 193 rfl
theorem q231 : (Jvm.Cond.methodLink "java/lang/Throwable" (27 : Nat) ({ cls := "java/lang/Throwable", name := "fillInStackTrace", desc := "()Ljava/lang/Throwable;" } : Jvm.MethodName)) ∈ lw_all := lw_g (lw_at lw_m1 194 rfl) rfl
theorem q232 : (Jvm.Cond.instanceMethod ({ cls := "java/lang/Throwable", name := "fillInStackTrace", desc := "()Ljava/lang/Throwable;" } : Jvm.MethodName)) ∈ lw_all := lw_g (lw_at lw_m1 195 rfl) rfl
theorem q233 : (Jvm.Cond.sameMethod "java/lang/Throwable" "java/lang/Throwable" "fillInStackTrace" "()Ljava/lang/Throwable;") ∈ lw_all := lw_g (lw_at lw_m1 196 rfl) rfl
theorem q238 : (Jvm.Cond.codeSync ({ cls := "java/lang/Throwable", name := "fillInStackTrace", desc := "()Ljava/lang/Throwable;" } : Jvm.MethodName) prog_30_method_18_code (1 : Nat) (Option.some (Jvm.ClassFile.FieldType.object "java/lang/Throwable"))) ∈ lw_all := lw_g (lw_at lw_m1 201 rfl) rfl
theorem q239 : (Jvm.Cond.methodLink "java/lang/Throwable" (202 : Nat) ({ cls := "java/lang/Throwable", name := "fillInStackTrace", desc := "(I)Ljava/lang/Throwable;" } : Jvm.MethodName)) ∈ lw_all := lw_g (lw_at lw_m1 202 rfl) rfl
theorem q240 : (Jvm.Cond.privateMethod ({ cls := "java/lang/Throwable", name := "fillInStackTrace", desc := "(I)Ljava/lang/Throwable;" } : Jvm.MethodName)) ∈ lw_tbl := lw_at lw_m1 203 rfl
theorem q241 : (Jvm.Cond.instanceMethod ({ cls := "java/lang/Throwable", name := "fillInStackTrace", desc := "(I)Ljava/lang/Throwable;" } : Jvm.MethodName)) ∈ lw_all := lw_g (lw_at lw_m1 204 rfl) rfl
theorem q242 : (Jvm.Cond.instantiable "java/lang/Throwable" (6 : Nat)) ∈ lw_all := lw_g (lw_at lw_m1 205 rfl) rfl
theorem q243 : (Jvm.Cond.native ({ cls := "java/lang/Throwable", name := "fillInStackTrace", desc := "(I)Ljava/lang/Throwable;" } : Jvm.MethodName)) ∈ lw_all := lw_g (lw_at lw_m1 206 rfl) rfl
theorem q244 : (Jvm.Cond.fieldLink "java/lang/Throwable" (198 : Nat) "java/lang/Throwable" "backtrace" "Ljava/lang/Object;") ∈ lw_all := lw_g (lw_at lw_m1 207 rfl) rfl
theorem q245 : (Jvm.Cond.fieldLink "java/lang/Throwable" (31 : Nat) "java/lang/Throwable" "detailMessage" "Ljava/lang/String;") ∈ lw_all := lw_g (lw_at lw_m1 208 rfl) rfl
theorem q246 : (Jvm.Cond.fieldLink "java/lang/Throwable" (7 : Nat) "java/lang/Throwable" "cause" "Ljava/lang/Throwable;") ∈ lw_all := lw_g (lw_at lw_m1 209 rfl) rfl
theorem q247 : (Jvm.Cond.fieldLink "java/lang/Throwable" (17 : Nat) "java/lang/Throwable" "stackTrace" "[Ljava/lang/StackTraceElement;") ∈ lw_all := lw_g (lw_at lw_m1 210 rfl) rfl
theorem q248 : (Jvm.Cond.fieldLink "java/lang/Throwable" (24 : Nat) "java/lang/Throwable" "suppressedExceptions" "Ljava/util/List;") ∈ lw_all := lw_g (lw_at lw_m1 211 rfl) rfl
theorem q250 : (Jvm.Cond.soleField "java/lang/Throwable" "backtrace") ∈ lw_all := lw_g (lw_at lw_m1 213 rfl) rfl
theorem q252 : (Jvm.Cond.soleField "java/lang/Throwable" "detailMessage") ∈ lw_all := lw_g (lw_at lw_m1 215 rfl) rfl
theorem q254 : (Jvm.Cond.soleField "java/lang/Throwable" "cause") ∈ lw_all := lw_g (lw_at lw_m1 217 rfl) rfl
theorem q256 : (Jvm.Cond.soleField "java/lang/Throwable" "stackTrace") ∈ lw_all := lw_g (lw_at lw_m1 219 rfl) rfl
theorem q258 : (Jvm.Cond.soleField "java/lang/Throwable" "depth") ∈ lw_all := lw_g (lw_at lw_m1 221 rfl) rfl
theorem q260 : (Jvm.Cond.soleField "java/lang/Throwable" "suppressedExceptions") ∈ lw_all := lw_g (lw_at lw_m1 223 rfl) rfl
theorem q269 : (Jvm.Cond.declares ({ cls := "java/lang/Throwable", name := "<init>", desc := "()V" } : Jvm.MethodName)) ∈ lw_tbl := lw_at lw_m1 232 rfl
theorem q270 : (Jvm.Cond.declares ({ cls := "java/lang/Throwable", name := "<init>", desc := "(Ljava/lang/String;)V" } : Jvm.MethodName)) ∈ lw_tbl := lw_at lw_m1 233 rfl
theorem q272 : (Jvm.Cond.lays "java/lang/Throwable" "java/lang/Throwable" "cause" "Ljava/lang/Throwable;") ∈ lw_all := lw_g (lw_at lw_m1 235 rfl) rfl
theorem q273 : (Jvm.Cond.lays "java/lang/Throwable" "java/lang/Throwable" "stackTrace" "[Ljava/lang/StackTraceElement;") ∈ lw_all := lw_g (lw_at lw_m1 236 rfl) rfl
theorem q274 : (Jvm.Cond.lays "java/lang/Throwable" "java/lang/Throwable" "suppressedExceptions" "Ljava/util/List;") ∈ lw_all := lw_g (lw_at lw_m1 237 rfl) rfl
theorem q275 : (Jvm.Cond.lays "java/lang/Throwable" "java/lang/Throwable" "detailMessage" "Ljava/lang/String;") ∈ lw_all := lw_g (lw_at lw_m1 238 rfl) rfl
theorem q276 : (Jvm.Cond.lays "java/lang/Throwable" "java/lang/Throwable" "backtrace" "Ljava/lang/Object;") ∈ lw_all := lw_g (lw_at lw_m1 239 rfl) rfl
theorem q277 : (Jvm.Cond.fieldLink "java/lang/Throwable" (198 : Nat) "java/lang/Throwable" "backtrace" "Ljava/lang/Object;") ∈ lw_all := lw_g (lw_at lw_m2 0 rfl) rfl
theorem q278 : (Jvm.Cond.superclass "java/lang/Throwable" "java/lang/Object") ∈ lw_all := lw_g (lw_at lw_m2 1 rfl) rfl
theorem q279 : (Jvm.Cond.instanceMethod ({ cls := "java/lang/Throwable", name := "<init>", desc := "()V" } : Jvm.MethodName)) ∈ lw_all := lw_g (lw_at lw_m2 2 rfl) rfl
theorem q280 : (Jvm.Cond.code ({ cls := "java/lang/Throwable", name := "<init>", desc := "()V" } : Jvm.MethodName) prog_30_method_1_code (1 : Nat) (Option.none : Option Jvm.ClassFile.FieldType)) ∈ lw_all := lw_g (lw_at lw_m2 3 rfl) rfl
theorem q1561 : (Jvm.Cond.sameMethod "java/lang/Throwable" "java/lang/Throwable" "fillInStackTrace" "(I)Ljava/lang/Throwable;") ∈ lw_all := lw_g (lw_at lw_m7 84 rfl) rfl
theorem q1588 : (Jvm.Cond.castable "java/lang/Throwable" "java/lang/Object") ∈ lw_tbl := lw_at lw_m7 111 rfl
theorem in_J4 : ∀ w ∈ wsJ40, w ∈ lw_all := lw_in wsJ40 [272, 273, 274, 275, 276] (by decide +kernel) (by decide +kernel)
/-! java/lang/Exception -/
set_option maxRecDepth 100000
def RJ5 : String := "java/lang/Exception"
abbrev cJ5_init : ByteArray := prog_15_method_2_code
def yJ5_init : MethodName := ⟨RJ5, "<init>", "(Ljava/lang/String;)V"⟩
def dkwJ5_init_0 : List UInt8 := [42, 43, 183, 0, 7, 177]
abbrev dktJ5_init_0 : List UInt8 := dkwJ5_init_0 ++ []
theorem dksJ5_init_0 : cJ5_init.data.toList.drop 0 = dktJ5_init_0 := by decide +kernel
theorem dJ5_init_0 : decode cJ5_init 0 = .ok (.aload_n 0, 1) := dk_42 (dk_at dksJ5_init_0 0 rfl rfl)
theorem dJ5_init_1 : decode cJ5_init 1 = .ok (.aload_n 1, 1) := dk_43 (dk_at dksJ5_init_0 1 rfl rfl)
theorem dJ5_init_2 : decode cJ5_init 2 = .ok (.invokespecial 7, 3) := dk_183 0 7 (dk_at dksJ5_init_0 2 rfl rfl)
theorem dJ5_init_5 : decode cJ5_init 5 = .ok (.return_, 1) := dk_177 (dk_at dksJ5_init_0 5 rfl rfl)
theorem q46 : (Jvm.Cond.initialized "java/lang/Exception") ∈ lw_all := lw_g (lw_at lw_m1 9 rfl) rfl
theorem q221 : (Jvm.Cond.instanceMethod ({ cls := "java/lang/Exception", name := "<init>", desc := "(Ljava/lang/String;)V" } : Jvm.MethodName)) ∈ lw_all := lw_g (lw_at lw_m1 184 rfl) rfl
theorem q222 : (Jvm.Cond.code ({ cls := "java/lang/Exception", name := "<init>", desc := "(Ljava/lang/String;)V" } : Jvm.MethodName) prog_15_method_2_code (2 : Nat) (Option.none : Option Jvm.ClassFile.FieldType)) ∈ lw_all := lw_g (lw_at lw_m1 185 rfl) rfl
theorem q223 : (Jvm.Cond.methodLink "java/lang/Exception" (7 : Nat) ({ cls := "java/lang/Throwable", name := "<init>", desc := "(Ljava/lang/String;)V" } : Jvm.MethodName)) ∈ lw_all := lw_g (lw_at lw_m1 186 rfl) rfl
theorem q267 : (Jvm.Cond.declares ({ cls := "java/lang/Exception", name := "<init>", desc := "()V" } : Jvm.MethodName)) ∈ lw_tbl := lw_at lw_m1 230 rfl
theorem q268 : (Jvm.Cond.declares ({ cls := "java/lang/Exception", name := "<init>", desc := "(Ljava/lang/String;)V" } : Jvm.MethodName)) ∈ lw_tbl := lw_at lw_m1 231 rfl
/-! java/lang/RuntimeException -/
set_option maxRecDepth 100000
def RJ6 : String := "java/lang/RuntimeException"
abbrev cJ6_init : ByteArray := prog_24_method_2_code
def yJ6_init : MethodName := ⟨RJ6, "<init>", "(Ljava/lang/String;)V"⟩
def dkwJ6_init_0 : List UInt8 := [42, 43, 183, 0, 7, 177]
abbrev dktJ6_init_0 : List UInt8 := dkwJ6_init_0 ++ []
theorem dksJ6_init_0 : cJ6_init.data.toList.drop 0 = dktJ6_init_0 := by decide +kernel
theorem dJ6_init_0 : decode cJ6_init 0 = .ok (.aload_n 0, 1) := dk_42 (dk_at dksJ6_init_0 0 rfl rfl)
theorem dJ6_init_1 : decode cJ6_init 1 = .ok (.aload_n 1, 1) := dk_43 (dk_at dksJ6_init_0 1 rfl rfl)
theorem dJ6_init_2 : decode cJ6_init 2 = .ok (.invokespecial 7, 3) := dk_183 0 7 (dk_at dksJ6_init_0 2 rfl rfl)
theorem dJ6_init_5 : decode cJ6_init 5 = .ok (.return_, 1) := dk_177 (dk_at dksJ6_init_0 5 rfl rfl)
theorem q47 : (Jvm.Cond.initialized "java/lang/RuntimeException") ∈ lw_all := lw_g (lw_at lw_m1 10 rfl) rfl
theorem q218 : (Jvm.Cond.instanceMethod ({ cls := "java/lang/RuntimeException", name := "<init>", desc := "(Ljava/lang/String;)V" } : Jvm.MethodName)) ∈ lw_all := lw_g (lw_at lw_m1 181 rfl) rfl
theorem q219 : (Jvm.Cond.code ({ cls := "java/lang/RuntimeException", name := "<init>", desc := "(Ljava/lang/String;)V" } : Jvm.MethodName) prog_24_method_2_code (2 : Nat) (Option.none : Option Jvm.ClassFile.FieldType)) ∈ lw_all := lw_g (lw_at lw_m1 182 rfl) rfl
theorem q220 : (Jvm.Cond.methodLink "java/lang/RuntimeException" (7 : Nat) ({ cls := "java/lang/Exception", name := "<init>", desc := "(Ljava/lang/String;)V" } : Jvm.MethodName)) ∈ lw_all := lw_g (lw_at lw_m1 183 rfl) rfl
theorem q265 : (Jvm.Cond.declares ({ cls := "java/lang/RuntimeException", name := "<init>", desc := "()V" } : Jvm.MethodName)) ∈ lw_tbl := lw_at lw_m1 228 rfl
theorem q266 : (Jvm.Cond.declares ({ cls := "java/lang/RuntimeException", name := "<init>", desc := "(Ljava/lang/String;)V" } : Jvm.MethodName)) ∈ lw_tbl := lw_at lw_m1 229 rfl
/-! java/lang/IndexOutOfBoundsException -/
set_option maxRecDepth 100000
def RJ7 : String := "java/lang/IndexOutOfBoundsException"
def TJ7 : u_T := fun k => match k with
  | 0 => ("java/lang/Throwable", "cause", "Ljava/lang/Throwable;", false)
  | 1 => ("java/lang/Throwable", "stackTrace", "[Ljava/lang/StackTraceElement;", false)
  | 2 => ("java/lang/Throwable", "suppressedExceptions", "Ljava/util/List;", false)
  | 3 => ("java/lang/Throwable", "detailMessage", "Ljava/lang/String;", false)
  | 4 => ("java/lang/Throwable", "backtrace", "Ljava/lang/Object;", false)
  | _ => ("java/lang/Throwable", "depth", "I", false)
def tyJ7 : Nat → FieldType := fun k => match k with
  | 0 => .object "java/lang/Throwable"
  | 1 => .array (.object "java/lang/StackTraceElement")
  | 2 => .object "java/util/List"
  | 3 => .object "java/lang/String"
  | 4 => .object "java/lang/Object"
  | _ => .int
abbrev wsJ70 : List Cond := u_ws RJ7 TJ7 6
theorem nmJ7 : ∀ a, a < 6 → ∀ b, b < 6 → a ≠ b → (TJ7 a).2.1 ≠ (TJ7 b).2.1 := by decide +kernel
theorem tyJ7_ok : ∀ k, k < 6 → parseFieldDescriptor (TJ7 k).2.2.1 = some (tyJ7 k) := by decide +kernel
abbrev cJ7_init : ByteArray := prog_18_method_2_code
def yJ7_init : MethodName := ⟨RJ7, "<init>", "(Ljava/lang/String;)V"⟩
def dkwJ7_init_0 : List UInt8 := [42, 43, 183, 0, 7, 177]
abbrev dktJ7_init_0 : List UInt8 := dkwJ7_init_0 ++ []
theorem dksJ7_init_0 : cJ7_init.data.toList.drop 0 = dktJ7_init_0 := by decide +kernel
theorem dJ7_init_0 : decode cJ7_init 0 = .ok (.aload_n 0, 1) := dk_42 (dk_at dksJ7_init_0 0 rfl rfl)
theorem dJ7_init_1 : decode cJ7_init 1 = .ok (.aload_n 1, 1) := dk_43 (dk_at dksJ7_init_0 1 rfl rfl)
theorem dJ7_init_2 : decode cJ7_init 2 = .ok (.invokespecial 7, 3) := dk_183 0 7 (dk_at dksJ7_init_0 2 rfl rfl)
theorem dJ7_init_5 : decode cJ7_init 5 = .ok (.return_, 1) := dk_177 (dk_at dksJ7_init_0 5 rfl rfl)
theorem q48 : (Jvm.Cond.initialized "java/lang/IndexOutOfBoundsException") ∈ lw_all := lw_g (lw_at lw_m1 11 rfl) rfl
theorem q215 : (Jvm.Cond.instanceMethod ({ cls := "java/lang/IndexOutOfBoundsException", name := "<init>", desc := "(Ljava/lang/String;)V" } : Jvm.MethodName)) ∈ lw_all := lw_g (lw_at lw_m1 178 rfl) rfl
theorem q216 : (Jvm.Cond.code ({ cls := "java/lang/IndexOutOfBoundsException", name := "<init>", desc := "(Ljava/lang/String;)V" } : Jvm.MethodName) prog_18_method_2_code (2 : Nat) (Option.none : Option Jvm.ClassFile.FieldType)) ∈ lw_all := lw_g (lw_at lw_m1 179 rfl) rfl
theorem q217 : (Jvm.Cond.methodLink "java/lang/IndexOutOfBoundsException" (7 : Nat) ({ cls := "java/lang/RuntimeException", name := "<init>", desc := "(Ljava/lang/String;)V" } : Jvm.MethodName)) ∈ lw_all := lw_g (lw_at lw_m1 180 rfl) rfl
theorem q237 : (Jvm.Cond.selects "java/lang/IndexOutOfBoundsException" ({ cls := "java/lang/Throwable", name := "fillInStackTrace", desc := "()Ljava/lang/Throwable;" } : Jvm.MethodName) ({ cls := "java/lang/Throwable", name := "fillInStackTrace", desc := "()Ljava/lang/Throwable;" } : Jvm.MethodName)) ∈ lw_all := lw_g (lw_at lw_m1 200 rfl) rfl
theorem q263 : (Jvm.Cond.declares ({ cls := "java/lang/IndexOutOfBoundsException", name := "<init>", desc := "()V" } : Jvm.MethodName)) ∈ lw_tbl := lw_at lw_m1 226 rfl
theorem q264 : (Jvm.Cond.declares ({ cls := "java/lang/IndexOutOfBoundsException", name := "<init>", desc := "(Ljava/lang/String;)V" } : Jvm.MethodName)) ∈ lw_tbl := lw_at lw_m1 227 rfl
theorem q300 : (Jvm.Cond.instantiable "java/lang/IndexOutOfBoundsException" (6 : Nat)) ∈ lw_all := lw_g (lw_at lw_m2 23 rfl) rfl
theorem q301 : (Jvm.Cond.castable "java/lang/IndexOutOfBoundsException" "java/lang/IndexOutOfBoundsException") ∈ lw_tbl := lw_at lw_m2 24 rfl
theorem q302 : (Jvm.Cond.selects "java/lang/IndexOutOfBoundsException" ({ cls := "java/lang/Throwable", name := "fillInStackTrace", desc := "(I)Ljava/lang/Throwable;" } : Jvm.MethodName) ({ cls := "java/lang/Throwable", name := "fillInStackTrace", desc := "(I)Ljava/lang/Throwable;" } : Jvm.MethodName)) ∈ lw_all := lw_g (lw_at lw_m2 25 rfl) rfl
theorem q303 : (Jvm.Cond.lays "java/lang/IndexOutOfBoundsException" "java/lang/Throwable" "cause" "Ljava/lang/Throwable;") ∈ lw_all := lw_g (lw_at lw_m2 26 rfl) rfl
theorem q304 : (Jvm.Cond.lays "java/lang/IndexOutOfBoundsException" "java/lang/Throwable" "stackTrace" "[Ljava/lang/StackTraceElement;") ∈ lw_all := lw_g (lw_at lw_m2 27 rfl) rfl
theorem q305 : (Jvm.Cond.lays "java/lang/IndexOutOfBoundsException" "java/lang/Throwable" "suppressedExceptions" "Ljava/util/List;") ∈ lw_all := lw_g (lw_at lw_m2 28 rfl) rfl
theorem q306 : (Jvm.Cond.lays "java/lang/IndexOutOfBoundsException" "java/lang/Throwable" "detailMessage" "Ljava/lang/String;") ∈ lw_all := lw_g (lw_at lw_m2 29 rfl) rfl
theorem q307 : (Jvm.Cond.lays "java/lang/IndexOutOfBoundsException" "java/lang/Throwable" "backtrace" "Ljava/lang/Object;") ∈ lw_all := lw_g (lw_at lw_m2 30 rfl) rfl
theorem q559 : (Jvm.Cond.lays "java/lang/IndexOutOfBoundsException" "java/lang/Throwable" "depth" "I") ∈ lw_all := lw_g (lw_at lw_m3 42 rfl) rfl
theorem q560 : (Jvm.Cond.superclass "java/lang/IndexOutOfBoundsException" "java/lang/RuntimeException") ∈ lw_all := lw_g (lw_at lw_m3 43 rfl) rfl
theorem q886 : (Jvm.Cond.selects "java/lang/IndexOutOfBoundsException" ({ cls := "java/lang/Object", name := "getClass", desc := "()Ljava/lang/Class;" } : Jvm.MethodName) ({ cls := "java/lang/Object", name := "getClass", desc := "()Ljava/lang/Class;" } : Jvm.MethodName)) ∈ lw_all := lw_g (lw_at lw_m4 129 rfl) rfl
theorem q1227 : (Jvm.Cond.selects "java/lang/IndexOutOfBoundsException" ({ cls := "java/lang/Object", name := "equals", desc := "(Ljava/lang/Object;)Z" } : Jvm.MethodName) ({ cls := "java/lang/Object", name := "equals", desc := "(Ljava/lang/Object;)Z" } : Jvm.MethodName)) ∈ lw_all := lw_g (lw_at lw_m5 230 rfl) rfl
theorem q1578 : (Jvm.Cond.castable "java/lang/IndexOutOfBoundsException" "java/lang/Object") ∈ lw_tbl := lw_at lw_m7 101 rfl
theorem in_J7 : ∀ w ∈ wsJ70, w ∈ lw_all := lw_in wsJ70 [303, 304, 305, 306, 307, 559] (by decide +kernel) (by decide +kernel)
/-! java/lang/IllegalArgumentException -/
set_option maxRecDepth 100000
def RJ18 : String := "java/lang/IllegalArgumentException"
def TJ18 : u_T := fun k => match k with
  | 0 => ("java/lang/Throwable", "cause", "Ljava/lang/Throwable;", false)
  | 1 => ("java/lang/Throwable", "stackTrace", "[Ljava/lang/StackTraceElement;", false)
  | 2 => ("java/lang/Throwable", "suppressedExceptions", "Ljava/util/List;", false)
  | 3 => ("java/lang/Throwable", "detailMessage", "Ljava/lang/String;", false)
  | 4 => ("java/lang/Throwable", "backtrace", "Ljava/lang/Object;", false)
  | _ => ("java/lang/Throwable", "depth", "I", false)
def tyJ18 : Nat → FieldType := fun k => match k with
  | 0 => .object "java/lang/Throwable"
  | 1 => .array (.object "java/lang/StackTraceElement")
  | 2 => .object "java/util/List"
  | 3 => .object "java/lang/String"
  | 4 => .object "java/lang/Object"
  | _ => .int
abbrev wsJ180 : List Cond := u_ws RJ18 TJ18 6
theorem nmJ18 : ∀ a, a < 6 → ∀ b, b < 6 → a ≠ b → (TJ18 a).2.1 ≠ (TJ18 b).2.1 := by decide +kernel
theorem tyJ18_ok : ∀ k, k < 6 → parseFieldDescriptor (TJ18 k).2.2.1 = some (tyJ18 k) := by decide +kernel
abbrev cJ18_init : ByteArray := prog_16_method_2_code
def yJ18_init : MethodName := ⟨RJ18, "<init>", "(Ljava/lang/String;)V"⟩
def dkwJ18_init_0 : List UInt8 := [42, 43, 183, 0, 7, 177]
abbrev dktJ18_init_0 : List UInt8 := dkwJ18_init_0 ++ []
theorem dksJ18_init_0 : cJ18_init.data.toList.drop 0 = dktJ18_init_0 := by decide +kernel
theorem dJ18_init_0 : decode cJ18_init 0 = .ok (.aload_n 0, 1) := dk_42 (dk_at dksJ18_init_0 0 rfl rfl)
theorem dJ18_init_1 : decode cJ18_init 1 = .ok (.aload_n 1, 1) := dk_43 (dk_at dksJ18_init_0 1 rfl rfl)
theorem dJ18_init_2 : decode cJ18_init 2 = .ok (.invokespecial 7, 3) := dk_183 0 7 (dk_at dksJ18_init_0 2 rfl rfl)
theorem dJ18_init_5 : decode cJ18_init 5 = .ok (.return_, 1) := dk_177 (dk_at dksJ18_init_0 5 rfl rfl)
theorem q61 : (Jvm.Cond.initialized "java/lang/IllegalArgumentException") ∈ lw_all := lw_g (lw_at lw_m1 24 rfl) rfl
theorem q235 : (Jvm.Cond.selects "java/lang/IllegalArgumentException" ({ cls := "java/lang/Throwable", name := "fillInStackTrace", desc := "()Ljava/lang/Throwable;" } : Jvm.MethodName) ({ cls := "java/lang/Throwable", name := "fillInStackTrace", desc := "()Ljava/lang/Throwable;" } : Jvm.MethodName)) ∈ lw_all := lw_g (lw_at lw_m1 198 rfl) rfl
theorem q518 : (Jvm.Cond.instantiable "java/lang/IllegalArgumentException" (6 : Nat)) ∈ lw_all := lw_g (lw_at lw_m3 1 rfl) rfl
theorem q519 : (Jvm.Cond.castable "java/lang/IllegalArgumentException" "java/lang/IllegalArgumentException") ∈ lw_tbl := lw_at lw_m3 2 rfl
theorem q520 : (Jvm.Cond.selects "java/lang/IllegalArgumentException" ({ cls := "java/lang/Throwable", name := "fillInStackTrace", desc := "(I)Ljava/lang/Throwable;" } : Jvm.MethodName) ({ cls := "java/lang/Throwable", name := "fillInStackTrace", desc := "(I)Ljava/lang/Throwable;" } : Jvm.MethodName)) ∈ lw_all := lw_g (lw_at lw_m3 3 rfl) rfl
theorem q521 : (Jvm.Cond.lays "java/lang/IllegalArgumentException" "java/lang/Throwable" "cause" "Ljava/lang/Throwable;") ∈ lw_all := lw_g (lw_at lw_m3 4 rfl) rfl
theorem q522 : (Jvm.Cond.lays "java/lang/IllegalArgumentException" "java/lang/Throwable" "stackTrace" "[Ljava/lang/StackTraceElement;") ∈ lw_all := lw_g (lw_at lw_m3 5 rfl) rfl
theorem q523 : (Jvm.Cond.lays "java/lang/IllegalArgumentException" "java/lang/Throwable" "suppressedExceptions" "Ljava/util/List;") ∈ lw_all := lw_g (lw_at lw_m3 6 rfl) rfl
theorem q524 : (Jvm.Cond.lays "java/lang/IllegalArgumentException" "java/lang/Throwable" "detailMessage" "Ljava/lang/String;") ∈ lw_all := lw_g (lw_at lw_m3 7 rfl) rfl
theorem q525 : (Jvm.Cond.lays "java/lang/IllegalArgumentException" "java/lang/Throwable" "backtrace" "Ljava/lang/Object;") ∈ lw_all := lw_g (lw_at lw_m3 8 rfl) rfl
theorem q533 : (Jvm.Cond.instanceMethod ({ cls := "java/lang/IllegalArgumentException", name := "<init>", desc := "(Ljava/lang/String;)V" } : Jvm.MethodName)) ∈ lw_all := lw_g (lw_at lw_m3 16 rfl) rfl
theorem q534 : (Jvm.Cond.code ({ cls := "java/lang/IllegalArgumentException", name := "<init>", desc := "(Ljava/lang/String;)V" } : Jvm.MethodName) prog_16_method_2_code (2 : Nat) (Option.none : Option Jvm.ClassFile.FieldType)) ∈ lw_all := lw_g (lw_at lw_m3 17 rfl) rfl
theorem q535 : (Jvm.Cond.methodLink "java/lang/IllegalArgumentException" (7 : Nat) ({ cls := "java/lang/RuntimeException", name := "<init>", desc := "(Ljava/lang/String;)V" } : Jvm.MethodName)) ∈ lw_all := lw_g (lw_at lw_m3 18 rfl) rfl
theorem q536 : (Jvm.Cond.lays "java/lang/IllegalArgumentException" "java/lang/Throwable" "depth" "I") ∈ lw_all := lw_g (lw_at lw_m3 19 rfl) rfl
theorem q537 : (Jvm.Cond.superclass "java/lang/IllegalArgumentException" "java/lang/RuntimeException") ∈ lw_all := lw_g (lw_at lw_m3 20 rfl) rfl
theorem q884 : (Jvm.Cond.selects "java/lang/IllegalArgumentException" ({ cls := "java/lang/Object", name := "getClass", desc := "()Ljava/lang/Class;" } : Jvm.MethodName) ({ cls := "java/lang/Object", name := "getClass", desc := "()Ljava/lang/Class;" } : Jvm.MethodName)) ∈ lw_all := lw_g (lw_at lw_m4 127 rfl) rfl
theorem q1225 : (Jvm.Cond.selects "java/lang/IllegalArgumentException" ({ cls := "java/lang/Object", name := "equals", desc := "(Ljava/lang/Object;)Z" } : Jvm.MethodName) ({ cls := "java/lang/Object", name := "equals", desc := "(Ljava/lang/Object;)Z" } : Jvm.MethodName)) ∈ lw_all := lw_g (lw_at lw_m5 228 rfl) rfl
theorem q1581 : (Jvm.Cond.castable "java/lang/IllegalArgumentException" "java/lang/Object") ∈ lw_tbl := lw_at lw_m7 104 rfl
theorem in_J18 : ∀ w ∈ wsJ180, w ∈ lw_all := lw_in wsJ180 [521, 522, 523, 524, 525, 536] (by decide +kernel) (by decide +kernel)
/-! java/lang/IllegalStateException -/
set_option maxRecDepth 100000
def RJ19 : String := "java/lang/IllegalStateException"
def TJ19 : u_T := fun k => match k with
  | 0 => ("java/lang/Throwable", "cause", "Ljava/lang/Throwable;", false)
  | 1 => ("java/lang/Throwable", "stackTrace", "[Ljava/lang/StackTraceElement;", false)
  | 2 => ("java/lang/Throwable", "suppressedExceptions", "Ljava/util/List;", false)
  | 3 => ("java/lang/Throwable", "detailMessage", "Ljava/lang/String;", false)
  | 4 => ("java/lang/Throwable", "backtrace", "Ljava/lang/Object;", false)
  | _ => ("java/lang/Throwable", "depth", "I", false)
def tyJ19 : Nat → FieldType := fun k => match k with
  | 0 => .object "java/lang/Throwable"
  | 1 => .array (.object "java/lang/StackTraceElement")
  | 2 => .object "java/util/List"
  | 3 => .object "java/lang/String"
  | 4 => .object "java/lang/Object"
  | _ => .int
abbrev wsJ190 : List Cond := u_ws RJ19 TJ19 6
theorem nmJ19 : ∀ a, a < 6 → ∀ b, b < 6 → a ≠ b → (TJ19 a).2.1 ≠ (TJ19 b).2.1 := by decide +kernel
theorem tyJ19_ok : ∀ k, k < 6 → parseFieldDescriptor (TJ19 k).2.2.1 = some (tyJ19 k) := by decide +kernel
abbrev cJ19_init : ByteArray := prog_17_method_2_code
def yJ19_init : MethodName := ⟨RJ19, "<init>", "(Ljava/lang/String;)V"⟩
def dkwJ19_init_0 : List UInt8 := [42, 43, 183, 0, 7, 177]
abbrev dktJ19_init_0 : List UInt8 := dkwJ19_init_0 ++ []
theorem dksJ19_init_0 : cJ19_init.data.toList.drop 0 = dktJ19_init_0 := by decide +kernel
theorem dJ19_init_0 : decode cJ19_init 0 = .ok (.aload_n 0, 1) := dk_42 (dk_at dksJ19_init_0 0 rfl rfl)
theorem dJ19_init_1 : decode cJ19_init 1 = .ok (.aload_n 1, 1) := dk_43 (dk_at dksJ19_init_0 1 rfl rfl)
theorem dJ19_init_2 : decode cJ19_init 2 = .ok (.invokespecial 7, 3) := dk_183 0 7 (dk_at dksJ19_init_0 2 rfl rfl)
theorem dJ19_init_5 : decode cJ19_init 5 = .ok (.return_, 1) := dk_177 (dk_at dksJ19_init_0 5 rfl rfl)
theorem q62 : (Jvm.Cond.initialized "java/lang/IllegalStateException") ∈ lw_all := lw_g (lw_at lw_m1 25 rfl) rfl
theorem q236 : (Jvm.Cond.selects "java/lang/IllegalStateException" ({ cls := "java/lang/Throwable", name := "fillInStackTrace", desc := "()Ljava/lang/Throwable;" } : Jvm.MethodName) ({ cls := "java/lang/Throwable", name := "fillInStackTrace", desc := "()Ljava/lang/Throwable;" } : Jvm.MethodName)) ∈ lw_all := lw_g (lw_at lw_m1 199 rfl) rfl
theorem q577 : (Jvm.Cond.instantiable "java/lang/IllegalStateException" (6 : Nat)) ∈ lw_all := lw_g (lw_at lw_m3 60 rfl) rfl
theorem q578 : (Jvm.Cond.castable "java/lang/IllegalStateException" "java/lang/IllegalStateException") ∈ lw_tbl := lw_at lw_m3 61 rfl
theorem q579 : (Jvm.Cond.selects "java/lang/IllegalStateException" ({ cls := "java/lang/Throwable", name := "fillInStackTrace", desc := "(I)Ljava/lang/Throwable;" } : Jvm.MethodName) ({ cls := "java/lang/Throwable", name := "fillInStackTrace", desc := "(I)Ljava/lang/Throwable;" } : Jvm.MethodName)) ∈ lw_all := lw_g (lw_at lw_m3 62 rfl) rfl
theorem q580 : (Jvm.Cond.lays "java/lang/IllegalStateException" "java/lang/Throwable" "cause" "Ljava/lang/Throwable;") ∈ lw_all := lw_g (lw_at lw_m3 63 rfl) rfl
theorem q581 : (Jvm.Cond.lays "java/lang/IllegalStateException" "java/lang/Throwable" "stackTrace" "[Ljava/lang/StackTraceElement;") ∈ lw_all := lw_g (lw_at lw_m3 64 rfl) rfl
theorem q582 : (Jvm.Cond.lays "java/lang/IllegalStateException" "java/lang/Throwable" "suppressedExceptions" "Ljava/util/List;") ∈ lw_all := lw_g (lw_at lw_m3 65 rfl) rfl
theorem q583 : (Jvm.Cond.lays "java/lang/IllegalStateException" "java/lang/Throwable" "detailMessage" "Ljava/lang/String;") ∈ lw_all := lw_g (lw_at lw_m3 66 rfl) rfl
theorem q584 : (Jvm.Cond.lays "java/lang/IllegalStateException" "java/lang/Throwable" "backtrace" "Ljava/lang/Object;") ∈ lw_all := lw_g (lw_at lw_m3 67 rfl) rfl
theorem q586 : (Jvm.Cond.instanceMethod ({ cls := "java/lang/IllegalStateException", name := "<init>", desc := "(Ljava/lang/String;)V" } : Jvm.MethodName)) ∈ lw_all := lw_g (lw_at lw_m3 69 rfl) rfl
theorem q587 : (Jvm.Cond.code ({ cls := "java/lang/IllegalStateException", name := "<init>", desc := "(Ljava/lang/String;)V" } : Jvm.MethodName) prog_17_method_2_code (2 : Nat) (Option.none : Option Jvm.ClassFile.FieldType)) ∈ lw_all := lw_g (lw_at lw_m3 70 rfl) rfl
theorem q588 : (Jvm.Cond.methodLink "java/lang/IllegalStateException" (7 : Nat) ({ cls := "java/lang/RuntimeException", name := "<init>", desc := "(Ljava/lang/String;)V" } : Jvm.MethodName)) ∈ lw_all := lw_g (lw_at lw_m3 71 rfl) rfl
theorem q589 : (Jvm.Cond.lays "java/lang/IllegalStateException" "java/lang/Throwable" "depth" "I") ∈ lw_all := lw_g (lw_at lw_m3 72 rfl) rfl
theorem q590 : (Jvm.Cond.superclass "java/lang/IllegalStateException" "java/lang/RuntimeException") ∈ lw_all := lw_g (lw_at lw_m3 73 rfl) rfl
theorem q885 : (Jvm.Cond.selects "java/lang/IllegalStateException" ({ cls := "java/lang/Object", name := "getClass", desc := "()Ljava/lang/Class;" } : Jvm.MethodName) ({ cls := "java/lang/Object", name := "getClass", desc := "()Ljava/lang/Class;" } : Jvm.MethodName)) ∈ lw_all := lw_g (lw_at lw_m4 128 rfl) rfl
theorem q1226 : (Jvm.Cond.selects "java/lang/IllegalStateException" ({ cls := "java/lang/Object", name := "equals", desc := "(Ljava/lang/Object;)Z" } : Jvm.MethodName) ({ cls := "java/lang/Object", name := "equals", desc := "(Ljava/lang/Object;)Z" } : Jvm.MethodName)) ∈ lw_all := lw_g (lw_at lw_m5 229 rfl) rfl
theorem q1582 : (Jvm.Cond.castable "java/lang/IllegalStateException" "java/lang/Object") ∈ lw_tbl := lw_at lw_m7 105 rfl
theorem in_J19 : ∀ w ∈ wsJ190, w ∈ lw_all := lw_in wsJ190 [580, 581, 582, 583, 584, 589] (by decide +kernel) (by decide +kernel)
/-! java/lang/String -/
set_option maxRecDepth 100000
def RJ9 : String := "java/lang/String"
def TJ9 : u_T := fun k => match k with
  | 0 => ("java/lang/String", "value", "[B", true)
  | 1 => ("java/lang/String", "coder", "B", true)
  | 2 => ("java/lang/String", "hash", "I", false)
  | _ => ("java/lang/String", "hashIsZero", "Z", false)
def tyJ9 : Nat → FieldType := fun k => match k with
  | 0 => .array .byte
  | 1 => .byte
  | 2 => .int
  | _ => .boolean
abbrev wsJ90 : List Cond := u_ws RJ9 TJ9 4
theorem nmJ9 : ∀ a, a < 4 → ∀ b, b < 4 → a ≠ b → (TJ9 a).2.1 ≠ (TJ9 b).2.1 := by decide +kernel
theorem tyJ9_ok : ∀ k, k < 4 → parseFieldDescriptor (TJ9 k).2.2.1 = some (tyJ9 k) := by decide +kernel
abbrev cJ9_checkBoundsBeginEnd : ByteArray := prog_25_method_158_code
def yJ9_checkBoundsBeginEnd : MethodName := ⟨RJ9, "checkBoundsBeginEnd", "(III)V"⟩
def dkwJ9_checkBoundsBeginEnd_0 : List UInt8 := [26, 27, 28, 178, 4, 29, 184, 4, 38, 87, 177]
abbrev dktJ9_checkBoundsBeginEnd_0 : List UInt8 := dkwJ9_checkBoundsBeginEnd_0 ++ []
theorem dksJ9_checkBoundsBeginEnd_0 : cJ9_checkBoundsBeginEnd.data.toList.drop 0 = dktJ9_checkBoundsBeginEnd_0 := by decide +kernel
theorem dJ9_checkBoundsBeginEnd_0 : decode cJ9_checkBoundsBeginEnd 0 = .ok (.iload_n 0, 1) := dk_26 (dk_at dksJ9_checkBoundsBeginEnd_0 0 rfl rfl)
theorem dJ9_checkBoundsBeginEnd_1 : decode cJ9_checkBoundsBeginEnd 1 = .ok (.iload_n 1, 1) := dk_27 (dk_at dksJ9_checkBoundsBeginEnd_0 1 rfl rfl)
theorem dJ9_checkBoundsBeginEnd_2 : decode cJ9_checkBoundsBeginEnd 2 = .ok (.iload_n 2, 1) := dk_28 (dk_at dksJ9_checkBoundsBeginEnd_0 2 rfl rfl)
theorem dJ9_checkBoundsBeginEnd_3 : decode cJ9_checkBoundsBeginEnd 3 = .ok (.getstatic 1053, 3) := dk_178 4 29 (dk_at dksJ9_checkBoundsBeginEnd_0 3 rfl rfl)
theorem dJ9_checkBoundsBeginEnd_6 : decode cJ9_checkBoundsBeginEnd 6 = .ok (.invokestatic 1062, 3) := dk_184 4 38 (dk_at dksJ9_checkBoundsBeginEnd_0 6 rfl rfl)
theorem dJ9_checkBoundsBeginEnd_9 : decode cJ9_checkBoundsBeginEnd 9 = .ok (.pop, 1) := dk_87 (dk_at dksJ9_checkBoundsBeginEnd_0 9 rfl rfl)
theorem dJ9_checkBoundsBeginEnd_10 : decode cJ9_checkBoundsBeginEnd 10 = .ok (.return_, 1) := dk_177 (dk_at dksJ9_checkBoundsBeginEnd_0 10 rfl rfl)
abbrev cJ9_length : ByteArray := prog_25_method_54_code
def yJ9_length : MethodName := ⟨RJ9, "length", "()I"⟩
def dkwJ9_length_0 : List UInt8 := [42, 180, 0, 9, 190, 42, 182, 1, 79, 122, 172]
abbrev dktJ9_length_0 : List UInt8 := dkwJ9_length_0 ++ []
theorem dksJ9_length_0 : cJ9_length.data.toList.drop 0 = dktJ9_length_0 := by decide +kernel
theorem dJ9_length_0 : decode cJ9_length 0 = .ok (.aload_n 0, 1) := dk_42 (dk_at dksJ9_length_0 0 rfl rfl)
theorem dJ9_length_1 : decode cJ9_length 1 = .ok (.getfield 9, 3) := dk_180 0 9 (dk_at dksJ9_length_0 1 rfl rfl)
theorem dJ9_length_4 : decode cJ9_length 4 = .ok (.arraylength, 1) := dk_190 (dk_at dksJ9_length_0 4 rfl rfl)
theorem dJ9_length_5 : decode cJ9_length 5 = .ok (.aload_n 0, 1) := dk_42 (dk_at dksJ9_length_0 5 rfl rfl)
theorem dJ9_length_6 : decode cJ9_length 6 = .ok (.invokevirtual 335, 3) := dk_182 1 79 (dk_at dksJ9_length_0 6 rfl rfl)
theorem dJ9_length_9 : decode cJ9_length 9 = .ok (.ishr, 1) := dk_122 (dk_at dksJ9_length_0 9 rfl rfl)
theorem dJ9_length_10 : decode cJ9_length 10 = .ok (.ireturn, 1) := dk_172 (dk_at dksJ9_length_0 10 rfl rfl)
abbrev cJ9_coder : ByteArray := prog_25_method_152_code
def yJ9_coder : MethodName := ⟨RJ9, "coder", "()B"⟩
def dkwJ9_coder_0 : List UInt8 := [178, 0, 38, 153, 0, 10, 42, 180, 0, 15, 167, 0, 4, 4, 172]
abbrev dktJ9_coder_0 : List UInt8 := dkwJ9_coder_0 ++ []
theorem dksJ9_coder_0 : cJ9_coder.data.toList.drop 0 = dktJ9_coder_0 := by decide +kernel
theorem dJ9_coder_0 : decode cJ9_coder 0 = .ok (.getstatic 38, 3) := dk_178 0 38 (dk_at dksJ9_coder_0 0 rfl rfl)
theorem dJ9_coder_3 : decode cJ9_coder 3 = .ok (.ifCond .eq 10, 3) := dk_153 0 10 (dk_at dksJ9_coder_0 3 rfl rfl)
theorem dJ9_coder_6 : decode cJ9_coder 6 = .ok (.aload_n 0, 1) := dk_42 (dk_at dksJ9_coder_0 6 rfl rfl)
theorem dJ9_coder_7 : decode cJ9_coder 7 = .ok (.getfield 15, 3) := dk_180 0 15 (dk_at dksJ9_coder_0 7 rfl rfl)
theorem dJ9_coder_10 : decode cJ9_coder 10 = .ok (.goto 4, 3) := dk_167 0 4 (dk_at dksJ9_coder_0 10 rfl rfl)
theorem dJ9_coder_13 : decode cJ9_coder 13 = .ok (.iconst 1, 1) := dk_4 (dk_at dksJ9_coder_0 13 rfl rfl)
theorem dJ9_coder_14 : decode cJ9_coder 14 = .ok (.ireturn, 1) := dk_172 (dk_at dksJ9_coder_0 14 rfl rfl)
abbrev cJ9_checkBoundsOffCount : ByteArray := prog_25_method_157_code
def yJ9_checkBoundsOffCount : MethodName := ⟨RJ9, "checkBoundsOffCount", "(III)I"⟩
def dkwJ9_checkBoundsOffCount_0 : List UInt8 := [26, 27, 28, 178, 4, 29, 184, 4, 41, 172]
abbrev dktJ9_checkBoundsOffCount_0 : List UInt8 := dkwJ9_checkBoundsOffCount_0 ++ []
theorem dksJ9_checkBoundsOffCount_0 : cJ9_checkBoundsOffCount.data.toList.drop 0 = dktJ9_checkBoundsOffCount_0 := by decide +kernel
theorem dJ9_checkBoundsOffCount_0 : decode cJ9_checkBoundsOffCount 0 = .ok (.iload_n 0, 1) := dk_26 (dk_at dksJ9_checkBoundsOffCount_0 0 rfl rfl)
theorem dJ9_checkBoundsOffCount_1 : decode cJ9_checkBoundsOffCount 1 = .ok (.iload_n 1, 1) := dk_27 (dk_at dksJ9_checkBoundsOffCount_0 1 rfl rfl)
theorem dJ9_checkBoundsOffCount_2 : decode cJ9_checkBoundsOffCount 2 = .ok (.iload_n 2, 1) := dk_28 (dk_at dksJ9_checkBoundsOffCount_0 2 rfl rfl)
theorem dJ9_checkBoundsOffCount_3 : decode cJ9_checkBoundsOffCount 3 = .ok (.getstatic 1053, 3) := dk_178 4 29 (dk_at dksJ9_checkBoundsOffCount_0 3 rfl rfl)
theorem dJ9_checkBoundsOffCount_6 : decode cJ9_checkBoundsOffCount 6 = .ok (.invokestatic 1065, 3) := dk_184 4 41 (dk_at dksJ9_checkBoundsOffCount_0 6 rfl rfl)
theorem dJ9_checkBoundsOffCount_9 : decode cJ9_checkBoundsOffCount 9 = .ok (.ireturn, 1) := dk_172 (dk_at dksJ9_checkBoundsOffCount_0 9 rfl rfl)
abbrev cJ9_getBytes : ByteArray := prog_25_method_147_code
def yJ9_getBytes : MethodName := ⟨RJ9, "getBytes", "([BIB)V"⟩
def dkwJ9_getBytes_1 : List UInt8 := [184, 0, 212, 167, 0, 18, 42, 180, 0, 9, 3, 43, 28, 42, 180, 0, 9, 190, 184, 0, 106, 177]
abbrev dktJ9_getBytes_1 : List UInt8 := dkwJ9_getBytes_1 ++ []
def dkwJ9_getBytes_0 : List UInt8 := [42, 182, 1, 79, 29, 160, 0, 23, 42, 180, 0, 9, 3, 43, 28, 29, 120, 42, 180, 0, 9, 190]
abbrev dktJ9_getBytes_0 : List UInt8 := dkwJ9_getBytes_0 ++ dktJ9_getBytes_1
theorem dksJ9_getBytes_0 : cJ9_getBytes.data.toList.drop 0 = dktJ9_getBytes_0 := by decide +kernel
theorem dksJ9_getBytes_1 : cJ9_getBytes.data.toList.drop 22 = dktJ9_getBytes_1 := dk_seg dksJ9_getBytes_0 22 rfl rfl
theorem dJ9_getBytes_0 : decode cJ9_getBytes 0 = .ok (.aload_n 0, 1) := dk_42 (dk_at dksJ9_getBytes_0 0 rfl rfl)
theorem dJ9_getBytes_1 : decode cJ9_getBytes 1 = .ok (.invokevirtual 335, 3) := dk_182 1 79 (dk_at dksJ9_getBytes_0 1 rfl rfl)
theorem dJ9_getBytes_4 : decode cJ9_getBytes 4 = .ok (.iload_n 3, 1) := dk_29 (dk_at dksJ9_getBytes_0 4 rfl rfl)
theorem dJ9_getBytes_5 : decode cJ9_getBytes 5 = .ok (.if_icmp .ne 23, 3) := dk_160 0 23 (dk_at dksJ9_getBytes_0 5 rfl rfl)
theorem dJ9_getBytes_8 : decode cJ9_getBytes 8 = .ok (.aload_n 0, 1) := dk_42 (dk_at dksJ9_getBytes_0 8 rfl rfl)
theorem dJ9_getBytes_9 : decode cJ9_getBytes 9 = .ok (.getfield 9, 3) := dk_180 0 9 (dk_at dksJ9_getBytes_0 9 rfl rfl)
theorem dJ9_getBytes_12 : decode cJ9_getBytes 12 = .ok (.iconst 0, 1) := dk_3 (dk_at dksJ9_getBytes_0 12 rfl rfl)
theorem dJ9_getBytes_13 : decode cJ9_getBytes 13 = .ok (.aload_n 1, 1) := dk_43 (dk_at dksJ9_getBytes_0 13 rfl rfl)
theorem dJ9_getBytes_14 : decode cJ9_getBytes 14 = .ok (.iload_n 2, 1) := dk_28 (dk_at dksJ9_getBytes_0 14 rfl rfl)
theorem dJ9_getBytes_15 : decode cJ9_getBytes 15 = .ok (.iload_n 3, 1) := dk_29 (dk_at dksJ9_getBytes_0 15 rfl rfl)
theorem dJ9_getBytes_16 : decode cJ9_getBytes 16 = .ok (.ishl, 1) := dk_120 (dk_at dksJ9_getBytes_0 16 rfl rfl)
theorem dJ9_getBytes_17 : decode cJ9_getBytes 17 = .ok (.aload_n 0, 1) := dk_42 (dk_at dksJ9_getBytes_0 17 rfl rfl)
theorem dJ9_getBytes_18 : decode cJ9_getBytes 18 = .ok (.getfield 9, 3) := dk_180 0 9 (dk_at dksJ9_getBytes_0 18 rfl rfl)
theorem dJ9_getBytes_21 : decode cJ9_getBytes 21 = .ok (.arraylength, 1) := dk_190 (dk_at dksJ9_getBytes_0 21 rfl rfl)
theorem dJ9_getBytes_22 : decode cJ9_getBytes 22 = .ok (.invokestatic 212, 3) := dk_184 0 212 (dk_at dksJ9_getBytes_1 0 rfl rfl)
theorem dJ9_getBytes_25 : decode cJ9_getBytes 25 = .ok (.goto 18, 3) := dk_167 0 18 (dk_at dksJ9_getBytes_1 3 rfl rfl)
theorem dJ9_getBytes_28 : decode cJ9_getBytes 28 = .ok (.aload_n 0, 1) := dk_42 (dk_at dksJ9_getBytes_1 6 rfl rfl)
theorem dJ9_getBytes_29 : decode cJ9_getBytes 29 = .ok (.getfield 9, 3) := dk_180 0 9 (dk_at dksJ9_getBytes_1 7 rfl rfl)
theorem dJ9_getBytes_32 : decode cJ9_getBytes 32 = .ok (.iconst 0, 1) := dk_3 (dk_at dksJ9_getBytes_1 10 rfl rfl)
theorem dJ9_getBytes_33 : decode cJ9_getBytes 33 = .ok (.aload_n 1, 1) := dk_43 (dk_at dksJ9_getBytes_1 11 rfl rfl)
theorem dJ9_getBytes_34 : decode cJ9_getBytes 34 = .ok (.iload_n 2, 1) := dk_28 (dk_at dksJ9_getBytes_1 12 rfl rfl)
theorem dJ9_getBytes_35 : decode cJ9_getBytes 35 = .ok (.aload_n 0, 1) := dk_42 (dk_at dksJ9_getBytes_1 13 rfl rfl)
theorem dJ9_getBytes_36 : decode cJ9_getBytes 36 = .ok (.getfield 9, 3) := dk_180 0 9 (dk_at dksJ9_getBytes_1 14 rfl rfl)
theorem dJ9_getBytes_39 : decode cJ9_getBytes 39 = .ok (.arraylength, 1) := dk_190 (dk_at dksJ9_getBytes_1 17 rfl rfl)
theorem dJ9_getBytes_40 : decode cJ9_getBytes 40 = .ok (.invokestatic 106, 3) := dk_184 0 106 (dk_at dksJ9_getBytes_1 18 rfl rfl)
theorem dJ9_getBytes_43 : decode cJ9_getBytes 43 = .ok (.return_, 1) := dk_177 (dk_at dksJ9_getBytes_1 21 rfl rfl)
abbrev cJ9_init : ByteArray := prog_25_method_53_code
def yJ9_init : MethodName := ⟨RJ9, "<init>", "(Ljava/lang/StringBuilder;)V"⟩
def dkwJ9_init_0 : List UInt8 := [42, 43, 1, 183, 1, 233, 177]
abbrev dktJ9_init_0 : List UInt8 := dkwJ9_init_0 ++ []
theorem dksJ9_init_0 : cJ9_init.data.toList.drop 0 = dktJ9_init_0 := by decide +kernel
theorem dJ9_init_0 : decode cJ9_init 0 = .ok (.aload_n 0, 1) := dk_42 (dk_at dksJ9_init_0 0 rfl rfl)
theorem dJ9_init_1 : decode cJ9_init 1 = .ok (.aload_n 1, 1) := dk_43 (dk_at dksJ9_init_0 1 rfl rfl)
theorem dJ9_init_2 : decode cJ9_init 2 = .ok (.aconst_null, 1) := dk_1 (dk_at dksJ9_init_0 2 rfl rfl)
theorem dJ9_init_3 : decode cJ9_init 3 = .ok (.invokespecial 489, 3) := dk_183 1 233 (dk_at dksJ9_init_0 3 rfl rfl)
theorem dJ9_init_6 : decode cJ9_init 6 = .ok (.return_, 1) := dk_177 (dk_at dksJ9_init_0 6 rfl rfl)
abbrev cJ9_init_2 : ByteArray := prog_25_method_150_code
def yJ9_init_2 : MethodName := ⟨RJ9, "<init>", "(Ljava/lang/AbstractStringBuilder;Ljava/lang/Void;)V"⟩
def dkwJ9_init_2_4 : List UInt8 := [181, 0, 9, 177]
abbrev dktJ9_init_2_4 : List UInt8 := dkwJ9_init_2_4 ++ []
def dkwJ9_init_2_3 : List UInt8 := [184, 0, 47, 181, 0, 15, 177, 42, 4, 181, 0, 15, 42, 45, 3, 21, 4, 4, 120, 184, 0, 54]
abbrev dktJ9_init_2_3 : List UInt8 := dkwJ9_init_2_3 ++ dktJ9_init_2_4
def dkwJ9_init_2_2 : List UInt8 := [180, 4, 24, 153, 0, 28, 42, 45, 3, 21, 4, 184, 4, 27, 181, 0, 9, 42, 42, 180, 0, 9, 21, 4]
abbrev dktJ9_init_2_2 : List UInt8 := dkwJ9_init_2_2 ++ dktJ9_init_2_3
def dkwJ9_init_2_1 : List UInt8 := [181, 0, 15, 42, 45, 3, 21, 4, 184, 0, 54, 181, 0, 9, 167, 0, 59, 178, 0, 38, 153, 0, 35, 43]
abbrev dktJ9_init_2_1 : List UInt8 := dkwJ9_init_2_1 ++ dktJ9_init_2_2
def dkwJ9_init_2_0 : List UInt8 := [42, 183, 0, 1, 43, 182, 2, 40, 78, 43, 182, 2, 37, 54, 4, 43, 182, 4, 23, 153, 0, 22, 42, 3]
abbrev dktJ9_init_2_0 : List UInt8 := dkwJ9_init_2_0 ++ dktJ9_init_2_1
theorem dksJ9_init_2_0 : cJ9_init_2.data.toList.drop 0 = dktJ9_init_2_0 := by decide +kernel
theorem dksJ9_init_2_1 : cJ9_init_2.data.toList.drop 24 = dktJ9_init_2_1 := dk_seg dksJ9_init_2_0 24 rfl rfl
theorem dksJ9_init_2_2 : cJ9_init_2.data.toList.drop 48 = dktJ9_init_2_2 := dk_seg dksJ9_init_2_1 24 rfl rfl
theorem dksJ9_init_2_3 : cJ9_init_2.data.toList.drop 72 = dktJ9_init_2_3 := dk_seg dksJ9_init_2_2 24 rfl rfl
theorem dksJ9_init_2_4 : cJ9_init_2.data.toList.drop 94 = dktJ9_init_2_4 := dk_seg dksJ9_init_2_3 22 rfl rfl
theorem dJ9_init_2_0 : decode cJ9_init_2 0 = .ok (.aload_n 0, 1) := dk_42 (dk_at dksJ9_init_2_0 0 rfl rfl)
theorem dJ9_init_2_1 : decode cJ9_init_2 1 = .ok (.invokespecial 1, 3) := dk_183 0 1 (dk_at dksJ9_init_2_0 1 rfl rfl)
theorem dJ9_init_2_4 : decode cJ9_init_2 4 = .ok (.aload_n 1, 1) := dk_43 (dk_at dksJ9_init_2_0 4 rfl rfl)
theorem dJ9_init_2_5 : decode cJ9_init_2 5 = .ok (.invokevirtual 552, 3) := dk_182 2 40 (dk_at dksJ9_init_2_0 5 rfl rfl)
theorem dJ9_init_2_8 : decode cJ9_init_2 8 = .ok (.astore_n 3, 1) := dk_78 (dk_at dksJ9_init_2_0 8 rfl rfl)
theorem dJ9_init_2_9 : decode cJ9_init_2 9 = .ok (.aload_n 1, 1) := dk_43 (dk_at dksJ9_init_2_0 9 rfl rfl)
theorem dJ9_init_2_10 : decode cJ9_init_2 10 = .ok (.invokevirtual 549, 3) := dk_182 2 37 (dk_at dksJ9_init_2_0 10 rfl rfl)
theorem dJ9_init_2_13 : decode cJ9_init_2 13 = .ok (.istore 4, 2) := dk_54 4 (dk_at dksJ9_init_2_0 13 rfl rfl)
theorem dJ9_init_2_15 : decode cJ9_init_2 15 = .ok (.aload_n 1, 1) := dk_43 (dk_at dksJ9_init_2_0 15 rfl rfl)
theorem dJ9_init_2_16 : decode cJ9_init_2 16 = .ok (.invokevirtual 1047, 3) := dk_182 4 23 (dk_at dksJ9_init_2_0 16 rfl rfl)
theorem dJ9_init_2_19 : decode cJ9_init_2 19 = .ok (.ifCond .eq 22, 3) := dk_153 0 22 (dk_at dksJ9_init_2_0 19 rfl rfl)
theorem dJ9_init_2_22 : decode cJ9_init_2 22 = .ok (.aload_n 0, 1) := dk_42 (dk_at dksJ9_init_2_0 22 rfl rfl)
theorem dJ9_init_2_23 : decode cJ9_init_2 23 = .ok (.iconst 0, 1) := dk_3 (dk_at dksJ9_init_2_0 23 rfl rfl)
theorem dJ9_init_2_24 : decode cJ9_init_2 24 = .ok (.putfield 15, 3) := dk_181 0 15 (dk_at dksJ9_init_2_1 0 rfl rfl)
theorem dJ9_init_2_27 : decode cJ9_init_2 27 = .ok (.aload_n 0, 1) := dk_42 (dk_at dksJ9_init_2_1 3 rfl rfl)
theorem dJ9_init_2_28 : decode cJ9_init_2 28 = .ok (.aload_n 3, 1) := dk_45 (dk_at dksJ9_init_2_1 4 rfl rfl)
theorem dJ9_init_2_29 : decode cJ9_init_2 29 = .ok (.iconst 0, 1) := dk_3 (dk_at dksJ9_init_2_1 5 rfl rfl)
theorem dJ9_init_2_30 : decode cJ9_init_2 30 = .ok (.iload 4, 2) := dk_21 4 (dk_at dksJ9_init_2_1 6 rfl rfl)
theorem dJ9_init_2_32 : decode cJ9_init_2 32 = .ok (.invokestatic 54, 3) := dk_184 0 54 (dk_at dksJ9_init_2_1 8 rfl rfl)
theorem dJ9_init_2_35 : decode cJ9_init_2 35 = .ok (.putfield 9, 3) := dk_181 0 9 (dk_at dksJ9_init_2_1 11 rfl rfl)
theorem dJ9_init_2_38 : decode cJ9_init_2 38 = .ok (.goto 59, 3) := dk_167 0 59 (dk_at dksJ9_init_2_1 14 rfl rfl)
theorem dJ9_init_2_41 : decode cJ9_init_2 41 = .ok (.getstatic 38, 3) := dk_178 0 38 (dk_at dksJ9_init_2_1 17 rfl rfl)
theorem dJ9_init_2_44 : decode cJ9_init_2 44 = .ok (.ifCond .eq 35, 3) := dk_153 0 35 (dk_at dksJ9_init_2_1 20 rfl rfl)
theorem dJ9_init_2_47 : decode cJ9_init_2 47 = .ok (.aload_n 1, 1) := dk_43 (dk_at dksJ9_init_2_1 23 rfl rfl)
theorem dJ9_init_2_48 : decode cJ9_init_2 48 = .ok (.getfield 1048, 3) := dk_180 4 24 (dk_at dksJ9_init_2_2 0 rfl rfl)
theorem dJ9_init_2_51 : decode cJ9_init_2 51 = .ok (.ifCond .eq 28, 3) := dk_153 0 28 (dk_at dksJ9_init_2_2 3 rfl rfl)
theorem dJ9_init_2_54 : decode cJ9_init_2 54 = .ok (.aload_n 0, 1) := dk_42 (dk_at dksJ9_init_2_2 6 rfl rfl)
theorem dJ9_init_2_55 : decode cJ9_init_2 55 = .ok (.aload_n 3, 1) := dk_45 (dk_at dksJ9_init_2_2 7 rfl rfl)
theorem dJ9_init_2_56 : decode cJ9_init_2 56 = .ok (.iconst 0, 1) := dk_3 (dk_at dksJ9_init_2_2 8 rfl rfl)
theorem dJ9_init_2_57 : decode cJ9_init_2 57 = .ok (.iload 4, 2) := dk_21 4 (dk_at dksJ9_init_2_2 9 rfl rfl)
theorem dJ9_init_2_59 : decode cJ9_init_2 59 = .ok (.invokestatic 1051, 3) := dk_184 4 27 (dk_at dksJ9_init_2_2 11 rfl rfl)
theorem dJ9_init_2_62 : decode cJ9_init_2 62 = .ok (.putfield 9, 3) := dk_181 0 9 (dk_at dksJ9_init_2_2 14 rfl rfl)
theorem dJ9_init_2_65 : decode cJ9_init_2 65 = .ok (.aload_n 0, 1) := dk_42 (dk_at dksJ9_init_2_2 17 rfl rfl)
theorem dJ9_init_2_66 : decode cJ9_init_2 66 = .ok (.aload_n 0, 1) := dk_42 (dk_at dksJ9_init_2_2 18 rfl rfl)
theorem dJ9_init_2_67 : decode cJ9_init_2 67 = .ok (.getfield 9, 3) := dk_180 0 9 (dk_at dksJ9_init_2_2 19 rfl rfl)
theorem dJ9_init_2_70 : decode cJ9_init_2 70 = .ok (.iload 4, 2) := dk_21 4 (dk_at dksJ9_init_2_2 22 rfl rfl)
theorem dJ9_init_2_72 : decode cJ9_init_2 72 = .ok (.invokestatic 47, 3) := dk_184 0 47 (dk_at dksJ9_init_2_3 0 rfl rfl)
theorem dJ9_init_2_75 : decode cJ9_init_2 75 = .ok (.putfield 15, 3) := dk_181 0 15 (dk_at dksJ9_init_2_3 3 rfl rfl)
theorem dJ9_init_2_78 : decode cJ9_init_2 78 = .ok (.return_, 1) := dk_177 (dk_at dksJ9_init_2_3 6 rfl rfl)
theorem dJ9_init_2_79 : decode cJ9_init_2 79 = .ok (.aload_n 0, 1) := dk_42 (dk_at dksJ9_init_2_3 7 rfl rfl)
theorem dJ9_init_2_80 : decode cJ9_init_2 80 = .ok (.iconst 1, 1) := dk_4 (dk_at dksJ9_init_2_3 8 rfl rfl)
theorem dJ9_init_2_81 : decode cJ9_init_2 81 = .ok (.putfield 15, 3) := dk_181 0 15 (dk_at dksJ9_init_2_3 9 rfl rfl)
theorem dJ9_init_2_84 : decode cJ9_init_2 84 = .ok (.aload_n 0, 1) := dk_42 (dk_at dksJ9_init_2_3 12 rfl rfl)
theorem dJ9_init_2_85 : decode cJ9_init_2 85 = .ok (.aload_n 3, 1) := dk_45 (dk_at dksJ9_init_2_3 13 rfl rfl)
theorem dJ9_init_2_86 : decode cJ9_init_2 86 = .ok (.iconst 0, 1) := dk_3 (dk_at dksJ9_init_2_3 14 rfl rfl)
theorem dJ9_init_2_87 : decode cJ9_init_2 87 = .ok (.iload 4, 2) := dk_21 4 (dk_at dksJ9_init_2_3 15 rfl rfl)
theorem dJ9_init_2_89 : decode cJ9_init_2 89 = .ok (.iconst 1, 1) := dk_4 (dk_at dksJ9_init_2_3 17 rfl rfl)
theorem dJ9_init_2_90 : decode cJ9_init_2 90 = .ok (.ishl, 1) := dk_120 (dk_at dksJ9_init_2_3 18 rfl rfl)
theorem dJ9_init_2_91 : decode cJ9_init_2 91 = .ok (.invokestatic 54, 3) := dk_184 0 54 (dk_at dksJ9_init_2_3 19 rfl rfl)
theorem dJ9_init_2_94 : decode cJ9_init_2 94 = .ok (.putfield 9, 3) := dk_181 0 9 (dk_at dksJ9_init_2_4 0 rfl rfl)
theorem dJ9_init_2_97 : decode cJ9_init_2 97 = .ok (.return_, 1) := dk_177 (dk_at dksJ9_init_2_4 3 rfl rfl)
abbrev cJ9_compareTo : ByteArray := prog_25_method_162_code
def yJ9_compareTo : MethodName := ⟨RJ9, "compareTo", "(Ljava/lang/Object;)I"⟩
def dkwJ9_compareTo_0 : List UInt8 := [42, 43, 192, 0, 10, 182, 4, 60, 172]
abbrev dktJ9_compareTo_0 : List UInt8 := dkwJ9_compareTo_0 ++ []
theorem dksJ9_compareTo_0 : cJ9_compareTo.data.toList.drop 0 = dktJ9_compareTo_0 := by decide +kernel
theorem dJ9_compareTo_0 : decode cJ9_compareTo 0 = .ok (.aload_n 0, 1) := dk_42 (dk_at dksJ9_compareTo_0 0 rfl rfl)
theorem dJ9_compareTo_1 : decode cJ9_compareTo 1 = .ok (.aload_n 1, 1) := dk_43 (dk_at dksJ9_compareTo_0 1 rfl rfl)
theorem dJ9_compareTo_2 : decode cJ9_compareTo 2 = .ok (.checkcast 10, 3) := dk_192 0 10 (dk_at dksJ9_compareTo_0 2 rfl rfl)
theorem dJ9_compareTo_5 : decode cJ9_compareTo 5 = .ok (.invokevirtual 1084, 3) := dk_182 4 60 (dk_at dksJ9_compareTo_0 5 rfl rfl)
theorem dJ9_compareTo_8 : decode cJ9_compareTo 8 = .ok (.ireturn, 1) := dk_172 (dk_at dksJ9_compareTo_0 8 rfl rfl)
abbrev cJ9_compareTo_2 : ByteArray := prog_25_method_71_code
def yJ9_compareTo_2 : MethodName := ⟨RJ9, "compareTo", "(Ljava/lang/String;)I"⟩
def dkwJ9_compareTo_2_2 : List UInt8 := [154, 0, 11, 44, 45, 184, 2, 79, 167, 0, 8, 44, 45, 184, 2, 82, 172]
abbrev dktJ9_compareTo_2_2 : List UInt8 := dkwJ9_compareTo_2_2 ++ []
def dkwJ9_compareTo_2_1 : List UInt8 := [160, 0, 22, 21, 4, 154, 0, 11, 44, 45, 184, 2, 74, 167, 0, 8, 44, 45, 184, 2, 78, 172, 21, 4]
abbrev dktJ9_compareTo_2_1 : List UInt8 := dkwJ9_compareTo_2_1 ++ dktJ9_compareTo_2_2
def dkwJ9_compareTo_2_0 : List UInt8 := [42, 180, 0, 9, 77, 43, 180, 0, 9, 78, 42, 182, 1, 79, 54, 4, 21, 4, 43, 182, 1, 79]
abbrev dktJ9_compareTo_2_0 : List UInt8 := dkwJ9_compareTo_2_0 ++ dktJ9_compareTo_2_1
theorem dksJ9_compareTo_2_0 : cJ9_compareTo_2.data.toList.drop 0 = dktJ9_compareTo_2_0 := by decide +kernel
theorem dksJ9_compareTo_2_1 : cJ9_compareTo_2.data.toList.drop 22 = dktJ9_compareTo_2_1 := dk_seg dksJ9_compareTo_2_0 22 rfl rfl
theorem dksJ9_compareTo_2_2 : cJ9_compareTo_2.data.toList.drop 46 = dktJ9_compareTo_2_2 := dk_seg dksJ9_compareTo_2_1 24 rfl rfl
theorem dJ9_compareTo_2_0 : decode cJ9_compareTo_2 0 = .ok (.aload_n 0, 1) := dk_42 (dk_at dksJ9_compareTo_2_0 0 rfl rfl)
theorem dJ9_compareTo_2_1 : decode cJ9_compareTo_2 1 = .ok (.getfield 9, 3) := dk_180 0 9 (dk_at dksJ9_compareTo_2_0 1 rfl rfl)
theorem dJ9_compareTo_2_4 : decode cJ9_compareTo_2 4 = .ok (.astore_n 2, 1) := dk_77 (dk_at dksJ9_compareTo_2_0 4 rfl rfl)
theorem dJ9_compareTo_2_5 : decode cJ9_compareTo_2 5 = .ok (.aload_n 1, 1) := dk_43 (dk_at dksJ9_compareTo_2_0 5 rfl rfl)
theorem dJ9_compareTo_2_6 : decode cJ9_compareTo_2 6 = .ok (.getfield 9, 3) := dk_180 0 9 (dk_at dksJ9_compareTo_2_0 6 rfl rfl)
theorem dJ9_compareTo_2_9 : decode cJ9_compareTo_2 9 = .ok (.astore_n 3, 1) := dk_78 (dk_at dksJ9_compareTo_2_0 9 rfl rfl)
theorem dJ9_compareTo_2_10 : decode cJ9_compareTo_2 10 = .ok (.aload_n 0, 1) := dk_42 (dk_at dksJ9_compareTo_2_0 10 rfl rfl)
theorem dJ9_compareTo_2_11 : decode cJ9_compareTo_2 11 = .ok (.invokevirtual 335, 3) := dk_182 1 79 (dk_at dksJ9_compareTo_2_0 11 rfl rfl)
theorem dJ9_compareTo_2_14 : decode cJ9_compareTo_2 14 = .ok (.istore 4, 2) := dk_54 4 (dk_at dksJ9_compareTo_2_0 14 rfl rfl)
theorem dJ9_compareTo_2_16 : decode cJ9_compareTo_2 16 = .ok (.iload 4, 2) := dk_21 4 (dk_at dksJ9_compareTo_2_0 16 rfl rfl)
theorem dJ9_compareTo_2_18 : decode cJ9_compareTo_2 18 = .ok (.aload_n 1, 1) := dk_43 (dk_at dksJ9_compareTo_2_0 18 rfl rfl)
theorem dJ9_compareTo_2_19 : decode cJ9_compareTo_2 19 = .ok (.invokevirtual 335, 3) := dk_182 1 79 (dk_at dksJ9_compareTo_2_0 19 rfl rfl)
theorem dJ9_compareTo_2_22 : decode cJ9_compareTo_2 22 = .ok (.if_icmp .ne 22, 3) := dk_160 0 22 (dk_at dksJ9_compareTo_2_1 0 rfl rfl)
theorem dJ9_compareTo_2_25 : decode cJ9_compareTo_2 25 = .ok (.iload 4, 2) := dk_21 4 (dk_at dksJ9_compareTo_2_1 3 rfl rfl)
theorem dJ9_compareTo_2_27 : decode cJ9_compareTo_2 27 = .ok (.ifCond .ne 11, 3) := dk_154 0 11 (dk_at dksJ9_compareTo_2_1 5 rfl rfl)
theorem dJ9_compareTo_2_30 : decode cJ9_compareTo_2 30 = .ok (.aload_n 2, 1) := dk_44 (dk_at dksJ9_compareTo_2_1 8 rfl rfl)
theorem dJ9_compareTo_2_31 : decode cJ9_compareTo_2 31 = .ok (.aload_n 3, 1) := dk_45 (dk_at dksJ9_compareTo_2_1 9 rfl rfl)
theorem dJ9_compareTo_2_32 : decode cJ9_compareTo_2 32 = .ok (.invokestatic 586, 3) := dk_184 2 74 (dk_at dksJ9_compareTo_2_1 10 rfl rfl)
theorem dJ9_compareTo_2_35 : decode cJ9_compareTo_2 35 = .ok (.goto 8, 3) := dk_167 0 8 (dk_at dksJ9_compareTo_2_1 13 rfl rfl)
theorem dJ9_compareTo_2_38 : decode cJ9_compareTo_2 38 = .ok (.aload_n 2, 1) := dk_44 (dk_at dksJ9_compareTo_2_1 16 rfl rfl)
theorem dJ9_compareTo_2_39 : decode cJ9_compareTo_2 39 = .ok (.aload_n 3, 1) := dk_45 (dk_at dksJ9_compareTo_2_1 17 rfl rfl)
theorem dJ9_compareTo_2_40 : decode cJ9_compareTo_2 40 = .ok (.invokestatic 590, 3) := dk_184 2 78 (dk_at dksJ9_compareTo_2_1 18 rfl rfl)
theorem dJ9_compareTo_2_43 : decode cJ9_compareTo_2 43 = .ok (.ireturn, 1) := dk_172 (dk_at dksJ9_compareTo_2_1 21 rfl rfl)
theorem dJ9_compareTo_2_44 : decode cJ9_compareTo_2 44 = .ok (.iload 4, 2) := dk_21 4 (dk_at dksJ9_compareTo_2_1 22 rfl rfl)
theorem dJ9_compareTo_2_46 : decode cJ9_compareTo_2 46 = .ok (.ifCond .ne 11, 3) := dk_154 0 11 (dk_at dksJ9_compareTo_2_2 0 rfl rfl)
theorem dJ9_compareTo_2_49 : decode cJ9_compareTo_2 49 = .ok (.aload_n 2, 1) := dk_44 (dk_at dksJ9_compareTo_2_2 3 rfl rfl)
theorem dJ9_compareTo_2_50 : decode cJ9_compareTo_2 50 = .ok (.aload_n 3, 1) := dk_45 (dk_at dksJ9_compareTo_2_2 4 rfl rfl)
theorem dJ9_compareTo_2_51 : decode cJ9_compareTo_2 51 = .ok (.invokestatic 591, 3) := dk_184 2 79 (dk_at dksJ9_compareTo_2_2 5 rfl rfl)
theorem dJ9_compareTo_2_54 : decode cJ9_compareTo_2 54 = .ok (.goto 8, 3) := dk_167 0 8 (dk_at dksJ9_compareTo_2_2 8 rfl rfl)
theorem dJ9_compareTo_2_57 : decode cJ9_compareTo_2 57 = .ok (.aload_n 2, 1) := dk_44 (dk_at dksJ9_compareTo_2_2 11 rfl rfl)
theorem dJ9_compareTo_2_58 : decode cJ9_compareTo_2 58 = .ok (.aload_n 3, 1) := dk_45 (dk_at dksJ9_compareTo_2_2 12 rfl rfl)
theorem dJ9_compareTo_2_59 : decode cJ9_compareTo_2 59 = .ok (.invokestatic 594, 3) := dk_184 2 82 (dk_at dksJ9_compareTo_2_2 13 rfl rfl)
theorem dJ9_compareTo_2_62 : decode cJ9_compareTo_2 62 = .ok (.ireturn, 1) := dk_172 (dk_at dksJ9_compareTo_2_2 16 rfl rfl)
abbrev cJ9_checkOffset : ByteArray := prog_25_method_156_code
def yJ9_checkOffset : MethodName := ⟨RJ9, "checkOffset", "(II)V"⟩
def dkwJ9_checkOffset_0 : List UInt8 := [26, 27, 27, 178, 4, 29, 184, 4, 38, 87, 177]
abbrev dktJ9_checkOffset_0 : List UInt8 := dkwJ9_checkOffset_0 ++ []
theorem dksJ9_checkOffset_0 : cJ9_checkOffset.data.toList.drop 0 = dktJ9_checkOffset_0 := by decide +kernel
theorem dJ9_checkOffset_0 : decode cJ9_checkOffset 0 = .ok (.iload_n 0, 1) := dk_26 (dk_at dksJ9_checkOffset_0 0 rfl rfl)
theorem dJ9_checkOffset_1 : decode cJ9_checkOffset 1 = .ok (.iload_n 1, 1) := dk_27 (dk_at dksJ9_checkOffset_0 1 rfl rfl)
theorem dJ9_checkOffset_2 : decode cJ9_checkOffset 2 = .ok (.iload_n 1, 1) := dk_27 (dk_at dksJ9_checkOffset_0 2 rfl rfl)
theorem dJ9_checkOffset_3 : decode cJ9_checkOffset 3 = .ok (.getstatic 1053, 3) := dk_178 4 29 (dk_at dksJ9_checkOffset_0 3 rfl rfl)
theorem dJ9_checkOffset_6 : decode cJ9_checkOffset 6 = .ok (.invokestatic 1062, 3) := dk_184 4 38 (dk_at dksJ9_checkOffset_0 6 rfl rfl)
theorem dJ9_checkOffset_9 : decode cJ9_checkOffset 9 = .ok (.pop, 1) := dk_87 (dk_at dksJ9_checkOffset_0 9 rfl rfl)
theorem dJ9_checkOffset_10 : decode cJ9_checkOffset 10 = .ok (.return_, 1) := dk_177 (dk_at dksJ9_checkOffset_0 10 rfl rfl)
abbrev cJ9_equals : ByteArray := prog_25_method_66_code
def yJ9_equals : MethodName := ⟨RJ9, "equals", "(Ljava/lang/Object;)Z"⟩
def dkwJ9_equals_2 : List UInt8 := [184, 2, 29, 153, 0, 7, 4, 167, 0, 4, 3, 172]
abbrev dktJ9_equals_2 : List UInt8 := dkwJ9_equals_2 ++ []
def dkwJ9_equals_1 : List UInt8 := [153, 0, 14, 42, 180, 0, 15, 44, 180, 0, 15, 160, 0, 21, 42, 180, 0, 9, 44, 180, 0, 9]
abbrev dktJ9_equals_1 : List UInt8 := dkwJ9_equals_1 ++ dktJ9_equals_2
def dkwJ9_equals_0 : List UInt8 := [42, 43, 166, 0, 5, 4, 172, 43, 193, 0, 10, 153, 0, 43, 43, 192, 0, 10, 77, 178, 0, 38]
abbrev dktJ9_equals_0 : List UInt8 := dkwJ9_equals_0 ++ dktJ9_equals_1
theorem dksJ9_equals_0 : cJ9_equals.data.toList.drop 0 = dktJ9_equals_0 := by decide +kernel
theorem dksJ9_equals_1 : cJ9_equals.data.toList.drop 22 = dktJ9_equals_1 := dk_seg dksJ9_equals_0 22 rfl rfl
theorem dksJ9_equals_2 : cJ9_equals.data.toList.drop 44 = dktJ9_equals_2 := dk_seg dksJ9_equals_1 22 rfl rfl
theorem dJ9_equals_0 : decode cJ9_equals 0 = .ok (.aload_n 0, 1) := dk_42 (dk_at dksJ9_equals_0 0 rfl rfl)
theorem dJ9_equals_1 : decode cJ9_equals 1 = .ok (.aload_n 1, 1) := dk_43 (dk_at dksJ9_equals_0 1 rfl rfl)
theorem dJ9_equals_2 : decode cJ9_equals 2 = .ok (.if_acmp .ne 5, 3) := dk_166 0 5 (dk_at dksJ9_equals_0 2 rfl rfl)
theorem dJ9_equals_5 : decode cJ9_equals 5 = .ok (.iconst 1, 1) := dk_4 (dk_at dksJ9_equals_0 5 rfl rfl)
theorem dJ9_equals_6 : decode cJ9_equals 6 = .ok (.ireturn, 1) := dk_172 (dk_at dksJ9_equals_0 6 rfl rfl)
theorem dJ9_equals_7 : decode cJ9_equals 7 = .ok (.aload_n 1, 1) := dk_43 (dk_at dksJ9_equals_0 7 rfl rfl)
theorem dJ9_equals_8 : decode cJ9_equals 8 = .ok (.instanceof 10, 3) := dk_193 0 10 (dk_at dksJ9_equals_0 8 rfl rfl)
theorem dJ9_equals_11 : decode cJ9_equals 11 = .ok (.ifCond .eq 43, 3) := dk_153 0 43 (dk_at dksJ9_equals_0 11 rfl rfl)
theorem dJ9_equals_14 : decode cJ9_equals 14 = .ok (.aload_n 1, 1) := dk_43 (dk_at dksJ9_equals_0 14 rfl rfl)
theorem dJ9_equals_15 : decode cJ9_equals 15 = .ok (.checkcast 10, 3) := dk_192 0 10 (dk_at dksJ9_equals_0 15 rfl rfl)
theorem dJ9_equals_18 : decode cJ9_equals 18 = .ok (.astore_n 2, 1) := dk_77 (dk_at dksJ9_equals_0 18 rfl rfl)
theorem dJ9_equals_19 : decode cJ9_equals 19 = .ok (.getstatic 38, 3) := dk_178 0 38 (dk_at dksJ9_equals_0 19 rfl rfl)
theorem dJ9_equals_22 : decode cJ9_equals 22 = .ok (.ifCond .eq 14, 3) := dk_153 0 14 (dk_at dksJ9_equals_1 0 rfl rfl)
theorem dJ9_equals_25 : decode cJ9_equals 25 = .ok (.aload_n 0, 1) := dk_42 (dk_at dksJ9_equals_1 3 rfl rfl)
theorem dJ9_equals_26 : decode cJ9_equals 26 = .ok (.getfield 15, 3) := dk_180 0 15 (dk_at dksJ9_equals_1 4 rfl rfl)
theorem dJ9_equals_29 : decode cJ9_equals 29 = .ok (.aload_n 2, 1) := dk_44 (dk_at dksJ9_equals_1 7 rfl rfl)
theorem dJ9_equals_30 : decode cJ9_equals 30 = .ok (.getfield 15, 3) := dk_180 0 15 (dk_at dksJ9_equals_1 8 rfl rfl)
theorem dJ9_equals_33 : decode cJ9_equals 33 = .ok (.if_icmp .ne 21, 3) := dk_160 0 21 (dk_at dksJ9_equals_1 11 rfl rfl)
theorem dJ9_equals_36 : decode cJ9_equals 36 = .ok (.aload_n 0, 1) := dk_42 (dk_at dksJ9_equals_1 14 rfl rfl)
theorem dJ9_equals_37 : decode cJ9_equals 37 = .ok (.getfield 9, 3) := dk_180 0 9 (dk_at dksJ9_equals_1 15 rfl rfl)
theorem dJ9_equals_40 : decode cJ9_equals 40 = .ok (.aload_n 2, 1) := dk_44 (dk_at dksJ9_equals_1 18 rfl rfl)
theorem dJ9_equals_41 : decode cJ9_equals 41 = .ok (.getfield 9, 3) := dk_180 0 9 (dk_at dksJ9_equals_1 19 rfl rfl)
theorem dJ9_equals_44 : decode cJ9_equals 44 = .ok (.invokestatic 541, 3) := dk_184 2 29 (dk_at dksJ9_equals_2 0 rfl rfl)
theorem dJ9_equals_47 : decode cJ9_equals 47 = .ok (.ifCond .eq 7, 3) := dk_153 0 7 (dk_at dksJ9_equals_2 3 rfl rfl)
theorem dJ9_equals_50 : decode cJ9_equals 50 = .ok (.iconst 1, 1) := dk_4 (dk_at dksJ9_equals_2 6 rfl rfl)
theorem dJ9_equals_51 : decode cJ9_equals 51 = .ok (.goto 4, 3) := dk_167 0 4 (dk_at dksJ9_equals_2 7 rfl rfl)
theorem dJ9_equals_54 : decode cJ9_equals 54 = .ok (.iconst 0, 1) := dk_3 (dk_at dksJ9_equals_2 10 rfl rfl)
theorem dJ9_equals_55 : decode cJ9_equals 55 = .ok (.ireturn, 1) := dk_172 (dk_at dksJ9_equals_2 11 rfl rfl)
theorem q50 : (Jvm.Cond.initialized "java/lang/String") ∈ lw_all := lw_g (lw_at lw_m1 13 rfl) rfl
theorem q281 : (Jvm.Cond.instantiable "java/lang/String" (4 : Nat)) ∈ lw_all := lw_g (lw_at lw_m2 4 rfl) rfl
theorem q283 : (Jvm.Cond.laysFinal "java/lang/String" "java/lang/String" "value" "[B") ∈ lw_all := lw_g (lw_at lw_m2 6 rfl) rfl
theorem q284 : (Jvm.Cond.soleField "java/lang/String" "value") ∈ lw_all := lw_g (lw_at lw_m2 7 rfl) rfl
theorem q285 : (Jvm.Cond.laysFinal "java/lang/String" "java/lang/String" "coder" "B") ∈ lw_all := lw_g (lw_at lw_m2 8 rfl) rfl
theorem q286 : (Jvm.Cond.soleField "java/lang/String" "coder") ∈ lw_all := lw_g (lw_at lw_m2 9 rfl) rfl
theorem q318 : (Jvm.Cond.laysStatic "java/lang/String" "COMPACT_STRINGS" "Z") ∈ lw_tbl := lw_at lw_m2 41 rfl
theorem q328 : (Jvm.Cond.fieldLink "java/lang/String" (1048 : Nat) "java/lang/AbstractStringBuilder" "maybeLatin1" "Z") ∈ lw_all := lw_g (lw_at lw_m2 51 rfl) rfl
theorem q397 : (Jvm.Cond.static ({ cls := "java/lang/String", name := "checkBoundsBeginEnd", desc := "(III)V" } : Jvm.MethodName)) ∈ lw_all := lw_g (lw_at lw_m2 120 rfl) rfl
theorem q398 : (Jvm.Cond.code ({ cls := "java/lang/String", name := "checkBoundsBeginEnd", desc := "(III)V" } : Jvm.MethodName) prog_25_method_158_code (3 : Nat) (Option.none : Option Jvm.ClassFile.FieldType)) ∈ lw_all := lw_g (lw_at lw_m2 121 rfl) rfl
theorem q399 : (Jvm.Cond.fieldLink "java/lang/String" (1053 : Nat) "jdk/internal/util/Preconditions" "SIOOBE_FORMATTER" "Ljava/util/function/BiFunction;") ∈ lw_all := lw_g (lw_at lw_m2 122 rfl) rfl
theorem q401 : (Jvm.Cond.methodLink "java/lang/String" (1062 : Nat) ({ cls := "jdk/internal/util/Preconditions", name := "checkFromToIndex", desc := "(IIILjava/util/function/BiFunction;)I" } : Jvm.MethodName)) ∈ lw_all := lw_g (lw_at lw_m2 124 rfl) rfl
theorem q414 : (Jvm.Cond.instanceMethod ({ cls := "java/lang/String", name := "length", desc := "()I" } : Jvm.MethodName)) ∈ lw_all := lw_g (lw_at lw_m2 137 rfl) rfl
theorem q415 : (Jvm.Cond.selects "java/lang/String" ({ cls := "java/lang/String", name := "length", desc := "()I" } : Jvm.MethodName) ({ cls := "java/lang/String", name := "length", desc := "()I" } : Jvm.MethodName)) ∈ lw_all := lw_g (lw_at lw_m2 138 rfl) rfl
theorem q416 : (Jvm.Cond.code ({ cls := "java/lang/String", name := "length", desc := "()I" } : Jvm.MethodName) prog_25_method_54_code (1 : Nat) (Option.some Jvm.ClassFile.FieldType.int)) ∈ lw_all := lw_g (lw_at lw_m2 139 rfl) rfl
theorem q417 : (Jvm.Cond.methodLink "java/lang/String" (335 : Nat) ({ cls := "java/lang/String", name := "coder", desc := "()B" } : Jvm.MethodName)) ∈ lw_all := lw_g (lw_at lw_m2 140 rfl) rfl
theorem q418 : (Jvm.Cond.instanceMethod ({ cls := "java/lang/String", name := "coder", desc := "()B" } : Jvm.MethodName)) ∈ lw_all := lw_g (lw_at lw_m2 141 rfl) rfl
theorem q419 : (Jvm.Cond.selects "java/lang/String" ({ cls := "java/lang/String", name := "coder", desc := "()B" } : Jvm.MethodName) ({ cls := "java/lang/String", name := "coder", desc := "()B" } : Jvm.MethodName)) ∈ lw_all := lw_g (lw_at lw_m2 142 rfl) rfl
theorem q420 : (Jvm.Cond.code ({ cls := "java/lang/String", name := "coder", desc := "()B" } : Jvm.MethodName) prog_25_method_152_code (1 : Nat) (Option.some Jvm.ClassFile.FieldType.byte)) ∈ lw_all := lw_g (lw_at lw_m2 143 rfl) rfl
theorem q421 : (Jvm.Cond.fieldLink "java/lang/String" (38 : Nat) "java/lang/String" "COMPACT_STRINGS" "Z") ∈ lw_all := lw_g (lw_at lw_m2 144 rfl) rfl
theorem q445 : (Jvm.Cond.static ({ cls := "java/lang/String", name := "checkBoundsOffCount", desc := "(III)I" } : Jvm.MethodName)) ∈ lw_all := lw_g (lw_at lw_m2 168 rfl) rfl
theorem q446 : (Jvm.Cond.code ({ cls := "java/lang/String", name := "checkBoundsOffCount", desc := "(III)I" } : Jvm.MethodName) prog_25_method_157_code (3 : Nat) (Option.some Jvm.ClassFile.FieldType.int)) ∈ lw_all := lw_g (lw_at lw_m2 169 rfl) rfl
theorem q447 : (Jvm.Cond.methodLink "java/lang/String" (1065 : Nat) ({ cls := "jdk/internal/util/Preconditions", name := "checkFromIndexSize", desc := "(IIILjava/util/function/BiFunction;)I" } : Jvm.MethodName)) ∈ lw_all := lw_g (lw_at lw_m2 170 rfl) rfl
theorem q451 : (Jvm.Cond.instanceMethod ({ cls := "java/lang/String", name := "getBytes", desc := "([BIB)V" } : Jvm.MethodName)) ∈ lw_all := lw_g (lw_at lw_m2 174 rfl) rfl
theorem q452 : (Jvm.Cond.selects "java/lang/String" ({ cls := "java/lang/String", name := "getBytes", desc := "([BIB)V" } : Jvm.MethodName) ({ cls := "java/lang/String", name := "getBytes", desc := "([BIB)V" } : Jvm.MethodName)) ∈ lw_all := lw_g (lw_at lw_m2 175 rfl) rfl
theorem q453 : (Jvm.Cond.code ({ cls := "java/lang/String", name := "getBytes", desc := "([BIB)V" } : Jvm.MethodName) prog_25_method_147_code (4 : Nat) (Option.none : Option Jvm.ClassFile.FieldType)) ∈ lw_all := lw_g (lw_at lw_m2 176 rfl) rfl
theorem q454 : (Jvm.Cond.methodLink "java/lang/String" (212 : Nat) ({ cls := "java/lang/System", name := "arraycopy", desc := "(Ljava/lang/Object;ILjava/lang/Object;II)V" } : Jvm.MethodName)) ∈ lw_all := lw_g (lw_at lw_m2 177 rfl) rfl
theorem q455 : (Jvm.Cond.methodLink "java/lang/String" (106 : Nat) ({ cls := "java/lang/StringLatin1", name := "inflate", desc := "([BI[BII)V" } : Jvm.MethodName)) ∈ lw_all := lw_g (lw_at lw_m2 178 rfl) rfl
theorem q488 : (Jvm.Cond.instanceMethod ({ cls := "java/lang/String", name := "<init>", desc := "(Ljava/lang/StringBuilder;)V" } : Jvm.MethodName)) ∈ lw_all := lw_g (lw_at lw_m2 211 rfl) rfl
theorem q489 : (Jvm.Cond.code ({ cls := "java/lang/String", name := "<init>", desc := "(Ljava/lang/StringBuilder;)V" } : Jvm.MethodName) prog_25_method_53_code (2 : Nat) (Option.none : Option Jvm.ClassFile.FieldType)) ∈ lw_all := lw_g (lw_at lw_m2 212 rfl) rfl
theorem q490 : (Jvm.Cond.methodLink "java/lang/String" (489 : Nat) ({ cls := "java/lang/String", name := "<init>", desc := "(Ljava/lang/AbstractStringBuilder;Ljava/lang/Void;)V" } : Jvm.MethodName)) ∈ lw_all := lw_g (lw_at lw_m2 213 rfl) rfl
theorem q491 : (Jvm.Cond.instanceMethod ({ cls := "java/lang/String", name := "<init>", desc := "(Ljava/lang/AbstractStringBuilder;Ljava/lang/Void;)V" } : Jvm.MethodName)) ∈ lw_all := lw_g (lw_at lw_m2 214 rfl) rfl
theorem q492 : (Jvm.Cond.code ({ cls := "java/lang/String", name := "<init>", desc := "(Ljava/lang/AbstractStringBuilder;Ljava/lang/Void;)V" } : Jvm.MethodName) prog_25_method_150_code (5 : Nat) (Option.none : Option Jvm.ClassFile.FieldType)) ∈ lw_all := lw_g (lw_at lw_m2 215 rfl) rfl
theorem q493 : (Jvm.Cond.methodLink "java/lang/String" (1 : Nat) ({ cls := "java/lang/Object", name := "<init>", desc := "()V" } : Jvm.MethodName)) ∈ lw_all := lw_g (lw_at lw_m2 216 rfl) rfl
theorem q494 : (Jvm.Cond.methodLink "java/lang/String" (552 : Nat) ({ cls := "java/lang/AbstractStringBuilder", name := "getValue", desc := "()[B" } : Jvm.MethodName)) ∈ lw_all := lw_g (lw_at lw_m2 217 rfl) rfl
theorem q499 : (Jvm.Cond.methodLink "java/lang/String" (549 : Nat) ({ cls := "java/lang/AbstractStringBuilder", name := "length", desc := "()I" } : Jvm.MethodName)) ∈ lw_all := lw_g (lw_at lw_m2 222 rfl) rfl
theorem q507 : (Jvm.Cond.methodLink "java/lang/String" (1047 : Nat) ({ cls := "java/lang/AbstractStringBuilder", name := "isLatin1", desc := "()Z" } : Jvm.MethodName)) ∈ lw_all := lw_g (lw_at lw_m2 230 rfl) rfl
theorem q508 : (Jvm.Cond.methodLink "java/lang/String" (54 : Nat) ({ cls := "java/util/Arrays", name := "copyOfRange", desc := "([BII)[B" } : Jvm.MethodName)) ∈ lw_all := lw_g (lw_at lw_m2 231 rfl) rfl
theorem q538 : (Jvm.Cond.methodLink "java/lang/String" (1051 : Nat) ({ cls := "java/lang/StringUTF16", name := "compress", desc := "([BII)[B" } : Jvm.MethodName)) ∈ lw_all := lw_g (lw_at lw_m3 21 rfl) rfl
theorem q548 : (Jvm.Cond.methodLink "java/lang/String" (47 : Nat) ({ cls := "java/lang/StringUTF16", name := "coderFromArrayLen", desc := "([BI)B" } : Jvm.MethodName)) ∈ lw_all := lw_g (lw_at lw_m3 31 rfl) rfl
theorem q551 : (Jvm.Cond.fieldLink "java/lang/String" (9 : Nat) "java/lang/String" "value" "[B") ∈ lw_all := lw_g (lw_at lw_m3 34 rfl) rfl
theorem q552 : (Jvm.Cond.fieldLink "java/lang/String" (15 : Nat) "java/lang/String" "coder" "B") ∈ lw_all := lw_g (lw_at lw_m3 35 rfl) rfl
theorem q553 : (Jvm.Cond.lays "java/lang/String" "java/lang/String" "hash" "I") ∈ lw_all := lw_g (lw_at lw_m3 36 rfl) rfl
theorem q554 : (Jvm.Cond.soleField "java/lang/String" "hash") ∈ lw_all := lw_g (lw_at lw_m3 37 rfl) rfl
theorem q555 : (Jvm.Cond.lays "java/lang/String" "java/lang/String" "hashIsZero" "Z") ∈ lw_all := lw_g (lw_at lw_m3 38 rfl) rfl
theorem q556 : (Jvm.Cond.soleField "java/lang/String" "hashIsZero") ∈ lw_all := lw_g (lw_at lw_m3 39 rfl) rfl
theorem q557 : (Jvm.Cond.superclass "java/lang/String" "java/lang/Object") ∈ lw_all := lw_g (lw_at lw_m3 40 rfl) rfl
theorem q657 : (Jvm.Cond.castable "java/lang/String" "java/lang/Comparable") ∈ lw_tbl := lw_at lw_m3 140 rfl
theorem q658 : (Jvm.Cond.selects "java/lang/String" ({ cls := "java/lang/Comparable", name := "compareTo", desc := "(Ljava/lang/Object;)I" } : Jvm.MethodName) ({ cls := "java/lang/String", name := "compareTo", desc := "(Ljava/lang/Object;)I" } : Jvm.MethodName)) ∈ lw_all := lw_g (lw_at lw_m3 141 rfl) rfl
theorem q659 : (Jvm.Cond.unhidden "java/lang/String" "compareTo" "(Ljava/lang/Object;)I") ∈ lw_tbl := lw_at lw_m3 142 rfl
theorem q660 : (Jvm.Cond.instanceMethod ({ cls := "java/lang/String", name := "compareTo", desc := "(Ljava/lang/Object;)I" } : Jvm.MethodName)) ∈ lw_all := lw_g (lw_at lw_m3 143 rfl) rfl
theorem q661 : (Jvm.Cond.publicMethod ({ cls := "java/lang/String", name := "compareTo", desc := "(Ljava/lang/Object;)I" } : Jvm.MethodName)) ∈ lw_tbl := lw_at lw_m3 144 rfl
theorem q662 : (Jvm.Cond.code ({ cls := "java/lang/String", name := "compareTo", desc := "(Ljava/lang/Object;)I" } : Jvm.MethodName) prog_25_method_162_code (2 : Nat) (Option.some Jvm.ClassFile.FieldType.int)) ∈ lw_all := lw_g (lw_at lw_m3 145 rfl) rfl
theorem q663 : (Jvm.Cond.classLink "java/lang/String" (10 : Nat) "java/lang/String") ∈ lw_all := lw_g (lw_at lw_m3 146 rfl) rfl
theorem q664 : (Jvm.Cond.methodLink "java/lang/String" (1084 : Nat) ({ cls := "java/lang/String", name := "compareTo", desc := "(Ljava/lang/String;)I" } : Jvm.MethodName)) ∈ lw_all := lw_g (lw_at lw_m3 147 rfl) rfl
theorem q665 : (Jvm.Cond.instanceMethod ({ cls := "java/lang/String", name := "compareTo", desc := "(Ljava/lang/String;)I" } : Jvm.MethodName)) ∈ lw_all := lw_g (lw_at lw_m3 148 rfl) rfl
theorem q666 : (Jvm.Cond.selects "java/lang/String" ({ cls := "java/lang/String", name := "compareTo", desc := "(Ljava/lang/String;)I" } : Jvm.MethodName) ({ cls := "java/lang/String", name := "compareTo", desc := "(Ljava/lang/String;)I" } : Jvm.MethodName)) ∈ lw_all := lw_g (lw_at lw_m3 149 rfl) rfl
theorem q667 : (Jvm.Cond.code ({ cls := "java/lang/String", name := "compareTo", desc := "(Ljava/lang/String;)I" } : Jvm.MethodName) prog_25_method_71_code (5 : Nat) (Option.some Jvm.ClassFile.FieldType.int)) ∈ lw_all := lw_g (lw_at lw_m3 150 rfl) rfl
theorem q668 : (Jvm.Cond.methodLink "java/lang/String" (586 : Nat) ({ cls := "java/lang/StringLatin1", name := "compareTo", desc := "([B[B)I" } : Jvm.MethodName)) ∈ lw_all := lw_g (lw_at lw_m3 151 rfl) rfl
theorem q782 : (Jvm.Cond.methodLink "java/lang/String" (590 : Nat) ({ cls := "java/lang/StringUTF16", name := "compareTo", desc := "([B[B)I" } : Jvm.MethodName)) ∈ lw_all := lw_g (lw_at lw_m4 25 rfl) rfl
theorem q789 : (Jvm.Cond.methodLink "java/lang/String" (591 : Nat) ({ cls := "java/lang/StringLatin1", name := "compareToUTF16", desc := "([B[B)I" } : Jvm.MethodName)) ∈ lw_all := lw_g (lw_at lw_m4 32 rfl) rfl
theorem q800 : (Jvm.Cond.methodLink "java/lang/String" (594 : Nat) ({ cls := "java/lang/StringUTF16", name := "compareToLatin1", desc := "([B[B)I" } : Jvm.MethodName)) ∈ lw_all := lw_g (lw_at lw_m4 43 rfl) rfl
theorem q826 : (Jvm.Cond.static ({ cls := "java/lang/String", name := "checkOffset", desc := "(II)V" } : Jvm.MethodName)) ∈ lw_all := lw_g (lw_at lw_m4 69 rfl) rfl
theorem q827 : (Jvm.Cond.code ({ cls := "java/lang/String", name := "checkOffset", desc := "(II)V" } : Jvm.MethodName) prog_25_method_156_code (2 : Nat) (Option.none : Option Jvm.ClassFile.FieldType)) ∈ lw_all := lw_g (lw_at lw_m4 70 rfl) rfl
theorem q887 : (Jvm.Cond.selects "java/lang/String" ({ cls := "java/lang/Object", name := "getClass", desc := "()Ljava/lang/Class;" } : Jvm.MethodName) ({ cls := "java/lang/Object", name := "getClass", desc := "()Ljava/lang/Class;" } : Jvm.MethodName)) ∈ lw_all := lw_g (lw_at lw_m4 130 rfl) rfl
theorem q1228 : (Jvm.Cond.selects "java/lang/String" ({ cls := "java/lang/Object", name := "equals", desc := "(Ljava/lang/Object;)Z" } : Jvm.MethodName) ({ cls := "java/lang/String", name := "equals", desc := "(Ljava/lang/Object;)Z" } : Jvm.MethodName)) ∈ lw_all := lw_g (lw_at lw_m5 231 rfl) rfl
theorem q1229 : (Jvm.Cond.instanceMethod ({ cls := "java/lang/String", name := "equals", desc := "(Ljava/lang/Object;)Z" } : Jvm.MethodName)) ∈ lw_all := lw_g (lw_at lw_m5 232 rfl) rfl
theorem q1230 : (Jvm.Cond.code ({ cls := "java/lang/String", name := "equals", desc := "(Ljava/lang/Object;)Z" } : Jvm.MethodName) prog_25_method_66_code (3 : Nat) (Option.some Jvm.ClassFile.FieldType.boolean)) ∈ lw_all := lw_g (lw_at lw_m5 233 rfl) rfl
theorem q1231 : (Jvm.Cond.methodLink "java/lang/String" (541 : Nat) ({ cls := "java/lang/StringLatin1", name := "equals", desc := "([B[B)Z" } : Jvm.MethodName)) ∈ lw_all := lw_g (lw_at lw_m5 234 rfl) rfl
theorem q1580 : (Jvm.Cond.castable "java/lang/String" "java/lang/Object") ∈ lw_tbl := lw_at lw_m7 103 rfl
theorem in_J9 : ∀ w ∈ wsJ90, w ∈ lw_all := lw_in wsJ90 [283, 285, 553, 555] (by decide +kernel) (by decide +kernel)
/-! java/lang/AbstractStringBuilder -/
set_option maxRecDepth 100000
def RJ10 : String := "java/lang/AbstractStringBuilder"
abbrev cJ10_init : ByteArray := prog_9_method_2_code
def yJ10_init : MethodName := ⟨RJ10, "<init>", "(I)V"⟩
def dkwJ10_init_1 : List UInt8 := [167, 0, 16, 42, 27, 184, 0, 26, 181, 0, 15, 42, 4, 181, 0, 22, 177]
abbrev dktJ10_init_1 : List UInt8 := dkwJ10_init_1 ++ []
def dkwJ10_init_0 : List UInt8 := [42, 183, 0, 3, 178, 0, 18, 153, 0, 18, 42, 27, 188, 8, 181, 0, 15, 42, 3, 181, 0, 22]
abbrev dktJ10_init_0 : List UInt8 := dkwJ10_init_0 ++ dktJ10_init_1
theorem dksJ10_init_0 : cJ10_init.data.toList.drop 0 = dktJ10_init_0 := by decide +kernel
theorem dksJ10_init_1 : cJ10_init.data.toList.drop 22 = dktJ10_init_1 := dk_seg dksJ10_init_0 22 rfl rfl
theorem dJ10_init_0 : decode cJ10_init 0 = .ok (.aload_n 0, 1) := dk_42 (dk_at dksJ10_init_0 0 rfl rfl)
theorem dJ10_init_1 : decode cJ10_init 1 = .ok (.invokespecial 3, 3) := dk_183 0 3 (dk_at dksJ10_init_0 1 rfl rfl)
theorem dJ10_init_4 : decode cJ10_init 4 = .ok (.getstatic 18, 3) := dk_178 0 18 (dk_at dksJ10_init_0 4 rfl rfl)
theorem dJ10_init_7 : decode cJ10_init 7 = .ok (.ifCond .eq 18, 3) := dk_153 0 18 (dk_at dksJ10_init_0 7 rfl rfl)
theorem dJ10_init_10 : decode cJ10_init 10 = .ok (.aload_n 0, 1) := dk_42 (dk_at dksJ10_init_0 10 rfl rfl)
theorem dJ10_init_11 : decode cJ10_init 11 = .ok (.iload_n 1, 1) := dk_27 (dk_at dksJ10_init_0 11 rfl rfl)
theorem dJ10_init_12 : decode cJ10_init 12 = .ok (.newarray .byte, 2) := dk_188_8 (dk_at dksJ10_init_0 12 rfl rfl)
theorem dJ10_init_14 : decode cJ10_init 14 = .ok (.putfield 15, 3) := dk_181 0 15 (dk_at dksJ10_init_0 14 rfl rfl)
theorem dJ10_init_17 : decode cJ10_init 17 = .ok (.aload_n 0, 1) := dk_42 (dk_at dksJ10_init_0 17 rfl rfl)
theorem dJ10_init_18 : decode cJ10_init 18 = .ok (.iconst 0, 1) := dk_3 (dk_at dksJ10_init_0 18 rfl rfl)
theorem dJ10_init_19 : decode cJ10_init 19 = .ok (.putfield 22, 3) := dk_181 0 22 (dk_at dksJ10_init_0 19 rfl rfl)
theorem dJ10_init_22 : decode cJ10_init 22 = .ok (.goto 16, 3) := dk_167 0 16 (dk_at dksJ10_init_1 0 rfl rfl)
theorem dJ10_init_25 : decode cJ10_init 25 = .ok (.aload_n 0, 1) := dk_42 (dk_at dksJ10_init_1 3 rfl rfl)
theorem dJ10_init_26 : decode cJ10_init 26 = .ok (.iload_n 1, 1) := dk_27 (dk_at dksJ10_init_1 4 rfl rfl)
theorem dJ10_init_27 : decode cJ10_init 27 = .ok (.invokestatic 26, 3) := dk_184 0 26 (dk_at dksJ10_init_1 5 rfl rfl)
theorem dJ10_init_30 : decode cJ10_init 30 = .ok (.putfield 15, 3) := dk_181 0 15 (dk_at dksJ10_init_1 8 rfl rfl)
theorem dJ10_init_33 : decode cJ10_init 33 = .ok (.aload_n 0, 1) := dk_42 (dk_at dksJ10_init_1 11 rfl rfl)
theorem dJ10_init_34 : decode cJ10_init 34 = .ok (.iconst 1, 1) := dk_4 (dk_at dksJ10_init_1 12 rfl rfl)
theorem dJ10_init_35 : decode cJ10_init 35 = .ok (.putfield 22, 3) := dk_181 0 22 (dk_at dksJ10_init_1 13 rfl rfl)
theorem dJ10_init_38 : decode cJ10_init 38 = .ok (.return_, 1) := dk_177 (dk_at dksJ10_init_1 16 rfl rfl)
abbrev cJ10_append : ByteArray := prog_9_method_22_code
def yJ10_append : MethodName := ⟨RJ10, "append", "(Ljava/lang/String;)Ljava/lang/AbstractStringBuilder;"⟩
def dkwJ10_append_1 : List UInt8 := [42, 42, 180, 0, 79, 43, 182, 0, 208, 42, 89, 180, 0, 79, 28, 96, 181, 0, 79, 42, 176]
abbrev dktJ10_append_1 : List UInt8 := dkwJ10_append_1 ++ []
def dkwJ10_append_0 : List UInt8 := [43, 199, 0, 8, 42, 182, 0, 204, 176, 43, 182, 0, 32, 61, 42, 42, 180, 0, 79, 28, 96, 182, 0, 100]
abbrev dktJ10_append_0 : List UInt8 := dkwJ10_append_0 ++ dktJ10_append_1
theorem dksJ10_append_0 : cJ10_append.data.toList.drop 0 = dktJ10_append_0 := by decide +kernel
theorem dksJ10_append_1 : cJ10_append.data.toList.drop 24 = dktJ10_append_1 := dk_seg dksJ10_append_0 24 rfl rfl
theorem dJ10_append_0 : decode cJ10_append 0 = .ok (.aload_n 1, 1) := dk_43 (dk_at dksJ10_append_0 0 rfl rfl)
theorem dJ10_append_1 : decode cJ10_append 1 = .ok (.ifnonnull 8, 3) := dk_199 0 8 (dk_at dksJ10_append_0 1 rfl rfl)
theorem dJ10_append_4 : decode cJ10_append 4 = .ok (.aload_n 0, 1) := dk_42 (dk_at dksJ10_append_0 4 rfl rfl)
theorem dJ10_append_5 : decode cJ10_append 5 = .ok (.invokevirtual 204, 3) := dk_182 0 204 (dk_at dksJ10_append_0 5 rfl rfl)
theorem dJ10_append_8 : decode cJ10_append 8 = .ok (.areturn, 1) := dk_176 (dk_at dksJ10_append_0 8 rfl rfl)
theorem dJ10_append_9 : decode cJ10_append 9 = .ok (.aload_n 1, 1) := dk_43 (dk_at dksJ10_append_0 9 rfl rfl)
theorem dJ10_append_10 : decode cJ10_append 10 = .ok (.invokevirtual 32, 3) := dk_182 0 32 (dk_at dksJ10_append_0 10 rfl rfl)
theorem dJ10_append_13 : decode cJ10_append 13 = .ok (.istore_n 2, 1) := dk_61 (dk_at dksJ10_append_0 13 rfl rfl)
theorem dJ10_append_14 : decode cJ10_append 14 = .ok (.aload_n 0, 1) := dk_42 (dk_at dksJ10_append_0 14 rfl rfl)
theorem dJ10_append_15 : decode cJ10_append 15 = .ok (.aload_n 0, 1) := dk_42 (dk_at dksJ10_append_0 15 rfl rfl)
theorem dJ10_append_16 : decode cJ10_append 16 = .ok (.getfield 79, 3) := dk_180 0 79 (dk_at dksJ10_append_0 16 rfl rfl)
theorem dJ10_append_19 : decode cJ10_append 19 = .ok (.iload_n 2, 1) := dk_28 (dk_at dksJ10_append_0 19 rfl rfl)
theorem dJ10_append_20 : decode cJ10_append 20 = .ok (.iadd, 1) := dk_96 (dk_at dksJ10_append_0 20 rfl rfl)
theorem dJ10_append_21 : decode cJ10_append 21 = .ok (.invokevirtual 100, 3) := dk_182 0 100 (dk_at dksJ10_append_0 21 rfl rfl)
theorem dJ10_append_24 : decode cJ10_append 24 = .ok (.aload_n 0, 1) := dk_42 (dk_at dksJ10_append_1 0 rfl rfl)
theorem dJ10_append_25 : decode cJ10_append 25 = .ok (.aload_n 0, 1) := dk_42 (dk_at dksJ10_append_1 1 rfl rfl)
theorem dJ10_append_26 : decode cJ10_append 26 = .ok (.getfield 79, 3) := dk_180 0 79 (dk_at dksJ10_append_1 2 rfl rfl)
theorem dJ10_append_29 : decode cJ10_append 29 = .ok (.aload_n 1, 1) := dk_43 (dk_at dksJ10_append_1 5 rfl rfl)
theorem dJ10_append_30 : decode cJ10_append 30 = .ok (.invokevirtual 208, 3) := dk_182 0 208 (dk_at dksJ10_append_1 6 rfl rfl)
theorem dJ10_append_33 : decode cJ10_append 33 = .ok (.aload_n 0, 1) := dk_42 (dk_at dksJ10_append_1 9 rfl rfl)
theorem dJ10_append_34 : decode cJ10_append 34 = .ok (.dup, 1) := dk_89 (dk_at dksJ10_append_1 10 rfl rfl)
theorem dJ10_append_35 : decode cJ10_append 35 = .ok (.getfield 79, 3) := dk_180 0 79 (dk_at dksJ10_append_1 11 rfl rfl)
theorem dJ10_append_38 : decode cJ10_append 38 = .ok (.iload_n 2, 1) := dk_28 (dk_at dksJ10_append_1 14 rfl rfl)
theorem dJ10_append_39 : decode cJ10_append 39 = .ok (.iadd, 1) := dk_96 (dk_at dksJ10_append_1 15 rfl rfl)
theorem dJ10_append_40 : decode cJ10_append 40 = .ok (.putfield 79, 3) := dk_181 0 79 (dk_at dksJ10_append_1 16 rfl rfl)
theorem dJ10_append_43 : decode cJ10_append 43 = .ok (.aload_n 0, 1) := dk_42 (dk_at dksJ10_append_1 19 rfl rfl)
theorem dJ10_append_44 : decode cJ10_append 44 = .ok (.areturn, 1) := dk_176 (dk_at dksJ10_append_1 20 rfl rfl)
abbrev cJ10_appendNull : ByteArray := prog_9_method_26_code
def yJ10_appendNull : MethodName := ⟨RJ10, "appendNull", "()Ljava/lang/AbstractStringBuilder;"⟩
def dkwJ10_appendNull_3 : List UInt8 := [184, 0, 226, 60, 42, 27, 181, 0, 79, 42, 176]
abbrev dktJ10_appendNull_3 : List UInt8 := dkwJ10_appendNull_3 ++ []
def dkwJ10_appendNull_2 : List UInt8 := [16, 108, 84, 44, 27, 132, 1, 1, 16, 108, 84, 167, 0, 17, 44, 27, 16, 110, 16, 117, 16, 108, 16, 108]
abbrev dktJ10_appendNull_2 : List UInt8 := dkwJ10_appendNull_2 ++ dktJ10_appendNull_3
def dkwJ10_appendNull_1 : List UInt8 := [153, 0, 38, 44, 27, 132, 1, 1, 16, 110, 84, 44, 27, 132, 1, 1, 16, 117, 84, 44, 27, 132, 1, 1]
abbrev dktJ10_appendNull_1 : List UInt8 := dkwJ10_appendNull_1 ++ dktJ10_appendNull_2
def dkwJ10_appendNull_0 : List UInt8 := [42, 42, 180, 0, 79, 7, 96, 182, 0, 100, 42, 180, 0, 79, 60, 42, 180, 0, 15, 77, 42, 182, 0, 83]
abbrev dktJ10_appendNull_0 : List UInt8 := dkwJ10_appendNull_0 ++ dktJ10_appendNull_1
theorem dksJ10_appendNull_0 : cJ10_appendNull.data.toList.drop 0 = dktJ10_appendNull_0 := by decide +kernel
theorem dksJ10_appendNull_1 : cJ10_appendNull.data.toList.drop 24 = dktJ10_appendNull_1 := dk_seg dksJ10_appendNull_0 24 rfl rfl
theorem dksJ10_appendNull_2 : cJ10_appendNull.data.toList.drop 48 = dktJ10_appendNull_2 := dk_seg dksJ10_appendNull_1 24 rfl rfl
theorem dksJ10_appendNull_3 : cJ10_appendNull.data.toList.drop 72 = dktJ10_appendNull_3 := dk_seg dksJ10_appendNull_2 24 rfl rfl
theorem dJ10_appendNull_0 : decode cJ10_appendNull 0 = .ok (.aload_n 0, 1) := dk_42 (dk_at dksJ10_appendNull_0 0 rfl rfl)
theorem dJ10_appendNull_1 : decode cJ10_appendNull 1 = .ok (.aload_n 0, 1) := dk_42 (dk_at dksJ10_appendNull_0 1 rfl rfl)
theorem dJ10_appendNull_2 : decode cJ10_appendNull 2 = .ok (.getfield 79, 3) := dk_180 0 79 (dk_at dksJ10_appendNull_0 2 rfl rfl)
theorem dJ10_appendNull_5 : decode cJ10_appendNull 5 = .ok (.iconst 4, 1) := dk_7 (dk_at dksJ10_appendNull_0 5 rfl rfl)
theorem dJ10_appendNull_6 : decode cJ10_appendNull 6 = .ok (.iadd, 1) := dk_96 (dk_at dksJ10_appendNull_0 6 rfl rfl)
theorem dJ10_appendNull_7 : decode cJ10_appendNull 7 = .ok (.invokevirtual 100, 3) := dk_182 0 100 (dk_at dksJ10_appendNull_0 7 rfl rfl)
theorem dJ10_appendNull_10 : decode cJ10_appendNull 10 = .ok (.aload_n 0, 1) := dk_42 (dk_at dksJ10_appendNull_0 10 rfl rfl)
theorem dJ10_appendNull_11 : decode cJ10_appendNull 11 = .ok (.getfield 79, 3) := dk_180 0 79 (dk_at dksJ10_appendNull_0 11 rfl rfl)
theorem dJ10_appendNull_14 : decode cJ10_appendNull 14 = .ok (.istore_n 1, 1) := dk_60 (dk_at dksJ10_appendNull_0 14 rfl rfl)
theorem dJ10_appendNull_15 : decode cJ10_appendNull 15 = .ok (.aload_n 0, 1) := dk_42 (dk_at dksJ10_appendNull_0 15 rfl rfl)
theorem dJ10_appendNull_16 : decode cJ10_appendNull 16 = .ok (.getfield 15, 3) := dk_180 0 15 (dk_at dksJ10_appendNull_0 16 rfl rfl)
theorem dJ10_appendNull_19 : decode cJ10_appendNull 19 = .ok (.astore_n 2, 1) := dk_77 (dk_at dksJ10_appendNull_0 19 rfl rfl)
theorem dJ10_appendNull_20 : decode cJ10_appendNull 20 = .ok (.aload_n 0, 1) := dk_42 (dk_at dksJ10_appendNull_0 20 rfl rfl)
theorem dJ10_appendNull_21 : decode cJ10_appendNull 21 = .ok (.invokevirtual 83, 3) := dk_182 0 83 (dk_at dksJ10_appendNull_0 21 rfl rfl)
theorem dJ10_appendNull_24 : decode cJ10_appendNull 24 = .ok (.ifCond .eq 38, 3) := dk_153 0 38 (dk_at dksJ10_appendNull_1 0 rfl rfl)
theorem dJ10_appendNull_27 : decode cJ10_appendNull 27 = .ok (.aload_n 2, 1) := dk_44 (dk_at dksJ10_appendNull_1 3 rfl rfl)
theorem dJ10_appendNull_28 : decode cJ10_appendNull 28 = .ok (.iload_n 1, 1) := dk_27 (dk_at dksJ10_appendNull_1 4 rfl rfl)
theorem dJ10_appendNull_29 : decode cJ10_appendNull 29 = .ok (.iinc 1 1, 3) := dk_132 1 1 (dk_at dksJ10_appendNull_1 5 rfl rfl)
theorem dJ10_appendNull_32 : decode cJ10_appendNull 32 = .ok (.bipush 110, 2) := dk_16 110 (dk_at dksJ10_appendNull_1 8 rfl rfl)
theorem dJ10_appendNull_34 : decode cJ10_appendNull 34 = .ok (.bastore, 1) := dk_84 (dk_at dksJ10_appendNull_1 10 rfl rfl)
theorem dJ10_appendNull_35 : decode cJ10_appendNull 35 = .ok (.aload_n 2, 1) := dk_44 (dk_at dksJ10_appendNull_1 11 rfl rfl)
theorem dJ10_appendNull_36 : decode cJ10_appendNull 36 = .ok (.iload_n 1, 1) := dk_27 (dk_at dksJ10_appendNull_1 12 rfl rfl)
theorem dJ10_appendNull_37 : decode cJ10_appendNull 37 = .ok (.iinc 1 1, 3) := dk_132 1 1 (dk_at dksJ10_appendNull_1 13 rfl rfl)
theorem dJ10_appendNull_40 : decode cJ10_appendNull 40 = .ok (.bipush 117, 2) := dk_16 117 (dk_at dksJ10_appendNull_1 16 rfl rfl)
theorem dJ10_appendNull_42 : decode cJ10_appendNull 42 = .ok (.bastore, 1) := dk_84 (dk_at dksJ10_appendNull_1 18 rfl rfl)
theorem dJ10_appendNull_43 : decode cJ10_appendNull 43 = .ok (.aload_n 2, 1) := dk_44 (dk_at dksJ10_appendNull_1 19 rfl rfl)
theorem dJ10_appendNull_44 : decode cJ10_appendNull 44 = .ok (.iload_n 1, 1) := dk_27 (dk_at dksJ10_appendNull_1 20 rfl rfl)
theorem dJ10_appendNull_45 : decode cJ10_appendNull 45 = .ok (.iinc 1 1, 3) := dk_132 1 1 (dk_at dksJ10_appendNull_1 21 rfl rfl)
theorem dJ10_appendNull_48 : decode cJ10_appendNull 48 = .ok (.bipush 108, 2) := dk_16 108 (dk_at dksJ10_appendNull_2 0 rfl rfl)
theorem dJ10_appendNull_50 : decode cJ10_appendNull 50 = .ok (.bastore, 1) := dk_84 (dk_at dksJ10_appendNull_2 2 rfl rfl)
theorem dJ10_appendNull_51 : decode cJ10_appendNull 51 = .ok (.aload_n 2, 1) := dk_44 (dk_at dksJ10_appendNull_2 3 rfl rfl)
theorem dJ10_appendNull_52 : decode cJ10_appendNull 52 = .ok (.iload_n 1, 1) := dk_27 (dk_at dksJ10_appendNull_2 4 rfl rfl)
theorem dJ10_appendNull_53 : decode cJ10_appendNull 53 = .ok (.iinc 1 1, 3) := dk_132 1 1 (dk_at dksJ10_appendNull_2 5 rfl rfl)
theorem dJ10_appendNull_56 : decode cJ10_appendNull 56 = .ok (.bipush 108, 2) := dk_16 108 (dk_at dksJ10_appendNull_2 8 rfl rfl)
theorem dJ10_appendNull_58 : decode cJ10_appendNull 58 = .ok (.bastore, 1) := dk_84 (dk_at dksJ10_appendNull_2 10 rfl rfl)
theorem dJ10_appendNull_59 : decode cJ10_appendNull 59 = .ok (.goto 17, 3) := dk_167 0 17 (dk_at dksJ10_appendNull_2 11 rfl rfl)
theorem dJ10_appendNull_62 : decode cJ10_appendNull 62 = .ok (.aload_n 2, 1) := dk_44 (dk_at dksJ10_appendNull_2 14 rfl rfl)
theorem dJ10_appendNull_63 : decode cJ10_appendNull 63 = .ok (.iload_n 1, 1) := dk_27 (dk_at dksJ10_appendNull_2 15 rfl rfl)
theorem dJ10_appendNull_64 : decode cJ10_appendNull 64 = .ok (.bipush 110, 2) := dk_16 110 (dk_at dksJ10_appendNull_2 16 rfl rfl)
theorem dJ10_appendNull_66 : decode cJ10_appendNull 66 = .ok (.bipush 117, 2) := dk_16 117 (dk_at dksJ10_appendNull_2 18 rfl rfl)
theorem dJ10_appendNull_68 : decode cJ10_appendNull 68 = .ok (.bipush 108, 2) := dk_16 108 (dk_at dksJ10_appendNull_2 20 rfl rfl)
theorem dJ10_appendNull_70 : decode cJ10_appendNull 70 = .ok (.bipush 108, 2) := dk_16 108 (dk_at dksJ10_appendNull_2 22 rfl rfl)
theorem dJ10_appendNull_72 : decode cJ10_appendNull 72 = .ok (.invokestatic 226, 3) := dk_184 0 226 (dk_at dksJ10_appendNull_3 0 rfl rfl)
theorem dJ10_appendNull_75 : decode cJ10_appendNull 75 = .ok (.istore_n 1, 1) := dk_60 (dk_at dksJ10_appendNull_3 3 rfl rfl)
theorem dJ10_appendNull_76 : decode cJ10_appendNull 76 = .ok (.aload_n 0, 1) := dk_42 (dk_at dksJ10_appendNull_3 4 rfl rfl)
theorem dJ10_appendNull_77 : decode cJ10_appendNull 77 = .ok (.iload_n 1, 1) := dk_27 (dk_at dksJ10_appendNull_3 5 rfl rfl)
theorem dJ10_appendNull_78 : decode cJ10_appendNull 78 = .ok (.putfield 79, 3) := dk_181 0 79 (dk_at dksJ10_appendNull_3 6 rfl rfl)
theorem dJ10_appendNull_81 : decode cJ10_appendNull 81 = .ok (.aload_n 0, 1) := dk_42 (dk_at dksJ10_appendNull_3 9 rfl rfl)
theorem dJ10_appendNull_82 : decode cJ10_appendNull 82 = .ok (.areturn, 1) := dk_176 (dk_at dksJ10_appendNull_3 10 rfl rfl)
abbrev cJ10_ensureCapacityInternal : ByteArray := prog_9_method_9_code
def yJ10_ensureCapacityInternal : MethodName := ⟨RJ10, "ensureCapacityInternal", "(I)V"⟩
def dkwJ10_ensureCapacityInternal_1 : List UInt8 := [182, 0, 104, 42, 180, 0, 22, 120, 184, 0, 108, 181, 0, 15, 177]
abbrev dktJ10_ensureCapacityInternal_1 : List UInt8 := dkwJ10_ensureCapacityInternal_1 ++ []
def dkwJ10_ensureCapacityInternal_0 : List UInt8 := [42, 180, 0, 15, 190, 42, 180, 0, 22, 122, 61, 27, 28, 100, 158, 0, 24, 42, 42, 180, 0, 15, 42, 27]
abbrev dktJ10_ensureCapacityInternal_0 : List UInt8 := dkwJ10_ensureCapacityInternal_0 ++ dktJ10_ensureCapacityInternal_1
theorem dksJ10_ensureCapacityInternal_0 : cJ10_ensureCapacityInternal.data.toList.drop 0 = dktJ10_ensureCapacityInternal_0 := by decide +kernel
theorem dksJ10_ensureCapacityInternal_1 : cJ10_ensureCapacityInternal.data.toList.drop 24 = dktJ10_ensureCapacityInternal_1 := dk_seg dksJ10_ensureCapacityInternal_0 24 rfl rfl
theorem dJ10_ensureCapacityInternal_0 : decode cJ10_ensureCapacityInternal 0 = .ok (.aload_n 0, 1) := dk_42 (dk_at dksJ10_ensureCapacityInternal_0 0 rfl rfl)
theorem dJ10_ensureCapacityInternal_1 : decode cJ10_ensureCapacityInternal 1 = .ok (.getfield 15, 3) := dk_180 0 15 (dk_at dksJ10_ensureCapacityInternal_0 1 rfl rfl)
theorem dJ10_ensureCapacityInternal_4 : decode cJ10_ensureCapacityInternal 4 = .ok (.arraylength, 1) := dk_190 (dk_at dksJ10_ensureCapacityInternal_0 4 rfl rfl)
theorem dJ10_ensureCapacityInternal_5 : decode cJ10_ensureCapacityInternal 5 = .ok (.aload_n 0, 1) := dk_42 (dk_at dksJ10_ensureCapacityInternal_0 5 rfl rfl)
theorem dJ10_ensureCapacityInternal_6 : decode cJ10_ensureCapacityInternal 6 = .ok (.getfield 22, 3) := dk_180 0 22 (dk_at dksJ10_ensureCapacityInternal_0 6 rfl rfl)
theorem dJ10_ensureCapacityInternal_9 : decode cJ10_ensureCapacityInternal 9 = .ok (.ishr, 1) := dk_122 (dk_at dksJ10_ensureCapacityInternal_0 9 rfl rfl)
theorem dJ10_ensureCapacityInternal_10 : decode cJ10_ensureCapacityInternal 10 = .ok (.istore_n 2, 1) := dk_61 (dk_at dksJ10_ensureCapacityInternal_0 10 rfl rfl)
theorem dJ10_ensureCapacityInternal_11 : decode cJ10_ensureCapacityInternal 11 = .ok (.iload_n 1, 1) := dk_27 (dk_at dksJ10_ensureCapacityInternal_0 11 rfl rfl)
theorem dJ10_ensureCapacityInternal_12 : decode cJ10_ensureCapacityInternal 12 = .ok (.iload_n 2, 1) := dk_28 (dk_at dksJ10_ensureCapacityInternal_0 12 rfl rfl)
theorem dJ10_ensureCapacityInternal_13 : decode cJ10_ensureCapacityInternal 13 = .ok (.isub, 1) := dk_100 (dk_at dksJ10_ensureCapacityInternal_0 13 rfl rfl)
theorem dJ10_ensureCapacityInternal_14 : decode cJ10_ensureCapacityInternal 14 = .ok (.ifCond .le 24, 3) := dk_158 0 24 (dk_at dksJ10_ensureCapacityInternal_0 14 rfl rfl)
theorem dJ10_ensureCapacityInternal_17 : decode cJ10_ensureCapacityInternal 17 = .ok (.aload_n 0, 1) := dk_42 (dk_at dksJ10_ensureCapacityInternal_0 17 rfl rfl)
theorem dJ10_ensureCapacityInternal_18 : decode cJ10_ensureCapacityInternal 18 = .ok (.aload_n 0, 1) := dk_42 (dk_at dksJ10_ensureCapacityInternal_0 18 rfl rfl)
theorem dJ10_ensureCapacityInternal_19 : decode cJ10_ensureCapacityInternal 19 = .ok (.getfield 15, 3) := dk_180 0 15 (dk_at dksJ10_ensureCapacityInternal_0 19 rfl rfl)
theorem dJ10_ensureCapacityInternal_22 : decode cJ10_ensureCapacityInternal 22 = .ok (.aload_n 0, 1) := dk_42 (dk_at dksJ10_ensureCapacityInternal_0 22 rfl rfl)
theorem dJ10_ensureCapacityInternal_23 : decode cJ10_ensureCapacityInternal 23 = .ok (.iload_n 1, 1) := dk_27 (dk_at dksJ10_ensureCapacityInternal_0 23 rfl rfl)
theorem dJ10_ensureCapacityInternal_24 : decode cJ10_ensureCapacityInternal 24 = .ok (.invokevirtual 104, 3) := dk_182 0 104 (dk_at dksJ10_ensureCapacityInternal_1 0 rfl rfl)
theorem dJ10_ensureCapacityInternal_27 : decode cJ10_ensureCapacityInternal 27 = .ok (.aload_n 0, 1) := dk_42 (dk_at dksJ10_ensureCapacityInternal_1 3 rfl rfl)
theorem dJ10_ensureCapacityInternal_28 : decode cJ10_ensureCapacityInternal 28 = .ok (.getfield 22, 3) := dk_180 0 22 (dk_at dksJ10_ensureCapacityInternal_1 4 rfl rfl)
theorem dJ10_ensureCapacityInternal_31 : decode cJ10_ensureCapacityInternal 31 = .ok (.ishl, 1) := dk_120 (dk_at dksJ10_ensureCapacityInternal_1 7 rfl rfl)
theorem dJ10_ensureCapacityInternal_32 : decode cJ10_ensureCapacityInternal 32 = .ok (.invokestatic 108, 3) := dk_184 0 108 (dk_at dksJ10_ensureCapacityInternal_1 8 rfl rfl)
theorem dJ10_ensureCapacityInternal_35 : decode cJ10_ensureCapacityInternal 35 = .ok (.putfield 15, 3) := dk_181 0 15 (dk_at dksJ10_ensureCapacityInternal_1 11 rfl rfl)
theorem dJ10_ensureCapacityInternal_38 : decode cJ10_ensureCapacityInternal 38 = .ok (.return_, 1) := dk_177 (dk_at dksJ10_ensureCapacityInternal_1 14 rfl rfl)
abbrev cJ10_newCapacity : ByteArray := prog_9_method_10_code
def yJ10_newCapacity : MethodName := ⟨RJ10, "newCapacity", "(I)I"⟩
def dkwJ10_newCapacity_2 : List UInt8 := [183, 0, 124, 191, 21, 5, 42, 180, 0, 22, 122, 172]
abbrev dktJ10_newCapacity_2 : List UInt8 := dkwJ10_newCapacity_2 ++ []
def dkwJ10_newCapacity_1 : List UInt8 := [180, 0, 22, 120, 96, 184, 0, 114, 54, 5, 21, 5, 18, 39, 160, 0, 13, 187, 0, 120, 89, 18, 122]
abbrev dktJ10_newCapacity_1 : List UInt8 := dkwJ10_newCapacity_1 ++ dktJ10_newCapacity_2
def dkwJ10_newCapacity_0 : List UInt8 := [42, 180, 0, 15, 190, 61, 27, 42, 180, 0, 22, 120, 62, 29, 28, 100, 54, 4, 28, 21, 4, 28, 5, 42]
abbrev dktJ10_newCapacity_0 : List UInt8 := dkwJ10_newCapacity_0 ++ dktJ10_newCapacity_1
theorem dksJ10_newCapacity_0 : cJ10_newCapacity.data.toList.drop 0 = dktJ10_newCapacity_0 := by decide +kernel
theorem dksJ10_newCapacity_1 : cJ10_newCapacity.data.toList.drop 24 = dktJ10_newCapacity_1 := dk_seg dksJ10_newCapacity_0 24 rfl rfl
theorem dksJ10_newCapacity_2 : cJ10_newCapacity.data.toList.drop 47 = dktJ10_newCapacity_2 := dk_seg dksJ10_newCapacity_1 23 rfl rfl
theorem dJ10_newCapacity_0 : decode cJ10_newCapacity 0 = .ok (.aload_n 0, 1) := dk_42 (dk_at dksJ10_newCapacity_0 0 rfl rfl)
theorem dJ10_newCapacity_1 : decode cJ10_newCapacity 1 = .ok (.getfield 15, 3) := dk_180 0 15 (dk_at dksJ10_newCapacity_0 1 rfl rfl)
theorem dJ10_newCapacity_4 : decode cJ10_newCapacity 4 = .ok (.arraylength, 1) := dk_190 (dk_at dksJ10_newCapacity_0 4 rfl rfl)
theorem dJ10_newCapacity_5 : decode cJ10_newCapacity 5 = .ok (.istore_n 2, 1) := dk_61 (dk_at dksJ10_newCapacity_0 5 rfl rfl)
theorem dJ10_newCapacity_6 : decode cJ10_newCapacity 6 = .ok (.iload_n 1, 1) := dk_27 (dk_at dksJ10_newCapacity_0 6 rfl rfl)
theorem dJ10_newCapacity_7 : decode cJ10_newCapacity 7 = .ok (.aload_n 0, 1) := dk_42 (dk_at dksJ10_newCapacity_0 7 rfl rfl)
theorem dJ10_newCapacity_8 : decode cJ10_newCapacity 8 = .ok (.getfield 22, 3) := dk_180 0 22 (dk_at dksJ10_newCapacity_0 8 rfl rfl)
theorem dJ10_newCapacity_11 : decode cJ10_newCapacity 11 = .ok (.ishl, 1) := dk_120 (dk_at dksJ10_newCapacity_0 11 rfl rfl)
theorem dJ10_newCapacity_12 : decode cJ10_newCapacity 12 = .ok (.istore_n 3, 1) := dk_62 (dk_at dksJ10_newCapacity_0 12 rfl rfl)
theorem dJ10_newCapacity_13 : decode cJ10_newCapacity 13 = .ok (.iload_n 3, 1) := dk_29 (dk_at dksJ10_newCapacity_0 13 rfl rfl)
theorem dJ10_newCapacity_14 : decode cJ10_newCapacity 14 = .ok (.iload_n 2, 1) := dk_28 (dk_at dksJ10_newCapacity_0 14 rfl rfl)
theorem dJ10_newCapacity_15 : decode cJ10_newCapacity 15 = .ok (.isub, 1) := dk_100 (dk_at dksJ10_newCapacity_0 15 rfl rfl)
theorem dJ10_newCapacity_16 : decode cJ10_newCapacity 16 = .ok (.istore 4, 2) := dk_54 4 (dk_at dksJ10_newCapacity_0 16 rfl rfl)
theorem dJ10_newCapacity_18 : decode cJ10_newCapacity 18 = .ok (.iload_n 2, 1) := dk_28 (dk_at dksJ10_newCapacity_0 18 rfl rfl)
theorem dJ10_newCapacity_19 : decode cJ10_newCapacity 19 = .ok (.iload 4, 2) := dk_21 4 (dk_at dksJ10_newCapacity_0 19 rfl rfl)
theorem dJ10_newCapacity_21 : decode cJ10_newCapacity 21 = .ok (.iload_n 2, 1) := dk_28 (dk_at dksJ10_newCapacity_0 21 rfl rfl)
theorem dJ10_newCapacity_22 : decode cJ10_newCapacity 22 = .ok (.iconst 2, 1) := dk_5 (dk_at dksJ10_newCapacity_0 22 rfl rfl)
theorem dJ10_newCapacity_23 : decode cJ10_newCapacity 23 = .ok (.aload_n 0, 1) := dk_42 (dk_at dksJ10_newCapacity_0 23 rfl rfl)
theorem dJ10_newCapacity_24 : decode cJ10_newCapacity 24 = .ok (.getfield 22, 3) := dk_180 0 22 (dk_at dksJ10_newCapacity_1 0 rfl rfl)
theorem dJ10_newCapacity_27 : decode cJ10_newCapacity 27 = .ok (.ishl, 1) := dk_120 (dk_at dksJ10_newCapacity_1 3 rfl rfl)
theorem dJ10_newCapacity_28 : decode cJ10_newCapacity 28 = .ok (.iadd, 1) := dk_96 (dk_at dksJ10_newCapacity_1 4 rfl rfl)
theorem dJ10_newCapacity_29 : decode cJ10_newCapacity 29 = .ok (.invokestatic 114, 3) := dk_184 0 114 (dk_at dksJ10_newCapacity_1 5 rfl rfl)
theorem dJ10_newCapacity_32 : decode cJ10_newCapacity 32 = .ok (.istore 5, 2) := dk_54 5 (dk_at dksJ10_newCapacity_1 8 rfl rfl)
theorem dJ10_newCapacity_34 : decode cJ10_newCapacity 34 = .ok (.iload 5, 2) := dk_21 5 (dk_at dksJ10_newCapacity_1 10 rfl rfl)
theorem dJ10_newCapacity_36 : decode cJ10_newCapacity 36 = .ok (.ldc 39, 2) := dk_18 39 (dk_at dksJ10_newCapacity_1 12 rfl rfl)
theorem dJ10_newCapacity_38 : decode cJ10_newCapacity 38 = .ok (.if_icmp .ne 13, 3) := dk_160 0 13 (dk_at dksJ10_newCapacity_1 14 rfl rfl)
theorem dJ10_newCapacity_41 : decode cJ10_newCapacity 41 = .ok (.new 120, 3) := dk_187 0 120 (dk_at dksJ10_newCapacity_1 17 rfl rfl)
theorem dJ10_newCapacity_44 : decode cJ10_newCapacity 44 = .ok (.dup, 1) := dk_89 (dk_at dksJ10_newCapacity_1 20 rfl rfl)
theorem dJ10_newCapacity_45 : decode cJ10_newCapacity 45 = .ok (.ldc 122, 2) := dk_18 122 (dk_at dksJ10_newCapacity_1 21 rfl rfl)
theorem dJ10_newCapacity_47 : decode cJ10_newCapacity 47 = .ok (.invokespecial 124, 3) := dk_183 0 124 (dk_at dksJ10_newCapacity_2 0 rfl rfl)
theorem dJ10_newCapacity_50 : decode cJ10_newCapacity 50 = .ok (.athrow, 1) := dk_191 (dk_at dksJ10_newCapacity_2 3 rfl rfl)
theorem dJ10_newCapacity_51 : decode cJ10_newCapacity 51 = .ok (.iload 5, 2) := dk_21 5 (dk_at dksJ10_newCapacity_2 4 rfl rfl)
theorem dJ10_newCapacity_53 : decode cJ10_newCapacity 53 = .ok (.aload_n 0, 1) := dk_42 (dk_at dksJ10_newCapacity_2 6 rfl rfl)
theorem dJ10_newCapacity_54 : decode cJ10_newCapacity 54 = .ok (.getfield 22, 3) := dk_180 0 22 (dk_at dksJ10_newCapacity_2 7 rfl rfl)
theorem dJ10_newCapacity_57 : decode cJ10_newCapacity 57 = .ok (.ishr, 1) := dk_122 (dk_at dksJ10_newCapacity_2 10 rfl rfl)
theorem dJ10_newCapacity_58 : decode cJ10_newCapacity 58 = .ok (.ireturn, 1) := dk_172 (dk_at dksJ10_newCapacity_2 11 rfl rfl)
abbrev cJ10_isLatin1 : ByteArray := prog_9_method_68_code
def yJ10_isLatin1 : MethodName := ⟨RJ10, "isLatin1", "()Z"⟩
def dkwJ10_isLatin1_0 : List UInt8 := [178, 0, 18, 153, 0, 14, 42, 180, 0, 22, 154, 0, 7, 4, 167, 0, 4, 3, 172]
abbrev dktJ10_isLatin1_0 : List UInt8 := dkwJ10_isLatin1_0 ++ []
theorem dksJ10_isLatin1_0 : cJ10_isLatin1.data.toList.drop 0 = dktJ10_isLatin1_0 := by decide +kernel
theorem dJ10_isLatin1_0 : decode cJ10_isLatin1 0 = .ok (.getstatic 18, 3) := dk_178 0 18 (dk_at dksJ10_isLatin1_0 0 rfl rfl)
theorem dJ10_isLatin1_3 : decode cJ10_isLatin1 3 = .ok (.ifCond .eq 14, 3) := dk_153 0 14 (dk_at dksJ10_isLatin1_0 3 rfl rfl)
theorem dJ10_isLatin1_6 : decode cJ10_isLatin1 6 = .ok (.aload_n 0, 1) := dk_42 (dk_at dksJ10_isLatin1_0 6 rfl rfl)
theorem dJ10_isLatin1_7 : decode cJ10_isLatin1 7 = .ok (.getfield 22, 3) := dk_180 0 22 (dk_at dksJ10_isLatin1_0 7 rfl rfl)
theorem dJ10_isLatin1_10 : decode cJ10_isLatin1 10 = .ok (.ifCond .ne 7, 3) := dk_154 0 7 (dk_at dksJ10_isLatin1_0 10 rfl rfl)
theorem dJ10_isLatin1_13 : decode cJ10_isLatin1 13 = .ok (.iconst 1, 1) := dk_4 (dk_at dksJ10_isLatin1_0 13 rfl rfl)
theorem dJ10_isLatin1_14 : decode cJ10_isLatin1 14 = .ok (.goto 4, 3) := dk_167 0 4 (dk_at dksJ10_isLatin1_0 14 rfl rfl)
theorem dJ10_isLatin1_17 : decode cJ10_isLatin1 17 = .ok (.iconst 0, 1) := dk_3 (dk_at dksJ10_isLatin1_0 17 rfl rfl)
theorem dJ10_isLatin1_18 : decode cJ10_isLatin1 18 = .ok (.ireturn, 1) := dk_172 (dk_at dksJ10_isLatin1_0 18 rfl rfl)
abbrev cJ10_putStringAt : ByteArray := prog_9_method_73_code
def yJ10_putStringAt : MethodName := ⟨RJ10, "putStringAt", "(ILjava/lang/String;)V"⟩
def dkwJ10_putStringAt_0 : List UInt8 := [42, 44, 182, 1, 141, 44, 42, 180, 0, 15, 27, 42, 180, 0, 22, 182, 1, 143, 177]
abbrev dktJ10_putStringAt_0 : List UInt8 := dkwJ10_putStringAt_0 ++ []
theorem dksJ10_putStringAt_0 : cJ10_putStringAt.data.toList.drop 0 = dktJ10_putStringAt_0 := by decide +kernel
theorem dJ10_putStringAt_0 : decode cJ10_putStringAt 0 = .ok (.aload_n 0, 1) := dk_42 (dk_at dksJ10_putStringAt_0 0 rfl rfl)
theorem dJ10_putStringAt_1 : decode cJ10_putStringAt 1 = .ok (.aload_n 2, 1) := dk_44 (dk_at dksJ10_putStringAt_0 1 rfl rfl)
theorem dJ10_putStringAt_2 : decode cJ10_putStringAt 2 = .ok (.invokevirtual 397, 3) := dk_182 1 141 (dk_at dksJ10_putStringAt_0 2 rfl rfl)
theorem dJ10_putStringAt_5 : decode cJ10_putStringAt 5 = .ok (.aload_n 2, 1) := dk_44 (dk_at dksJ10_putStringAt_0 5 rfl rfl)
theorem dJ10_putStringAt_6 : decode cJ10_putStringAt 6 = .ok (.aload_n 0, 1) := dk_42 (dk_at dksJ10_putStringAt_0 6 rfl rfl)
theorem dJ10_putStringAt_7 : decode cJ10_putStringAt 7 = .ok (.getfield 15, 3) := dk_180 0 15 (dk_at dksJ10_putStringAt_0 7 rfl rfl)
theorem dJ10_putStringAt_10 : decode cJ10_putStringAt 10 = .ok (.iload_n 1, 1) := dk_27 (dk_at dksJ10_putStringAt_0 10 rfl rfl)
theorem dJ10_putStringAt_11 : decode cJ10_putStringAt 11 = .ok (.aload_n 0, 1) := dk_42 (dk_at dksJ10_putStringAt_0 11 rfl rfl)
theorem dJ10_putStringAt_12 : decode cJ10_putStringAt 12 = .ok (.getfield 22, 3) := dk_180 0 22 (dk_at dksJ10_putStringAt_0 12 rfl rfl)
theorem dJ10_putStringAt_15 : decode cJ10_putStringAt 15 = .ok (.invokevirtual 399, 3) := dk_182 1 143 (dk_at dksJ10_putStringAt_0 15 rfl rfl)
theorem dJ10_putStringAt_18 : decode cJ10_putStringAt 18 = .ok (.return_, 1) := dk_177 (dk_at dksJ10_putStringAt_0 18 rfl rfl)
abbrev cJ10_inflateIfNeededFor : ByteArray := prog_9_method_71_code
def yJ10_inflateIfNeededFor : MethodName := ⟨RJ10, "inflateIfNeededFor", "(Ljava/lang/String;)V"⟩
def dkwJ10_inflateIfNeededFor_0 : List UInt8 := [178, 0, 18, 153, 0, 18, 42, 180, 0, 22, 43, 182, 0, 40, 159, 0, 7, 42, 182, 0, 195, 177]
abbrev dktJ10_inflateIfNeededFor_0 : List UInt8 := dkwJ10_inflateIfNeededFor_0 ++ []
theorem dksJ10_inflateIfNeededFor_0 : cJ10_inflateIfNeededFor.data.toList.drop 0 = dktJ10_inflateIfNeededFor_0 := by decide +kernel
theorem dJ10_inflateIfNeededFor_0 : decode cJ10_inflateIfNeededFor 0 = .ok (.getstatic 18, 3) := dk_178 0 18 (dk_at dksJ10_inflateIfNeededFor_0 0 rfl rfl)
theorem dJ10_inflateIfNeededFor_3 : decode cJ10_inflateIfNeededFor 3 = .ok (.ifCond .eq 18, 3) := dk_153 0 18 (dk_at dksJ10_inflateIfNeededFor_0 3 rfl rfl)
theorem dJ10_inflateIfNeededFor_6 : decode cJ10_inflateIfNeededFor 6 = .ok (.aload_n 0, 1) := dk_42 (dk_at dksJ10_inflateIfNeededFor_0 6 rfl rfl)
theorem dJ10_inflateIfNeededFor_7 : decode cJ10_inflateIfNeededFor 7 = .ok (.getfield 22, 3) := dk_180 0 22 (dk_at dksJ10_inflateIfNeededFor_0 7 rfl rfl)
theorem dJ10_inflateIfNeededFor_10 : decode cJ10_inflateIfNeededFor 10 = .ok (.aload_n 1, 1) := dk_43 (dk_at dksJ10_inflateIfNeededFor_0 10 rfl rfl)
theorem dJ10_inflateIfNeededFor_11 : decode cJ10_inflateIfNeededFor 11 = .ok (.invokevirtual 40, 3) := dk_182 0 40 (dk_at dksJ10_inflateIfNeededFor_0 11 rfl rfl)
theorem dJ10_inflateIfNeededFor_14 : decode cJ10_inflateIfNeededFor 14 = .ok (.if_icmp .eq 7, 3) := dk_159 0 7 (dk_at dksJ10_inflateIfNeededFor_0 14 rfl rfl)
theorem dJ10_inflateIfNeededFor_17 : decode cJ10_inflateIfNeededFor 17 = .ok (.aload_n 0, 1) := dk_42 (dk_at dksJ10_inflateIfNeededFor_0 17 rfl rfl)
theorem dJ10_inflateIfNeededFor_18 : decode cJ10_inflateIfNeededFor 18 = .ok (.invokevirtual 195, 3) := dk_182 0 195 (dk_at dksJ10_inflateIfNeededFor_0 18 rfl rfl)
theorem dJ10_inflateIfNeededFor_21 : decode cJ10_inflateIfNeededFor 21 = .ok (.return_, 1) := dk_177 (dk_at dksJ10_inflateIfNeededFor_0 21 rfl rfl)
abbrev cJ10_inflate : ByteArray := prog_9_method_11_code
def yJ10_inflate : MethodName := ⟨RJ10, "inflate", "()V"⟩
def dkwJ10_inflate_1 : List UInt8 := [42, 180, 0, 79, 184, 0, 125, 42, 43, 181, 0, 15, 42, 4, 181, 0, 22, 177]
abbrev dktJ10_inflate_1 : List UInt8 := dkwJ10_inflate_1 ++ []
def dkwJ10_inflate_0 : List UInt8 := [42, 182, 0, 83, 154, 0, 4, 177, 42, 180, 0, 15, 190, 184, 0, 26, 76, 42, 180, 0, 15, 3, 43, 3]
abbrev dktJ10_inflate_0 : List UInt8 := dkwJ10_inflate_0 ++ dktJ10_inflate_1
theorem dksJ10_inflate_0 : cJ10_inflate.data.toList.drop 0 = dktJ10_inflate_0 := by decide +kernel
theorem dksJ10_inflate_1 : cJ10_inflate.data.toList.drop 24 = dktJ10_inflate_1 := dk_seg dksJ10_inflate_0 24 rfl rfl
theorem dJ10_inflate_0 : decode cJ10_inflate 0 = .ok (.aload_n 0, 1) := dk_42 (dk_at dksJ10_inflate_0 0 rfl rfl)
theorem dJ10_inflate_1 : decode cJ10_inflate 1 = .ok (.invokevirtual 83, 3) := dk_182 0 83 (dk_at dksJ10_inflate_0 1 rfl rfl)
theorem dJ10_inflate_4 : decode cJ10_inflate 4 = .ok (.ifCond .ne 4, 3) := dk_154 0 4 (dk_at dksJ10_inflate_0 4 rfl rfl)
theorem dJ10_inflate_7 : decode cJ10_inflate 7 = .ok (.return_, 1) := dk_177 (dk_at dksJ10_inflate_0 7 rfl rfl)
theorem dJ10_inflate_8 : decode cJ10_inflate 8 = .ok (.aload_n 0, 1) := dk_42 (dk_at dksJ10_inflate_0 8 rfl rfl)
theorem dJ10_inflate_9 : decode cJ10_inflate 9 = .ok (.getfield 15, 3) := dk_180 0 15 (dk_at dksJ10_inflate_0 9 rfl rfl)
theorem dJ10_inflate_12 : decode cJ10_inflate 12 = .ok (.arraylength, 1) := dk_190 (dk_at dksJ10_inflate_0 12 rfl rfl)
theorem dJ10_inflate_13 : decode cJ10_inflate 13 = .ok (.invokestatic 26, 3) := dk_184 0 26 (dk_at dksJ10_inflate_0 13 rfl rfl)
theorem dJ10_inflate_16 : decode cJ10_inflate 16 = .ok (.astore_n 1, 1) := dk_76 (dk_at dksJ10_inflate_0 16 rfl rfl)
theorem dJ10_inflate_17 : decode cJ10_inflate 17 = .ok (.aload_n 0, 1) := dk_42 (dk_at dksJ10_inflate_0 17 rfl rfl)
theorem dJ10_inflate_18 : decode cJ10_inflate 18 = .ok (.getfield 15, 3) := dk_180 0 15 (dk_at dksJ10_inflate_0 18 rfl rfl)
theorem dJ10_inflate_21 : decode cJ10_inflate 21 = .ok (.iconst 0, 1) := dk_3 (dk_at dksJ10_inflate_0 21 rfl rfl)
theorem dJ10_inflate_22 : decode cJ10_inflate 22 = .ok (.aload_n 1, 1) := dk_43 (dk_at dksJ10_inflate_0 22 rfl rfl)
theorem dJ10_inflate_23 : decode cJ10_inflate 23 = .ok (.iconst 0, 1) := dk_3 (dk_at dksJ10_inflate_0 23 rfl rfl)
theorem dJ10_inflate_24 : decode cJ10_inflate 24 = .ok (.aload_n 0, 1) := dk_42 (dk_at dksJ10_inflate_1 0 rfl rfl)
theorem dJ10_inflate_25 : decode cJ10_inflate 25 = .ok (.getfield 79, 3) := dk_180 0 79 (dk_at dksJ10_inflate_1 1 rfl rfl)
theorem dJ10_inflate_28 : decode cJ10_inflate 28 = .ok (.invokestatic 125, 3) := dk_184 0 125 (dk_at dksJ10_inflate_1 4 rfl rfl)
theorem dJ10_inflate_31 : decode cJ10_inflate 31 = .ok (.aload_n 0, 1) := dk_42 (dk_at dksJ10_inflate_1 7 rfl rfl)
theorem dJ10_inflate_32 : decode cJ10_inflate 32 = .ok (.aload_n 1, 1) := dk_43 (dk_at dksJ10_inflate_1 8 rfl rfl)
theorem dJ10_inflate_33 : decode cJ10_inflate 33 = .ok (.putfield 15, 3) := dk_181 0 15 (dk_at dksJ10_inflate_1 9 rfl rfl)
theorem dJ10_inflate_36 : decode cJ10_inflate 36 = .ok (.aload_n 0, 1) := dk_42 (dk_at dksJ10_inflate_1 12 rfl rfl)
theorem dJ10_inflate_37 : decode cJ10_inflate 37 = .ok (.iconst 1, 1) := dk_4 (dk_at dksJ10_inflate_1 13 rfl rfl)
theorem dJ10_inflate_38 : decode cJ10_inflate 38 = .ok (.putfield 22, 3) := dk_181 0 22 (dk_at dksJ10_inflate_1 14 rfl rfl)
theorem dJ10_inflate_41 : decode cJ10_inflate 41 = .ok (.return_, 1) := dk_177 (dk_at dksJ10_inflate_1 17 rfl rfl)
abbrev cJ10_append_2 : ByteArray := prog_9_method_32_code
def yJ10_append_2 : MethodName := ⟨RJ10, "append", "(I)Ljava/lang/AbstractStringBuilder;"⟩
def dkwJ10_append_2_2 : List UInt8 := [42, 29, 181, 0, 79, 42, 176]
abbrev dktJ10_append_2_2 : List UInt8 := dkwJ10_append_2_2 ++ []
def dkwJ10_append_2_1 : List UInt8 := [27, 29, 42, 180, 0, 15, 184, 0, 248, 87, 167, 0, 14, 27, 28, 29, 42, 180, 0, 15, 184, 0, 251, 87]
abbrev dktJ10_append_2_1 : List UInt8 := dkwJ10_append_2_1 ++ dktJ10_append_2_2
def dkwJ10_append_2_0 : List UInt8 := [42, 180, 0, 79, 61, 28, 27, 184, 0, 245, 96, 62, 42, 29, 182, 0, 100, 42, 182, 0, 83, 153, 0, 16]
abbrev dktJ10_append_2_0 : List UInt8 := dkwJ10_append_2_0 ++ dktJ10_append_2_1
theorem dksJ10_append_2_0 : cJ10_append_2.data.toList.drop 0 = dktJ10_append_2_0 := by decide +kernel
theorem dksJ10_append_2_1 : cJ10_append_2.data.toList.drop 24 = dktJ10_append_2_1 := dk_seg dksJ10_append_2_0 24 rfl rfl
theorem dksJ10_append_2_2 : cJ10_append_2.data.toList.drop 48 = dktJ10_append_2_2 := dk_seg dksJ10_append_2_1 24 rfl rfl
theorem dJ10_append_2_0 : decode cJ10_append_2 0 = .ok (.aload_n 0, 1) := dk_42 (dk_at dksJ10_append_2_0 0 rfl rfl)
theorem dJ10_append_2_1 : decode cJ10_append_2 1 = .ok (.getfield 79, 3) := dk_180 0 79 (dk_at dksJ10_append_2_0 1 rfl rfl)
theorem dJ10_append_2_4 : decode cJ10_append_2 4 = .ok (.istore_n 2, 1) := dk_61 (dk_at dksJ10_append_2_0 4 rfl rfl)
theorem dJ10_append_2_5 : decode cJ10_append_2 5 = .ok (.iload_n 2, 1) := dk_28 (dk_at dksJ10_append_2_0 5 rfl rfl)
theorem dJ10_append_2_6 : decode cJ10_append_2 6 = .ok (.iload_n 1, 1) := dk_27 (dk_at dksJ10_append_2_0 6 rfl rfl)
theorem dJ10_append_2_7 : decode cJ10_append_2 7 = .ok (.invokestatic 245, 3) := dk_184 0 245 (dk_at dksJ10_append_2_0 7 rfl rfl)
theorem dJ10_append_2_10 : decode cJ10_append_2 10 = .ok (.iadd, 1) := dk_96 (dk_at dksJ10_append_2_0 10 rfl rfl)
theorem dJ10_append_2_11 : decode cJ10_append_2 11 = .ok (.istore_n 3, 1) := dk_62 (dk_at dksJ10_append_2_0 11 rfl rfl)
theorem dJ10_append_2_12 : decode cJ10_append_2 12 = .ok (.aload_n 0, 1) := dk_42 (dk_at dksJ10_append_2_0 12 rfl rfl)
theorem dJ10_append_2_13 : decode cJ10_append_2 13 = .ok (.iload_n 3, 1) := dk_29 (dk_at dksJ10_append_2_0 13 rfl rfl)
theorem dJ10_append_2_14 : decode cJ10_append_2 14 = .ok (.invokevirtual 100, 3) := dk_182 0 100 (dk_at dksJ10_append_2_0 14 rfl rfl)
theorem dJ10_append_2_17 : decode cJ10_append_2 17 = .ok (.aload_n 0, 1) := dk_42 (dk_at dksJ10_append_2_0 17 rfl rfl)
theorem dJ10_append_2_18 : decode cJ10_append_2 18 = .ok (.invokevirtual 83, 3) := dk_182 0 83 (dk_at dksJ10_append_2_0 18 rfl rfl)
theorem dJ10_append_2_21 : decode cJ10_append_2 21 = .ok (.ifCond .eq 16, 3) := dk_153 0 16 (dk_at dksJ10_append_2_0 21 rfl rfl)
theorem dJ10_append_2_24 : decode cJ10_append_2 24 = .ok (.iload_n 1, 1) := dk_27 (dk_at dksJ10_append_2_1 0 rfl rfl)
theorem dJ10_append_2_25 : decode cJ10_append_2 25 = .ok (.iload_n 3, 1) := dk_29 (dk_at dksJ10_append_2_1 1 rfl rfl)
theorem dJ10_append_2_26 : decode cJ10_append_2 26 = .ok (.aload_n 0, 1) := dk_42 (dk_at dksJ10_append_2_1 2 rfl rfl)
theorem dJ10_append_2_27 : decode cJ10_append_2 27 = .ok (.getfield 15, 3) := dk_180 0 15 (dk_at dksJ10_append_2_1 3 rfl rfl)
theorem dJ10_append_2_30 : decode cJ10_append_2 30 = .ok (.invokestatic 248, 3) := dk_184 0 248 (dk_at dksJ10_append_2_1 6 rfl rfl)
theorem dJ10_append_2_33 : decode cJ10_append_2 33 = .ok (.pop, 1) := dk_87 (dk_at dksJ10_append_2_1 9 rfl rfl)
theorem dJ10_append_2_34 : decode cJ10_append_2 34 = .ok (.goto 14, 3) := dk_167 0 14 (dk_at dksJ10_append_2_1 10 rfl rfl)
theorem dJ10_append_2_37 : decode cJ10_append_2 37 = .ok (.iload_n 1, 1) := dk_27 (dk_at dksJ10_append_2_1 13 rfl rfl)
theorem dJ10_append_2_38 : decode cJ10_append_2 38 = .ok (.iload_n 2, 1) := dk_28 (dk_at dksJ10_append_2_1 14 rfl rfl)
theorem dJ10_append_2_39 : decode cJ10_append_2 39 = .ok (.iload_n 3, 1) := dk_29 (dk_at dksJ10_append_2_1 15 rfl rfl)
theorem dJ10_append_2_40 : decode cJ10_append_2 40 = .ok (.aload_n 0, 1) := dk_42 (dk_at dksJ10_append_2_1 16 rfl rfl)
theorem dJ10_append_2_41 : decode cJ10_append_2 41 = .ok (.getfield 15, 3) := dk_180 0 15 (dk_at dksJ10_append_2_1 17 rfl rfl)
theorem dJ10_append_2_44 : decode cJ10_append_2 44 = .ok (.invokestatic 251, 3) := dk_184 0 251 (dk_at dksJ10_append_2_1 20 rfl rfl)
theorem dJ10_append_2_47 : decode cJ10_append_2 47 = .ok (.pop, 1) := dk_87 (dk_at dksJ10_append_2_1 23 rfl rfl)
theorem dJ10_append_2_48 : decode cJ10_append_2 48 = .ok (.aload_n 0, 1) := dk_42 (dk_at dksJ10_append_2_2 0 rfl rfl)
theorem dJ10_append_2_49 : decode cJ10_append_2 49 = .ok (.iload_n 3, 1) := dk_29 (dk_at dksJ10_append_2_2 1 rfl rfl)
theorem dJ10_append_2_50 : decode cJ10_append_2 50 = .ok (.putfield 79, 3) := dk_181 0 79 (dk_at dksJ10_append_2_2 2 rfl rfl)
theorem dJ10_append_2_53 : decode cJ10_append_2 53 = .ok (.aload_n 0, 1) := dk_42 (dk_at dksJ10_append_2_2 5 rfl rfl)
theorem dJ10_append_2_54 : decode cJ10_append_2 54 = .ok (.areturn, 1) := dk_176 (dk_at dksJ10_append_2_2 6 rfl rfl)
abbrev cJ10_getValue : ByteArray := prog_9_method_64_code
def yJ10_getValue : MethodName := ⟨RJ10, "getValue", "()[B"⟩
theorem dJ10_getValue_0 : decode cJ10_getValue 0 = .ok (.aload_n 0, 1) := by decide +kernel
theorem dJ10_getValue_1 : decode cJ10_getValue 1 = .ok (.getfield 15, 3) := by decide +kernel
theorem dJ10_getValue_4 : decode cJ10_getValue 4 = .ok (.areturn, 1) := by decide +kernel
abbrev cJ10_length : ByteArray := prog_9_method_6_code
def yJ10_length : MethodName := ⟨RJ10, "length", "()I"⟩
theorem dJ10_length_0 : decode cJ10_length 0 = .ok (.aload_n 0, 1) := by decide +kernel
theorem dJ10_length_1 : decode cJ10_length 1 = .ok (.getfield 79, 3) := by decide +kernel
theorem dJ10_length_4 : decode cJ10_length 4 = .ok (.ireturn, 1) := by decide +kernel
abbrev cJ10_compareTo : ByteArray := prog_9_method_5_code
def yJ10_compareTo : MethodName := ⟨RJ10, "compareTo", "(Ljava/lang/AbstractStringBuilder;)I"⟩
def dkwJ10_compareTo_4 : List UInt8 := [184, 0, 97, 172]
abbrev dktJ10_compareTo_4 : List UInt8 := dkwJ10_compareTo_4 ++ []
def dkwJ10_compareTo_3 : List UInt8 := [182, 0, 83, 153, 0, 15, 44, 45, 21, 4, 21, 5, 184, 0, 94, 167, 0, 12, 44, 45, 21, 4, 21, 5]
abbrev dktJ10_compareTo_3 : List UInt8 := dkwJ10_compareTo_3 ++ dktJ10_compareTo_4
def dkwJ10_compareTo_2 : List UInt8 := [45, 21, 4, 21, 5, 184, 0, 87, 167, 0, 12, 44, 45, 21, 4, 21, 5, 184, 0, 93, 172, 42]
abbrev dktJ10_compareTo_2 : List UInt8 := dkwJ10_compareTo_2 ++ dktJ10_compareTo_3
def dkwJ10_compareTo_1 : List UInt8 := [180, 0, 79, 54, 5, 42, 180, 0, 22, 43, 180, 0, 22, 160, 0, 32, 42, 182, 0, 83, 153, 0, 15, 44]
abbrev dktJ10_compareTo_1 : List UInt8 := dkwJ10_compareTo_1 ++ dktJ10_compareTo_2
def dkwJ10_compareTo_0 : List UInt8 := [42, 43, 166, 0, 5, 3, 172, 42, 180, 0, 15, 77, 43, 180, 0, 15, 78, 42, 180, 0, 79, 54, 4, 43]
abbrev dktJ10_compareTo_0 : List UInt8 := dkwJ10_compareTo_0 ++ dktJ10_compareTo_1
theorem dksJ10_compareTo_0 : cJ10_compareTo.data.toList.drop 0 = dktJ10_compareTo_0 := by decide +kernel
theorem dksJ10_compareTo_1 : cJ10_compareTo.data.toList.drop 24 = dktJ10_compareTo_1 := dk_seg dksJ10_compareTo_0 24 rfl rfl
theorem dksJ10_compareTo_2 : cJ10_compareTo.data.toList.drop 48 = dktJ10_compareTo_2 := dk_seg dksJ10_compareTo_1 24 rfl rfl
theorem dksJ10_compareTo_3 : cJ10_compareTo.data.toList.drop 70 = dktJ10_compareTo_3 := dk_seg dksJ10_compareTo_2 22 rfl rfl
theorem dksJ10_compareTo_4 : cJ10_compareTo.data.toList.drop 94 = dktJ10_compareTo_4 := dk_seg dksJ10_compareTo_3 24 rfl rfl
theorem dJ10_compareTo_0 : decode cJ10_compareTo 0 = .ok (.aload_n 0, 1) := dk_42 (dk_at dksJ10_compareTo_0 0 rfl rfl)
theorem dJ10_compareTo_1 : decode cJ10_compareTo 1 = .ok (.aload_n 1, 1) := dk_43 (dk_at dksJ10_compareTo_0 1 rfl rfl)
theorem dJ10_compareTo_2 : decode cJ10_compareTo 2 = .ok (.if_acmp .ne 5, 3) := dk_166 0 5 (dk_at dksJ10_compareTo_0 2 rfl rfl)
theorem dJ10_compareTo_5 : decode cJ10_compareTo 5 = .ok (.iconst 0, 1) := dk_3 (dk_at dksJ10_compareTo_0 5 rfl rfl)
theorem dJ10_compareTo_6 : decode cJ10_compareTo 6 = .ok (.ireturn, 1) := dk_172 (dk_at dksJ10_compareTo_0 6 rfl rfl)
theorem dJ10_compareTo_7 : decode cJ10_compareTo 7 = .ok (.aload_n 0, 1) := dk_42 (dk_at dksJ10_compareTo_0 7 rfl rfl)
theorem dJ10_compareTo_8 : decode cJ10_compareTo 8 = .ok (.getfield 15, 3) := dk_180 0 15 (dk_at dksJ10_compareTo_0 8 rfl rfl)
theorem dJ10_compareTo_11 : decode cJ10_compareTo 11 = .ok (.astore_n 2, 1) := dk_77 (dk_at dksJ10_compareTo_0 11 rfl rfl)
theorem dJ10_compareTo_12 : decode cJ10_compareTo 12 = .ok (.aload_n 1, 1) := dk_43 (dk_at dksJ10_compareTo_0 12 rfl rfl)
theorem dJ10_compareTo_13 : decode cJ10_compareTo 13 = .ok (.getfield 15, 3) := dk_180 0 15 (dk_at dksJ10_compareTo_0 13 rfl rfl)
theorem dJ10_compareTo_16 : decode cJ10_compareTo 16 = .ok (.astore_n 3, 1) := dk_78 (dk_at dksJ10_compareTo_0 16 rfl rfl)
theorem dJ10_compareTo_17 : decode cJ10_compareTo 17 = .ok (.aload_n 0, 1) := dk_42 (dk_at dksJ10_compareTo_0 17 rfl rfl)
theorem dJ10_compareTo_18 : decode cJ10_compareTo 18 = .ok (.getfield 79, 3) := dk_180 0 79 (dk_at dksJ10_compareTo_0 18 rfl rfl)
theorem dJ10_compareTo_21 : decode cJ10_compareTo 21 = .ok (.istore 4, 2) := dk_54 4 (dk_at dksJ10_compareTo_0 21 rfl rfl)
theorem dJ10_compareTo_23 : decode cJ10_compareTo 23 = .ok (.aload_n 1, 1) := dk_43 (dk_at dksJ10_compareTo_0 23 rfl rfl)
theorem dJ10_compareTo_24 : decode cJ10_compareTo 24 = .ok (.getfield 79, 3) := dk_180 0 79 (dk_at dksJ10_compareTo_1 0 rfl rfl)
theorem dJ10_compareTo_27 : decode cJ10_compareTo 27 = .ok (.istore 5, 2) := dk_54 5 (dk_at dksJ10_compareTo_1 3 rfl rfl)
theorem dJ10_compareTo_29 : decode cJ10_compareTo 29 = .ok (.aload_n 0, 1) := dk_42 (dk_at dksJ10_compareTo_1 5 rfl rfl)
theorem dJ10_compareTo_30 : decode cJ10_compareTo 30 = .ok (.getfield 22, 3) := dk_180 0 22 (dk_at dksJ10_compareTo_1 6 rfl rfl)
theorem dJ10_compareTo_33 : decode cJ10_compareTo 33 = .ok (.aload_n 1, 1) := dk_43 (dk_at dksJ10_compareTo_1 9 rfl rfl)
theorem dJ10_compareTo_34 : decode cJ10_compareTo 34 = .ok (.getfield 22, 3) := dk_180 0 22 (dk_at dksJ10_compareTo_1 10 rfl rfl)
theorem dJ10_compareTo_37 : decode cJ10_compareTo 37 = .ok (.if_icmp .ne 32, 3) := dk_160 0 32 (dk_at dksJ10_compareTo_1 13 rfl rfl)
theorem dJ10_compareTo_40 : decode cJ10_compareTo 40 = .ok (.aload_n 0, 1) := dk_42 (dk_at dksJ10_compareTo_1 16 rfl rfl)
theorem dJ10_compareTo_41 : decode cJ10_compareTo 41 = .ok (.invokevirtual 83, 3) := dk_182 0 83 (dk_at dksJ10_compareTo_1 17 rfl rfl)
theorem dJ10_compareTo_44 : decode cJ10_compareTo 44 = .ok (.ifCond .eq 15, 3) := dk_153 0 15 (dk_at dksJ10_compareTo_1 20 rfl rfl)
theorem dJ10_compareTo_47 : decode cJ10_compareTo 47 = .ok (.aload_n 2, 1) := dk_44 (dk_at dksJ10_compareTo_1 23 rfl rfl)
theorem dJ10_compareTo_48 : decode cJ10_compareTo 48 = .ok (.aload_n 3, 1) := dk_45 (dk_at dksJ10_compareTo_2 0 rfl rfl)
theorem dJ10_compareTo_49 : decode cJ10_compareTo 49 = .ok (.iload 4, 2) := dk_21 4 (dk_at dksJ10_compareTo_2 1 rfl rfl)
theorem dJ10_compareTo_51 : decode cJ10_compareTo 51 = .ok (.iload 5, 2) := dk_21 5 (dk_at dksJ10_compareTo_2 3 rfl rfl)
theorem dJ10_compareTo_53 : decode cJ10_compareTo 53 = .ok (.invokestatic 87, 3) := dk_184 0 87 (dk_at dksJ10_compareTo_2 5 rfl rfl)
theorem dJ10_compareTo_56 : decode cJ10_compareTo 56 = .ok (.goto 12, 3) := dk_167 0 12 (dk_at dksJ10_compareTo_2 8 rfl rfl)
theorem dJ10_compareTo_59 : decode cJ10_compareTo 59 = .ok (.aload_n 2, 1) := dk_44 (dk_at dksJ10_compareTo_2 11 rfl rfl)
theorem dJ10_compareTo_60 : decode cJ10_compareTo 60 = .ok (.aload_n 3, 1) := dk_45 (dk_at dksJ10_compareTo_2 12 rfl rfl)
theorem dJ10_compareTo_61 : decode cJ10_compareTo 61 = .ok (.iload 4, 2) := dk_21 4 (dk_at dksJ10_compareTo_2 13 rfl rfl)
theorem dJ10_compareTo_63 : decode cJ10_compareTo 63 = .ok (.iload 5, 2) := dk_21 5 (dk_at dksJ10_compareTo_2 15 rfl rfl)
theorem dJ10_compareTo_65 : decode cJ10_compareTo 65 = .ok (.invokestatic 93, 3) := dk_184 0 93 (dk_at dksJ10_compareTo_2 17 rfl rfl)
theorem dJ10_compareTo_68 : decode cJ10_compareTo 68 = .ok (.ireturn, 1) := dk_172 (dk_at dksJ10_compareTo_2 20 rfl rfl)
theorem dJ10_compareTo_69 : decode cJ10_compareTo 69 = .ok (.aload_n 0, 1) := dk_42 (dk_at dksJ10_compareTo_2 21 rfl rfl)
theorem dJ10_compareTo_70 : decode cJ10_compareTo 70 = .ok (.invokevirtual 83, 3) := dk_182 0 83 (dk_at dksJ10_compareTo_3 0 rfl rfl)
theorem dJ10_compareTo_73 : decode cJ10_compareTo 73 = .ok (.ifCond .eq 15, 3) := dk_153 0 15 (dk_at dksJ10_compareTo_3 3 rfl rfl)
theorem dJ10_compareTo_76 : decode cJ10_compareTo 76 = .ok (.aload_n 2, 1) := dk_44 (dk_at dksJ10_compareTo_3 6 rfl rfl)
theorem dJ10_compareTo_77 : decode cJ10_compareTo 77 = .ok (.aload_n 3, 1) := dk_45 (dk_at dksJ10_compareTo_3 7 rfl rfl)
theorem dJ10_compareTo_78 : decode cJ10_compareTo 78 = .ok (.iload 4, 2) := dk_21 4 (dk_at dksJ10_compareTo_3 8 rfl rfl)
theorem dJ10_compareTo_80 : decode cJ10_compareTo 80 = .ok (.iload 5, 2) := dk_21 5 (dk_at dksJ10_compareTo_3 10 rfl rfl)
theorem dJ10_compareTo_82 : decode cJ10_compareTo 82 = .ok (.invokestatic 94, 3) := dk_184 0 94 (dk_at dksJ10_compareTo_3 12 rfl rfl)
theorem dJ10_compareTo_85 : decode cJ10_compareTo 85 = .ok (.goto 12, 3) := dk_167 0 12 (dk_at dksJ10_compareTo_3 15 rfl rfl)
theorem dJ10_compareTo_88 : decode cJ10_compareTo 88 = .ok (.aload_n 2, 1) := dk_44 (dk_at dksJ10_compareTo_3 18 rfl rfl)
theorem dJ10_compareTo_89 : decode cJ10_compareTo 89 = .ok (.aload_n 3, 1) := dk_45 (dk_at dksJ10_compareTo_3 19 rfl rfl)
theorem dJ10_compareTo_90 : decode cJ10_compareTo 90 = .ok (.iload 4, 2) := dk_21 4 (dk_at dksJ10_compareTo_3 20 rfl rfl)
theorem dJ10_compareTo_92 : decode cJ10_compareTo 92 = .ok (.iload 5, 2) := dk_21 5 (dk_at dksJ10_compareTo_3 22 rfl rfl)
theorem dJ10_compareTo_94 : decode cJ10_compareTo 94 = .ok (.invokestatic 97, 3) := dk_184 0 97 (dk_at dksJ10_compareTo_4 0 rfl rfl)
theorem dJ10_compareTo_97 : decode cJ10_compareTo 97 = .ok (.ireturn, 1) := dk_172 (dk_at dksJ10_compareTo_4 3 rfl rfl)
theorem q51 : (Jvm.Cond.initialized "java/lang/AbstractStringBuilder") ∈ lw_all := lw_g (lw_at lw_m1 14 rfl) rfl
theorem q314 : (Jvm.Cond.instanceMethod ({ cls := "java/lang/AbstractStringBuilder", name := "<init>", desc := "(I)V" } : Jvm.MethodName)) ∈ lw_all := lw_g (lw_at lw_m2 37 rfl) rfl
theorem q315 : (Jvm.Cond.code ({ cls := "java/lang/AbstractStringBuilder", name := "<init>", desc := "(I)V" } : Jvm.MethodName) prog_9_method_2_code (2 : Nat) (Option.none : Option Jvm.ClassFile.FieldType)) ∈ lw_all := lw_g (lw_at lw_m2 38 rfl) rfl
theorem q316 : (Jvm.Cond.methodLink "java/lang/AbstractStringBuilder" (3 : Nat) ({ cls := "java/lang/Object", name := "<init>", desc := "()V" } : Jvm.MethodName)) ∈ lw_all := lw_g (lw_at lw_m2 39 rfl) rfl
theorem q317 : (Jvm.Cond.fieldLink "java/lang/AbstractStringBuilder" (18 : Nat) "java/lang/String" "COMPACT_STRINGS" "Z") ∈ lw_all := lw_g (lw_at lw_m2 40 rfl) rfl
theorem q319 : (Jvm.Cond.methodLink "java/lang/AbstractStringBuilder" (26 : Nat) ({ cls := "java/lang/StringUTF16", name := "newBytesFor", desc := "(I)[B" } : Jvm.MethodName)) ∈ lw_all := lw_g (lw_at lw_m2 42 rfl) rfl
theorem q326 : (Jvm.Cond.fieldLink "java/lang/AbstractStringBuilder" (15 : Nat) "java/lang/AbstractStringBuilder" "value" "[B") ∈ lw_all := lw_g (lw_at lw_m2 49 rfl) rfl
theorem q327 : (Jvm.Cond.fieldLink "java/lang/AbstractStringBuilder" (22 : Nat) "java/lang/AbstractStringBuilder" "coder" "B") ∈ lw_all := lw_g (lw_at lw_m2 50 rfl) rfl
theorem q329 : (Jvm.Cond.fieldLink "java/lang/AbstractStringBuilder" (79 : Nat) "java/lang/AbstractStringBuilder" "count" "I") ∈ lw_all := lw_g (lw_at lw_m2 52 rfl) rfl
theorem q331 : (Jvm.Cond.soleField "java/lang/AbstractStringBuilder" "value") ∈ lw_all := lw_g (lw_at lw_m2 54 rfl) rfl
theorem q333 : (Jvm.Cond.soleField "java/lang/AbstractStringBuilder" "coder") ∈ lw_all := lw_g (lw_at lw_m2 56 rfl) rfl
theorem q335 : (Jvm.Cond.soleField "java/lang/AbstractStringBuilder" "maybeLatin1") ∈ lw_all := lw_g (lw_at lw_m2 58 rfl) rfl
theorem q337 : (Jvm.Cond.soleField "java/lang/AbstractStringBuilder" "count") ∈ lw_all := lw_g (lw_at lw_m2 60 rfl) rfl
theorem q345 : (Jvm.Cond.instanceMethod ({ cls := "java/lang/AbstractStringBuilder", name := "append", desc := "(Ljava/lang/String;)Ljava/lang/AbstractStringBuilder;" } : Jvm.MethodName)) ∈ lw_all := lw_g (lw_at lw_m2 68 rfl) rfl
theorem q346 : (Jvm.Cond.code ({ cls := "java/lang/AbstractStringBuilder", name := "append", desc := "(Ljava/lang/String;)Ljava/lang/AbstractStringBuilder;" } : Jvm.MethodName) prog_9_method_22_code (3 : Nat) (Option.some (Jvm.ClassFile.FieldType.object "java/lang/AbstractStringBuilder"))) ∈ lw_all := lw_g (lw_at lw_m2 69 rfl) rfl
theorem q347 : (Jvm.Cond.methodLink "java/lang/AbstractStringBuilder" (204 : Nat) ({ cls := "java/lang/AbstractStringBuilder", name := "appendNull", desc := "()Ljava/lang/AbstractStringBuilder;" } : Jvm.MethodName)) ∈ lw_all := lw_g (lw_at lw_m2 70 rfl) rfl
theorem q348 : (Jvm.Cond.privateMethod ({ cls := "java/lang/AbstractStringBuilder", name := "appendNull", desc := "()Ljava/lang/AbstractStringBuilder;" } : Jvm.MethodName)) ∈ lw_tbl := lw_at lw_m2 71 rfl
theorem q349 : (Jvm.Cond.instanceMethod ({ cls := "java/lang/AbstractStringBuilder", name := "appendNull", desc := "()Ljava/lang/AbstractStringBuilder;" } : Jvm.MethodName)) ∈ lw_all := lw_g (lw_at lw_m2 72 rfl) rfl
theorem q350 : (Jvm.Cond.code ({ cls := "java/lang/AbstractStringBuilder", name := "appendNull", desc := "()Ljava/lang/AbstractStringBuilder;" } : Jvm.MethodName) prog_9_method_26_code (3 : Nat) (Option.some (Jvm.ClassFile.FieldType.object "java/lang/AbstractStringBuilder"))) ∈ lw_all := lw_g (lw_at lw_m2 73 rfl) rfl
theorem q351 : (Jvm.Cond.methodLink "java/lang/AbstractStringBuilder" (100 : Nat) ({ cls := "java/lang/AbstractStringBuilder", name := "ensureCapacityInternal", desc := "(I)V" } : Jvm.MethodName)) ∈ lw_all := lw_g (lw_at lw_m2 74 rfl) rfl
theorem q352 : (Jvm.Cond.privateMethod ({ cls := "java/lang/AbstractStringBuilder", name := "ensureCapacityInternal", desc := "(I)V" } : Jvm.MethodName)) ∈ lw_tbl := lw_at lw_m2 75 rfl
theorem q353 : (Jvm.Cond.instanceMethod ({ cls := "java/lang/AbstractStringBuilder", name := "ensureCapacityInternal", desc := "(I)V" } : Jvm.MethodName)) ∈ lw_all := lw_g (lw_at lw_m2 76 rfl) rfl
theorem q354 : (Jvm.Cond.code ({ cls := "java/lang/AbstractStringBuilder", name := "ensureCapacityInternal", desc := "(I)V" } : Jvm.MethodName) prog_9_method_9_code (3 : Nat) (Option.none : Option Jvm.ClassFile.FieldType)) ∈ lw_all := lw_g (lw_at lw_m2 77 rfl) rfl
theorem q355 : (Jvm.Cond.methodLink "java/lang/AbstractStringBuilder" (104 : Nat) ({ cls := "java/lang/AbstractStringBuilder", name := "newCapacity", desc := "(I)I" } : Jvm.MethodName)) ∈ lw_all := lw_g (lw_at lw_m2 78 rfl) rfl
theorem q356 : (Jvm.Cond.privateMethod ({ cls := "java/lang/AbstractStringBuilder", name := "newCapacity", desc := "(I)I" } : Jvm.MethodName)) ∈ lw_tbl := lw_at lw_m2 79 rfl
theorem q357 : (Jvm.Cond.instanceMethod ({ cls := "java/lang/AbstractStringBuilder", name := "newCapacity", desc := "(I)I" } : Jvm.MethodName)) ∈ lw_all := lw_g (lw_at lw_m2 80 rfl) rfl
theorem q358 : (Jvm.Cond.code ({ cls := "java/lang/AbstractStringBuilder", name := "newCapacity", desc := "(I)I" } : Jvm.MethodName) prog_9_method_10_code (6 : Nat) (Option.some Jvm.ClassFile.FieldType.int)) ∈ lw_all := lw_g (lw_at lw_m2 81 rfl) rfl
theorem q359 : (Jvm.Cond.methodLink "java/lang/AbstractStringBuilder" (114 : Nat) ({ cls := "jdk/internal/util/ArraysSupport", name := "newLength", desc := "(III)I" } : Jvm.MethodName)) ∈ lw_all := lw_g (lw_at lw_m2 82 rfl) rfl
theorem q367 : (Jvm.Cond.constant "java/lang/AbstractStringBuilder" (39 : Nat) (2147483647 : Int32)) ∈ lw_all := lw_g (lw_at lw_m2 90 rfl) rfl
theorem q368 : (Jvm.Cond.methodLink "java/lang/AbstractStringBuilder" (108 : Nat) ({ cls := "java/util/Arrays", name := "copyOf", desc := "([BI)[B" } : Jvm.MethodName)) ∈ lw_all := lw_g (lw_at lw_m2 91 rfl) rfl
theorem q382 : (Jvm.Cond.methodLink "java/lang/AbstractStringBuilder" (83 : Nat) ({ cls := "java/lang/AbstractStringBuilder", name := "isLatin1", desc := "()Z" } : Jvm.MethodName)) ∈ lw_all := lw_g (lw_at lw_m2 105 rfl) rfl
theorem q383 : (Jvm.Cond.instanceMethod ({ cls := "java/lang/AbstractStringBuilder", name := "isLatin1", desc := "()Z" } : Jvm.MethodName)) ∈ lw_all := lw_g (lw_at lw_m2 106 rfl) rfl
theorem q384 : (Jvm.Cond.sameMethod "java/lang/AbstractStringBuilder" "java/lang/AbstractStringBuilder" "isLatin1" "()Z") ∈ lw_all := lw_g (lw_at lw_m2 107 rfl) rfl
theorem q386 : (Jvm.Cond.code ({ cls := "java/lang/AbstractStringBuilder", name := "isLatin1", desc := "()Z" } : Jvm.MethodName) prog_9_method_68_code (1 : Nat) (Option.some Jvm.ClassFile.FieldType.boolean)) ∈ lw_all := lw_g (lw_at lw_m2 109 rfl) rfl
theorem q387 : (Jvm.Cond.methodLink "java/lang/AbstractStringBuilder" (226 : Nat) ({ cls := "java/lang/StringUTF16", name := "putCharsAt", desc := "([BICCCC)I" } : Jvm.MethodName)) ∈ lw_all := lw_g (lw_at lw_m2 110 rfl) rfl
theorem q413 : (Jvm.Cond.methodLink "java/lang/AbstractStringBuilder" (32 : Nat) ({ cls := "java/lang/String", name := "length", desc := "()I" } : Jvm.MethodName)) ∈ lw_all := lw_g (lw_at lw_m2 136 rfl) rfl
theorem q422 : (Jvm.Cond.methodLink "java/lang/AbstractStringBuilder" (208 : Nat) ({ cls := "java/lang/AbstractStringBuilder", name := "putStringAt", desc := "(ILjava/lang/String;)V" } : Jvm.MethodName)) ∈ lw_all := lw_g (lw_at lw_m2 145 rfl) rfl
theorem q423 : (Jvm.Cond.privateMethod ({ cls := "java/lang/AbstractStringBuilder", name := "putStringAt", desc := "(ILjava/lang/String;)V" } : Jvm.MethodName)) ∈ lw_tbl := lw_at lw_m2 146 rfl
theorem q424 : (Jvm.Cond.instanceMethod ({ cls := "java/lang/AbstractStringBuilder", name := "putStringAt", desc := "(ILjava/lang/String;)V" } : Jvm.MethodName)) ∈ lw_all := lw_g (lw_at lw_m2 147 rfl) rfl
theorem q425 : (Jvm.Cond.code ({ cls := "java/lang/AbstractStringBuilder", name := "putStringAt", desc := "(ILjava/lang/String;)V" } : Jvm.MethodName) prog_9_method_73_code (3 : Nat) (Option.none : Option Jvm.ClassFile.FieldType)) ∈ lw_all := lw_g (lw_at lw_m2 148 rfl) rfl
theorem q426 : (Jvm.Cond.methodLink "java/lang/AbstractStringBuilder" (397 : Nat) ({ cls := "java/lang/AbstractStringBuilder", name := "inflateIfNeededFor", desc := "(Ljava/lang/String;)V" } : Jvm.MethodName)) ∈ lw_all := lw_g (lw_at lw_m2 149 rfl) rfl
theorem q427 : (Jvm.Cond.privateMethod ({ cls := "java/lang/AbstractStringBuilder", name := "inflateIfNeededFor", desc := "(Ljava/lang/String;)V" } : Jvm.MethodName)) ∈ lw_tbl := lw_at lw_m2 150 rfl
theorem q428 : (Jvm.Cond.instanceMethod ({ cls := "java/lang/AbstractStringBuilder", name := "inflateIfNeededFor", desc := "(Ljava/lang/String;)V" } : Jvm.MethodName)) ∈ lw_all := lw_g (lw_at lw_m2 151 rfl) rfl
theorem q429 : (Jvm.Cond.code ({ cls := "java/lang/AbstractStringBuilder", name := "inflateIfNeededFor", desc := "(Ljava/lang/String;)V" } : Jvm.MethodName) prog_9_method_71_code (2 : Nat) (Option.none : Option Jvm.ClassFile.FieldType)) ∈ lw_all := lw_g (lw_at lw_m2 152 rfl) rfl
theorem q430 : (Jvm.Cond.methodLink "java/lang/AbstractStringBuilder" (40 : Nat) ({ cls := "java/lang/String", name := "coder", desc := "()B" } : Jvm.MethodName)) ∈ lw_all := lw_g (lw_at lw_m2 153 rfl) rfl
theorem q431 : (Jvm.Cond.methodLink "java/lang/AbstractStringBuilder" (195 : Nat) ({ cls := "java/lang/AbstractStringBuilder", name := "inflate", desc := "()V" } : Jvm.MethodName)) ∈ lw_all := lw_g (lw_at lw_m2 154 rfl) rfl
theorem q432 : (Jvm.Cond.privateMethod ({ cls := "java/lang/AbstractStringBuilder", name := "inflate", desc := "()V" } : Jvm.MethodName)) ∈ lw_tbl := lw_at lw_m2 155 rfl
theorem q433 : (Jvm.Cond.instanceMethod ({ cls := "java/lang/AbstractStringBuilder", name := "inflate", desc := "()V" } : Jvm.MethodName)) ∈ lw_all := lw_g (lw_at lw_m2 156 rfl) rfl
theorem q434 : (Jvm.Cond.code ({ cls := "java/lang/AbstractStringBuilder", name := "inflate", desc := "()V" } : Jvm.MethodName) prog_9_method_11_code (2 : Nat) (Option.none : Option Jvm.ClassFile.FieldType)) ∈ lw_all := lw_g (lw_at lw_m2 157 rfl) rfl
theorem q435 : (Jvm.Cond.methodLink "java/lang/AbstractStringBuilder" (125 : Nat) ({ cls := "java/lang/StringLatin1", name := "inflate", desc := "([BI[BII)V" } : Jvm.MethodName)) ∈ lw_all := lw_g (lw_at lw_m2 158 rfl) rfl
theorem q450 : (Jvm.Cond.methodLink "java/lang/AbstractStringBuilder" (399 : Nat) ({ cls := "java/lang/String", name := "getBytes", desc := "([BIB)V" } : Jvm.MethodName)) ∈ lw_all := lw_g (lw_at lw_m2 173 rfl) rfl
theorem q462 : (Jvm.Cond.instanceMethod ({ cls := "java/lang/AbstractStringBuilder", name := "append", desc := "(I)Ljava/lang/AbstractStringBuilder;" } : Jvm.MethodName)) ∈ lw_all := lw_g (lw_at lw_m2 185 rfl) rfl
theorem q463 : (Jvm.Cond.code ({ cls := "java/lang/AbstractStringBuilder", name := "append", desc := "(I)Ljava/lang/AbstractStringBuilder;" } : Jvm.MethodName) prog_9_method_32_code (4 : Nat) (Option.some (Jvm.ClassFile.FieldType.object "java/lang/AbstractStringBuilder"))) ∈ lw_all := lw_g (lw_at lw_m2 186 rfl) rfl
theorem q464 : (Jvm.Cond.methodLink "java/lang/AbstractStringBuilder" (245 : Nat) ({ cls := "java/lang/Integer", name := "stringSize", desc := "(I)I" } : Jvm.MethodName)) ∈ lw_all := lw_g (lw_at lw_m2 187 rfl) rfl
theorem q467 : (Jvm.Cond.methodLink "java/lang/AbstractStringBuilder" (248 : Nat) ({ cls := "java/lang/Integer", name := "getChars", desc := "(II[B)I" } : Jvm.MethodName)) ∈ lw_all := lw_g (lw_at lw_m2 190 rfl) rfl
theorem q474 : (Jvm.Cond.methodLink "java/lang/AbstractStringBuilder" (251 : Nat) ({ cls := "java/lang/StringUTF16", name := "getChars", desc := "(III[B)I" } : Jvm.MethodName)) ∈ lw_all := lw_g (lw_at lw_m2 197 rfl) rfl
theorem q495 : (Jvm.Cond.instanceMethod ({ cls := "java/lang/AbstractStringBuilder", name := "getValue", desc := "()[B" } : Jvm.MethodName)) ∈ lw_all := lw_g (lw_at lw_m2 218 rfl) rfl
theorem q496 : (Jvm.Cond.sameMethod "java/lang/AbstractStringBuilder" "java/lang/AbstractStringBuilder" "getValue" "()[B") ∈ lw_all := lw_g (lw_at lw_m2 219 rfl) rfl
theorem q498 : (Jvm.Cond.code ({ cls := "java/lang/AbstractStringBuilder", name := "getValue", desc := "()[B" } : Jvm.MethodName) prog_9_method_64_code (1 : Nat) (Option.some (Jvm.ClassFile.FieldType.array Jvm.ClassFile.FieldType.byte))) ∈ lw_all := lw_g (lw_at lw_m2 221 rfl) rfl
theorem q500 : (Jvm.Cond.instanceMethod ({ cls := "java/lang/AbstractStringBuilder", name := "length", desc := "()I" } : Jvm.MethodName)) ∈ lw_all := lw_g (lw_at lw_m2 223 rfl) rfl
theorem q501 : (Jvm.Cond.sameMethod "java/lang/AbstractStringBuilder" "java/lang/AbstractStringBuilder" "length" "()I") ∈ lw_all := lw_g (lw_at lw_m2 224 rfl) rfl
theorem q506 : (Jvm.Cond.code ({ cls := "java/lang/AbstractStringBuilder", name := "length", desc := "()I" } : Jvm.MethodName) prog_9_method_6_code (1 : Nat) (Option.some Jvm.ClassFile.FieldType.int)) ∈ lw_all := lw_g (lw_at lw_m2 229 rfl) rfl
theorem q816 : (Jvm.Cond.instanceMethod ({ cls := "java/lang/AbstractStringBuilder", name := "compareTo", desc := "(Ljava/lang/AbstractStringBuilder;)I" } : Jvm.MethodName)) ∈ lw_all := lw_g (lw_at lw_m4 59 rfl) rfl
theorem q817 : (Jvm.Cond.code ({ cls := "java/lang/AbstractStringBuilder", name := "compareTo", desc := "(Ljava/lang/AbstractStringBuilder;)I" } : Jvm.MethodName) prog_9_method_5_code (6 : Nat) (Option.some Jvm.ClassFile.FieldType.int)) ∈ lw_all := lw_g (lw_at lw_m4 60 rfl) rfl
theorem q818 : (Jvm.Cond.methodLink "java/lang/AbstractStringBuilder" (87 : Nat) ({ cls := "java/lang/StringLatin1", name := "compareTo", desc := "([B[BII)I" } : Jvm.MethodName)) ∈ lw_all := lw_g (lw_at lw_m4 61 rfl) rfl
theorem q819 : (Jvm.Cond.methodLink "java/lang/AbstractStringBuilder" (93 : Nat) ({ cls := "java/lang/StringUTF16", name := "compareTo", desc := "([B[BII)I" } : Jvm.MethodName)) ∈ lw_all := lw_g (lw_at lw_m4 62 rfl) rfl
theorem q828 : (Jvm.Cond.methodLink "java/lang/AbstractStringBuilder" (94 : Nat) ({ cls := "java/lang/StringLatin1", name := "compareToUTF16", desc := "([B[BII)I" } : Jvm.MethodName)) ∈ lw_all := lw_g (lw_at lw_m4 71 rfl) rfl
theorem q832 : (Jvm.Cond.methodLink "java/lang/AbstractStringBuilder" (97 : Nat) ({ cls := "java/lang/StringUTF16", name := "compareToLatin1", desc := "([B[BII)I" } : Jvm.MethodName)) ∈ lw_all := lw_g (lw_at lw_m4 75 rfl) rfl
theorem q1562 : (Jvm.Cond.sameMethod "java/lang/AbstractStringBuilder" "java/lang/AbstractStringBuilder" "append" "(Ljava/lang/String;)Ljava/lang/AbstractStringBuilder;") ∈ lw_all := lw_g (lw_at lw_m7 85 rfl) rfl
theorem q1563 : (Jvm.Cond.sameMethod "java/lang/AbstractStringBuilder" "java/lang/AbstractStringBuilder" "appendNull" "()Ljava/lang/AbstractStringBuilder;") ∈ lw_all := lw_g (lw_at lw_m7 86 rfl) rfl
theorem q1564 : (Jvm.Cond.sameMethod "java/lang/AbstractStringBuilder" "java/lang/AbstractStringBuilder" "ensureCapacityInternal" "(I)V") ∈ lw_all := lw_g (lw_at lw_m7 87 rfl) rfl
theorem q1565 : (Jvm.Cond.sameMethod "java/lang/AbstractStringBuilder" "java/lang/AbstractStringBuilder" "newCapacity" "(I)I") ∈ lw_all := lw_g (lw_at lw_m7 88 rfl) rfl
theorem q1566 : (Jvm.Cond.sameMethod "java/lang/AbstractStringBuilder" "java/lang/AbstractStringBuilder" "putStringAt" "(ILjava/lang/String;)V") ∈ lw_all := lw_g (lw_at lw_m7 89 rfl) rfl
theorem q1567 : (Jvm.Cond.sameMethod "java/lang/AbstractStringBuilder" "java/lang/AbstractStringBuilder" "inflateIfNeededFor" "(Ljava/lang/String;)V") ∈ lw_all := lw_g (lw_at lw_m7 90 rfl) rfl
theorem q1568 : (Jvm.Cond.sameMethod "java/lang/AbstractStringBuilder" "java/lang/AbstractStringBuilder" "inflate" "()V") ∈ lw_all := lw_g (lw_at lw_m7 91 rfl) rfl
theorem q1569 : (Jvm.Cond.sameMethod "java/lang/AbstractStringBuilder" "java/lang/AbstractStringBuilder" "append" "(I)Ljava/lang/AbstractStringBuilder;") ∈ lw_all := lw_g (lw_at lw_m7 92 rfl) rfl
theorem q1570 : (Jvm.Cond.sameMethod "java/lang/AbstractStringBuilder" "java/lang/AbstractStringBuilder" "compareTo" "(Ljava/lang/AbstractStringBuilder;)I") ∈ lw_all := lw_g (lw_at lw_m7 93 rfl) rfl
/-! java/lang/StringBuilder -/
set_option maxRecDepth 100000
def RJ11 : String := "java/lang/StringBuilder"
def TJ11 : u_T := fun k => match k with
  | 0 => ("java/lang/AbstractStringBuilder", "value", "[B", false)
  | 1 => ("java/lang/AbstractStringBuilder", "coder", "B", false)
  | 2 => ("java/lang/AbstractStringBuilder", "maybeLatin1", "Z", false)
  | _ => ("java/lang/AbstractStringBuilder", "count", "I", false)
def tyJ11 : Nat → FieldType := fun k => match k with
  | 0 => .array .byte
  | 1 => .byte
  | 2 => .boolean
  | _ => .int
abbrev wsJ110 : List Cond := u_ws RJ11 TJ11 4
theorem nmJ11 : ∀ a, a < 4 → ∀ b, b < 4 → a ≠ b → (TJ11 a).2.1 ≠ (TJ11 b).2.1 := by decide +kernel
theorem tyJ11_ok : ∀ k, k < 4 → parseFieldDescriptor (TJ11 k).2.2.1 = some (tyJ11 k) := by decide +kernel
abbrev cJ11_init : ByteArray := prog_26_method_1_code
def yJ11_init : MethodName := ⟨RJ11, "<init>", "()V"⟩
def dkwJ11_init_0 : List UInt8 := [42, 16, 16, 183, 0, 1, 177]
abbrev dktJ11_init_0 : List UInt8 := dkwJ11_init_0 ++ []
theorem dksJ11_init_0 : cJ11_init.data.toList.drop 0 = dktJ11_init_0 := by decide +kernel
theorem dJ11_init_0 : decode cJ11_init 0 = .ok (.aload_n 0, 1) := dk_42 (dk_at dksJ11_init_0 0 rfl rfl)
theorem dJ11_init_1 : decode cJ11_init 1 = .ok (.bipush 16, 2) := dk_16 16 (dk_at dksJ11_init_0 1 rfl rfl)
theorem dJ11_init_3 : decode cJ11_init 3 = .ok (.invokespecial 1, 3) := dk_183 0 1 (dk_at dksJ11_init_0 3 rfl rfl)
theorem dJ11_init_6 : decode cJ11_init 6 = .ok (.return_, 1) := dk_177 (dk_at dksJ11_init_0 6 rfl rfl)
abbrev cJ11_append : ByteArray := prog_26_method_7_code
def yJ11_append : MethodName := ⟨RJ11, "append", "(Ljava/lang/String;)Ljava/lang/StringBuilder;"⟩
def dkwJ11_append_0 : List UInt8 := [42, 43, 183, 0, 29, 87, 42, 176]
abbrev dktJ11_append_0 : List UInt8 := dkwJ11_append_0 ++ []
theorem dksJ11_append_0 : cJ11_append.data.toList.drop 0 = dktJ11_append_0 := by decide +kernel
theorem dJ11_append_0 : decode cJ11_append 0 = .ok (.aload_n 0, 1) := dk_42 (dk_at dksJ11_append_0 0 rfl rfl)
theorem dJ11_append_1 : decode cJ11_append 1 = .ok (.aload_n 1, 1) := dk_43 (dk_at dksJ11_append_0 1 rfl rfl)
theorem dJ11_append_2 : decode cJ11_append 2 = .ok (.invokespecial 29, 3) := dk_183 0 29 (dk_at dksJ11_append_0 2 rfl rfl)
theorem dJ11_append_5 : decode cJ11_append 5 = .ok (.pop, 1) := dk_87 (dk_at dksJ11_append_0 5 rfl rfl)
theorem dJ11_append_6 : decode cJ11_append 6 = .ok (.aload_n 0, 1) := dk_42 (dk_at dksJ11_append_0 6 rfl rfl)
theorem dJ11_append_7 : decode cJ11_append 7 = .ok (.areturn, 1) := dk_176 (dk_at dksJ11_append_0 7 rfl rfl)
abbrev cJ11_append_2 : ByteArray := prog_26_method_15_code
def yJ11_append_2 : MethodName := ⟨RJ11, "append", "(I)Ljava/lang/StringBuilder;"⟩
def dkwJ11_append_2_0 : List UInt8 := [42, 27, 183, 0, 53, 87, 42, 176]
abbrev dktJ11_append_2_0 : List UInt8 := dkwJ11_append_2_0 ++ []
theorem dksJ11_append_2_0 : cJ11_append_2.data.toList.drop 0 = dktJ11_append_2_0 := by decide +kernel
theorem dJ11_append_2_0 : decode cJ11_append_2 0 = .ok (.aload_n 0, 1) := dk_42 (dk_at dksJ11_append_2_0 0 rfl rfl)
theorem dJ11_append_2_1 : decode cJ11_append_2 1 = .ok (.iload_n 1, 1) := dk_27 (dk_at dksJ11_append_2_0 1 rfl rfl)
theorem dJ11_append_2_2 : decode cJ11_append_2 2 = .ok (.invokespecial 53, 3) := dk_183 0 53 (dk_at dksJ11_append_2_0 2 rfl rfl)
theorem dJ11_append_2_5 : decode cJ11_append_2 5 = .ok (.pop, 1) := dk_87 (dk_at dksJ11_append_2_0 5 rfl rfl)
theorem dJ11_append_2_6 : decode cJ11_append_2 6 = .ok (.aload_n 0, 1) := dk_42 (dk_at dksJ11_append_2_0 6 rfl rfl)
theorem dJ11_append_2_7 : decode cJ11_append_2 7 = .ok (.areturn, 1) := dk_176 (dk_at dksJ11_append_2_0 7 rfl rfl)
abbrev cJ11_toString : ByteArray := prog_26_method_42_code
def yJ11_toString : MethodName := ⟨RJ11, "toString", "()Ljava/lang/String;"⟩
def dkwJ11_toString_0 : List UInt8 := [187, 0, 18, 89, 42, 183, 0, 137, 176]
abbrev dktJ11_toString_0 : List UInt8 := dkwJ11_toString_0 ++ []
theorem dksJ11_toString_0 : cJ11_toString.data.toList.drop 0 = dktJ11_toString_0 := by decide +kernel
theorem dJ11_toString_0 : decode cJ11_toString 0 = .ok (.new 18, 3) := dk_187 0 18 (dk_at dksJ11_toString_0 0 rfl rfl)
theorem dJ11_toString_3 : decode cJ11_toString 3 = .ok (.dup, 1) := dk_89 (dk_at dksJ11_toString_0 3 rfl rfl)
theorem dJ11_toString_4 : decode cJ11_toString 4 = .ok (.aload_n 0, 1) := dk_42 (dk_at dksJ11_toString_0 4 rfl rfl)
theorem dJ11_toString_5 : decode cJ11_toString 5 = .ok (.invokespecial 137, 3) := dk_183 0 137 (dk_at dksJ11_toString_0 5 rfl rfl)
theorem dJ11_toString_8 : decode cJ11_toString 8 = .ok (.areturn, 1) := dk_176 (dk_at dksJ11_toString_0 8 rfl rfl)
abbrev cJ11_length : ByteArray := prog_26_method_93_code
def yJ11_length : MethodName := ⟨RJ11, "length", "()I"⟩
theorem dJ11_length_0 : decode cJ11_length 0 = .ok (.aload_n 0, 1) := by decide +kernel
theorem dJ11_length_1 : decode cJ11_length 1 = .ok (.invokespecial 343, 3) := by decide +kernel
theorem dJ11_length_4 : decode cJ11_length 4 = .ok (.ireturn, 1) := by decide +kernel
abbrev cJ11_compareTo : ByteArray := prog_26_method_97_code
def yJ11_compareTo : MethodName := ⟨RJ11, "compareTo", "(Ljava/lang/Object;)I"⟩
def dkwJ11_compareTo_0 : List UInt8 := [42, 43, 192, 0, 24, 182, 1, 90, 172]
abbrev dktJ11_compareTo_0 : List UInt8 := dkwJ11_compareTo_0 ++ []
theorem dksJ11_compareTo_0 : cJ11_compareTo.data.toList.drop 0 = dktJ11_compareTo_0 := by decide +kernel
theorem dJ11_compareTo_0 : decode cJ11_compareTo 0 = .ok (.aload_n 0, 1) := dk_42 (dk_at dksJ11_compareTo_0 0 rfl rfl)
theorem dJ11_compareTo_1 : decode cJ11_compareTo 1 = .ok (.aload_n 1, 1) := dk_43 (dk_at dksJ11_compareTo_0 1 rfl rfl)
theorem dJ11_compareTo_2 : decode cJ11_compareTo 2 = .ok (.checkcast 24, 3) := dk_192 0 24 (dk_at dksJ11_compareTo_0 2 rfl rfl)
theorem dJ11_compareTo_5 : decode cJ11_compareTo 5 = .ok (.invokevirtual 346, 3) := dk_182 1 90 (dk_at dksJ11_compareTo_0 5 rfl rfl)
theorem dJ11_compareTo_8 : decode cJ11_compareTo 8 = .ok (.ireturn, 1) := dk_172 (dk_at dksJ11_compareTo_0 8 rfl rfl)
abbrev cJ11_compareTo_2 : ByteArray := prog_26_method_5_code
def yJ11_compareTo_2 : MethodName := ⟨RJ11, "compareTo", "(Ljava/lang/StringBuilder;)I"⟩
def dkwJ11_compareTo_2_0 : List UInt8 := [42, 43, 183, 0, 13, 172]
abbrev dktJ11_compareTo_2_0 : List UInt8 := dkwJ11_compareTo_2_0 ++ []
theorem dksJ11_compareTo_2_0 : cJ11_compareTo_2.data.toList.drop 0 = dktJ11_compareTo_2_0 := by decide +kernel
theorem dJ11_compareTo_2_0 : decode cJ11_compareTo_2 0 = .ok (.aload_n 0, 1) := dk_42 (dk_at dksJ11_compareTo_2_0 0 rfl rfl)
theorem dJ11_compareTo_2_1 : decode cJ11_compareTo_2 1 = .ok (.aload_n 1, 1) := dk_43 (dk_at dksJ11_compareTo_2_0 1 rfl rfl)
theorem dJ11_compareTo_2_2 : decode cJ11_compareTo_2 2 = .ok (.invokespecial 13, 3) := dk_183 0 13 (dk_at dksJ11_compareTo_2_0 2 rfl rfl)
theorem dJ11_compareTo_2_5 : decode cJ11_compareTo_2 5 = .ok (.ireturn, 1) := dk_172 (dk_at dksJ11_compareTo_2_0 5 rfl rfl)
theorem q52 : (Jvm.Cond.initialized "java/lang/StringBuilder") ∈ lw_all := lw_g (lw_at lw_m1 15 rfl) rfl
theorem q309 : (Jvm.Cond.instantiable "java/lang/StringBuilder" (4 : Nat)) ∈ lw_all := lw_g (lw_at lw_m2 32 rfl) rfl
theorem q311 : (Jvm.Cond.instanceMethod ({ cls := "java/lang/StringBuilder", name := "<init>", desc := "()V" } : Jvm.MethodName)) ∈ lw_all := lw_g (lw_at lw_m2 34 rfl) rfl
theorem q312 : (Jvm.Cond.code ({ cls := "java/lang/StringBuilder", name := "<init>", desc := "()V" } : Jvm.MethodName) prog_26_method_1_code (1 : Nat) (Option.none : Option Jvm.ClassFile.FieldType)) ∈ lw_all := lw_g (lw_at lw_m2 35 rfl) rfl
theorem q313 : (Jvm.Cond.methodLink "java/lang/StringBuilder" (1 : Nat) ({ cls := "java/lang/AbstractStringBuilder", name := "<init>", desc := "(I)V" } : Jvm.MethodName)) ∈ lw_all := lw_g (lw_at lw_m2 36 rfl) rfl
theorem q330 : (Jvm.Cond.lays "java/lang/StringBuilder" "java/lang/AbstractStringBuilder" "value" "[B") ∈ lw_all := lw_g (lw_at lw_m2 53 rfl) rfl
theorem q332 : (Jvm.Cond.lays "java/lang/StringBuilder" "java/lang/AbstractStringBuilder" "coder" "B") ∈ lw_all := lw_g (lw_at lw_m2 55 rfl) rfl
theorem q334 : (Jvm.Cond.lays "java/lang/StringBuilder" "java/lang/AbstractStringBuilder" "maybeLatin1" "Z") ∈ lw_all := lw_g (lw_at lw_m2 57 rfl) rfl
theorem q336 : (Jvm.Cond.lays "java/lang/StringBuilder" "java/lang/AbstractStringBuilder" "count" "I") ∈ lw_all := lw_g (lw_at lw_m2 59 rfl) rfl
theorem q338 : (Jvm.Cond.superclass "java/lang/StringBuilder" "java/lang/AbstractStringBuilder") ∈ lw_all := lw_g (lw_at lw_m2 61 rfl) rfl
theorem q341 : (Jvm.Cond.instanceMethod ({ cls := "java/lang/StringBuilder", name := "append", desc := "(Ljava/lang/String;)Ljava/lang/StringBuilder;" } : Jvm.MethodName)) ∈ lw_all := lw_g (lw_at lw_m2 64 rfl) rfl
theorem q342 : (Jvm.Cond.selects "java/lang/StringBuilder" ({ cls := "java/lang/StringBuilder", name := "append", desc := "(Ljava/lang/String;)Ljava/lang/StringBuilder;" } : Jvm.MethodName) ({ cls := "java/lang/StringBuilder", name := "append", desc := "(Ljava/lang/String;)Ljava/lang/StringBuilder;" } : Jvm.MethodName)) ∈ lw_all := lw_g (lw_at lw_m2 65 rfl) rfl
theorem q343 : (Jvm.Cond.code ({ cls := "java/lang/StringBuilder", name := "append", desc := "(Ljava/lang/String;)Ljava/lang/StringBuilder;" } : Jvm.MethodName) prog_26_method_7_code (2 : Nat) (Option.some (Jvm.ClassFile.FieldType.object "java/lang/StringBuilder"))) ∈ lw_all := lw_g (lw_at lw_m2 66 rfl) rfl
theorem q344 : (Jvm.Cond.methodLink "java/lang/StringBuilder" (29 : Nat) ({ cls := "java/lang/AbstractStringBuilder", name := "append", desc := "(Ljava/lang/String;)Ljava/lang/AbstractStringBuilder;" } : Jvm.MethodName)) ∈ lw_all := lw_g (lw_at lw_m2 67 rfl) rfl
theorem q385 : (Jvm.Cond.selects "java/lang/StringBuilder" ({ cls := "java/lang/AbstractStringBuilder", name := "isLatin1", desc := "()Z" } : Jvm.MethodName) ({ cls := "java/lang/AbstractStringBuilder", name := "isLatin1", desc := "()Z" } : Jvm.MethodName)) ∈ lw_all := lw_g (lw_at lw_m2 108 rfl) rfl
theorem q458 : (Jvm.Cond.instanceMethod ({ cls := "java/lang/StringBuilder", name := "append", desc := "(I)Ljava/lang/StringBuilder;" } : Jvm.MethodName)) ∈ lw_all := lw_g (lw_at lw_m2 181 rfl) rfl
theorem q459 : (Jvm.Cond.selects "java/lang/StringBuilder" ({ cls := "java/lang/StringBuilder", name := "append", desc := "(I)Ljava/lang/StringBuilder;" } : Jvm.MethodName) ({ cls := "java/lang/StringBuilder", name := "append", desc := "(I)Ljava/lang/StringBuilder;" } : Jvm.MethodName)) ∈ lw_all := lw_g (lw_at lw_m2 182 rfl) rfl
theorem q460 : (Jvm.Cond.code ({ cls := "java/lang/StringBuilder", name := "append", desc := "(I)Ljava/lang/StringBuilder;" } : Jvm.MethodName) prog_26_method_15_code (2 : Nat) (Option.some (Jvm.ClassFile.FieldType.object "java/lang/StringBuilder"))) ∈ lw_all := lw_g (lw_at lw_m2 183 rfl) rfl
theorem q461 : (Jvm.Cond.methodLink "java/lang/StringBuilder" (53 : Nat) ({ cls := "java/lang/AbstractStringBuilder", name := "append", desc := "(I)Ljava/lang/AbstractStringBuilder;" } : Jvm.MethodName)) ∈ lw_all := lw_g (lw_at lw_m2 184 rfl) rfl
theorem q483 : (Jvm.Cond.instanceMethod ({ cls := "java/lang/StringBuilder", name := "toString", desc := "()Ljava/lang/String;" } : Jvm.MethodName)) ∈ lw_all := lw_g (lw_at lw_m2 206 rfl) rfl
theorem q484 : (Jvm.Cond.selects "java/lang/StringBuilder" ({ cls := "java/lang/StringBuilder", name := "toString", desc := "()Ljava/lang/String;" } : Jvm.MethodName) ({ cls := "java/lang/StringBuilder", name := "toString", desc := "()Ljava/lang/String;" } : Jvm.MethodName)) ∈ lw_all := lw_g (lw_at lw_m2 207 rfl) rfl
theorem q485 : (Jvm.Cond.code ({ cls := "java/lang/StringBuilder", name := "toString", desc := "()Ljava/lang/String;" } : Jvm.MethodName) prog_26_method_42_code (1 : Nat) (Option.some (Jvm.ClassFile.FieldType.object "java/lang/String"))) ∈ lw_all := lw_g (lw_at lw_m2 208 rfl) rfl
theorem q486 : (Jvm.Cond.classLink "java/lang/StringBuilder" (18 : Nat) "java/lang/String") ∈ lw_all := lw_g (lw_at lw_m2 209 rfl) rfl
theorem q487 : (Jvm.Cond.methodLink "java/lang/StringBuilder" (137 : Nat) ({ cls := "java/lang/String", name := "<init>", desc := "(Ljava/lang/StringBuilder;)V" } : Jvm.MethodName)) ∈ lw_all := lw_g (lw_at lw_m2 210 rfl) rfl
theorem q497 : (Jvm.Cond.selects "java/lang/StringBuilder" ({ cls := "java/lang/AbstractStringBuilder", name := "getValue", desc := "()[B" } : Jvm.MethodName) ({ cls := "java/lang/AbstractStringBuilder", name := "getValue", desc := "()[B" } : Jvm.MethodName)) ∈ lw_all := lw_g (lw_at lw_m2 220 rfl) rfl
theorem q502 : (Jvm.Cond.selects "java/lang/StringBuilder" ({ cls := "java/lang/AbstractStringBuilder", name := "length", desc := "()I" } : Jvm.MethodName) ({ cls := "java/lang/StringBuilder", name := "length", desc := "()I" } : Jvm.MethodName)) ∈ lw_all := lw_g (lw_at lw_m2 225 rfl) rfl
theorem q503 : (Jvm.Cond.instanceMethod ({ cls := "java/lang/StringBuilder", name := "length", desc := "()I" } : Jvm.MethodName)) ∈ lw_all := lw_g (lw_at lw_m2 226 rfl) rfl
theorem q504 : (Jvm.Cond.code ({ cls := "java/lang/StringBuilder", name := "length", desc := "()I" } : Jvm.MethodName) prog_26_method_93_code (1 : Nat) (Option.some Jvm.ClassFile.FieldType.int)) ∈ lw_all := lw_g (lw_at lw_m2 227 rfl) rfl
theorem q505 : (Jvm.Cond.methodLink "java/lang/StringBuilder" (343 : Nat) ({ cls := "java/lang/AbstractStringBuilder", name := "length", desc := "()I" } : Jvm.MethodName)) ∈ lw_all := lw_g (lw_at lw_m2 228 rfl) rfl
theorem q804 : (Jvm.Cond.castable "java/lang/StringBuilder" "java/lang/Comparable") ∈ lw_tbl := lw_at lw_m4 47 rfl
theorem q805 : (Jvm.Cond.selects "java/lang/StringBuilder" ({ cls := "java/lang/Comparable", name := "compareTo", desc := "(Ljava/lang/Object;)I" } : Jvm.MethodName) ({ cls := "java/lang/StringBuilder", name := "compareTo", desc := "(Ljava/lang/Object;)I" } : Jvm.MethodName)) ∈ lw_all := lw_g (lw_at lw_m4 48 rfl) rfl
theorem q806 : (Jvm.Cond.unhidden "java/lang/StringBuilder" "compareTo" "(Ljava/lang/Object;)I") ∈ lw_tbl := lw_at lw_m4 49 rfl
theorem q807 : (Jvm.Cond.instanceMethod ({ cls := "java/lang/StringBuilder", name := "compareTo", desc := "(Ljava/lang/Object;)I" } : Jvm.MethodName)) ∈ lw_all := lw_g (lw_at lw_m4 50 rfl) rfl
theorem q808 : (Jvm.Cond.publicMethod ({ cls := "java/lang/StringBuilder", name := "compareTo", desc := "(Ljava/lang/Object;)I" } : Jvm.MethodName)) ∈ lw_tbl := lw_at lw_m4 51 rfl
theorem q809 : (Jvm.Cond.code ({ cls := "java/lang/StringBuilder", name := "compareTo", desc := "(Ljava/lang/Object;)I" } : Jvm.MethodName) prog_26_method_97_code (2 : Nat) (Option.some Jvm.ClassFile.FieldType.int)) ∈ lw_all := lw_g (lw_at lw_m4 52 rfl) rfl
theorem q810 : (Jvm.Cond.classLink "java/lang/StringBuilder" (24 : Nat) "java/lang/StringBuilder") ∈ lw_all := lw_g (lw_at lw_m4 53 rfl) rfl
theorem q811 : (Jvm.Cond.methodLink "java/lang/StringBuilder" (346 : Nat) ({ cls := "java/lang/StringBuilder", name := "compareTo", desc := "(Ljava/lang/StringBuilder;)I" } : Jvm.MethodName)) ∈ lw_all := lw_g (lw_at lw_m4 54 rfl) rfl
theorem q812 : (Jvm.Cond.instanceMethod ({ cls := "java/lang/StringBuilder", name := "compareTo", desc := "(Ljava/lang/StringBuilder;)I" } : Jvm.MethodName)) ∈ lw_all := lw_g (lw_at lw_m4 55 rfl) rfl
theorem q813 : (Jvm.Cond.selects "java/lang/StringBuilder" ({ cls := "java/lang/StringBuilder", name := "compareTo", desc := "(Ljava/lang/StringBuilder;)I" } : Jvm.MethodName) ({ cls := "java/lang/StringBuilder", name := "compareTo", desc := "(Ljava/lang/StringBuilder;)I" } : Jvm.MethodName)) ∈ lw_all := lw_g (lw_at lw_m4 56 rfl) rfl
theorem q814 : (Jvm.Cond.code ({ cls := "java/lang/StringBuilder", name := "compareTo", desc := "(Ljava/lang/StringBuilder;)I" } : Jvm.MethodName) prog_26_method_5_code (2 : Nat) (Option.some Jvm.ClassFile.FieldType.int)) ∈ lw_all := lw_g (lw_at lw_m4 57 rfl) rfl
theorem q815 : (Jvm.Cond.methodLink "java/lang/StringBuilder" (13 : Nat) ({ cls := "java/lang/AbstractStringBuilder", name := "compareTo", desc := "(Ljava/lang/AbstractStringBuilder;)I" } : Jvm.MethodName)) ∈ lw_all := lw_g (lw_at lw_m4 58 rfl) rfl
theorem q888 : (Jvm.Cond.selects "java/lang/StringBuilder" ({ cls := "java/lang/Object", name := "getClass", desc := "()Ljava/lang/Class;" } : Jvm.MethodName) ({ cls := "java/lang/Object", name := "getClass", desc := "()Ljava/lang/Class;" } : Jvm.MethodName)) ∈ lw_all := lw_g (lw_at lw_m4 131 rfl) rfl
theorem q1234 : (Jvm.Cond.selects "java/lang/StringBuilder" ({ cls := "java/lang/Object", name := "equals", desc := "(Ljava/lang/Object;)Z" } : Jvm.MethodName) ({ cls := "java/lang/Object", name := "equals", desc := "(Ljava/lang/Object;)Z" } : Jvm.MethodName)) ∈ lw_all := lw_g (lw_at lw_m5 237 rfl) rfl
theorem q1579 : (Jvm.Cond.castable "java/lang/StringBuilder" "java/lang/Object") ∈ lw_tbl := lw_at lw_m7 102 rfl
theorem in_J11 : ∀ w ∈ wsJ110, w ∈ lw_all := lw_in wsJ110 [330, 332, 334, 336] (by decide +kernel) (by decide +kernel)
/-! java/lang/StringLatin1 -/
set_option maxRecDepth 100000
def RJ16 : String := "java/lang/StringLatin1"
abbrev cJ16_inflate : ByteArray := prog_27_method_50_code
def yJ16_inflate : MethodName := ⟨RJ16, "inflate", "([BI[BII)V"⟩
def dkwJ16_inflate_0 : List UInt8 := [42, 27, 44, 29, 21, 4, 184, 0, 240, 177]
abbrev dktJ16_inflate_0 : List UInt8 := dkwJ16_inflate_0 ++ []
theorem dksJ16_inflate_0 : cJ16_inflate.data.toList.drop 0 = dktJ16_inflate_0 := by decide +kernel
theorem dJ16_inflate_0 : decode cJ16_inflate 0 = .ok (.aload_n 0, 1) := dk_42 (dk_at dksJ16_inflate_0 0 rfl rfl)
theorem dJ16_inflate_1 : decode cJ16_inflate 1 = .ok (.iload_n 1, 1) := dk_27 (dk_at dksJ16_inflate_0 1 rfl rfl)
theorem dJ16_inflate_2 : decode cJ16_inflate 2 = .ok (.aload_n 2, 1) := dk_44 (dk_at dksJ16_inflate_0 2 rfl rfl)
theorem dJ16_inflate_3 : decode cJ16_inflate 3 = .ok (.iload_n 3, 1) := dk_29 (dk_at dksJ16_inflate_0 3 rfl rfl)
theorem dJ16_inflate_4 : decode cJ16_inflate 4 = .ok (.iload 4, 2) := dk_21 4 (dk_at dksJ16_inflate_0 4 rfl rfl)
theorem dJ16_inflate_6 : decode cJ16_inflate 6 = .ok (.invokestatic 240, 3) := dk_184 0 240 (dk_at dksJ16_inflate_0 6 rfl rfl)
theorem dJ16_inflate_9 : decode cJ16_inflate 9 = .ok (.return_, 1) := dk_177 (dk_at dksJ16_inflate_0 9 rfl rfl)
abbrev cJ16_compareTo : ByteArray := prog_27_method_14_code
def yJ16_compareTo : MethodName := ⟨RJ16, "compareTo", "([B[B)I"⟩
def dkwJ16_compareTo_0 : List UInt8 := [42, 190, 61, 43, 190, 62, 42, 43, 28, 29, 184, 0, 34, 172]
abbrev dktJ16_compareTo_0 : List UInt8 := dkwJ16_compareTo_0 ++ []
theorem dksJ16_compareTo_0 : cJ16_compareTo.data.toList.drop 0 = dktJ16_compareTo_0 := by decide +kernel
theorem dJ16_compareTo_0 : decode cJ16_compareTo 0 = .ok (.aload_n 0, 1) := dk_42 (dk_at dksJ16_compareTo_0 0 rfl rfl)
theorem dJ16_compareTo_1 : decode cJ16_compareTo 1 = .ok (.arraylength, 1) := dk_190 (dk_at dksJ16_compareTo_0 1 rfl rfl)
theorem dJ16_compareTo_2 : decode cJ16_compareTo 2 = .ok (.istore_n 2, 1) := dk_61 (dk_at dksJ16_compareTo_0 2 rfl rfl)
theorem dJ16_compareTo_3 : decode cJ16_compareTo 3 = .ok (.aload_n 1, 1) := dk_43 (dk_at dksJ16_compareTo_0 3 rfl rfl)
theorem dJ16_compareTo_4 : decode cJ16_compareTo 4 = .ok (.arraylength, 1) := dk_190 (dk_at dksJ16_compareTo_0 4 rfl rfl)
theorem dJ16_compareTo_5 : decode cJ16_compareTo 5 = .ok (.istore_n 3, 1) := dk_62 (dk_at dksJ16_compareTo_0 5 rfl rfl)
theorem dJ16_compareTo_6 : decode cJ16_compareTo 6 = .ok (.aload_n 0, 1) := dk_42 (dk_at dksJ16_compareTo_0 6 rfl rfl)
theorem dJ16_compareTo_7 : decode cJ16_compareTo 7 = .ok (.aload_n 1, 1) := dk_43 (dk_at dksJ16_compareTo_0 7 rfl rfl)
theorem dJ16_compareTo_8 : decode cJ16_compareTo 8 = .ok (.iload_n 2, 1) := dk_28 (dk_at dksJ16_compareTo_0 8 rfl rfl)
theorem dJ16_compareTo_9 : decode cJ16_compareTo 9 = .ok (.iload_n 3, 1) := dk_29 (dk_at dksJ16_compareTo_0 9 rfl rfl)
theorem dJ16_compareTo_10 : decode cJ16_compareTo 10 = .ok (.invokestatic 34, 3) := dk_184 0 34 (dk_at dksJ16_compareTo_0 10 rfl rfl)
theorem dJ16_compareTo_13 : decode cJ16_compareTo 13 = .ok (.ireturn, 1) := dk_172 (dk_at dksJ16_compareTo_0 13 rfl rfl)
abbrev cJ16_compareTo_2 : ByteArray := prog_27_method_15_code
def yJ16_compareTo_2 : MethodName := ⟨RJ16, "compareTo", "([B[BII)I"⟩
def dkwJ16_compareTo_2_1 : List UInt8 := [167, 0, 16, 42, 21, 5, 184, 0, 50, 43, 21, 5, 184, 0, 50, 100, 172]
abbrev dktJ16_compareTo_2_1 : List UInt8 := dkwJ16_compareTo_2_1 ++ []
def dkwJ16_compareTo_2_0 : List UInt8 := [28, 29, 184, 0, 38, 54, 4, 42, 43, 21, 4, 184, 0, 44, 54, 5, 21, 5, 156, 0, 9, 28, 29, 100]
abbrev dktJ16_compareTo_2_0 : List UInt8 := dkwJ16_compareTo_2_0 ++ dktJ16_compareTo_2_1
theorem dksJ16_compareTo_2_0 : cJ16_compareTo_2.data.toList.drop 0 = dktJ16_compareTo_2_0 := by decide +kernel
theorem dksJ16_compareTo_2_1 : cJ16_compareTo_2.data.toList.drop 24 = dktJ16_compareTo_2_1 := dk_seg dksJ16_compareTo_2_0 24 rfl rfl
theorem dJ16_compareTo_2_0 : decode cJ16_compareTo_2 0 = .ok (.iload_n 2, 1) := dk_28 (dk_at dksJ16_compareTo_2_0 0 rfl rfl)
theorem dJ16_compareTo_2_1 : decode cJ16_compareTo_2 1 = .ok (.iload_n 3, 1) := dk_29 (dk_at dksJ16_compareTo_2_0 1 rfl rfl)
theorem dJ16_compareTo_2_2 : decode cJ16_compareTo_2 2 = .ok (.invokestatic 38, 3) := dk_184 0 38 (dk_at dksJ16_compareTo_2_0 2 rfl rfl)
theorem dJ16_compareTo_2_5 : decode cJ16_compareTo_2 5 = .ok (.istore 4, 2) := dk_54 4 (dk_at dksJ16_compareTo_2_0 5 rfl rfl)
theorem dJ16_compareTo_2_7 : decode cJ16_compareTo_2 7 = .ok (.aload_n 0, 1) := dk_42 (dk_at dksJ16_compareTo_2_0 7 rfl rfl)
theorem dJ16_compareTo_2_8 : decode cJ16_compareTo_2 8 = .ok (.aload_n 1, 1) := dk_43 (dk_at dksJ16_compareTo_2_0 8 rfl rfl)
theorem dJ16_compareTo_2_9 : decode cJ16_compareTo_2 9 = .ok (.iload 4, 2) := dk_21 4 (dk_at dksJ16_compareTo_2_0 9 rfl rfl)
theorem dJ16_compareTo_2_11 : decode cJ16_compareTo_2 11 = .ok (.invokestatic 44, 3) := dk_184 0 44 (dk_at dksJ16_compareTo_2_0 11 rfl rfl)
theorem dJ16_compareTo_2_14 : decode cJ16_compareTo_2 14 = .ok (.istore 5, 2) := dk_54 5 (dk_at dksJ16_compareTo_2_0 14 rfl rfl)
theorem dJ16_compareTo_2_16 : decode cJ16_compareTo_2 16 = .ok (.iload 5, 2) := dk_21 5 (dk_at dksJ16_compareTo_2_0 16 rfl rfl)
theorem dJ16_compareTo_2_18 : decode cJ16_compareTo_2 18 = .ok (.ifCond .ge 9, 3) := dk_156 0 9 (dk_at dksJ16_compareTo_2_0 18 rfl rfl)
theorem dJ16_compareTo_2_21 : decode cJ16_compareTo_2 21 = .ok (.iload_n 2, 1) := dk_28 (dk_at dksJ16_compareTo_2_0 21 rfl rfl)
theorem dJ16_compareTo_2_22 : decode cJ16_compareTo_2 22 = .ok (.iload_n 3, 1) := dk_29 (dk_at dksJ16_compareTo_2_0 22 rfl rfl)
theorem dJ16_compareTo_2_23 : decode cJ16_compareTo_2 23 = .ok (.isub, 1) := dk_100 (dk_at dksJ16_compareTo_2_0 23 rfl rfl)
theorem dJ16_compareTo_2_24 : decode cJ16_compareTo_2 24 = .ok (.goto 16, 3) := dk_167 0 16 (dk_at dksJ16_compareTo_2_1 0 rfl rfl)
theorem dJ16_compareTo_2_27 : decode cJ16_compareTo_2 27 = .ok (.aload_n 0, 1) := dk_42 (dk_at dksJ16_compareTo_2_1 3 rfl rfl)
theorem dJ16_compareTo_2_28 : decode cJ16_compareTo_2 28 = .ok (.iload 5, 2) := dk_21 5 (dk_at dksJ16_compareTo_2_1 4 rfl rfl)
theorem dJ16_compareTo_2_30 : decode cJ16_compareTo_2 30 = .ok (.invokestatic 50, 3) := dk_184 0 50 (dk_at dksJ16_compareTo_2_1 6 rfl rfl)
theorem dJ16_compareTo_2_33 : decode cJ16_compareTo_2 33 = .ok (.aload_n 1, 1) := dk_43 (dk_at dksJ16_compareTo_2_1 9 rfl rfl)
theorem dJ16_compareTo_2_34 : decode cJ16_compareTo_2 34 = .ok (.iload 5, 2) := dk_21 5 (dk_at dksJ16_compareTo_2_1 10 rfl rfl)
theorem dJ16_compareTo_2_36 : decode cJ16_compareTo_2 36 = .ok (.invokestatic 50, 3) := dk_184 0 50 (dk_at dksJ16_compareTo_2_1 12 rfl rfl)
theorem dJ16_compareTo_2_39 : decode cJ16_compareTo_2 39 = .ok (.isub, 1) := dk_100 (dk_at dksJ16_compareTo_2_1 15 rfl rfl)
theorem dJ16_compareTo_2_40 : decode cJ16_compareTo_2 40 = .ok (.ireturn, 1) := dk_172 (dk_at dksJ16_compareTo_2_1 16 rfl rfl)
abbrev cJ16_getChar : ByteArray := prog_27_method_44_code
def yJ16_getChar : MethodName := ⟨RJ16, "getChar", "([BI)C"⟩
def dkwJ16_getChar_0 : List UInt8 := [42, 27, 51, 17, 0, 255, 126, 146, 172]
abbrev dktJ16_getChar_0 : List UInt8 := dkwJ16_getChar_0 ++ []
theorem dksJ16_getChar_0 : cJ16_getChar.data.toList.drop 0 = dktJ16_getChar_0 := by decide +kernel
theorem dJ16_getChar_0 : decode cJ16_getChar 0 = .ok (.aload_n 0, 1) := dk_42 (dk_at dksJ16_getChar_0 0 rfl rfl)
theorem dJ16_getChar_1 : decode cJ16_getChar 1 = .ok (.iload_n 1, 1) := dk_27 (dk_at dksJ16_getChar_0 1 rfl rfl)
theorem dJ16_getChar_2 : decode cJ16_getChar 2 = .ok (.baload, 1) := dk_51 (dk_at dksJ16_getChar_0 2 rfl rfl)
theorem dJ16_getChar_3 : decode cJ16_getChar 3 = .ok (.sipush 255, 3) := dk_17 0 255 (dk_at dksJ16_getChar_0 3 rfl rfl)
theorem dJ16_getChar_6 : decode cJ16_getChar 6 = .ok (.iand, 1) := dk_126 (dk_at dksJ16_getChar_0 6 rfl rfl)
theorem dJ16_getChar_7 : decode cJ16_getChar 7 = .ok (.i2c, 1) := dk_146 (dk_at dksJ16_getChar_0 7 rfl rfl)
theorem dJ16_getChar_8 : decode cJ16_getChar 8 = .ok (.ireturn, 1) := dk_172 (dk_at dksJ16_getChar_0 8 rfl rfl)
abbrev cJ16_compareToUTF16 : ByteArray := prog_27_method_16_code
def yJ16_compareToUTF16 : MethodName := ⟨RJ16, "compareToUTF16", "([B[B)I"⟩
def dkwJ16_compareToUTF16_0 : List UInt8 := [42, 184, 0, 54, 61, 43, 184, 0, 58, 62, 42, 43, 28, 29, 184, 0, 59, 172]
abbrev dktJ16_compareToUTF16_0 : List UInt8 := dkwJ16_compareToUTF16_0 ++ []
theorem dksJ16_compareToUTF16_0 : cJ16_compareToUTF16.data.toList.drop 0 = dktJ16_compareToUTF16_0 := by decide +kernel
theorem dJ16_compareToUTF16_0 : decode cJ16_compareToUTF16 0 = .ok (.aload_n 0, 1) := dk_42 (dk_at dksJ16_compareToUTF16_0 0 rfl rfl)
theorem dJ16_compareToUTF16_1 : decode cJ16_compareToUTF16 1 = .ok (.invokestatic 54, 3) := dk_184 0 54 (dk_at dksJ16_compareToUTF16_0 1 rfl rfl)
theorem dJ16_compareToUTF16_4 : decode cJ16_compareToUTF16 4 = .ok (.istore_n 2, 1) := dk_61 (dk_at dksJ16_compareToUTF16_0 4 rfl rfl)
theorem dJ16_compareToUTF16_5 : decode cJ16_compareToUTF16 5 = .ok (.aload_n 1, 1) := dk_43 (dk_at dksJ16_compareToUTF16_0 5 rfl rfl)
theorem dJ16_compareToUTF16_6 : decode cJ16_compareToUTF16 6 = .ok (.invokestatic 58, 3) := dk_184 0 58 (dk_at dksJ16_compareToUTF16_0 6 rfl rfl)
theorem dJ16_compareToUTF16_9 : decode cJ16_compareToUTF16 9 = .ok (.istore_n 3, 1) := dk_62 (dk_at dksJ16_compareToUTF16_0 9 rfl rfl)
theorem dJ16_compareToUTF16_10 : decode cJ16_compareToUTF16 10 = .ok (.aload_n 0, 1) := dk_42 (dk_at dksJ16_compareToUTF16_0 10 rfl rfl)
theorem dJ16_compareToUTF16_11 : decode cJ16_compareToUTF16 11 = .ok (.aload_n 1, 1) := dk_43 (dk_at dksJ16_compareToUTF16_0 11 rfl rfl)
theorem dJ16_compareToUTF16_12 : decode cJ16_compareToUTF16 12 = .ok (.iload_n 2, 1) := dk_28 (dk_at dksJ16_compareToUTF16_0 12 rfl rfl)
theorem dJ16_compareToUTF16_13 : decode cJ16_compareToUTF16 13 = .ok (.iload_n 3, 1) := dk_29 (dk_at dksJ16_compareToUTF16_0 13 rfl rfl)
theorem dJ16_compareToUTF16_14 : decode cJ16_compareToUTF16 14 = .ok (.invokestatic 59, 3) := dk_184 0 59 (dk_at dksJ16_compareToUTF16_0 14 rfl rfl)
theorem dJ16_compareToUTF16_17 : decode cJ16_compareToUTF16 17 = .ok (.ireturn, 1) := dk_172 (dk_at dksJ16_compareToUTF16_0 17 rfl rfl)
abbrev cJ16_length : ByteArray := prog_27_method_5_code
def yJ16_length : MethodName := ⟨RJ16, "length", "([B)I"⟩
theorem dJ16_length_0 : decode cJ16_length 0 = .ok (.aload_n 0, 1) := by decide +kernel
theorem dJ16_length_1 : decode cJ16_length 1 = .ok (.arraylength, 1) := by decide +kernel
theorem dJ16_length_2 : decode cJ16_length 2 = .ok (.ireturn, 1) := by decide +kernel
abbrev cJ16_compareToUTF16Values : ByteArray := prog_27_method_18_code
def yJ16_compareToUTF16Values : MethodName := ⟨RJ16, "compareToUTF16Values", "([B[BII)I"⟩
def dkwJ16_compareToUTF16Values_2 : List UInt8 := [132, 5, 1, 167, 255, 217, 28, 29, 100, 172]
abbrev dktJ16_compareToUTF16Values_2 : List UInt8 := dkwJ16_compareToUTF16Values_2 ++ []
def dkwJ16_compareToUTF16Values_1 : List UInt8 := [54, 6, 43, 21, 5, 184, 0, 65, 54, 7, 21, 6, 21, 7, 159, 0, 9, 21, 6, 21, 7, 100, 172]
abbrev dktJ16_compareToUTF16Values_1 : List UInt8 := dkwJ16_compareToUTF16Values_1 ++ dktJ16_compareToUTF16Values_2
def dkwJ16_compareToUTF16Values_0 : List UInt8 := [28, 29, 184, 0, 38, 54, 4, 3, 54, 5, 21, 5, 21, 4, 162, 0, 38, 42, 21, 5, 184, 0, 50]
abbrev dktJ16_compareToUTF16Values_0 : List UInt8 := dkwJ16_compareToUTF16Values_0 ++ dktJ16_compareToUTF16Values_1
theorem dksJ16_compareToUTF16Values_0 : cJ16_compareToUTF16Values.data.toList.drop 0 = dktJ16_compareToUTF16Values_0 := by decide +kernel
theorem dksJ16_compareToUTF16Values_1 : cJ16_compareToUTF16Values.data.toList.drop 23 = dktJ16_compareToUTF16Values_1 := dk_seg dksJ16_compareToUTF16Values_0 23 rfl rfl
theorem dksJ16_compareToUTF16Values_2 : cJ16_compareToUTF16Values.data.toList.drop 46 = dktJ16_compareToUTF16Values_2 := dk_seg dksJ16_compareToUTF16Values_1 23 rfl rfl
theorem dJ16_compareToUTF16Values_0 : decode cJ16_compareToUTF16Values 0 = .ok (.iload_n 2, 1) := dk_28 (dk_at dksJ16_compareToUTF16Values_0 0 rfl rfl)
theorem dJ16_compareToUTF16Values_1 : decode cJ16_compareToUTF16Values 1 = .ok (.iload_n 3, 1) := dk_29 (dk_at dksJ16_compareToUTF16Values_0 1 rfl rfl)
theorem dJ16_compareToUTF16Values_2 : decode cJ16_compareToUTF16Values 2 = .ok (.invokestatic 38, 3) := dk_184 0 38 (dk_at dksJ16_compareToUTF16Values_0 2 rfl rfl)
theorem dJ16_compareToUTF16Values_5 : decode cJ16_compareToUTF16Values 5 = .ok (.istore 4, 2) := dk_54 4 (dk_at dksJ16_compareToUTF16Values_0 5 rfl rfl)
theorem dJ16_compareToUTF16Values_7 : decode cJ16_compareToUTF16Values 7 = .ok (.iconst 0, 1) := dk_3 (dk_at dksJ16_compareToUTF16Values_0 7 rfl rfl)
theorem dJ16_compareToUTF16Values_8 : decode cJ16_compareToUTF16Values 8 = .ok (.istore 5, 2) := dk_54 5 (dk_at dksJ16_compareToUTF16Values_0 8 rfl rfl)
theorem dJ16_compareToUTF16Values_10 : decode cJ16_compareToUTF16Values 10 = .ok (.iload 5, 2) := dk_21 5 (dk_at dksJ16_compareToUTF16Values_0 10 rfl rfl)
theorem dJ16_compareToUTF16Values_12 : decode cJ16_compareToUTF16Values 12 = .ok (.iload 4, 2) := dk_21 4 (dk_at dksJ16_compareToUTF16Values_0 12 rfl rfl)
theorem dJ16_compareToUTF16Values_14 : decode cJ16_compareToUTF16Values 14 = .ok (.if_icmp .ge 38, 3) := dk_162 0 38 (dk_at dksJ16_compareToUTF16Values_0 14 rfl rfl)
theorem dJ16_compareToUTF16Values_17 : decode cJ16_compareToUTF16Values 17 = .ok (.aload_n 0, 1) := dk_42 (dk_at dksJ16_compareToUTF16Values_0 17 rfl rfl)
theorem dJ16_compareToUTF16Values_18 : decode cJ16_compareToUTF16Values 18 = .ok (.iload 5, 2) := dk_21 5 (dk_at dksJ16_compareToUTF16Values_0 18 rfl rfl)
theorem dJ16_compareToUTF16Values_20 : decode cJ16_compareToUTF16Values 20 = .ok (.invokestatic 50, 3) := dk_184 0 50 (dk_at dksJ16_compareToUTF16Values_0 20 rfl rfl)
theorem dJ16_compareToUTF16Values_23 : decode cJ16_compareToUTF16Values 23 = .ok (.istore 6, 2) := dk_54 6 (dk_at dksJ16_compareToUTF16Values_1 0 rfl rfl)
theorem dJ16_compareToUTF16Values_25 : decode cJ16_compareToUTF16Values 25 = .ok (.aload_n 1, 1) := dk_43 (dk_at dksJ16_compareToUTF16Values_1 2 rfl rfl)
theorem dJ16_compareToUTF16Values_26 : decode cJ16_compareToUTF16Values 26 = .ok (.iload 5, 2) := dk_21 5 (dk_at dksJ16_compareToUTF16Values_1 3 rfl rfl)
theorem dJ16_compareToUTF16Values_28 : decode cJ16_compareToUTF16Values 28 = .ok (.invokestatic 65, 3) := dk_184 0 65 (dk_at dksJ16_compareToUTF16Values_1 5 rfl rfl)
theorem dJ16_compareToUTF16Values_31 : decode cJ16_compareToUTF16Values 31 = .ok (.istore 7, 2) := dk_54 7 (dk_at dksJ16_compareToUTF16Values_1 8 rfl rfl)
theorem dJ16_compareToUTF16Values_33 : decode cJ16_compareToUTF16Values 33 = .ok (.iload 6, 2) := dk_21 6 (dk_at dksJ16_compareToUTF16Values_1 10 rfl rfl)
theorem dJ16_compareToUTF16Values_35 : decode cJ16_compareToUTF16Values 35 = .ok (.iload 7, 2) := dk_21 7 (dk_at dksJ16_compareToUTF16Values_1 12 rfl rfl)
theorem dJ16_compareToUTF16Values_37 : decode cJ16_compareToUTF16Values 37 = .ok (.if_icmp .eq 9, 3) := dk_159 0 9 (dk_at dksJ16_compareToUTF16Values_1 14 rfl rfl)
theorem dJ16_compareToUTF16Values_40 : decode cJ16_compareToUTF16Values 40 = .ok (.iload 6, 2) := dk_21 6 (dk_at dksJ16_compareToUTF16Values_1 17 rfl rfl)
theorem dJ16_compareToUTF16Values_42 : decode cJ16_compareToUTF16Values 42 = .ok (.iload 7, 2) := dk_21 7 (dk_at dksJ16_compareToUTF16Values_1 19 rfl rfl)
theorem dJ16_compareToUTF16Values_44 : decode cJ16_compareToUTF16Values 44 = .ok (.isub, 1) := dk_100 (dk_at dksJ16_compareToUTF16Values_1 21 rfl rfl)
theorem dJ16_compareToUTF16Values_45 : decode cJ16_compareToUTF16Values 45 = .ok (.ireturn, 1) := dk_172 (dk_at dksJ16_compareToUTF16Values_1 22 rfl rfl)
theorem dJ16_compareToUTF16Values_46 : decode cJ16_compareToUTF16Values 46 = .ok (.iinc 5 1, 3) := dk_132 5 1 (dk_at dksJ16_compareToUTF16Values_2 0 rfl rfl)
theorem dJ16_compareToUTF16Values_49 : decode cJ16_compareToUTF16Values 49 = .ok (.goto (-39), 3) := dk_167 255 217 (dk_at dksJ16_compareToUTF16Values_2 3 rfl rfl)
theorem dJ16_compareToUTF16Values_52 : decode cJ16_compareToUTF16Values 52 = .ok (.iload_n 2, 1) := dk_28 (dk_at dksJ16_compareToUTF16Values_2 6 rfl rfl)
theorem dJ16_compareToUTF16Values_53 : decode cJ16_compareToUTF16Values 53 = .ok (.iload_n 3, 1) := dk_29 (dk_at dksJ16_compareToUTF16Values_2 7 rfl rfl)
theorem dJ16_compareToUTF16Values_54 : decode cJ16_compareToUTF16Values 54 = .ok (.isub, 1) := dk_100 (dk_at dksJ16_compareToUTF16Values_2 8 rfl rfl)
theorem dJ16_compareToUTF16Values_55 : decode cJ16_compareToUTF16Values 55 = .ok (.ireturn, 1) := dk_172 (dk_at dksJ16_compareToUTF16Values_2 9 rfl rfl)
abbrev cJ16_compareToUTF16_2 : ByteArray := prog_27_method_17_code
def yJ16_compareToUTF16_2 : MethodName := ⟨RJ16, "compareToUTF16", "([B[BII)I"⟩
def dkwJ16_compareToUTF16_2_0 : List UInt8 := [28, 42, 184, 0, 54, 184, 0, 62, 29, 43, 184, 0, 58, 184, 0, 62, 42, 43, 28, 29, 184, 0, 59, 172]
abbrev dktJ16_compareToUTF16_2_0 : List UInt8 := dkwJ16_compareToUTF16_2_0 ++ []
theorem dksJ16_compareToUTF16_2_0 : cJ16_compareToUTF16_2.data.toList.drop 0 = dktJ16_compareToUTF16_2_0 := by decide +kernel
theorem dJ16_compareToUTF16_2_0 : decode cJ16_compareToUTF16_2 0 = .ok (.iload_n 2, 1) := dk_28 (dk_at dksJ16_compareToUTF16_2_0 0 rfl rfl)
theorem dJ16_compareToUTF16_2_1 : decode cJ16_compareToUTF16_2 1 = .ok (.aload_n 0, 1) := dk_42 (dk_at dksJ16_compareToUTF16_2_0 1 rfl rfl)
theorem dJ16_compareToUTF16_2_2 : decode cJ16_compareToUTF16_2 2 = .ok (.invokestatic 54, 3) := dk_184 0 54 (dk_at dksJ16_compareToUTF16_2_0 2 rfl rfl)
theorem dJ16_compareToUTF16_2_5 : decode cJ16_compareToUTF16_2 5 = .ok (.invokestatic 62, 3) := dk_184 0 62 (dk_at dksJ16_compareToUTF16_2_0 5 rfl rfl)
theorem dJ16_compareToUTF16_2_8 : decode cJ16_compareToUTF16_2 8 = .ok (.iload_n 3, 1) := dk_29 (dk_at dksJ16_compareToUTF16_2_0 8 rfl rfl)
theorem dJ16_compareToUTF16_2_9 : decode cJ16_compareToUTF16_2 9 = .ok (.aload_n 1, 1) := dk_43 (dk_at dksJ16_compareToUTF16_2_0 9 rfl rfl)
theorem dJ16_compareToUTF16_2_10 : decode cJ16_compareToUTF16_2 10 = .ok (.invokestatic 58, 3) := dk_184 0 58 (dk_at dksJ16_compareToUTF16_2_0 10 rfl rfl)
theorem dJ16_compareToUTF16_2_13 : decode cJ16_compareToUTF16_2 13 = .ok (.invokestatic 62, 3) := dk_184 0 62 (dk_at dksJ16_compareToUTF16_2_0 13 rfl rfl)
theorem dJ16_compareToUTF16_2_16 : decode cJ16_compareToUTF16_2 16 = .ok (.aload_n 0, 1) := dk_42 (dk_at dksJ16_compareToUTF16_2_0 16 rfl rfl)
theorem dJ16_compareToUTF16_2_17 : decode cJ16_compareToUTF16_2 17 = .ok (.aload_n 1, 1) := dk_43 (dk_at dksJ16_compareToUTF16_2_0 17 rfl rfl)
theorem dJ16_compareToUTF16_2_18 : decode cJ16_compareToUTF16_2 18 = .ok (.iload_n 2, 1) := dk_28 (dk_at dksJ16_compareToUTF16_2_0 18 rfl rfl)
theorem dJ16_compareToUTF16_2_19 : decode cJ16_compareToUTF16_2 19 = .ok (.iload_n 3, 1) := dk_29 (dk_at dksJ16_compareToUTF16_2_0 19 rfl rfl)
theorem dJ16_compareToUTF16_2_20 : decode cJ16_compareToUTF16_2 20 = .ok (.invokestatic 59, 3) := dk_184 0 59 (dk_at dksJ16_compareToUTF16_2_0 20 rfl rfl)
theorem dJ16_compareToUTF16_2_23 : decode cJ16_compareToUTF16_2 23 = .ok (.ireturn, 1) := dk_172 (dk_at dksJ16_compareToUTF16_2_0 23 rfl rfl)
abbrev cJ16_equals : ByteArray := prog_27_method_13_code
def yJ16_equals : MethodName := ⟨RJ16, "equals", "([B[B)Z"⟩
def dkwJ16_equals_1 : List UInt8 := [3, 172, 132, 2, 1, 167, 255, 236, 4, 172, 3, 172]
abbrev dktJ16_equals_1 : List UInt8 := dkwJ16_equals_1 ++ []
def dkwJ16_equals_0 : List UInt8 := [42, 190, 43, 190, 160, 0, 30, 3, 61, 28, 42, 190, 162, 0, 20, 42, 28, 51, 43, 28, 51, 159, 0, 5]
abbrev dktJ16_equals_0 : List UInt8 := dkwJ16_equals_0 ++ dktJ16_equals_1
theorem dksJ16_equals_0 : cJ16_equals.data.toList.drop 0 = dktJ16_equals_0 := by decide +kernel
theorem dksJ16_equals_1 : cJ16_equals.data.toList.drop 24 = dktJ16_equals_1 := dk_seg dksJ16_equals_0 24 rfl rfl
theorem dJ16_equals_0 : decode cJ16_equals 0 = .ok (.aload_n 0, 1) := dk_42 (dk_at dksJ16_equals_0 0 rfl rfl)
theorem dJ16_equals_1 : decode cJ16_equals 1 = .ok (.arraylength, 1) := dk_190 (dk_at dksJ16_equals_0 1 rfl rfl)
theorem dJ16_equals_2 : decode cJ16_equals 2 = .ok (.aload_n 1, 1) := dk_43 (dk_at dksJ16_equals_0 2 rfl rfl)
theorem dJ16_equals_3 : decode cJ16_equals 3 = .ok (.arraylength, 1) := dk_190 (dk_at dksJ16_equals_0 3 rfl rfl)
theorem dJ16_equals_4 : decode cJ16_equals 4 = .ok (.if_icmp .ne 30, 3) := dk_160 0 30 (dk_at dksJ16_equals_0 4 rfl rfl)
theorem dJ16_equals_7 : decode cJ16_equals 7 = .ok (.iconst 0, 1) := dk_3 (dk_at dksJ16_equals_0 7 rfl rfl)
theorem dJ16_equals_8 : decode cJ16_equals 8 = .ok (.istore_n 2, 1) := dk_61 (dk_at dksJ16_equals_0 8 rfl rfl)
theorem dJ16_equals_9 : decode cJ16_equals 9 = .ok (.iload_n 2, 1) := dk_28 (dk_at dksJ16_equals_0 9 rfl rfl)
theorem dJ16_equals_10 : decode cJ16_equals 10 = .ok (.aload_n 0, 1) := dk_42 (dk_at dksJ16_equals_0 10 rfl rfl)
theorem dJ16_equals_11 : decode cJ16_equals 11 = .ok (.arraylength, 1) := dk_190 (dk_at dksJ16_equals_0 11 rfl rfl)
theorem dJ16_equals_12 : decode cJ16_equals 12 = .ok (.if_icmp .ge 20, 3) := dk_162 0 20 (dk_at dksJ16_equals_0 12 rfl rfl)
theorem dJ16_equals_15 : decode cJ16_equals 15 = .ok (.aload_n 0, 1) := dk_42 (dk_at dksJ16_equals_0 15 rfl rfl)
theorem dJ16_equals_16 : decode cJ16_equals 16 = .ok (.iload_n 2, 1) := dk_28 (dk_at dksJ16_equals_0 16 rfl rfl)
theorem dJ16_equals_17 : decode cJ16_equals 17 = .ok (.baload, 1) := dk_51 (dk_at dksJ16_equals_0 17 rfl rfl)
theorem dJ16_equals_18 : decode cJ16_equals 18 = .ok (.aload_n 1, 1) := dk_43 (dk_at dksJ16_equals_0 18 rfl rfl)
theorem dJ16_equals_19 : decode cJ16_equals 19 = .ok (.iload_n 2, 1) := dk_28 (dk_at dksJ16_equals_0 19 rfl rfl)
theorem dJ16_equals_20 : decode cJ16_equals 20 = .ok (.baload, 1) := dk_51 (dk_at dksJ16_equals_0 20 rfl rfl)
theorem dJ16_equals_21 : decode cJ16_equals 21 = .ok (.if_icmp .eq 5, 3) := dk_159 0 5 (dk_at dksJ16_equals_0 21 rfl rfl)
theorem dJ16_equals_24 : decode cJ16_equals 24 = .ok (.iconst 0, 1) := dk_3 (dk_at dksJ16_equals_1 0 rfl rfl)
theorem dJ16_equals_25 : decode cJ16_equals 25 = .ok (.ireturn, 1) := dk_172 (dk_at dksJ16_equals_1 1 rfl rfl)
theorem dJ16_equals_26 : decode cJ16_equals 26 = .ok (.iinc 2 1, 3) := dk_132 2 1 (dk_at dksJ16_equals_1 2 rfl rfl)
theorem dJ16_equals_29 : decode cJ16_equals 29 = .ok (.goto (-20), 3) := dk_167 255 236 (dk_at dksJ16_equals_1 5 rfl rfl)
theorem dJ16_equals_32 : decode cJ16_equals 32 = .ok (.iconst 1, 1) := dk_4 (dk_at dksJ16_equals_1 8 rfl rfl)
theorem dJ16_equals_33 : decode cJ16_equals 33 = .ok (.ireturn, 1) := dk_172 (dk_at dksJ16_equals_1 9 rfl rfl)
theorem dJ16_equals_34 : decode cJ16_equals 34 = .ok (.iconst 0, 1) := dk_3 (dk_at dksJ16_equals_1 10 rfl rfl)
theorem dJ16_equals_35 : decode cJ16_equals 35 = .ok (.ireturn, 1) := dk_172 (dk_at dksJ16_equals_1 11 rfl rfl)
theorem q58 : (Jvm.Cond.initialized "java/lang/StringLatin1") ∈ lw_all := lw_g (lw_at lw_m1 21 rfl) rfl
theorem q436 : (Jvm.Cond.static ({ cls := "java/lang/StringLatin1", name := "inflate", desc := "([BI[BII)V" } : Jvm.MethodName)) ∈ lw_all := lw_g (lw_at lw_m2 159 rfl) rfl
theorem q437 : (Jvm.Cond.code ({ cls := "java/lang/StringLatin1", name := "inflate", desc := "([BI[BII)V" } : Jvm.MethodName) prog_27_method_50_code (5 : Nat) (Option.none : Option Jvm.ClassFile.FieldType)) ∈ lw_all := lw_g (lw_at lw_m2 160 rfl) rfl
theorem q438 : (Jvm.Cond.methodLink "java/lang/StringLatin1" (240 : Nat) ({ cls := "java/lang/StringUTF16", name := "inflate", desc := "([BI[BII)V" } : Jvm.MethodName)) ∈ lw_all := lw_g (lw_at lw_m2 161 rfl) rfl
theorem q669 : (Jvm.Cond.static ({ cls := "java/lang/StringLatin1", name := "compareTo", desc := "([B[B)I" } : Jvm.MethodName)) ∈ lw_all := lw_g (lw_at lw_m3 152 rfl) rfl
theorem q670 : (Jvm.Cond.code ({ cls := "java/lang/StringLatin1", name := "compareTo", desc := "([B[B)I" } : Jvm.MethodName) prog_27_method_14_code (4 : Nat) (Option.some Jvm.ClassFile.FieldType.int)) ∈ lw_all := lw_g (lw_at lw_m3 153 rfl) rfl
theorem q671 : (Jvm.Cond.methodLink "java/lang/StringLatin1" (34 : Nat) ({ cls := "java/lang/StringLatin1", name := "compareTo", desc := "([B[BII)I" } : Jvm.MethodName)) ∈ lw_all := lw_g (lw_at lw_m3 154 rfl) rfl
theorem q672 : (Jvm.Cond.static ({ cls := "java/lang/StringLatin1", name := "compareTo", desc := "([B[BII)I" } : Jvm.MethodName)) ∈ lw_all := lw_g (lw_at lw_m3 155 rfl) rfl
theorem q673 : (Jvm.Cond.code ({ cls := "java/lang/StringLatin1", name := "compareTo", desc := "([B[BII)I" } : Jvm.MethodName) prog_27_method_15_code (6 : Nat) (Option.some Jvm.ClassFile.FieldType.int)) ∈ lw_all := lw_g (lw_at lw_m3 156 rfl) rfl
theorem q674 : (Jvm.Cond.methodLink "java/lang/StringLatin1" (38 : Nat) ({ cls := "java/lang/Math", name := "min", desc := "(II)I" } : Jvm.MethodName)) ∈ lw_all := lw_g (lw_at lw_m3 157 rfl) rfl
theorem q675 : (Jvm.Cond.methodLink "java/lang/StringLatin1" (44 : Nat) ({ cls := "jdk/internal/util/ArraysSupport", name := "mismatch", desc := "([B[BI)I" } : Jvm.MethodName)) ∈ lw_all := lw_g (lw_at lw_m3 158 rfl) rfl
theorem q779 : (Jvm.Cond.methodLink "java/lang/StringLatin1" (50 : Nat) ({ cls := "java/lang/StringLatin1", name := "getChar", desc := "([BI)C" } : Jvm.MethodName)) ∈ lw_all := lw_g (lw_at lw_m4 22 rfl) rfl
theorem q780 : (Jvm.Cond.static ({ cls := "java/lang/StringLatin1", name := "getChar", desc := "([BI)C" } : Jvm.MethodName)) ∈ lw_all := lw_g (lw_at lw_m4 23 rfl) rfl
theorem q781 : (Jvm.Cond.code ({ cls := "java/lang/StringLatin1", name := "getChar", desc := "([BI)C" } : Jvm.MethodName) prog_27_method_44_code (2 : Nat) (Option.some Jvm.ClassFile.FieldType.char)) ∈ lw_all := lw_g (lw_at lw_m4 24 rfl) rfl
theorem q790 : (Jvm.Cond.static ({ cls := "java/lang/StringLatin1", name := "compareToUTF16", desc := "([B[B)I" } : Jvm.MethodName)) ∈ lw_all := lw_g (lw_at lw_m4 33 rfl) rfl
theorem q791 : (Jvm.Cond.code ({ cls := "java/lang/StringLatin1", name := "compareToUTF16", desc := "([B[B)I" } : Jvm.MethodName) prog_27_method_16_code (4 : Nat) (Option.some Jvm.ClassFile.FieldType.int)) ∈ lw_all := lw_g (lw_at lw_m4 34 rfl) rfl
theorem q792 : (Jvm.Cond.methodLink "java/lang/StringLatin1" (54 : Nat) ({ cls := "java/lang/StringLatin1", name := "length", desc := "([B)I" } : Jvm.MethodName)) ∈ lw_all := lw_g (lw_at lw_m4 35 rfl) rfl
theorem q793 : (Jvm.Cond.static ({ cls := "java/lang/StringLatin1", name := "length", desc := "([B)I" } : Jvm.MethodName)) ∈ lw_all := lw_g (lw_at lw_m4 36 rfl) rfl
theorem q794 : (Jvm.Cond.code ({ cls := "java/lang/StringLatin1", name := "length", desc := "([B)I" } : Jvm.MethodName) prog_27_method_5_code (1 : Nat) (Option.some Jvm.ClassFile.FieldType.int)) ∈ lw_all := lw_g (lw_at lw_m4 37 rfl) rfl
theorem q795 : (Jvm.Cond.methodLink "java/lang/StringLatin1" (58 : Nat) ({ cls := "java/lang/StringUTF16", name := "length", desc := "([B)I" } : Jvm.MethodName)) ∈ lw_all := lw_g (lw_at lw_m4 38 rfl) rfl
theorem q796 : (Jvm.Cond.methodLink "java/lang/StringLatin1" (59 : Nat) ({ cls := "java/lang/StringLatin1", name := "compareToUTF16Values", desc := "([B[BII)I" } : Jvm.MethodName)) ∈ lw_all := lw_g (lw_at lw_m4 39 rfl) rfl
theorem q797 : (Jvm.Cond.static ({ cls := "java/lang/StringLatin1", name := "compareToUTF16Values", desc := "([B[BII)I" } : Jvm.MethodName)) ∈ lw_all := lw_g (lw_at lw_m4 40 rfl) rfl
theorem q798 : (Jvm.Cond.code ({ cls := "java/lang/StringLatin1", name := "compareToUTF16Values", desc := "([B[BII)I" } : Jvm.MethodName) prog_27_method_18_code (8 : Nat) (Option.some Jvm.ClassFile.FieldType.int)) ∈ lw_all := lw_g (lw_at lw_m4 41 rfl) rfl
theorem q799 : (Jvm.Cond.methodLink "java/lang/StringLatin1" (65 : Nat) ({ cls := "java/lang/StringUTF16", name := "getChar", desc := "([BI)C" } : Jvm.MethodName)) ∈ lw_all := lw_g (lw_at lw_m4 42 rfl) rfl
theorem q829 : (Jvm.Cond.static ({ cls := "java/lang/StringLatin1", name := "compareToUTF16", desc := "([B[BII)I" } : Jvm.MethodName)) ∈ lw_all := lw_g (lw_at lw_m4 72 rfl) rfl
theorem q830 : (Jvm.Cond.code ({ cls := "java/lang/StringLatin1", name := "compareToUTF16", desc := "([B[BII)I" } : Jvm.MethodName) prog_27_method_17_code (4 : Nat) (Option.some Jvm.ClassFile.FieldType.int)) ∈ lw_all := lw_g (lw_at lw_m4 73 rfl) rfl
theorem q831 : (Jvm.Cond.methodLink "java/lang/StringLatin1" (62 : Nat) ({ cls := "java/lang/String", name := "checkOffset", desc := "(II)V" } : Jvm.MethodName)) ∈ lw_all := lw_g (lw_at lw_m4 74 rfl) rfl
theorem q1232 : (Jvm.Cond.static ({ cls := "java/lang/StringLatin1", name := "equals", desc := "([B[B)Z" } : Jvm.MethodName)) ∈ lw_all := lw_g (lw_at lw_m5 235 rfl) rfl
theorem q1233 : (Jvm.Cond.code ({ cls := "java/lang/StringLatin1", name := "equals", desc := "([B[B)Z" } : Jvm.MethodName) prog_27_method_13_code (3 : Nat) (Option.some Jvm.ClassFile.FieldType.boolean)) ∈ lw_all := lw_g (lw_at lw_m5 236 rfl) rfl
/-! java/lang/Integer -/
set_option maxRecDepth 100000
def RJ17 : String := "java/lang/Integer"
abbrev cJ17_stringSize : ByteArray := prog_19_method_13_code
def yJ17_stringSize : MethodName := ⟨RJ17, "stringSize", "(I)I"⟩
def dkwJ17_stringSize_1 : List UInt8 := [164, 0, 7, 29, 27, 96, 172, 16, 10, 28, 104, 61, 132, 3, 1, 167, 255, 233, 16, 10, 27, 96, 172]
abbrev dktJ17_stringSize_1 : List UInt8 := dkwJ17_stringSize_1 ++ []
def dkwJ17_stringSize_0 : List UInt8 := [4, 60, 26, 155, 0, 8, 3, 60, 26, 116, 59, 16, 246, 61, 4, 62, 29, 16, 10, 162, 0, 23, 26, 28]
abbrev dktJ17_stringSize_0 : List UInt8 := dkwJ17_stringSize_0 ++ dktJ17_stringSize_1
theorem dksJ17_stringSize_0 : cJ17_stringSize.data.toList.drop 0 = dktJ17_stringSize_0 := by decide +kernel
theorem dksJ17_stringSize_1 : cJ17_stringSize.data.toList.drop 24 = dktJ17_stringSize_1 := dk_seg dksJ17_stringSize_0 24 rfl rfl
theorem dJ17_stringSize_0 : decode cJ17_stringSize 0 = .ok (.iconst 1, 1) := dk_4 (dk_at dksJ17_stringSize_0 0 rfl rfl)
theorem dJ17_stringSize_1 : decode cJ17_stringSize 1 = .ok (.istore_n 1, 1) := dk_60 (dk_at dksJ17_stringSize_0 1 rfl rfl)
theorem dJ17_stringSize_2 : decode cJ17_stringSize 2 = .ok (.iload_n 0, 1) := dk_26 (dk_at dksJ17_stringSize_0 2 rfl rfl)
theorem dJ17_stringSize_3 : decode cJ17_stringSize 3 = .ok (.ifCond .lt 8, 3) := dk_155 0 8 (dk_at dksJ17_stringSize_0 3 rfl rfl)
theorem dJ17_stringSize_6 : decode cJ17_stringSize 6 = .ok (.iconst 0, 1) := dk_3 (dk_at dksJ17_stringSize_0 6 rfl rfl)
theorem dJ17_stringSize_7 : decode cJ17_stringSize 7 = .ok (.istore_n 1, 1) := dk_60 (dk_at dksJ17_stringSize_0 7 rfl rfl)
theorem dJ17_stringSize_8 : decode cJ17_stringSize 8 = .ok (.iload_n 0, 1) := dk_26 (dk_at dksJ17_stringSize_0 8 rfl rfl)
theorem dJ17_stringSize_9 : decode cJ17_stringSize 9 = .ok (.ineg, 1) := dk_116 (dk_at dksJ17_stringSize_0 9 rfl rfl)
theorem dJ17_stringSize_10 : decode cJ17_stringSize 10 = .ok (.istore_n 0, 1) := dk_59 (dk_at dksJ17_stringSize_0 10 rfl rfl)
theorem dJ17_stringSize_11 : decode cJ17_stringSize 11 = .ok (.bipush (-10), 2) := dk_16 246 (dk_at dksJ17_stringSize_0 11 rfl rfl)
theorem dJ17_stringSize_13 : decode cJ17_stringSize 13 = .ok (.istore_n 2, 1) := dk_61 (dk_at dksJ17_stringSize_0 13 rfl rfl)
theorem dJ17_stringSize_14 : decode cJ17_stringSize 14 = .ok (.iconst 1, 1) := dk_4 (dk_at dksJ17_stringSize_0 14 rfl rfl)
theorem dJ17_stringSize_15 : decode cJ17_stringSize 15 = .ok (.istore_n 3, 1) := dk_62 (dk_at dksJ17_stringSize_0 15 rfl rfl)
theorem dJ17_stringSize_16 : decode cJ17_stringSize 16 = .ok (.iload_n 3, 1) := dk_29 (dk_at dksJ17_stringSize_0 16 rfl rfl)
theorem dJ17_stringSize_17 : decode cJ17_stringSize 17 = .ok (.bipush 10, 2) := dk_16 10 (dk_at dksJ17_stringSize_0 17 rfl rfl)
theorem dJ17_stringSize_19 : decode cJ17_stringSize 19 = .ok (.if_icmp .ge 23, 3) := dk_162 0 23 (dk_at dksJ17_stringSize_0 19 rfl rfl)
theorem dJ17_stringSize_22 : decode cJ17_stringSize 22 = .ok (.iload_n 0, 1) := dk_26 (dk_at dksJ17_stringSize_0 22 rfl rfl)
theorem dJ17_stringSize_23 : decode cJ17_stringSize 23 = .ok (.iload_n 2, 1) := dk_28 (dk_at dksJ17_stringSize_0 23 rfl rfl)
theorem dJ17_stringSize_24 : decode cJ17_stringSize 24 = .ok (.if_icmp .le 7, 3) := dk_164 0 7 (dk_at dksJ17_stringSize_1 0 rfl rfl)
theorem dJ17_stringSize_27 : decode cJ17_stringSize 27 = .ok (.iload_n 3, 1) := dk_29 (dk_at dksJ17_stringSize_1 3 rfl rfl)
theorem dJ17_stringSize_28 : decode cJ17_stringSize 28 = .ok (.iload_n 1, 1) := dk_27 (dk_at dksJ17_stringSize_1 4 rfl rfl)
theorem dJ17_stringSize_29 : decode cJ17_stringSize 29 = .ok (.iadd, 1) := dk_96 (dk_at dksJ17_stringSize_1 5 rfl rfl)
theorem dJ17_stringSize_30 : decode cJ17_stringSize 30 = .ok (.ireturn, 1) := dk_172 (dk_at dksJ17_stringSize_1 6 rfl rfl)
theorem dJ17_stringSize_31 : decode cJ17_stringSize 31 = .ok (.bipush 10, 2) := dk_16 10 (dk_at dksJ17_stringSize_1 7 rfl rfl)
theorem dJ17_stringSize_33 : decode cJ17_stringSize 33 = .ok (.iload_n 2, 1) := dk_28 (dk_at dksJ17_stringSize_1 9 rfl rfl)
theorem dJ17_stringSize_34 : decode cJ17_stringSize 34 = .ok (.imul, 1) := dk_104 (dk_at dksJ17_stringSize_1 10 rfl rfl)
theorem dJ17_stringSize_35 : decode cJ17_stringSize 35 = .ok (.istore_n 2, 1) := dk_61 (dk_at dksJ17_stringSize_1 11 rfl rfl)
theorem dJ17_stringSize_36 : decode cJ17_stringSize 36 = .ok (.iinc 3 1, 3) := dk_132 3 1 (dk_at dksJ17_stringSize_1 12 rfl rfl)
theorem dJ17_stringSize_39 : decode cJ17_stringSize 39 = .ok (.goto (-23), 3) := dk_167 255 233 (dk_at dksJ17_stringSize_1 15 rfl rfl)
theorem dJ17_stringSize_42 : decode cJ17_stringSize 42 = .ok (.bipush 10, 2) := dk_16 10 (dk_at dksJ17_stringSize_1 18 rfl rfl)
theorem dJ17_stringSize_44 : decode cJ17_stringSize 44 = .ok (.iload_n 1, 1) := dk_27 (dk_at dksJ17_stringSize_1 20 rfl rfl)
theorem dJ17_stringSize_45 : decode cJ17_stringSize 45 = .ok (.iadd, 1) := dk_96 (dk_at dksJ17_stringSize_1 21 rfl rfl)
theorem dJ17_stringSize_46 : decode cJ17_stringSize 46 = .ok (.ireturn, 1) := dk_172 (dk_at dksJ17_stringSize_1 22 rfl rfl)
abbrev cJ17_getChars : ByteArray := prog_19_method_12_code
def yJ17_getChars : MethodName := ⟨RJ17, "getChars", "(II[B)I"⟩
def dkwJ17_getChars_5 : List UInt8 := [16, 45, 84, 21, 5, 172]
abbrev dktJ17_getChars_5 : List UInt8 := dkwJ17_getChars_5 ++ []
def dkwJ17_getChars_4 : List UInt8 := [132, 5, 255, 21, 5, 178, 0, 87, 26, 116, 51, 84, 21, 6, 153, 0, 12, 44, 132, 5, 255, 21, 5]
abbrev dktJ17_getChars_4 : List UInt8 := dkwJ17_getChars_4 ++ dktJ17_getChars_5
def dkwJ17_getChars_3 : List UInt8 := [167, 255, 209, 44, 132, 5, 255, 21, 5, 178, 0, 83, 26, 116, 51, 84, 26, 16, 247, 162, 0, 16, 44]
abbrev dktJ17_getChars_3 : List UInt8 := dkwJ17_getChars_3 ++ dktJ17_getChars_4
def dkwJ17_getChars_2 : List UInt8 := [21, 5, 178, 0, 83, 21, 4, 51, 84, 44, 132, 5, 255, 21, 5, 178, 0, 87, 21, 4, 51, 84]
abbrev dktJ17_getChars_2 : List UInt8 := dkwJ17_getChars_2 ++ dktJ17_getChars_3
def dkwJ17_getChars_1 : List UInt8 := [16, 156, 163, 0, 47, 26, 16, 100, 108, 62, 29, 16, 100, 104, 26, 100, 54, 4, 29, 59, 44, 132, 5, 255]
abbrev dktJ17_getChars_1 : List UInt8 := dkwJ17_getChars_1 ++ dktJ17_getChars_2
def dkwJ17_getChars_0 : List UInt8 := [27, 54, 5, 26, 156, 0, 7, 4, 167, 0, 4, 3, 54, 6, 21, 6, 154, 0, 6, 26, 116, 59, 26]
abbrev dktJ17_getChars_0 : List UInt8 := dkwJ17_getChars_0 ++ dktJ17_getChars_1
theorem dksJ17_getChars_0 : cJ17_getChars.data.toList.drop 0 = dktJ17_getChars_0 := by decide +kernel
theorem dksJ17_getChars_1 : cJ17_getChars.data.toList.drop 23 = dktJ17_getChars_1 := dk_seg dksJ17_getChars_0 23 rfl rfl
theorem dksJ17_getChars_2 : cJ17_getChars.data.toList.drop 47 = dktJ17_getChars_2 := dk_seg dksJ17_getChars_1 24 rfl rfl
theorem dksJ17_getChars_3 : cJ17_getChars.data.toList.drop 69 = dktJ17_getChars_3 := dk_seg dksJ17_getChars_2 22 rfl rfl
theorem dksJ17_getChars_4 : cJ17_getChars.data.toList.drop 92 = dktJ17_getChars_4 := dk_seg dksJ17_getChars_3 23 rfl rfl
theorem dksJ17_getChars_5 : cJ17_getChars.data.toList.drop 115 = dktJ17_getChars_5 := dk_seg dksJ17_getChars_4 23 rfl rfl
theorem dJ17_getChars_0 : decode cJ17_getChars 0 = .ok (.iload_n 1, 1) := dk_27 (dk_at dksJ17_getChars_0 0 rfl rfl)
theorem dJ17_getChars_1 : decode cJ17_getChars 1 = .ok (.istore 5, 2) := dk_54 5 (dk_at dksJ17_getChars_0 1 rfl rfl)
theorem dJ17_getChars_3 : decode cJ17_getChars 3 = .ok (.iload_n 0, 1) := dk_26 (dk_at dksJ17_getChars_0 3 rfl rfl)
theorem dJ17_getChars_4 : decode cJ17_getChars 4 = .ok (.ifCond .ge 7, 3) := dk_156 0 7 (dk_at dksJ17_getChars_0 4 rfl rfl)
theorem dJ17_getChars_7 : decode cJ17_getChars 7 = .ok (.iconst 1, 1) := dk_4 (dk_at dksJ17_getChars_0 7 rfl rfl)
theorem dJ17_getChars_8 : decode cJ17_getChars 8 = .ok (.goto 4, 3) := dk_167 0 4 (dk_at dksJ17_getChars_0 8 rfl rfl)
theorem dJ17_getChars_11 : decode cJ17_getChars 11 = .ok (.iconst 0, 1) := dk_3 (dk_at dksJ17_getChars_0 11 rfl rfl)
theorem dJ17_getChars_12 : decode cJ17_getChars 12 = .ok (.istore 6, 2) := dk_54 6 (dk_at dksJ17_getChars_0 12 rfl rfl)
theorem dJ17_getChars_14 : decode cJ17_getChars 14 = .ok (.iload 6, 2) := dk_21 6 (dk_at dksJ17_getChars_0 14 rfl rfl)
theorem dJ17_getChars_16 : decode cJ17_getChars 16 = .ok (.ifCond .ne 6, 3) := dk_154 0 6 (dk_at dksJ17_getChars_0 16 rfl rfl)
theorem dJ17_getChars_19 : decode cJ17_getChars 19 = .ok (.iload_n 0, 1) := dk_26 (dk_at dksJ17_getChars_0 19 rfl rfl)
theorem dJ17_getChars_20 : decode cJ17_getChars 20 = .ok (.ineg, 1) := dk_116 (dk_at dksJ17_getChars_0 20 rfl rfl)
theorem dJ17_getChars_21 : decode cJ17_getChars 21 = .ok (.istore_n 0, 1) := dk_59 (dk_at dksJ17_getChars_0 21 rfl rfl)
theorem dJ17_getChars_22 : decode cJ17_getChars 22 = .ok (.iload_n 0, 1) := dk_26 (dk_at dksJ17_getChars_0 22 rfl rfl)
theorem dJ17_getChars_23 : decode cJ17_getChars 23 = .ok (.bipush (-100), 2) := dk_16 156 (dk_at dksJ17_getChars_1 0 rfl rfl)
theorem dJ17_getChars_25 : decode cJ17_getChars 25 = .ok (.if_icmp .gt 47, 3) := dk_163 0 47 (dk_at dksJ17_getChars_1 2 rfl rfl)
theorem dJ17_getChars_28 : decode cJ17_getChars 28 = .ok (.iload_n 0, 1) := dk_26 (dk_at dksJ17_getChars_1 5 rfl rfl)
theorem dJ17_getChars_29 : decode cJ17_getChars 29 = .ok (.bipush 100, 2) := dk_16 100 (dk_at dksJ17_getChars_1 6 rfl rfl)
theorem dJ17_getChars_31 : decode cJ17_getChars 31 = .ok (.idiv, 1) := dk_108 (dk_at dksJ17_getChars_1 8 rfl rfl)
theorem dJ17_getChars_32 : decode cJ17_getChars 32 = .ok (.istore_n 3, 1) := dk_62 (dk_at dksJ17_getChars_1 9 rfl rfl)
theorem dJ17_getChars_33 : decode cJ17_getChars 33 = .ok (.iload_n 3, 1) := dk_29 (dk_at dksJ17_getChars_1 10 rfl rfl)
theorem dJ17_getChars_34 : decode cJ17_getChars 34 = .ok (.bipush 100, 2) := dk_16 100 (dk_at dksJ17_getChars_1 11 rfl rfl)
theorem dJ17_getChars_36 : decode cJ17_getChars 36 = .ok (.imul, 1) := dk_104 (dk_at dksJ17_getChars_1 13 rfl rfl)
theorem dJ17_getChars_37 : decode cJ17_getChars 37 = .ok (.iload_n 0, 1) := dk_26 (dk_at dksJ17_getChars_1 14 rfl rfl)
theorem dJ17_getChars_38 : decode cJ17_getChars 38 = .ok (.isub, 1) := dk_100 (dk_at dksJ17_getChars_1 15 rfl rfl)
theorem dJ17_getChars_39 : decode cJ17_getChars 39 = .ok (.istore 4, 2) := dk_54 4 (dk_at dksJ17_getChars_1 16 rfl rfl)
theorem dJ17_getChars_41 : decode cJ17_getChars 41 = .ok (.iload_n 3, 1) := dk_29 (dk_at dksJ17_getChars_1 18 rfl rfl)
theorem dJ17_getChars_42 : decode cJ17_getChars 42 = .ok (.istore_n 0, 1) := dk_59 (dk_at dksJ17_getChars_1 19 rfl rfl)
theorem dJ17_getChars_43 : decode cJ17_getChars 43 = .ok (.aload_n 2, 1) := dk_44 (dk_at dksJ17_getChars_1 20 rfl rfl)
theorem dJ17_getChars_44 : decode cJ17_getChars 44 = .ok (.iinc 5 (-1), 3) := dk_132 5 255 (dk_at dksJ17_getChars_1 21 rfl rfl)
theorem dJ17_getChars_47 : decode cJ17_getChars 47 = .ok (.iload 5, 2) := dk_21 5 (dk_at dksJ17_getChars_2 0 rfl rfl)
theorem dJ17_getChars_49 : decode cJ17_getChars 49 = .ok (.getstatic 83, 3) := dk_178 0 83 (dk_at dksJ17_getChars_2 2 rfl rfl)
theorem dJ17_getChars_52 : decode cJ17_getChars 52 = .ok (.iload 4, 2) := dk_21 4 (dk_at dksJ17_getChars_2 5 rfl rfl)
theorem dJ17_getChars_54 : decode cJ17_getChars 54 = .ok (.baload, 1) := dk_51 (dk_at dksJ17_getChars_2 7 rfl rfl)
theorem dJ17_getChars_55 : decode cJ17_getChars 55 = .ok (.bastore, 1) := dk_84 (dk_at dksJ17_getChars_2 8 rfl rfl)
theorem dJ17_getChars_56 : decode cJ17_getChars 56 = .ok (.aload_n 2, 1) := dk_44 (dk_at dksJ17_getChars_2 9 rfl rfl)
theorem dJ17_getChars_57 : decode cJ17_getChars 57 = .ok (.iinc 5 (-1), 3) := dk_132 5 255 (dk_at dksJ17_getChars_2 10 rfl rfl)
theorem dJ17_getChars_60 : decode cJ17_getChars 60 = .ok (.iload 5, 2) := dk_21 5 (dk_at dksJ17_getChars_2 13 rfl rfl)
theorem dJ17_getChars_62 : decode cJ17_getChars 62 = .ok (.getstatic 87, 3) := dk_178 0 87 (dk_at dksJ17_getChars_2 15 rfl rfl)
theorem dJ17_getChars_65 : decode cJ17_getChars 65 = .ok (.iload 4, 2) := dk_21 4 (dk_at dksJ17_getChars_2 18 rfl rfl)
theorem dJ17_getChars_67 : decode cJ17_getChars 67 = .ok (.baload, 1) := dk_51 (dk_at dksJ17_getChars_2 20 rfl rfl)
theorem dJ17_getChars_68 : decode cJ17_getChars 68 = .ok (.bastore, 1) := dk_84 (dk_at dksJ17_getChars_2 21 rfl rfl)
theorem dJ17_getChars_69 : decode cJ17_getChars 69 = .ok (.goto (-47), 3) := dk_167 255 209 (dk_at dksJ17_getChars_3 0 rfl rfl)
theorem dJ17_getChars_72 : decode cJ17_getChars 72 = .ok (.aload_n 2, 1) := dk_44 (dk_at dksJ17_getChars_3 3 rfl rfl)
theorem dJ17_getChars_73 : decode cJ17_getChars 73 = .ok (.iinc 5 (-1), 3) := dk_132 5 255 (dk_at dksJ17_getChars_3 4 rfl rfl)
theorem dJ17_getChars_76 : decode cJ17_getChars 76 = .ok (.iload 5, 2) := dk_21 5 (dk_at dksJ17_getChars_3 7 rfl rfl)
theorem dJ17_getChars_78 : decode cJ17_getChars 78 = .ok (.getstatic 83, 3) := dk_178 0 83 (dk_at dksJ17_getChars_3 9 rfl rfl)
theorem dJ17_getChars_81 : decode cJ17_getChars 81 = .ok (.iload_n 0, 1) := dk_26 (dk_at dksJ17_getChars_3 12 rfl rfl)
theorem dJ17_getChars_82 : decode cJ17_getChars 82 = .ok (.ineg, 1) := dk_116 (dk_at dksJ17_getChars_3 13 rfl rfl)
theorem dJ17_getChars_83 : decode cJ17_getChars 83 = .ok (.baload, 1) := dk_51 (dk_at dksJ17_getChars_3 14 rfl rfl)
theorem dJ17_getChars_84 : decode cJ17_getChars 84 = .ok (.bastore, 1) := dk_84 (dk_at dksJ17_getChars_3 15 rfl rfl)
theorem dJ17_getChars_85 : decode cJ17_getChars 85 = .ok (.iload_n 0, 1) := dk_26 (dk_at dksJ17_getChars_3 16 rfl rfl)
theorem dJ17_getChars_86 : decode cJ17_getChars 86 = .ok (.bipush (-9), 2) := dk_16 247 (dk_at dksJ17_getChars_3 17 rfl rfl)
theorem dJ17_getChars_88 : decode cJ17_getChars 88 = .ok (.if_icmp .ge 16, 3) := dk_162 0 16 (dk_at dksJ17_getChars_3 19 rfl rfl)
theorem dJ17_getChars_91 : decode cJ17_getChars 91 = .ok (.aload_n 2, 1) := dk_44 (dk_at dksJ17_getChars_3 22 rfl rfl)
theorem dJ17_getChars_92 : decode cJ17_getChars 92 = .ok (.iinc 5 (-1), 3) := dk_132 5 255 (dk_at dksJ17_getChars_4 0 rfl rfl)
theorem dJ17_getChars_95 : decode cJ17_getChars 95 = .ok (.iload 5, 2) := dk_21 5 (dk_at dksJ17_getChars_4 3 rfl rfl)
theorem dJ17_getChars_97 : decode cJ17_getChars 97 = .ok (.getstatic 87, 3) := dk_178 0 87 (dk_at dksJ17_getChars_4 5 rfl rfl)
theorem dJ17_getChars_100 : decode cJ17_getChars 100 = .ok (.iload_n 0, 1) := dk_26 (dk_at dksJ17_getChars_4 8 rfl rfl)
theorem dJ17_getChars_101 : decode cJ17_getChars 101 = .ok (.ineg, 1) := dk_116 (dk_at dksJ17_getChars_4 9 rfl rfl)
theorem dJ17_getChars_102 : decode cJ17_getChars 102 = .ok (.baload, 1) := dk_51 (dk_at dksJ17_getChars_4 10 rfl rfl)
theorem dJ17_getChars_103 : decode cJ17_getChars 103 = .ok (.bastore, 1) := dk_84 (dk_at dksJ17_getChars_4 11 rfl rfl)
theorem dJ17_getChars_104 : decode cJ17_getChars 104 = .ok (.iload 6, 2) := dk_21 6 (dk_at dksJ17_getChars_4 12 rfl rfl)
theorem dJ17_getChars_106 : decode cJ17_getChars 106 = .ok (.ifCond .eq 12, 3) := dk_153 0 12 (dk_at dksJ17_getChars_4 14 rfl rfl)
theorem dJ17_getChars_109 : decode cJ17_getChars 109 = .ok (.aload_n 2, 1) := dk_44 (dk_at dksJ17_getChars_4 17 rfl rfl)
theorem dJ17_getChars_110 : decode cJ17_getChars 110 = .ok (.iinc 5 (-1), 3) := dk_132 5 255 (dk_at dksJ17_getChars_4 18 rfl rfl)
theorem dJ17_getChars_113 : decode cJ17_getChars 113 = .ok (.iload 5, 2) := dk_21 5 (dk_at dksJ17_getChars_4 21 rfl rfl)
theorem dJ17_getChars_115 : decode cJ17_getChars 115 = .ok (.bipush 45, 2) := dk_16 45 (dk_at dksJ17_getChars_5 0 rfl rfl)
theorem dJ17_getChars_117 : decode cJ17_getChars 117 = .ok (.bastore, 1) := dk_84 (dk_at dksJ17_getChars_5 2 rfl rfl)
theorem dJ17_getChars_118 : decode cJ17_getChars 118 = .ok (.iload 5, 2) := dk_21 5 (dk_at dksJ17_getChars_5 3 rfl rfl)
theorem dJ17_getChars_120 : decode cJ17_getChars 120 = .ok (.ireturn, 1) := dk_172 (dk_at dksJ17_getChars_5 5 rfl rfl)
abbrev cJ17_compare : ByteArray := prog_19_method_40_code
def yJ17_compare : MethodName := ⟨RJ17, "compare", "(II)I"⟩
def dkwJ17_compare_0 : List UInt8 := [26, 27, 162, 0, 7, 2, 167, 0, 13, 26, 27, 160, 0, 7, 3, 167, 0, 4, 4, 172]
abbrev dktJ17_compare_0 : List UInt8 := dkwJ17_compare_0 ++ []
theorem dksJ17_compare_0 : cJ17_compare.data.toList.drop 0 = dktJ17_compare_0 := by decide +kernel
theorem dJ17_compare_0 : decode cJ17_compare 0 = .ok (.iload_n 0, 1) := dk_26 (dk_at dksJ17_compare_0 0 rfl rfl)
theorem dJ17_compare_1 : decode cJ17_compare 1 = .ok (.iload_n 1, 1) := dk_27 (dk_at dksJ17_compare_0 1 rfl rfl)
theorem dJ17_compare_2 : decode cJ17_compare 2 = .ok (.if_icmp .ge 7, 3) := dk_162 0 7 (dk_at dksJ17_compare_0 2 rfl rfl)
theorem dJ17_compare_5 : decode cJ17_compare 5 = .ok (.iconst (-1), 1) := dk_2 (dk_at dksJ17_compare_0 5 rfl rfl)
theorem dJ17_compare_6 : decode cJ17_compare 6 = .ok (.goto 13, 3) := dk_167 0 13 (dk_at dksJ17_compare_0 6 rfl rfl)
theorem dJ17_compare_9 : decode cJ17_compare 9 = .ok (.iload_n 0, 1) := dk_26 (dk_at dksJ17_compare_0 9 rfl rfl)
theorem dJ17_compare_10 : decode cJ17_compare 10 = .ok (.iload_n 1, 1) := dk_27 (dk_at dksJ17_compare_0 10 rfl rfl)
theorem dJ17_compare_11 : decode cJ17_compare 11 = .ok (.if_icmp .ne 7, 3) := dk_160 0 7 (dk_at dksJ17_compare_0 11 rfl rfl)
theorem dJ17_compare_14 : decode cJ17_compare 14 = .ok (.iconst 0, 1) := dk_3 (dk_at dksJ17_compare_0 14 rfl rfl)
theorem dJ17_compare_15 : decode cJ17_compare 15 = .ok (.goto 4, 3) := dk_167 0 4 (dk_at dksJ17_compare_0 15 rfl rfl)
theorem dJ17_compare_18 : decode cJ17_compare 18 = .ok (.iconst 1, 1) := dk_4 (dk_at dksJ17_compare_0 18 rfl rfl)
theorem dJ17_compare_19 : decode cJ17_compare 19 = .ok (.ireturn, 1) := dk_172 (dk_at dksJ17_compare_0 19 rfl rfl)
abbrev cJ17_numberOfLeadingZeros : ByteArray := prog_19_method_47_code
def yJ17_numberOfLeadingZeros : MethodName := ⟨RJ17, "numberOfLeadingZeros", "(I)I"⟩
def dkwJ17_numberOfLeadingZeros_3 : List UInt8 := [5, 124, 59, 27, 26, 4, 124, 100, 172]
abbrev dktJ17_numberOfLeadingZeros_3 : List UInt8 := dkwJ17_numberOfLeadingZeros_3 ++ []
def dkwJ17_numberOfLeadingZeros_2 : List UInt8 := [124, 59, 26, 16, 16, 161, 0, 10, 132, 1, 252, 26, 7, 124, 59, 26, 7, 161, 0, 10, 132, 1, 254, 26]
abbrev dktJ17_numberOfLeadingZeros_2 : List UInt8 := dkwJ17_numberOfLeadingZeros_2 ++ dktJ17_numberOfLeadingZeros_3
def dkwJ17_numberOfLeadingZeros_1 : List UInt8 := [161, 0, 11, 132, 1, 240, 26, 16, 16, 124, 59, 26, 17, 1, 0, 161, 0, 11, 132, 1, 248, 26, 16, 8]
abbrev dktJ17_numberOfLeadingZeros_1 : List UInt8 := dkwJ17_numberOfLeadingZeros_1 ++ dktJ17_numberOfLeadingZeros_2
def dkwJ17_numberOfLeadingZeros_0 : List UInt8 := [26, 157, 0, 14, 26, 154, 0, 8, 16, 32, 167, 0, 4, 3, 172, 16, 31, 60, 26, 19, 1, 8]
abbrev dktJ17_numberOfLeadingZeros_0 : List UInt8 := dkwJ17_numberOfLeadingZeros_0 ++ dktJ17_numberOfLeadingZeros_1
theorem dksJ17_numberOfLeadingZeros_0 : cJ17_numberOfLeadingZeros.data.toList.drop 0 = dktJ17_numberOfLeadingZeros_0 := by decide +kernel
theorem dksJ17_numberOfLeadingZeros_1 : cJ17_numberOfLeadingZeros.data.toList.drop 22 = dktJ17_numberOfLeadingZeros_1 := dk_seg dksJ17_numberOfLeadingZeros_0 22 rfl rfl
theorem dksJ17_numberOfLeadingZeros_2 : cJ17_numberOfLeadingZeros.data.toList.drop 46 = dktJ17_numberOfLeadingZeros_2 := dk_seg dksJ17_numberOfLeadingZeros_1 24 rfl rfl
theorem dksJ17_numberOfLeadingZeros_3 : cJ17_numberOfLeadingZeros.data.toList.drop 70 = dktJ17_numberOfLeadingZeros_3 := dk_seg dksJ17_numberOfLeadingZeros_2 24 rfl rfl
theorem dJ17_numberOfLeadingZeros_0 : decode cJ17_numberOfLeadingZeros 0 = .ok (.iload_n 0, 1) := dk_26 (dk_at dksJ17_numberOfLeadingZeros_0 0 rfl rfl)
theorem dJ17_numberOfLeadingZeros_1 : decode cJ17_numberOfLeadingZeros 1 = .ok (.ifCond .gt 14, 3) := dk_157 0 14 (dk_at dksJ17_numberOfLeadingZeros_0 1 rfl rfl)
theorem dJ17_numberOfLeadingZeros_4 : decode cJ17_numberOfLeadingZeros 4 = .ok (.iload_n 0, 1) := dk_26 (dk_at dksJ17_numberOfLeadingZeros_0 4 rfl rfl)
theorem dJ17_numberOfLeadingZeros_5 : decode cJ17_numberOfLeadingZeros 5 = .ok (.ifCond .ne 8, 3) := dk_154 0 8 (dk_at dksJ17_numberOfLeadingZeros_0 5 rfl rfl)
theorem dJ17_numberOfLeadingZeros_8 : decode cJ17_numberOfLeadingZeros 8 = .ok (.bipush 32, 2) := dk_16 32 (dk_at dksJ17_numberOfLeadingZeros_0 8 rfl rfl)
theorem dJ17_numberOfLeadingZeros_10 : decode cJ17_numberOfLeadingZeros 10 = .ok (.goto 4, 3) := dk_167 0 4 (dk_at dksJ17_numberOfLeadingZeros_0 10 rfl rfl)
theorem dJ17_numberOfLeadingZeros_13 : decode cJ17_numberOfLeadingZeros 13 = .ok (.iconst 0, 1) := dk_3 (dk_at dksJ17_numberOfLeadingZeros_0 13 rfl rfl)
theorem dJ17_numberOfLeadingZeros_14 : decode cJ17_numberOfLeadingZeros 14 = .ok (.ireturn, 1) := dk_172 (dk_at dksJ17_numberOfLeadingZeros_0 14 rfl rfl)
theorem dJ17_numberOfLeadingZeros_15 : decode cJ17_numberOfLeadingZeros 15 = .ok (.bipush 31, 2) := dk_16 31 (dk_at dksJ17_numberOfLeadingZeros_0 15 rfl rfl)
theorem dJ17_numberOfLeadingZeros_17 : decode cJ17_numberOfLeadingZeros 17 = .ok (.istore_n 1, 1) := dk_60 (dk_at dksJ17_numberOfLeadingZeros_0 17 rfl rfl)
theorem dJ17_numberOfLeadingZeros_18 : decode cJ17_numberOfLeadingZeros 18 = .ok (.iload_n 0, 1) := dk_26 (dk_at dksJ17_numberOfLeadingZeros_0 18 rfl rfl)
theorem dJ17_numberOfLeadingZeros_19 : decode cJ17_numberOfLeadingZeros 19 = .ok (.ldc_w 264, 3) := dk_19 1 8 (dk_at dksJ17_numberOfLeadingZeros_0 19 rfl rfl)
theorem dJ17_numberOfLeadingZeros_22 : decode cJ17_numberOfLeadingZeros 22 = .ok (.if_icmp .lt 11, 3) := dk_161 0 11 (dk_at dksJ17_numberOfLeadingZeros_1 0 rfl rfl)
theorem dJ17_numberOfLeadingZeros_25 : decode cJ17_numberOfLeadingZeros 25 = .ok (.iinc 1 (-16), 3) := dk_132 1 240 (dk_at dksJ17_numberOfLeadingZeros_1 3 rfl rfl)
theorem dJ17_numberOfLeadingZeros_28 : decode cJ17_numberOfLeadingZeros 28 = .ok (.iload_n 0, 1) := dk_26 (dk_at dksJ17_numberOfLeadingZeros_1 6 rfl rfl)
theorem dJ17_numberOfLeadingZeros_29 : decode cJ17_numberOfLeadingZeros 29 = .ok (.bipush 16, 2) := dk_16 16 (dk_at dksJ17_numberOfLeadingZeros_1 7 rfl rfl)
theorem dJ17_numberOfLeadingZeros_31 : decode cJ17_numberOfLeadingZeros 31 = .ok (.iushr, 1) := dk_124 (dk_at dksJ17_numberOfLeadingZeros_1 9 rfl rfl)
theorem dJ17_numberOfLeadingZeros_32 : decode cJ17_numberOfLeadingZeros 32 = .ok (.istore_n 0, 1) := dk_59 (dk_at dksJ17_numberOfLeadingZeros_1 10 rfl rfl)
theorem dJ17_numberOfLeadingZeros_33 : decode cJ17_numberOfLeadingZeros 33 = .ok (.iload_n 0, 1) := dk_26 (dk_at dksJ17_numberOfLeadingZeros_1 11 rfl rfl)
theorem dJ17_numberOfLeadingZeros_34 : decode cJ17_numberOfLeadingZeros 34 = .ok (.sipush 256, 3) := dk_17 1 0 (dk_at dksJ17_numberOfLeadingZeros_1 12 rfl rfl)
theorem dJ17_numberOfLeadingZeros_37 : decode cJ17_numberOfLeadingZeros 37 = .ok (.if_icmp .lt 11, 3) := dk_161 0 11 (dk_at dksJ17_numberOfLeadingZeros_1 15 rfl rfl)
theorem dJ17_numberOfLeadingZeros_40 : decode cJ17_numberOfLeadingZeros 40 = .ok (.iinc 1 (-8), 3) := dk_132 1 248 (dk_at dksJ17_numberOfLeadingZeros_1 18 rfl rfl)
theorem dJ17_numberOfLeadingZeros_43 : decode cJ17_numberOfLeadingZeros 43 = .ok (.iload_n 0, 1) := dk_26 (dk_at dksJ17_numberOfLeadingZeros_1 21 rfl rfl)
theorem dJ17_numberOfLeadingZeros_44 : decode cJ17_numberOfLeadingZeros 44 = .ok (.bipush 8, 2) := dk_16 8 (dk_at dksJ17_numberOfLeadingZeros_1 22 rfl rfl)
theorem dJ17_numberOfLeadingZeros_46 : decode cJ17_numberOfLeadingZeros 46 = .ok (.iushr, 1) := dk_124 (dk_at dksJ17_numberOfLeadingZeros_2 0 rfl rfl)
theorem dJ17_numberOfLeadingZeros_47 : decode cJ17_numberOfLeadingZeros 47 = .ok (.istore_n 0, 1) := dk_59 (dk_at dksJ17_numberOfLeadingZeros_2 1 rfl rfl)
theorem dJ17_numberOfLeadingZeros_48 : decode cJ17_numberOfLeadingZeros 48 = .ok (.iload_n 0, 1) := dk_26 (dk_at dksJ17_numberOfLeadingZeros_2 2 rfl rfl)
theorem dJ17_numberOfLeadingZeros_49 : decode cJ17_numberOfLeadingZeros 49 = .ok (.bipush 16, 2) := dk_16 16 (dk_at dksJ17_numberOfLeadingZeros_2 3 rfl rfl)
theorem dJ17_numberOfLeadingZeros_51 : decode cJ17_numberOfLeadingZeros 51 = .ok (.if_icmp .lt 10, 3) := dk_161 0 10 (dk_at dksJ17_numberOfLeadingZeros_2 5 rfl rfl)
theorem dJ17_numberOfLeadingZeros_54 : decode cJ17_numberOfLeadingZeros 54 = .ok (.iinc 1 (-4), 3) := dk_132 1 252 (dk_at dksJ17_numberOfLeadingZeros_2 8 rfl rfl)
theorem dJ17_numberOfLeadingZeros_57 : decode cJ17_numberOfLeadingZeros 57 = .ok (.iload_n 0, 1) := dk_26 (dk_at dksJ17_numberOfLeadingZeros_2 11 rfl rfl)
theorem dJ17_numberOfLeadingZeros_58 : decode cJ17_numberOfLeadingZeros 58 = .ok (.iconst 4, 1) := dk_7 (dk_at dksJ17_numberOfLeadingZeros_2 12 rfl rfl)
theorem dJ17_numberOfLeadingZeros_59 : decode cJ17_numberOfLeadingZeros 59 = .ok (.iushr, 1) := dk_124 (dk_at dksJ17_numberOfLeadingZeros_2 13 rfl rfl)
theorem dJ17_numberOfLeadingZeros_60 : decode cJ17_numberOfLeadingZeros 60 = .ok (.istore_n 0, 1) := dk_59 (dk_at dksJ17_numberOfLeadingZeros_2 14 rfl rfl)
theorem dJ17_numberOfLeadingZeros_61 : decode cJ17_numberOfLeadingZeros 61 = .ok (.iload_n 0, 1) := dk_26 (dk_at dksJ17_numberOfLeadingZeros_2 15 rfl rfl)
theorem dJ17_numberOfLeadingZeros_62 : decode cJ17_numberOfLeadingZeros 62 = .ok (.iconst 4, 1) := dk_7 (dk_at dksJ17_numberOfLeadingZeros_2 16 rfl rfl)
theorem dJ17_numberOfLeadingZeros_63 : decode cJ17_numberOfLeadingZeros 63 = .ok (.if_icmp .lt 10, 3) := dk_161 0 10 (dk_at dksJ17_numberOfLeadingZeros_2 17 rfl rfl)
theorem dJ17_numberOfLeadingZeros_66 : decode cJ17_numberOfLeadingZeros 66 = .ok (.iinc 1 (-2), 3) := dk_132 1 254 (dk_at dksJ17_numberOfLeadingZeros_2 20 rfl rfl)
theorem dJ17_numberOfLeadingZeros_69 : decode cJ17_numberOfLeadingZeros 69 = .ok (.iload_n 0, 1) := dk_26 (dk_at dksJ17_numberOfLeadingZeros_2 23 rfl rfl)
theorem dJ17_numberOfLeadingZeros_70 : decode cJ17_numberOfLeadingZeros 70 = .ok (.iconst 2, 1) := dk_5 (dk_at dksJ17_numberOfLeadingZeros_3 0 rfl rfl)
theorem dJ17_numberOfLeadingZeros_71 : decode cJ17_numberOfLeadingZeros 71 = .ok (.iushr, 1) := dk_124 (dk_at dksJ17_numberOfLeadingZeros_3 1 rfl rfl)
theorem dJ17_numberOfLeadingZeros_72 : decode cJ17_numberOfLeadingZeros 72 = .ok (.istore_n 0, 1) := dk_59 (dk_at dksJ17_numberOfLeadingZeros_3 2 rfl rfl)
theorem dJ17_numberOfLeadingZeros_73 : decode cJ17_numberOfLeadingZeros 73 = .ok (.iload_n 1, 1) := dk_27 (dk_at dksJ17_numberOfLeadingZeros_3 3 rfl rfl)
theorem dJ17_numberOfLeadingZeros_74 : decode cJ17_numberOfLeadingZeros 74 = .ok (.iload_n 0, 1) := dk_26 (dk_at dksJ17_numberOfLeadingZeros_3 4 rfl rfl)
theorem dJ17_numberOfLeadingZeros_75 : decode cJ17_numberOfLeadingZeros 75 = .ok (.iconst 1, 1) := dk_4 (dk_at dksJ17_numberOfLeadingZeros_3 5 rfl rfl)
theorem dJ17_numberOfLeadingZeros_76 : decode cJ17_numberOfLeadingZeros 76 = .ok (.iushr, 1) := dk_124 (dk_at dksJ17_numberOfLeadingZeros_3 6 rfl rfl)
theorem dJ17_numberOfLeadingZeros_77 : decode cJ17_numberOfLeadingZeros 77 = .ok (.isub, 1) := dk_100 (dk_at dksJ17_numberOfLeadingZeros_3 7 rfl rfl)
theorem dJ17_numberOfLeadingZeros_78 : decode cJ17_numberOfLeadingZeros 78 = .ok (.ireturn, 1) := dk_172 (dk_at dksJ17_numberOfLeadingZeros_3 8 rfl rfl)
abbrev cJ17_numberOfTrailingZeros : ByteArray := prog_19_method_48_code
def yJ17_numberOfTrailingZeros : MethodName := ⟨RJ17, "numberOfTrailingZeros", "(I)I"⟩
def dkwJ17_numberOfTrailingZeros_3 : List UInt8 := [5, 124, 59, 27, 26, 4, 124, 96, 172]
abbrev dktJ17_numberOfTrailingZeros_3 : List UInt8 := dkwJ17_numberOfTrailingZeros_3 ++ []
def dkwJ17_numberOfTrailingZeros_2 : List UInt8 := [124, 59, 26, 16, 16, 164, 0, 10, 132, 1, 4, 26, 7, 124, 59, 26, 7, 164, 0, 10, 132, 1, 2, 26]
abbrev dktJ17_numberOfTrailingZeros_2 : List UInt8 := dkwJ17_numberOfTrailingZeros_2 ++ dktJ17_numberOfTrailingZeros_3
def dkwJ17_numberOfTrailingZeros_1 : List UInt8 := [164, 0, 11, 132, 1, 16, 26, 16, 16, 124, 59, 26, 17, 1, 0, 164, 0, 11, 132, 1, 8, 26, 16, 8]
abbrev dktJ17_numberOfTrailingZeros_1 : List UInt8 := dkwJ17_numberOfTrailingZeros_1 ++ dktJ17_numberOfTrailingZeros_2
def dkwJ17_numberOfTrailingZeros_0 : List UInt8 := [26, 2, 130, 26, 4, 100, 126, 59, 26, 157, 0, 8, 26, 16, 32, 126, 172, 4, 60, 26, 19, 1, 8]
abbrev dktJ17_numberOfTrailingZeros_0 : List UInt8 := dkwJ17_numberOfTrailingZeros_0 ++ dktJ17_numberOfTrailingZeros_1
theorem dksJ17_numberOfTrailingZeros_0 : cJ17_numberOfTrailingZeros.data.toList.drop 0 = dktJ17_numberOfTrailingZeros_0 := by decide +kernel
theorem dksJ17_numberOfTrailingZeros_1 : cJ17_numberOfTrailingZeros.data.toList.drop 23 = dktJ17_numberOfTrailingZeros_1 := dk_seg dksJ17_numberOfTrailingZeros_0 23 rfl rfl
theorem dksJ17_numberOfTrailingZeros_2 : cJ17_numberOfTrailingZeros.data.toList.drop 47 = dktJ17_numberOfTrailingZeros_2 := dk_seg dksJ17_numberOfTrailingZeros_1 24 rfl rfl
theorem dksJ17_numberOfTrailingZeros_3 : cJ17_numberOfTrailingZeros.data.toList.drop 71 = dktJ17_numberOfTrailingZeros_3 := dk_seg dksJ17_numberOfTrailingZeros_2 24 rfl rfl
theorem dJ17_numberOfTrailingZeros_0 : decode cJ17_numberOfTrailingZeros 0 = .ok (.iload_n 0, 1) := dk_26 (dk_at dksJ17_numberOfTrailingZeros_0 0 rfl rfl)
theorem dJ17_numberOfTrailingZeros_1 : decode cJ17_numberOfTrailingZeros 1 = .ok (.iconst (-1), 1) := dk_2 (dk_at dksJ17_numberOfTrailingZeros_0 1 rfl rfl)
theorem dJ17_numberOfTrailingZeros_2 : decode cJ17_numberOfTrailingZeros 2 = .ok (.ixor, 1) := dk_130 (dk_at dksJ17_numberOfTrailingZeros_0 2 rfl rfl)
theorem dJ17_numberOfTrailingZeros_3 : decode cJ17_numberOfTrailingZeros 3 = .ok (.iload_n 0, 1) := dk_26 (dk_at dksJ17_numberOfTrailingZeros_0 3 rfl rfl)
theorem dJ17_numberOfTrailingZeros_4 : decode cJ17_numberOfTrailingZeros 4 = .ok (.iconst 1, 1) := dk_4 (dk_at dksJ17_numberOfTrailingZeros_0 4 rfl rfl)
theorem dJ17_numberOfTrailingZeros_5 : decode cJ17_numberOfTrailingZeros 5 = .ok (.isub, 1) := dk_100 (dk_at dksJ17_numberOfTrailingZeros_0 5 rfl rfl)
theorem dJ17_numberOfTrailingZeros_6 : decode cJ17_numberOfTrailingZeros 6 = .ok (.iand, 1) := dk_126 (dk_at dksJ17_numberOfTrailingZeros_0 6 rfl rfl)
theorem dJ17_numberOfTrailingZeros_7 : decode cJ17_numberOfTrailingZeros 7 = .ok (.istore_n 0, 1) := dk_59 (dk_at dksJ17_numberOfTrailingZeros_0 7 rfl rfl)
theorem dJ17_numberOfTrailingZeros_8 : decode cJ17_numberOfTrailingZeros 8 = .ok (.iload_n 0, 1) := dk_26 (dk_at dksJ17_numberOfTrailingZeros_0 8 rfl rfl)
theorem dJ17_numberOfTrailingZeros_9 : decode cJ17_numberOfTrailingZeros 9 = .ok (.ifCond .gt 8, 3) := dk_157 0 8 (dk_at dksJ17_numberOfTrailingZeros_0 9 rfl rfl)
theorem dJ17_numberOfTrailingZeros_12 : decode cJ17_numberOfTrailingZeros 12 = .ok (.iload_n 0, 1) := dk_26 (dk_at dksJ17_numberOfTrailingZeros_0 12 rfl rfl)
theorem dJ17_numberOfTrailingZeros_13 : decode cJ17_numberOfTrailingZeros 13 = .ok (.bipush 32, 2) := dk_16 32 (dk_at dksJ17_numberOfTrailingZeros_0 13 rfl rfl)
theorem dJ17_numberOfTrailingZeros_15 : decode cJ17_numberOfTrailingZeros 15 = .ok (.iand, 1) := dk_126 (dk_at dksJ17_numberOfTrailingZeros_0 15 rfl rfl)
theorem dJ17_numberOfTrailingZeros_16 : decode cJ17_numberOfTrailingZeros 16 = .ok (.ireturn, 1) := dk_172 (dk_at dksJ17_numberOfTrailingZeros_0 16 rfl rfl)
theorem dJ17_numberOfTrailingZeros_17 : decode cJ17_numberOfTrailingZeros 17 = .ok (.iconst 1, 1) := dk_4 (dk_at dksJ17_numberOfTrailingZeros_0 17 rfl rfl)
theorem dJ17_numberOfTrailingZeros_18 : decode cJ17_numberOfTrailingZeros 18 = .ok (.istore_n 1, 1) := dk_60 (dk_at dksJ17_numberOfTrailingZeros_0 18 rfl rfl)
theorem dJ17_numberOfTrailingZeros_19 : decode cJ17_numberOfTrailingZeros 19 = .ok (.iload_n 0, 1) := dk_26 (dk_at dksJ17_numberOfTrailingZeros_0 19 rfl rfl)
theorem dJ17_numberOfTrailingZeros_20 : decode cJ17_numberOfTrailingZeros 20 = .ok (.ldc_w 264, 3) := dk_19 1 8 (dk_at dksJ17_numberOfTrailingZeros_0 20 rfl rfl)
theorem dJ17_numberOfTrailingZeros_23 : decode cJ17_numberOfTrailingZeros 23 = .ok (.if_icmp .le 11, 3) := dk_164 0 11 (dk_at dksJ17_numberOfTrailingZeros_1 0 rfl rfl)
theorem dJ17_numberOfTrailingZeros_26 : decode cJ17_numberOfTrailingZeros 26 = .ok (.iinc 1 16, 3) := dk_132 1 16 (dk_at dksJ17_numberOfTrailingZeros_1 3 rfl rfl)
theorem dJ17_numberOfTrailingZeros_29 : decode cJ17_numberOfTrailingZeros 29 = .ok (.iload_n 0, 1) := dk_26 (dk_at dksJ17_numberOfTrailingZeros_1 6 rfl rfl)
theorem dJ17_numberOfTrailingZeros_30 : decode cJ17_numberOfTrailingZeros 30 = .ok (.bipush 16, 2) := dk_16 16 (dk_at dksJ17_numberOfTrailingZeros_1 7 rfl rfl)
theorem dJ17_numberOfTrailingZeros_32 : decode cJ17_numberOfTrailingZeros 32 = .ok (.iushr, 1) := dk_124 (dk_at dksJ17_numberOfTrailingZeros_1 9 rfl rfl)
theorem dJ17_numberOfTrailingZeros_33 : decode cJ17_numberOfTrailingZeros 33 = .ok (.istore_n 0, 1) := dk_59 (dk_at dksJ17_numberOfTrailingZeros_1 10 rfl rfl)
theorem dJ17_numberOfTrailingZeros_34 : decode cJ17_numberOfTrailingZeros 34 = .ok (.iload_n 0, 1) := dk_26 (dk_at dksJ17_numberOfTrailingZeros_1 11 rfl rfl)
theorem dJ17_numberOfTrailingZeros_35 : decode cJ17_numberOfTrailingZeros 35 = .ok (.sipush 256, 3) := dk_17 1 0 (dk_at dksJ17_numberOfTrailingZeros_1 12 rfl rfl)
theorem dJ17_numberOfTrailingZeros_38 : decode cJ17_numberOfTrailingZeros 38 = .ok (.if_icmp .le 11, 3) := dk_164 0 11 (dk_at dksJ17_numberOfTrailingZeros_1 15 rfl rfl)
theorem dJ17_numberOfTrailingZeros_41 : decode cJ17_numberOfTrailingZeros 41 = .ok (.iinc 1 8, 3) := dk_132 1 8 (dk_at dksJ17_numberOfTrailingZeros_1 18 rfl rfl)
theorem dJ17_numberOfTrailingZeros_44 : decode cJ17_numberOfTrailingZeros 44 = .ok (.iload_n 0, 1) := dk_26 (dk_at dksJ17_numberOfTrailingZeros_1 21 rfl rfl)
theorem dJ17_numberOfTrailingZeros_45 : decode cJ17_numberOfTrailingZeros 45 = .ok (.bipush 8, 2) := dk_16 8 (dk_at dksJ17_numberOfTrailingZeros_1 22 rfl rfl)
theorem dJ17_numberOfTrailingZeros_47 : decode cJ17_numberOfTrailingZeros 47 = .ok (.iushr, 1) := dk_124 (dk_at dksJ17_numberOfTrailingZeros_2 0 rfl rfl)
theorem dJ17_numberOfTrailingZeros_48 : decode cJ17_numberOfTrailingZeros 48 = .ok (.istore_n 0, 1) := dk_59 (dk_at dksJ17_numberOfTrailingZeros_2 1 rfl rfl)
theorem dJ17_numberOfTrailingZeros_49 : decode cJ17_numberOfTrailingZeros 49 = .ok (.iload_n 0, 1) := dk_26 (dk_at dksJ17_numberOfTrailingZeros_2 2 rfl rfl)
theorem dJ17_numberOfTrailingZeros_50 : decode cJ17_numberOfTrailingZeros 50 = .ok (.bipush 16, 2) := dk_16 16 (dk_at dksJ17_numberOfTrailingZeros_2 3 rfl rfl)
theorem dJ17_numberOfTrailingZeros_52 : decode cJ17_numberOfTrailingZeros 52 = .ok (.if_icmp .le 10, 3) := dk_164 0 10 (dk_at dksJ17_numberOfTrailingZeros_2 5 rfl rfl)
theorem dJ17_numberOfTrailingZeros_55 : decode cJ17_numberOfTrailingZeros 55 = .ok (.iinc 1 4, 3) := dk_132 1 4 (dk_at dksJ17_numberOfTrailingZeros_2 8 rfl rfl)
theorem dJ17_numberOfTrailingZeros_58 : decode cJ17_numberOfTrailingZeros 58 = .ok (.iload_n 0, 1) := dk_26 (dk_at dksJ17_numberOfTrailingZeros_2 11 rfl rfl)
theorem dJ17_numberOfTrailingZeros_59 : decode cJ17_numberOfTrailingZeros 59 = .ok (.iconst 4, 1) := dk_7 (dk_at dksJ17_numberOfTrailingZeros_2 12 rfl rfl)
theorem dJ17_numberOfTrailingZeros_60 : decode cJ17_numberOfTrailingZeros 60 = .ok (.iushr, 1) := dk_124 (dk_at dksJ17_numberOfTrailingZeros_2 13 rfl rfl)
theorem dJ17_numberOfTrailingZeros_61 : decode cJ17_numberOfTrailingZeros 61 = .ok (.istore_n 0, 1) := dk_59 (dk_at dksJ17_numberOfTrailingZeros_2 14 rfl rfl)
theorem dJ17_numberOfTrailingZeros_62 : decode cJ17_numberOfTrailingZeros 62 = .ok (.iload_n 0, 1) := dk_26 (dk_at dksJ17_numberOfTrailingZeros_2 15 rfl rfl)
theorem dJ17_numberOfTrailingZeros_63 : decode cJ17_numberOfTrailingZeros 63 = .ok (.iconst 4, 1) := dk_7 (dk_at dksJ17_numberOfTrailingZeros_2 16 rfl rfl)
theorem dJ17_numberOfTrailingZeros_64 : decode cJ17_numberOfTrailingZeros 64 = .ok (.if_icmp .le 10, 3) := dk_164 0 10 (dk_at dksJ17_numberOfTrailingZeros_2 17 rfl rfl)
theorem dJ17_numberOfTrailingZeros_67 : decode cJ17_numberOfTrailingZeros 67 = .ok (.iinc 1 2, 3) := dk_132 1 2 (dk_at dksJ17_numberOfTrailingZeros_2 20 rfl rfl)
theorem dJ17_numberOfTrailingZeros_70 : decode cJ17_numberOfTrailingZeros 70 = .ok (.iload_n 0, 1) := dk_26 (dk_at dksJ17_numberOfTrailingZeros_2 23 rfl rfl)
theorem dJ17_numberOfTrailingZeros_71 : decode cJ17_numberOfTrailingZeros 71 = .ok (.iconst 2, 1) := dk_5 (dk_at dksJ17_numberOfTrailingZeros_3 0 rfl rfl)
theorem dJ17_numberOfTrailingZeros_72 : decode cJ17_numberOfTrailingZeros 72 = .ok (.iushr, 1) := dk_124 (dk_at dksJ17_numberOfTrailingZeros_3 1 rfl rfl)
theorem dJ17_numberOfTrailingZeros_73 : decode cJ17_numberOfTrailingZeros 73 = .ok (.istore_n 0, 1) := dk_59 (dk_at dksJ17_numberOfTrailingZeros_3 2 rfl rfl)
theorem dJ17_numberOfTrailingZeros_74 : decode cJ17_numberOfTrailingZeros 74 = .ok (.iload_n 1, 1) := dk_27 (dk_at dksJ17_numberOfTrailingZeros_3 3 rfl rfl)
theorem dJ17_numberOfTrailingZeros_75 : decode cJ17_numberOfTrailingZeros 75 = .ok (.iload_n 0, 1) := dk_26 (dk_at dksJ17_numberOfTrailingZeros_3 4 rfl rfl)
theorem dJ17_numberOfTrailingZeros_76 : decode cJ17_numberOfTrailingZeros 76 = .ok (.iconst 1, 1) := dk_4 (dk_at dksJ17_numberOfTrailingZeros_3 5 rfl rfl)
theorem dJ17_numberOfTrailingZeros_77 : decode cJ17_numberOfTrailingZeros 77 = .ok (.iushr, 1) := dk_124 (dk_at dksJ17_numberOfTrailingZeros_3 6 rfl rfl)
theorem dJ17_numberOfTrailingZeros_78 : decode cJ17_numberOfTrailingZeros 78 = .ok (.iadd, 1) := dk_96 (dk_at dksJ17_numberOfTrailingZeros_3 7 rfl rfl)
theorem dJ17_numberOfTrailingZeros_79 : decode cJ17_numberOfTrailingZeros 79 = .ok (.ireturn, 1) := dk_172 (dk_at dksJ17_numberOfTrailingZeros_3 8 rfl rfl)
abbrev cJ17_bitCount : ByteArray := prog_19_method_49_code
def yJ17_bitCount : MethodName := ⟨RJ17, "bitCount", "(I)I"⟩
def dkwJ17_bitCount_2 : List UInt8 := [26, 16, 63, 126, 172]
abbrev dktJ17_bitCount_2 : List UInt8 := dkwJ17_bitCount_2 ++ []
def dkwJ17_bitCount_1 : List UInt8 := [26, 26, 7, 124, 96, 19, 1, 11, 126, 59, 26, 26, 16, 8, 124, 96, 59, 26, 26, 16, 16, 124, 96, 59]
abbrev dktJ17_bitCount_1 : List UInt8 := dkwJ17_bitCount_1 ++ dktJ17_bitCount_2
def dkwJ17_bitCount_0 : List UInt8 := [26, 26, 4, 124, 19, 1, 9, 126, 100, 59, 26, 19, 1, 10, 126, 26, 5, 124, 19, 1, 10, 126, 96, 59]
abbrev dktJ17_bitCount_0 : List UInt8 := dkwJ17_bitCount_0 ++ dktJ17_bitCount_1
theorem dksJ17_bitCount_0 : cJ17_bitCount.data.toList.drop 0 = dktJ17_bitCount_0 := by decide +kernel
theorem dksJ17_bitCount_1 : cJ17_bitCount.data.toList.drop 24 = dktJ17_bitCount_1 := dk_seg dksJ17_bitCount_0 24 rfl rfl
theorem dksJ17_bitCount_2 : cJ17_bitCount.data.toList.drop 48 = dktJ17_bitCount_2 := dk_seg dksJ17_bitCount_1 24 rfl rfl
theorem dJ17_bitCount_0 : decode cJ17_bitCount 0 = .ok (.iload_n 0, 1) := dk_26 (dk_at dksJ17_bitCount_0 0 rfl rfl)
theorem dJ17_bitCount_1 : decode cJ17_bitCount 1 = .ok (.iload_n 0, 1) := dk_26 (dk_at dksJ17_bitCount_0 1 rfl rfl)
theorem dJ17_bitCount_2 : decode cJ17_bitCount 2 = .ok (.iconst 1, 1) := dk_4 (dk_at dksJ17_bitCount_0 2 rfl rfl)
theorem dJ17_bitCount_3 : decode cJ17_bitCount 3 = .ok (.iushr, 1) := dk_124 (dk_at dksJ17_bitCount_0 3 rfl rfl)
theorem dJ17_bitCount_4 : decode cJ17_bitCount 4 = .ok (.ldc_w 265, 3) := dk_19 1 9 (dk_at dksJ17_bitCount_0 4 rfl rfl)
theorem dJ17_bitCount_7 : decode cJ17_bitCount 7 = .ok (.iand, 1) := dk_126 (dk_at dksJ17_bitCount_0 7 rfl rfl)
theorem dJ17_bitCount_8 : decode cJ17_bitCount 8 = .ok (.isub, 1) := dk_100 (dk_at dksJ17_bitCount_0 8 rfl rfl)
theorem dJ17_bitCount_9 : decode cJ17_bitCount 9 = .ok (.istore_n 0, 1) := dk_59 (dk_at dksJ17_bitCount_0 9 rfl rfl)
theorem dJ17_bitCount_10 : decode cJ17_bitCount 10 = .ok (.iload_n 0, 1) := dk_26 (dk_at dksJ17_bitCount_0 10 rfl rfl)
theorem dJ17_bitCount_11 : decode cJ17_bitCount 11 = .ok (.ldc_w 266, 3) := dk_19 1 10 (dk_at dksJ17_bitCount_0 11 rfl rfl)
theorem dJ17_bitCount_14 : decode cJ17_bitCount 14 = .ok (.iand, 1) := dk_126 (dk_at dksJ17_bitCount_0 14 rfl rfl)
theorem dJ17_bitCount_15 : decode cJ17_bitCount 15 = .ok (.iload_n 0, 1) := dk_26 (dk_at dksJ17_bitCount_0 15 rfl rfl)
theorem dJ17_bitCount_16 : decode cJ17_bitCount 16 = .ok (.iconst 2, 1) := dk_5 (dk_at dksJ17_bitCount_0 16 rfl rfl)
theorem dJ17_bitCount_17 : decode cJ17_bitCount 17 = .ok (.iushr, 1) := dk_124 (dk_at dksJ17_bitCount_0 17 rfl rfl)
theorem dJ17_bitCount_18 : decode cJ17_bitCount 18 = .ok (.ldc_w 266, 3) := dk_19 1 10 (dk_at dksJ17_bitCount_0 18 rfl rfl)
theorem dJ17_bitCount_21 : decode cJ17_bitCount 21 = .ok (.iand, 1) := dk_126 (dk_at dksJ17_bitCount_0 21 rfl rfl)
theorem dJ17_bitCount_22 : decode cJ17_bitCount 22 = .ok (.iadd, 1) := dk_96 (dk_at dksJ17_bitCount_0 22 rfl rfl)
theorem dJ17_bitCount_23 : decode cJ17_bitCount 23 = .ok (.istore_n 0, 1) := dk_59 (dk_at dksJ17_bitCount_0 23 rfl rfl)
theorem dJ17_bitCount_24 : decode cJ17_bitCount 24 = .ok (.iload_n 0, 1) := dk_26 (dk_at dksJ17_bitCount_1 0 rfl rfl)
theorem dJ17_bitCount_25 : decode cJ17_bitCount 25 = .ok (.iload_n 0, 1) := dk_26 (dk_at dksJ17_bitCount_1 1 rfl rfl)
theorem dJ17_bitCount_26 : decode cJ17_bitCount 26 = .ok (.iconst 4, 1) := dk_7 (dk_at dksJ17_bitCount_1 2 rfl rfl)
theorem dJ17_bitCount_27 : decode cJ17_bitCount 27 = .ok (.iushr, 1) := dk_124 (dk_at dksJ17_bitCount_1 3 rfl rfl)
theorem dJ17_bitCount_28 : decode cJ17_bitCount 28 = .ok (.iadd, 1) := dk_96 (dk_at dksJ17_bitCount_1 4 rfl rfl)
theorem dJ17_bitCount_29 : decode cJ17_bitCount 29 = .ok (.ldc_w 267, 3) := dk_19 1 11 (dk_at dksJ17_bitCount_1 5 rfl rfl)
theorem dJ17_bitCount_32 : decode cJ17_bitCount 32 = .ok (.iand, 1) := dk_126 (dk_at dksJ17_bitCount_1 8 rfl rfl)
theorem dJ17_bitCount_33 : decode cJ17_bitCount 33 = .ok (.istore_n 0, 1) := dk_59 (dk_at dksJ17_bitCount_1 9 rfl rfl)
theorem dJ17_bitCount_34 : decode cJ17_bitCount 34 = .ok (.iload_n 0, 1) := dk_26 (dk_at dksJ17_bitCount_1 10 rfl rfl)
theorem dJ17_bitCount_35 : decode cJ17_bitCount 35 = .ok (.iload_n 0, 1) := dk_26 (dk_at dksJ17_bitCount_1 11 rfl rfl)
theorem dJ17_bitCount_36 : decode cJ17_bitCount 36 = .ok (.bipush 8, 2) := dk_16 8 (dk_at dksJ17_bitCount_1 12 rfl rfl)
theorem dJ17_bitCount_38 : decode cJ17_bitCount 38 = .ok (.iushr, 1) := dk_124 (dk_at dksJ17_bitCount_1 14 rfl rfl)
theorem dJ17_bitCount_39 : decode cJ17_bitCount 39 = .ok (.iadd, 1) := dk_96 (dk_at dksJ17_bitCount_1 15 rfl rfl)
theorem dJ17_bitCount_40 : decode cJ17_bitCount 40 = .ok (.istore_n 0, 1) := dk_59 (dk_at dksJ17_bitCount_1 16 rfl rfl)
theorem dJ17_bitCount_41 : decode cJ17_bitCount 41 = .ok (.iload_n 0, 1) := dk_26 (dk_at dksJ17_bitCount_1 17 rfl rfl)
theorem dJ17_bitCount_42 : decode cJ17_bitCount 42 = .ok (.iload_n 0, 1) := dk_26 (dk_at dksJ17_bitCount_1 18 rfl rfl)
theorem dJ17_bitCount_43 : decode cJ17_bitCount 43 = .ok (.bipush 16, 2) := dk_16 16 (dk_at dksJ17_bitCount_1 19 rfl rfl)
theorem dJ17_bitCount_45 : decode cJ17_bitCount 45 = .ok (.iushr, 1) := dk_124 (dk_at dksJ17_bitCount_1 21 rfl rfl)
theorem dJ17_bitCount_46 : decode cJ17_bitCount 46 = .ok (.iadd, 1) := dk_96 (dk_at dksJ17_bitCount_1 22 rfl rfl)
theorem dJ17_bitCount_47 : decode cJ17_bitCount 47 = .ok (.istore_n 0, 1) := dk_59 (dk_at dksJ17_bitCount_1 23 rfl rfl)
theorem dJ17_bitCount_48 : decode cJ17_bitCount 48 = .ok (.iload_n 0, 1) := dk_26 (dk_at dksJ17_bitCount_2 0 rfl rfl)
theorem dJ17_bitCount_49 : decode cJ17_bitCount 49 = .ok (.bipush 63, 2) := dk_16 63 (dk_at dksJ17_bitCount_2 1 rfl rfl)
theorem dJ17_bitCount_51 : decode cJ17_bitCount 51 = .ok (.iand, 1) := dk_126 (dk_at dksJ17_bitCount_2 3 rfl rfl)
theorem dJ17_bitCount_52 : decode cJ17_bitCount 52 = .ok (.ireturn, 1) := dk_172 (dk_at dksJ17_bitCount_2 4 rfl rfl)
theorem q60 : (Jvm.Cond.initialized "java/lang/Integer") ∈ lw_all := lw_g (lw_at lw_m1 23 rfl) rfl
theorem q465 : (Jvm.Cond.static ({ cls := "java/lang/Integer", name := "stringSize", desc := "(I)I" } : Jvm.MethodName)) ∈ lw_all := lw_g (lw_at lw_m2 188 rfl) rfl
theorem q466 : (Jvm.Cond.code ({ cls := "java/lang/Integer", name := "stringSize", desc := "(I)I" } : Jvm.MethodName) prog_19_method_13_code (4 : Nat) (Option.some Jvm.ClassFile.FieldType.int)) ∈ lw_all := lw_g (lw_at lw_m2 189 rfl) rfl
theorem q468 : (Jvm.Cond.static ({ cls := "java/lang/Integer", name := "getChars", desc := "(II[B)I" } : Jvm.MethodName)) ∈ lw_all := lw_g (lw_at lw_m2 191 rfl) rfl
theorem q469 : (Jvm.Cond.code ({ cls := "java/lang/Integer", name := "getChars", desc := "(II[B)I" } : Jvm.MethodName) prog_19_method_12_code (7 : Nat) (Option.some Jvm.ClassFile.FieldType.int)) ∈ lw_all := lw_g (lw_at lw_m2 192 rfl) rfl
theorem q470 : (Jvm.Cond.fieldLink "java/lang/Integer" (83 : Nat) "java/lang/Integer" "DigitOnes" "[B") ∈ lw_all := lw_g (lw_at lw_m2 193 rfl) rfl
theorem q471 : (Jvm.Cond.laysStatic "java/lang/Integer" "DigitOnes" "[B") ∈ lw_tbl := lw_at lw_m2 194 rfl
theorem q472 : (Jvm.Cond.fieldLink "java/lang/Integer" (87 : Nat) "java/lang/Integer" "DigitTens" "[B") ∈ lw_all := lw_g (lw_at lw_m2 195 rfl) rfl
theorem q473 : (Jvm.Cond.laysStatic "java/lang/Integer" "DigitTens" "[B") ∈ lw_tbl := lw_at lw_m2 196 rfl
theorem q655 : (Jvm.Cond.static ({ cls := "java/lang/Integer", name := "compare", desc := "(II)I" } : Jvm.MethodName)) ∈ lw_all := lw_g (lw_at lw_m3 138 rfl) rfl
theorem q656 : (Jvm.Cond.code ({ cls := "java/lang/Integer", name := "compare", desc := "(II)I" } : Jvm.MethodName) prog_19_method_40_code (2 : Nat) (Option.some Jvm.ClassFile.FieldType.int)) ∈ lw_all := lw_g (lw_at lw_m3 139 rfl) rfl
theorem q747 : (Jvm.Cond.static ({ cls := "java/lang/Integer", name := "numberOfLeadingZeros", desc := "(I)I" } : Jvm.MethodName)) ∈ lw_all := lw_g (lw_at lw_m3 230 rfl) rfl
theorem q748 : (Jvm.Cond.code ({ cls := "java/lang/Integer", name := "numberOfLeadingZeros", desc := "(I)I" } : Jvm.MethodName) prog_19_method_47_code (2 : Nat) (Option.some Jvm.ClassFile.FieldType.int)) ∈ lw_all := lw_g (lw_at lw_m3 231 rfl) rfl
theorem q749 : (Jvm.Cond.constant "java/lang/Integer" (264 : Nat) (65536 : Int32)) ∈ lw_all := lw_g (lw_at lw_m3 232 rfl) rfl
theorem q756 : (Jvm.Cond.static ({ cls := "java/lang/Integer", name := "numberOfTrailingZeros", desc := "(I)I" } : Jvm.MethodName)) ∈ lw_all := lw_g (lw_at lw_m3 239 rfl) rfl
theorem q757 : (Jvm.Cond.code ({ cls := "java/lang/Integer", name := "numberOfTrailingZeros", desc := "(I)I" } : Jvm.MethodName) prog_19_method_48_code (2 : Nat) (Option.some Jvm.ClassFile.FieldType.int)) ∈ lw_all := lw_g (lw_at lw_m4 0 rfl) rfl
theorem q1001 : (Jvm.Cond.static ({ cls := "java/lang/Integer", name := "bitCount", desc := "(I)I" } : Jvm.MethodName)) ∈ lw_all := lw_g (lw_at lw_m5 4 rfl) rfl
theorem q1002 : (Jvm.Cond.code ({ cls := "java/lang/Integer", name := "bitCount", desc := "(I)I" } : Jvm.MethodName) prog_19_method_49_code (1 : Nat) (Option.some Jvm.ClassFile.FieldType.int)) ∈ lw_all := lw_g (lw_at lw_m5 5 rfl) rfl
theorem q1003 : (Jvm.Cond.constant "java/lang/Integer" (265 : Nat) (1431655765 : Int32)) ∈ lw_all := lw_g (lw_at lw_m5 6 rfl) rfl
theorem q1004 : (Jvm.Cond.constant "java/lang/Integer" (266 : Nat) (858993459 : Int32)) ∈ lw_all := lw_g (lw_at lw_m5 7 rfl) rfl
theorem q1005 : (Jvm.Cond.constant "java/lang/Integer" (267 : Nat) (252645135 : Int32)) ∈ lw_all := lw_g (lw_at lw_m5 8 rfl) rfl
