set_option maxRecDepth 100000
/-! J0.java_lang_Throwable.lean.txt -/
def RJ0 : String := "java/lang/Throwable"
def TJ0 : u_T := fun k => match k with
  | 0 => ("java/lang/Throwable", "cause", "Ljava/lang/Throwable;", false)
  | 1 => ("java/lang/Throwable", "stackTrace", "[Ljava/lang/StackTraceElement;", false)
  | 2 => ("java/lang/Throwable", "suppressedExceptions", "Ljava/util/List;", false)
  | 3 => ("java/lang/Throwable", "detailMessage", "Ljava/lang/String;", false)
  | _ => ("java/lang/Throwable", "backtrace", "Ljava/lang/Object;", false)
def tyJ0 : Nat → FieldType := fun k => match k with
  | 0 => .object "java/lang/Throwable"
  | 1 => .array (.object "java/lang/StackTraceElement")
  | 2 => .object "java/util/List"
  | 3 => .object "java/lang/String"
  | _ => .object "java/lang/Object"
abbrev wsJ00 : List Cond := u_ws RJ0 TJ0 5
theorem nmJ0 : ∀ a, a < 5 → ∀ b, b < 5 → a ≠ b → (TJ0 a).2.1 ≠ (TJ0 b).2.1 := by decide +kernel
theorem tyJ0_ok : ∀ k, k < 5 → parseFieldDescriptor (TJ0 k).2.2.1 = some (tyJ0 k) := by decide +kernel
abbrev cJ0_init : ByteArray := prog_36_method_1_code
def yJ0_init : MethodName := ⟨RJ0, "<init>", "()V"⟩
abbrev cJ0_init_2 : ByteArray := prog_36_method_2_code
def yJ0_init_2 : MethodName := ⟨RJ0, "<init>", "(Ljava/lang/String;)V"⟩
theorem q336 : (Jvm.Cond.initialized "java/lang/Throwable") ∈ lw_all := lw_g (lw_at lw_m1 22 rfl) rfl
theorem q1277 : (Jvm.Cond.declares ({ cls := "java/lang/Throwable", name := "<init>", desc := "()V" } : Jvm.MethodName)) ∈ lw_tbl := lw_at lw_m5 3 rfl
theorem q1278 : (Jvm.Cond.declares ({ cls := "java/lang/Throwable", name := "<init>", desc := "(Ljava/lang/String;)V" } : Jvm.MethodName)) ∈ lw_tbl := lw_at lw_m5 4 rfl
theorem q1282 : (Jvm.Cond.lays "java/lang/Throwable" "java/lang/Throwable" "cause" "Ljava/lang/Throwable;") ∈ lw_all := lw_g (lw_at lw_m5 8 rfl) rfl
theorem q1284 : (Jvm.Cond.lays "java/lang/Throwable" "java/lang/Throwable" "stackTrace" "[Ljava/lang/StackTraceElement;") ∈ lw_all := lw_g (lw_at lw_m5 10 rfl) rfl
theorem q1286 : (Jvm.Cond.lays "java/lang/Throwable" "java/lang/Throwable" "suppressedExceptions" "Ljava/util/List;") ∈ lw_all := lw_g (lw_at lw_m5 12 rfl) rfl
theorem q1288 : (Jvm.Cond.lays "java/lang/Throwable" "java/lang/Throwable" "detailMessage" "Ljava/lang/String;") ∈ lw_all := lw_g (lw_at lw_m5 14 rfl) rfl
theorem q1290 : (Jvm.Cond.lays "java/lang/Throwable" "java/lang/Throwable" "backtrace" "Ljava/lang/Object;") ∈ lw_all := lw_g (lw_at lw_m5 16 rfl) rfl
theorem q1291 : (Jvm.Cond.fieldLink "java/lang/Throwable" (198 : Nat) "java/lang/Throwable" "backtrace" "Ljava/lang/Object;") ∈ lw_all := lw_g (lw_at lw_m5 17 rfl) rfl
theorem q1292 : (Jvm.Cond.superclass "java/lang/Throwable" "java/lang/Object") ∈ lw_all := lw_g (lw_at lw_m5 18 rfl) rfl
theorem q1293 : (Jvm.Cond.instanceMethod ({ cls := "java/lang/Throwable", name := "<init>", desc := "()V" } : Jvm.MethodName)) ∈ lw_all := lw_g (lw_at lw_m5 19 rfl) rfl
theorem q1294 : (Jvm.Cond.code ({ cls := "java/lang/Throwable", name := "<init>", desc := "()V" } : Jvm.MethodName) prog_36_method_1_code (1 : Nat) (Option.none : Option Jvm.ClassFile.FieldType)) ∈ lw_all := lw_g (lw_at lw_m5 20 rfl) rfl
theorem q1295 : (Jvm.Cond.methodLink "java/lang/Throwable" (1 : Nat) ({ cls := "java/lang/Object", name := "<init>", desc := "()V" } : Jvm.MethodName)) ∈ lw_all := lw_g (lw_at lw_m5 21 rfl) rfl
theorem q1296 : (Jvm.Cond.fieldLink "java/lang/Throwable" (13 : Nat) "java/lang/Throwable" "UNASSIGNED_STACK" "[Ljava/lang/StackTraceElement;") ∈ lw_all := lw_g (lw_at lw_m5 22 rfl) rfl
theorem q1297 : (Jvm.Cond.laysStatic "java/lang/Throwable" "UNASSIGNED_STACK" "[Ljava/lang/StackTraceElement;") ∈ lw_tbl := lw_at lw_m5 23 rfl
theorem q1298 : (Jvm.Cond.fieldLink "java/lang/Throwable" (20 : Nat) "java/lang/Throwable" "SUPPRESSED_SENTINEL" "Ljava/util/List;") ∈ lw_all := lw_g (lw_at lw_m5 24 rfl) rfl
theorem q1299 : (Jvm.Cond.laysStatic "java/lang/Throwable" "SUPPRESSED_SENTINEL" "Ljava/util/List;") ∈ lw_tbl := lw_at lw_m5 25 rfl
theorem q1300 : (Jvm.Cond.methodLink "java/lang/Throwable" (27 : Nat) ({ cls := "java/lang/Throwable", name := "fillInStackTrace", desc := "()Ljava/lang/Throwable;" } : Jvm.MethodName)) ∈ lw_all := lw_g (lw_at lw_m5 26 rfl) rfl
theorem q1301 : (Jvm.Cond.instanceMethod ({ cls := "java/lang/Throwable", name := "fillInStackTrace", desc := "()Ljava/lang/Throwable;" } : Jvm.MethodName)) ∈ lw_all := lw_g (lw_at lw_m5 27 rfl) rfl
theorem q1302 : (Jvm.Cond.sameMethod "java/lang/Throwable" "java/lang/Throwable" "fillInStackTrace" "()Ljava/lang/Throwable;") ∈ lw_all := lw_g (lw_at lw_m5 28 rfl) rfl
theorem q1307 : (Jvm.Cond.codeSync ({ cls := "java/lang/Throwable", name := "fillInStackTrace", desc := "()Ljava/lang/Throwable;" } : Jvm.MethodName) prog_36_method_18_code (1 : Nat) (Option.some (Jvm.ClassFile.FieldType.object "java/lang/Throwable"))) ∈ lw_all := lw_g (lw_at lw_m5 33 rfl) rfl
theorem q1308 : (Jvm.Cond.methodLink "java/lang/Throwable" (202 : Nat) ({ cls := "java/lang/Throwable", name := "fillInStackTrace", desc := "(I)Ljava/lang/Throwable;" } : Jvm.MethodName)) ∈ lw_all := lw_g (lw_at lw_m5 34 rfl) rfl
theorem q1309 : (Jvm.Cond.privateMethod ({ cls := "java/lang/Throwable", name := "fillInStackTrace", desc := "(I)Ljava/lang/Throwable;" } : Jvm.MethodName)) ∈ lw_tbl := lw_at lw_m5 35 rfl
theorem q1310 : (Jvm.Cond.instanceMethod ({ cls := "java/lang/Throwable", name := "fillInStackTrace", desc := "(I)Ljava/lang/Throwable;" } : Jvm.MethodName)) ∈ lw_all := lw_g (lw_at lw_m5 36 rfl) rfl
theorem q1311 : (Jvm.Cond.instantiable "java/lang/Throwable" (6 : Nat)) ∈ lw_all := lw_g (lw_at lw_m5 37 rfl) rfl
theorem q1312 : (Jvm.Cond.native ({ cls := "java/lang/Throwable", name := "fillInStackTrace", desc := "(I)Ljava/lang/Throwable;" } : Jvm.MethodName)) ∈ lw_all := lw_g (lw_at lw_m5 38 rfl) rfl
theorem q1323 : (Jvm.Cond.fieldLink "java/lang/Throwable" (198 : Nat) "java/lang/Throwable" "backtrace" "Ljava/lang/Object;") ∈ lw_all := lw_g (lw_at lw_m5 49 rfl) rfl
theorem q1324 : (Jvm.Cond.fieldLink "java/lang/Throwable" (31 : Nat) "java/lang/Throwable" "detailMessage" "Ljava/lang/String;") ∈ lw_all := lw_g (lw_at lw_m5 50 rfl) rfl
theorem q1325 : (Jvm.Cond.fieldLink "java/lang/Throwable" (7 : Nat) "java/lang/Throwable" "cause" "Ljava/lang/Throwable;") ∈ lw_all := lw_g (lw_at lw_m5 51 rfl) rfl
theorem q1326 : (Jvm.Cond.fieldLink "java/lang/Throwable" (17 : Nat) "java/lang/Throwable" "stackTrace" "[Ljava/lang/StackTraceElement;") ∈ lw_all := lw_g (lw_at lw_m5 52 rfl) rfl
theorem q1327 : (Jvm.Cond.fieldLink "java/lang/Throwable" (24 : Nat) "java/lang/Throwable" "suppressedExceptions" "Ljava/util/List;") ∈ lw_all := lw_g (lw_at lw_m5 53 rfl) rfl
theorem q1328 : (Jvm.Cond.soleField "java/lang/Throwable" "backtrace") ∈ lw_all := lw_g (lw_at lw_m5 54 rfl) rfl
theorem q1329 : (Jvm.Cond.soleField "java/lang/Throwable" "detailMessage") ∈ lw_all := lw_g (lw_at lw_m5 55 rfl) rfl
theorem q1330 : (Jvm.Cond.soleField "java/lang/Throwable" "cause") ∈ lw_all := lw_g (lw_at lw_m5 56 rfl) rfl
theorem q1331 : (Jvm.Cond.soleField "java/lang/Throwable" "stackTrace") ∈ lw_all := lw_g (lw_at lw_m5 57 rfl) rfl
theorem q1333 : (Jvm.Cond.soleField "java/lang/Throwable" "depth") ∈ lw_all := lw_g (lw_at lw_m5 59 rfl) rfl
theorem q1334 : (Jvm.Cond.soleField "java/lang/Throwable" "suppressedExceptions") ∈ lw_all := lw_g (lw_at lw_m5 60 rfl) rfl
theorem q2434 : (Jvm.Cond.instanceMethod ({ cls := "java/lang/Throwable", name := "<init>", desc := "(Ljava/lang/String;)V" } : Jvm.MethodName)) ∈ lw_all := lw_g (lw_at lw_m9 200 rfl) rfl
theorem q2435 : (Jvm.Cond.code ({ cls := "java/lang/Throwable", name := "<init>", desc := "(Ljava/lang/String;)V" } : Jvm.MethodName) prog_36_method_2_code (2 : Nat) (Option.none : Option Jvm.ClassFile.FieldType)) ∈ lw_all := lw_g (lw_at lw_m9 201 rfl) rfl
theorem q3760 : (Jvm.Cond.sameMethod "java/lang/Throwable" "java/lang/Throwable" "fillInStackTrace" "(I)Ljava/lang/Throwable;") ∈ lw_all := lw_g (lw_at lw_m15 86 rfl) rfl
theorem in_J0 : ∀ w ∈ wsJ00, w ∈ lw_all := lw_in wsJ00 [1282, 1284, 1286, 1288, 1290] (by decide +kernel) (by decide +kernel)
/-! J1.java_lang_Exception.lean.txt -/
def RJ1 : String := "java/lang/Exception"
abbrev cJ1_init : ByteArray := prog_26_method_1_code
def yJ1_init : MethodName := ⟨RJ1, "<init>", "()V"⟩
abbrev cJ1_init_2 : ByteArray := prog_26_method_2_code
def yJ1_init_2 : MethodName := ⟨RJ1, "<init>", "(Ljava/lang/String;)V"⟩
theorem q337 : (Jvm.Cond.initialized "java/lang/Exception") ∈ lw_all := lw_g (lw_at lw_m1 23 rfl) rfl
theorem q1275 : (Jvm.Cond.declares ({ cls := "java/lang/Exception", name := "<init>", desc := "()V" } : Jvm.MethodName)) ∈ lw_tbl := lw_at lw_m5 1 rfl
theorem q1276 : (Jvm.Cond.declares ({ cls := "java/lang/Exception", name := "<init>", desc := "(Ljava/lang/String;)V" } : Jvm.MethodName)) ∈ lw_tbl := lw_at lw_m5 2 rfl
theorem q1320 : (Jvm.Cond.instanceMethod ({ cls := "java/lang/Exception", name := "<init>", desc := "()V" } : Jvm.MethodName)) ∈ lw_all := lw_g (lw_at lw_m5 46 rfl) rfl
theorem q1321 : (Jvm.Cond.code ({ cls := "java/lang/Exception", name := "<init>", desc := "()V" } : Jvm.MethodName) prog_26_method_1_code (1 : Nat) (Option.none : Option Jvm.ClassFile.FieldType)) ∈ lw_all := lw_g (lw_at lw_m5 47 rfl) rfl
theorem q1322 : (Jvm.Cond.methodLink "java/lang/Exception" (1 : Nat) ({ cls := "java/lang/Throwable", name := "<init>", desc := "()V" } : Jvm.MethodName)) ∈ lw_all := lw_g (lw_at lw_m5 48 rfl) rfl
theorem q2431 : (Jvm.Cond.instanceMethod ({ cls := "java/lang/Exception", name := "<init>", desc := "(Ljava/lang/String;)V" } : Jvm.MethodName)) ∈ lw_all := lw_g (lw_at lw_m9 197 rfl) rfl
theorem q2432 : (Jvm.Cond.code ({ cls := "java/lang/Exception", name := "<init>", desc := "(Ljava/lang/String;)V" } : Jvm.MethodName) prog_26_method_2_code (2 : Nat) (Option.none : Option Jvm.ClassFile.FieldType)) ∈ lw_all := lw_g (lw_at lw_m9 198 rfl) rfl
theorem q2433 : (Jvm.Cond.methodLink "java/lang/Exception" (7 : Nat) ({ cls := "java/lang/Throwable", name := "<init>", desc := "(Ljava/lang/String;)V" } : Jvm.MethodName)) ∈ lw_all := lw_g (lw_at lw_m9 199 rfl) rfl
/-! J10.java_lang_ArithmeticException.lean.txt -/
def RJ10 : String := "java/lang/ArithmeticException"
def TJ10 : u_T := fun k => match k with
  | 0 => ("java/lang/Throwable", "backtrace", "Ljava/lang/Object;", false)
  | 1 => ("java/lang/Throwable", "detailMessage", "Ljava/lang/String;", false)
  | 2 => ("java/lang/Throwable", "cause", "Ljava/lang/Throwable;", false)
  | 3 => ("java/lang/Throwable", "stackTrace", "[Ljava/lang/StackTraceElement;", false)
  | 4 => ("java/lang/Throwable", "depth", "I", false)
  | _ => ("java/lang/Throwable", "suppressedExceptions", "Ljava/util/List;", false)
def tyJ10 : Nat → FieldType := fun k => match k with
  | 0 => .object "java/lang/Object"
  | 1 => .object "java/lang/String"
  | 2 => .object "java/lang/Throwable"
  | 3 => .array (.object "java/lang/StackTraceElement")
  | 4 => .int
  | _ => .object "java/util/List"
abbrev wsJ100 : List Cond := u_ws RJ10 TJ10 6
theorem nmJ10 : ∀ a, a < 6 → ∀ b, b < 6 → a ≠ b → (TJ10 a).2.1 ≠ (TJ10 b).2.1 := by decide +kernel
theorem tyJ10_ok : ∀ k, k < 6 → parseFieldDescriptor (TJ10 k).2.2.1 = some (tyJ10 k) := by decide +kernel
abbrev cJ10_init : ByteArray := prog_24_method_2_code
def yJ10_init : MethodName := ⟨RJ10, "<init>", "(Ljava/lang/String;)V"⟩
abbrev cJ10_init_2 : ByteArray := prog_24_method_1_code
def yJ10_init_2 : MethodName := ⟨RJ10, "<init>", "()V"⟩
theorem q347 : (Jvm.Cond.initialized "java/lang/ArithmeticException") ∈ lw_all := lw_g (lw_at lw_m1 33 rfl) rfl
theorem q1303 : (Jvm.Cond.selects "java/lang/ArithmeticException" ({ cls := "java/lang/Throwable", name := "fillInStackTrace", desc := "()Ljava/lang/Throwable;" } : Jvm.MethodName) ({ cls := "java/lang/Throwable", name := "fillInStackTrace", desc := "()Ljava/lang/Throwable;" } : Jvm.MethodName)) ∈ lw_all := lw_g (lw_at lw_m5 29 rfl) rfl
theorem q2424 : (Jvm.Cond.instantiable "java/lang/ArithmeticException" (6 : Nat)) ∈ lw_all := lw_g (lw_at lw_m9 190 rfl) rfl
theorem q2425 : (Jvm.Cond.instanceMethod ({ cls := "java/lang/ArithmeticException", name := "<init>", desc := "(Ljava/lang/String;)V" } : Jvm.MethodName)) ∈ lw_all := lw_g (lw_at lw_m9 191 rfl) rfl
theorem q2426 : (Jvm.Cond.code ({ cls := "java/lang/ArithmeticException", name := "<init>", desc := "(Ljava/lang/String;)V" } : Jvm.MethodName) prog_24_method_2_code (2 : Nat) (Option.none : Option Jvm.ClassFile.FieldType)) ∈ lw_all := lw_g (lw_at lw_m9 192 rfl) rfl
theorem q2427 : (Jvm.Cond.methodLink "java/lang/ArithmeticException" (7 : Nat) ({ cls := "java/lang/RuntimeException", name := "<init>", desc := "(Ljava/lang/String;)V" } : Jvm.MethodName)) ∈ lw_all := lw_g (lw_at lw_m9 193 rfl) rfl
theorem q2436 : (Jvm.Cond.lays "java/lang/ArithmeticException" "java/lang/Throwable" "backtrace" "Ljava/lang/Object;") ∈ lw_all := lw_g (lw_at lw_m9 202 rfl) rfl
theorem q2437 : (Jvm.Cond.lays "java/lang/ArithmeticException" "java/lang/Throwable" "detailMessage" "Ljava/lang/String;") ∈ lw_all := lw_g (lw_at lw_m9 203 rfl) rfl
theorem q2438 : (Jvm.Cond.lays "java/lang/ArithmeticException" "java/lang/Throwable" "cause" "Ljava/lang/Throwable;") ∈ lw_all := lw_g (lw_at lw_m9 204 rfl) rfl
theorem q2439 : (Jvm.Cond.lays "java/lang/ArithmeticException" "java/lang/Throwable" "stackTrace" "[Ljava/lang/StackTraceElement;") ∈ lw_all := lw_g (lw_at lw_m9 205 rfl) rfl
theorem q2440 : (Jvm.Cond.lays "java/lang/ArithmeticException" "java/lang/Throwable" "depth" "I") ∈ lw_all := lw_g (lw_at lw_m9 206 rfl) rfl
theorem q2441 : (Jvm.Cond.lays "java/lang/ArithmeticException" "java/lang/Throwable" "suppressedExceptions" "Ljava/util/List;") ∈ lw_all := lw_g (lw_at lw_m9 207 rfl) rfl
theorem q2442 : (Jvm.Cond.superclass "java/lang/ArithmeticException" "java/lang/RuntimeException") ∈ lw_all := lw_g (lw_at lw_m9 208 rfl) rfl
theorem q2443 : (Jvm.Cond.castable "java/lang/ArithmeticException" "java/lang/ArithmeticException") ∈ lw_tbl := lw_at lw_m9 209 rfl
theorem q2444 : (Jvm.Cond.selects "java/lang/ArithmeticException" ({ cls := "java/lang/Throwable", name := "fillInStackTrace", desc := "(I)Ljava/lang/Throwable;" } : Jvm.MethodName) ({ cls := "java/lang/Throwable", name := "fillInStackTrace", desc := "(I)Ljava/lang/Throwable;" } : Jvm.MethodName)) ∈ lw_all := lw_g (lw_at lw_m9 210 rfl) rfl
theorem q2456 : (Jvm.Cond.instanceMethod ({ cls := "java/lang/ArithmeticException", name := "<init>", desc := "()V" } : Jvm.MethodName)) ∈ lw_all := lw_g (lw_at lw_m9 222 rfl) rfl
theorem q2457 : (Jvm.Cond.code ({ cls := "java/lang/ArithmeticException", name := "<init>", desc := "()V" } : Jvm.MethodName) prog_24_method_1_code (1 : Nat) (Option.none : Option Jvm.ClassFile.FieldType)) ∈ lw_all := lw_g (lw_at lw_m9 223 rfl) rfl
theorem q2458 : (Jvm.Cond.methodLink "java/lang/ArithmeticException" (1 : Nat) ({ cls := "java/lang/RuntimeException", name := "<init>", desc := "()V" } : Jvm.MethodName)) ∈ lw_all := lw_g (lw_at lw_m9 224 rfl) rfl
theorem in_J10 : ∀ w ∈ wsJ100, w ∈ lw_all := lw_in wsJ100 [2436, 2437, 2438, 2439, 2440, 2441] (by decide +kernel) (by decide +kernel)
/-! J11.java_lang_IndexOutOfBoundsException.lean.txt -/
def RJ11 : String := "java/lang/IndexOutOfBoundsException"
def TJ11 : u_T := fun k => match k with
  | 0 => ("java/lang/Throwable", "cause", "Ljava/lang/Throwable;", false)
  | 1 => ("java/lang/Throwable", "stackTrace", "[Ljava/lang/StackTraceElement;", false)
  | 2 => ("java/lang/Throwable", "suppressedExceptions", "Ljava/util/List;", false)
  | 3 => ("java/lang/Throwable", "detailMessage", "Ljava/lang/String;", false)
  | 4 => ("java/lang/Throwable", "backtrace", "Ljava/lang/Object;", false)
  | _ => ("java/lang/Throwable", "depth", "I", false)
def tyJ11 : Nat → FieldType := fun k => match k with
  | 0 => .object "java/lang/Throwable"
  | 1 => .array (.object "java/lang/StackTraceElement")
  | 2 => .object "java/util/List"
  | 3 => .object "java/lang/String"
  | 4 => .object "java/lang/Object"
  | _ => .int
abbrev wsJ110 : List Cond := u_ws RJ11 TJ11 6
theorem nmJ11 : ∀ a, a < 6 → ∀ b, b < 6 → a ≠ b → (TJ11 a).2.1 ≠ (TJ11 b).2.1 := by decide +kernel
theorem tyJ11_ok : ∀ k, k < 6 → parseFieldDescriptor (TJ11 k).2.2.1 = some (tyJ11 k) := by decide +kernel
abbrev cJ11_init : ByteArray := prog_29_method_2_code
def yJ11_init : MethodName := ⟨RJ11, "<init>", "(Ljava/lang/String;)V"⟩
abbrev cJ11_init_2 : ByteArray := prog_29_method_1_code
def yJ11_init_2 : MethodName := ⟨RJ11, "<init>", "()V"⟩
theorem q349 : (Jvm.Cond.initialized "java/lang/IndexOutOfBoundsException") ∈ lw_all := lw_g (lw_at lw_m1 35 rfl) rfl
theorem q1306 : (Jvm.Cond.selects "java/lang/IndexOutOfBoundsException" ({ cls := "java/lang/Throwable", name := "fillInStackTrace", desc := "()Ljava/lang/Throwable;" } : Jvm.MethodName) ({ cls := "java/lang/Throwable", name := "fillInStackTrace", desc := "()Ljava/lang/Throwable;" } : Jvm.MethodName)) ∈ lw_all := lw_g (lw_at lw_m5 32 rfl) rfl
theorem q2691 : (Jvm.Cond.instanceMethod ({ cls := "java/lang/IndexOutOfBoundsException", name := "<init>", desc := "(Ljava/lang/String;)V" } : Jvm.MethodName)) ∈ lw_all := lw_g (lw_at lw_m10 217 rfl) rfl
theorem q2692 : (Jvm.Cond.code ({ cls := "java/lang/IndexOutOfBoundsException", name := "<init>", desc := "(Ljava/lang/String;)V" } : Jvm.MethodName) prog_29_method_2_code (2 : Nat) (Option.none : Option Jvm.ClassFile.FieldType)) ∈ lw_all := lw_g (lw_at lw_m10 218 rfl) rfl
theorem q2693 : (Jvm.Cond.methodLink "java/lang/IndexOutOfBoundsException" (7 : Nat) ({ cls := "java/lang/RuntimeException", name := "<init>", desc := "(Ljava/lang/String;)V" } : Jvm.MethodName)) ∈ lw_all := lw_g (lw_at lw_m10 219 rfl) rfl
theorem q2702 : (Jvm.Cond.declares ({ cls := "java/lang/IndexOutOfBoundsException", name := "<init>", desc := "()V" } : Jvm.MethodName)) ∈ lw_tbl := lw_at lw_m10 228 rfl
theorem q2703 : (Jvm.Cond.declares ({ cls := "java/lang/IndexOutOfBoundsException", name := "<init>", desc := "(Ljava/lang/String;)V" } : Jvm.MethodName)) ∈ lw_tbl := lw_at lw_m10 229 rfl
theorem q2714 : (Jvm.Cond.instantiable "java/lang/IndexOutOfBoundsException" (6 : Nat)) ∈ lw_all := lw_g (lw_at lw_m11 0 rfl) rfl
theorem q2715 : (Jvm.Cond.castable "java/lang/IndexOutOfBoundsException" "java/lang/IndexOutOfBoundsException") ∈ lw_tbl := lw_at lw_m11 1 rfl
theorem q2716 : (Jvm.Cond.selects "java/lang/IndexOutOfBoundsException" ({ cls := "java/lang/Throwable", name := "fillInStackTrace", desc := "(I)Ljava/lang/Throwable;" } : Jvm.MethodName) ({ cls := "java/lang/Throwable", name := "fillInStackTrace", desc := "(I)Ljava/lang/Throwable;" } : Jvm.MethodName)) ∈ lw_all := lw_g (lw_at lw_m11 2 rfl) rfl
theorem q2717 : (Jvm.Cond.lays "java/lang/IndexOutOfBoundsException" "java/lang/Throwable" "cause" "Ljava/lang/Throwable;") ∈ lw_all := lw_g (lw_at lw_m11 3 rfl) rfl
theorem q2718 : (Jvm.Cond.lays "java/lang/IndexOutOfBoundsException" "java/lang/Throwable" "stackTrace" "[Ljava/lang/StackTraceElement;") ∈ lw_all := lw_g (lw_at lw_m11 4 rfl) rfl
theorem q2719 : (Jvm.Cond.lays "java/lang/IndexOutOfBoundsException" "java/lang/Throwable" "suppressedExceptions" "Ljava/util/List;") ∈ lw_all := lw_g (lw_at lw_m11 5 rfl) rfl
theorem q2720 : (Jvm.Cond.lays "java/lang/IndexOutOfBoundsException" "java/lang/Throwable" "detailMessage" "Ljava/lang/String;") ∈ lw_all := lw_g (lw_at lw_m11 6 rfl) rfl
theorem q2721 : (Jvm.Cond.lays "java/lang/IndexOutOfBoundsException" "java/lang/Throwable" "backtrace" "Ljava/lang/Object;") ∈ lw_all := lw_g (lw_at lw_m11 7 rfl) rfl
theorem q2723 : (Jvm.Cond.instanceMethod ({ cls := "java/lang/IndexOutOfBoundsException", name := "<init>", desc := "()V" } : Jvm.MethodName)) ∈ lw_all := lw_g (lw_at lw_m11 9 rfl) rfl
theorem q2724 : (Jvm.Cond.code ({ cls := "java/lang/IndexOutOfBoundsException", name := "<init>", desc := "()V" } : Jvm.MethodName) prog_29_method_1_code (1 : Nat) (Option.none : Option Jvm.ClassFile.FieldType)) ∈ lw_all := lw_g (lw_at lw_m11 10 rfl) rfl
theorem q2725 : (Jvm.Cond.methodLink "java/lang/IndexOutOfBoundsException" (1 : Nat) ({ cls := "java/lang/RuntimeException", name := "<init>", desc := "()V" } : Jvm.MethodName)) ∈ lw_all := lw_g (lw_at lw_m11 11 rfl) rfl
theorem q2726 : (Jvm.Cond.lays "java/lang/IndexOutOfBoundsException" "java/lang/Throwable" "depth" "I") ∈ lw_all := lw_g (lw_at lw_m11 12 rfl) rfl
theorem q2727 : (Jvm.Cond.superclass "java/lang/IndexOutOfBoundsException" "java/lang/RuntimeException") ∈ lw_all := lw_g (lw_at lw_m11 13 rfl) rfl
theorem in_J11 : ∀ w ∈ wsJ110, w ∈ lw_all := lw_in wsJ110 [2717, 2718, 2719, 2720, 2721, 2726] (by decide +kernel) (by decide +kernel)
/-! J12.java_lang_ArrayIndexOutOfBoundsException.lean.txt -/
def RJ12 : String := "java/lang/ArrayIndexOutOfBoundsException"
def TJ12 : u_T := fun k => match k with
  | 0 => ("java/lang/Throwable", "backtrace", "Ljava/lang/Object;", false)
  | 1 => ("java/lang/Throwable", "detailMessage", "Ljava/lang/String;", false)
  | 2 => ("java/lang/Throwable", "cause", "Ljava/lang/Throwable;", false)
  | 3 => ("java/lang/Throwable", "stackTrace", "[Ljava/lang/StackTraceElement;", false)
  | 4 => ("java/lang/Throwable", "depth", "I", false)
  | _ => ("java/lang/Throwable", "suppressedExceptions", "Ljava/util/List;", false)
def tyJ12 : Nat → FieldType := fun k => match k with
  | 0 => .object "java/lang/Object"
  | 1 => .object "java/lang/String"
  | 2 => .object "java/lang/Throwable"
  | 3 => .array (.object "java/lang/StackTraceElement")
  | 4 => .int
  | _ => .object "java/util/List"
abbrev wsJ120 : List Cond := u_ws RJ12 TJ12 6
theorem nmJ12 : ∀ a, a < 6 → ∀ b, b < 6 → a ≠ b → (TJ12 a).2.1 ≠ (TJ12 b).2.1 := by decide +kernel
theorem tyJ12_ok : ∀ k, k < 6 → parseFieldDescriptor (TJ12 k).2.2.1 = some (tyJ12 k) := by decide +kernel
abbrev cJ12_init : ByteArray := prog_25_method_2_code
def yJ12_init : MethodName := ⟨RJ12, "<init>", "(Ljava/lang/String;)V"⟩
theorem q350 : (Jvm.Cond.initialized "java/lang/ArrayIndexOutOfBoundsException") ∈ lw_all := lw_g (lw_at lw_m1 36 rfl) rfl
theorem q1304 : (Jvm.Cond.selects "java/lang/ArrayIndexOutOfBoundsException" ({ cls := "java/lang/Throwable", name := "fillInStackTrace", desc := "()Ljava/lang/Throwable;" } : Jvm.MethodName) ({ cls := "java/lang/Throwable", name := "fillInStackTrace", desc := "()Ljava/lang/Throwable;" } : Jvm.MethodName)) ∈ lw_all := lw_g (lw_at lw_m5 30 rfl) rfl
theorem q2687 : (Jvm.Cond.instantiable "java/lang/ArrayIndexOutOfBoundsException" (6 : Nat)) ∈ lw_all := lw_g (lw_at lw_m10 213 rfl) rfl
theorem q2688 : (Jvm.Cond.instanceMethod ({ cls := "java/lang/ArrayIndexOutOfBoundsException", name := "<init>", desc := "(Ljava/lang/String;)V" } : Jvm.MethodName)) ∈ lw_all := lw_g (lw_at lw_m10 214 rfl) rfl
theorem q2689 : (Jvm.Cond.code ({ cls := "java/lang/ArrayIndexOutOfBoundsException", name := "<init>", desc := "(Ljava/lang/String;)V" } : Jvm.MethodName) prog_25_method_2_code (2 : Nat) (Option.none : Option Jvm.ClassFile.FieldType)) ∈ lw_all := lw_g (lw_at lw_m10 215 rfl) rfl
theorem q2690 : (Jvm.Cond.methodLink "java/lang/ArrayIndexOutOfBoundsException" (7 : Nat) ({ cls := "java/lang/IndexOutOfBoundsException", name := "<init>", desc := "(Ljava/lang/String;)V" } : Jvm.MethodName)) ∈ lw_all := lw_g (lw_at lw_m10 216 rfl) rfl
theorem q2694 : (Jvm.Cond.lays "java/lang/ArrayIndexOutOfBoundsException" "java/lang/Throwable" "backtrace" "Ljava/lang/Object;") ∈ lw_all := lw_g (lw_at lw_m10 220 rfl) rfl
theorem q2695 : (Jvm.Cond.lays "java/lang/ArrayIndexOutOfBoundsException" "java/lang/Throwable" "detailMessage" "Ljava/lang/String;") ∈ lw_all := lw_g (lw_at lw_m10 221 rfl) rfl
theorem q2696 : (Jvm.Cond.lays "java/lang/ArrayIndexOutOfBoundsException" "java/lang/Throwable" "cause" "Ljava/lang/Throwable;") ∈ lw_all := lw_g (lw_at lw_m10 222 rfl) rfl
theorem q2697 : (Jvm.Cond.lays "java/lang/ArrayIndexOutOfBoundsException" "java/lang/Throwable" "stackTrace" "[Ljava/lang/StackTraceElement;") ∈ lw_all := lw_g (lw_at lw_m10 223 rfl) rfl
theorem q2698 : (Jvm.Cond.lays "java/lang/ArrayIndexOutOfBoundsException" "java/lang/Throwable" "depth" "I") ∈ lw_all := lw_g (lw_at lw_m10 224 rfl) rfl
theorem q2699 : (Jvm.Cond.lays "java/lang/ArrayIndexOutOfBoundsException" "java/lang/Throwable" "suppressedExceptions" "Ljava/util/List;") ∈ lw_all := lw_g (lw_at lw_m10 225 rfl) rfl
theorem q2700 : (Jvm.Cond.superclass "java/lang/ArrayIndexOutOfBoundsException" "java/lang/IndexOutOfBoundsException") ∈ lw_all := lw_g (lw_at lw_m10 226 rfl) rfl
theorem q2701 : (Jvm.Cond.castable "java/lang/ArrayIndexOutOfBoundsException" "java/lang/ArrayIndexOutOfBoundsException") ∈ lw_tbl := lw_at lw_m10 227 rfl
theorem q2704 : (Jvm.Cond.selects "java/lang/ArrayIndexOutOfBoundsException" ({ cls := "java/lang/Throwable", name := "fillInStackTrace", desc := "(I)Ljava/lang/Throwable;" } : Jvm.MethodName) ({ cls := "java/lang/Throwable", name := "fillInStackTrace", desc := "(I)Ljava/lang/Throwable;" } : Jvm.MethodName)) ∈ lw_all := lw_g (lw_at lw_m10 230 rfl) rfl
theorem q3761 : (Jvm.Cond.castable "java/lang/ArrayIndexOutOfBoundsException" "java/lang/IndexOutOfBoundsException") ∈ lw_tbl := lw_at lw_m15 87 rfl
theorem in_J12 : ∀ w ∈ wsJ120, w ∈ lw_all := lw_in wsJ120 [2694, 2695, 2696, 2697, 2698, 2699] (by decide +kernel) (by decide +kernel)
/-! J13.java_lang_Object.lean.txt -/
def RJ13 : String := "java/lang/Object"
abbrev cJ13_init : ByteArray := object_method_1_code
def yJ13_init : MethodName := ⟨RJ13, "<init>", "()V"⟩
theorem q357 : (Jvm.Cond.instanceMethod ({ cls := "java/lang/Object", name := "<init>", desc := "()V" } : Jvm.MethodName)) ∈ lw_all := lw_g (lw_at lw_m1 43 rfl) rfl
theorem q358 : (Jvm.Cond.code ({ cls := "java/lang/Object", name := "<init>", desc := "()V" } : Jvm.MethodName) object_method_1_code (1 : Nat) (Option.none : Option Jvm.ClassFile.FieldType)) ∈ lw_all := lw_g (lw_at lw_m1 44 rfl) rfl
/-! J2.java_lang_RuntimeException.lean.txt -/
def RJ2 : String := "java/lang/RuntimeException"
abbrev cJ2_init : ByteArray := prog_31_method_1_code
def yJ2_init : MethodName := ⟨RJ2, "<init>", "()V"⟩
abbrev cJ2_init_2 : ByteArray := prog_31_method_2_code
def yJ2_init_2 : MethodName := ⟨RJ2, "<init>", "(Ljava/lang/String;)V"⟩
theorem q338 : (Jvm.Cond.initialized "java/lang/RuntimeException") ∈ lw_all := lw_g (lw_at lw_m1 24 rfl) rfl
theorem q1273 : (Jvm.Cond.declares ({ cls := "java/lang/RuntimeException", name := "<init>", desc := "()V" } : Jvm.MethodName)) ∈ lw_tbl := lw_at lw_m4 239 rfl
theorem q1274 : (Jvm.Cond.declares ({ cls := "java/lang/RuntimeException", name := "<init>", desc := "(Ljava/lang/String;)V" } : Jvm.MethodName)) ∈ lw_tbl := lw_at lw_m5 0 rfl
theorem q1317 : (Jvm.Cond.instanceMethod ({ cls := "java/lang/RuntimeException", name := "<init>", desc := "()V" } : Jvm.MethodName)) ∈ lw_all := lw_g (lw_at lw_m5 43 rfl) rfl
theorem q1318 : (Jvm.Cond.code ({ cls := "java/lang/RuntimeException", name := "<init>", desc := "()V" } : Jvm.MethodName) prog_31_method_1_code (1 : Nat) (Option.none : Option Jvm.ClassFile.FieldType)) ∈ lw_all := lw_g (lw_at lw_m5 44 rfl) rfl
theorem q1319 : (Jvm.Cond.methodLink "java/lang/RuntimeException" (1 : Nat) ({ cls := "java/lang/Exception", name := "<init>", desc := "()V" } : Jvm.MethodName)) ∈ lw_all := lw_g (lw_at lw_m5 45 rfl) rfl
theorem q2428 : (Jvm.Cond.instanceMethod ({ cls := "java/lang/RuntimeException", name := "<init>", desc := "(Ljava/lang/String;)V" } : Jvm.MethodName)) ∈ lw_all := lw_g (lw_at lw_m9 194 rfl) rfl
theorem q2429 : (Jvm.Cond.code ({ cls := "java/lang/RuntimeException", name := "<init>", desc := "(Ljava/lang/String;)V" } : Jvm.MethodName) prog_31_method_2_code (2 : Nat) (Option.none : Option Jvm.ClassFile.FieldType)) ∈ lw_all := lw_g (lw_at lw_m9 195 rfl) rfl
theorem q2430 : (Jvm.Cond.methodLink "java/lang/RuntimeException" (7 : Nat) ({ cls := "java/lang/Exception", name := "<init>", desc := "(Ljava/lang/String;)V" } : Jvm.MethodName)) ∈ lw_all := lw_g (lw_at lw_m9 196 rfl) rfl
/-! J3.java_lang_IllegalStateException.lean.txt -/
def RJ3 : String := "java/lang/IllegalStateException"
def TJ3 : u_T := fun k => match k with
  | 0 => ("java/lang/Throwable", "cause", "Ljava/lang/Throwable;", false)
  | 1 => ("java/lang/Throwable", "stackTrace", "[Ljava/lang/StackTraceElement;", false)
  | 2 => ("java/lang/Throwable", "suppressedExceptions", "Ljava/util/List;", false)
  | 3 => ("java/lang/Throwable", "detailMessage", "Ljava/lang/String;", false)
  | 4 => ("java/lang/Throwable", "backtrace", "Ljava/lang/Object;", false)
  | _ => ("java/lang/Throwable", "depth", "I", false)
def tyJ3 : Nat → FieldType := fun k => match k with
  | 0 => .object "java/lang/Throwable"
  | 1 => .array (.object "java/lang/StackTraceElement")
  | 2 => .object "java/util/List"
  | 3 => .object "java/lang/String"
  | 4 => .object "java/lang/Object"
  | _ => .int
abbrev wsJ30 : List Cond := u_ws RJ3 TJ3 6
theorem nmJ3 : ∀ a, a < 6 → ∀ b, b < 6 → a ≠ b → (TJ3 a).2.1 ≠ (TJ3 b).2.1 := by decide +kernel
theorem tyJ3_ok : ∀ k, k < 6 → parseFieldDescriptor (TJ3 k).2.2.1 = some (tyJ3 k) := by decide +kernel
abbrev cJ3_init : ByteArray := prog_28_method_1_code
def yJ3_init : MethodName := ⟨RJ3, "<init>", "()V"⟩
theorem q339 : (Jvm.Cond.initialized "java/lang/IllegalStateException") ∈ lw_all := lw_g (lw_at lw_m1 25 rfl) rfl
theorem q1305 : (Jvm.Cond.selects "java/lang/IllegalStateException" ({ cls := "java/lang/Throwable", name := "fillInStackTrace", desc := "()Ljava/lang/Throwable;" } : Jvm.MethodName) ({ cls := "java/lang/Throwable", name := "fillInStackTrace", desc := "()Ljava/lang/Throwable;" } : Jvm.MethodName)) ∈ lw_all := lw_g (lw_at lw_m5 31 rfl) rfl
theorem q2382 : (Jvm.Cond.instantiable "java/lang/IllegalStateException" (6 : Nat)) ∈ lw_all := lw_g (lw_at lw_m9 148 rfl) rfl
theorem q2383 : (Jvm.Cond.castable "java/lang/IllegalStateException" "java/lang/IllegalStateException") ∈ lw_tbl := lw_at lw_m9 149 rfl
theorem q2384 : (Jvm.Cond.selects "java/lang/IllegalStateException" ({ cls := "java/lang/Throwable", name := "fillInStackTrace", desc := "(I)Ljava/lang/Throwable;" } : Jvm.MethodName) ({ cls := "java/lang/Throwable", name := "fillInStackTrace", desc := "(I)Ljava/lang/Throwable;" } : Jvm.MethodName)) ∈ lw_all := lw_g (lw_at lw_m9 150 rfl) rfl
theorem q2385 : (Jvm.Cond.lays "java/lang/IllegalStateException" "java/lang/Throwable" "cause" "Ljava/lang/Throwable;") ∈ lw_all := lw_g (lw_at lw_m9 151 rfl) rfl
theorem q2386 : (Jvm.Cond.lays "java/lang/IllegalStateException" "java/lang/Throwable" "stackTrace" "[Ljava/lang/StackTraceElement;") ∈ lw_all := lw_g (lw_at lw_m9 152 rfl) rfl
theorem q2387 : (Jvm.Cond.lays "java/lang/IllegalStateException" "java/lang/Throwable" "suppressedExceptions" "Ljava/util/List;") ∈ lw_all := lw_g (lw_at lw_m9 153 rfl) rfl
theorem q2388 : (Jvm.Cond.lays "java/lang/IllegalStateException" "java/lang/Throwable" "detailMessage" "Ljava/lang/String;") ∈ lw_all := lw_g (lw_at lw_m9 154 rfl) rfl
theorem q2389 : (Jvm.Cond.lays "java/lang/IllegalStateException" "java/lang/Throwable" "backtrace" "Ljava/lang/Object;") ∈ lw_all := lw_g (lw_at lw_m9 155 rfl) rfl
theorem q2391 : (Jvm.Cond.instanceMethod ({ cls := "java/lang/IllegalStateException", name := "<init>", desc := "()V" } : Jvm.MethodName)) ∈ lw_all := lw_g (lw_at lw_m9 157 rfl) rfl
theorem q2392 : (Jvm.Cond.code ({ cls := "java/lang/IllegalStateException", name := "<init>", desc := "()V" } : Jvm.MethodName) prog_28_method_1_code (1 : Nat) (Option.none : Option Jvm.ClassFile.FieldType)) ∈ lw_all := lw_g (lw_at lw_m9 158 rfl) rfl
theorem q2393 : (Jvm.Cond.methodLink "java/lang/IllegalStateException" (1 : Nat) ({ cls := "java/lang/RuntimeException", name := "<init>", desc := "()V" } : Jvm.MethodName)) ∈ lw_all := lw_g (lw_at lw_m9 159 rfl) rfl
theorem q2394 : (Jvm.Cond.lays "java/lang/IllegalStateException" "java/lang/Throwable" "depth" "I") ∈ lw_all := lw_g (lw_at lw_m9 160 rfl) rfl
theorem q2395 : (Jvm.Cond.superclass "java/lang/IllegalStateException" "java/lang/RuntimeException") ∈ lw_all := lw_g (lw_at lw_m9 161 rfl) rfl
theorem in_J3 : ∀ w ∈ wsJ30, w ∈ lw_all := lw_in wsJ30 [2385, 2386, 2387, 2388, 2389, 2394] (by decide +kernel) (by decide +kernel)
/-! J4.java_lang_IllegalArgumentException.lean.txt -/
def RJ4 : String := "java/lang/IllegalArgumentException"
def TJ4 : u_T := fun k => match k with
  | 0 => ("java/lang/Throwable", "cause", "Ljava/lang/Throwable;", false)
  | 1 => ("java/lang/Throwable", "stackTrace", "[Ljava/lang/StackTraceElement;", false)
  | 2 => ("java/lang/Throwable", "suppressedExceptions", "Ljava/util/List;", false)
  | 3 => ("java/lang/Throwable", "detailMessage", "Ljava/lang/String;", false)
  | 4 => ("java/lang/Throwable", "backtrace", "Ljava/lang/Object;", false)
  | _ => ("java/lang/Throwable", "depth", "I", false)
def tyJ4 : Nat → FieldType := fun k => match k with
  | 0 => .object "java/lang/Throwable"
  | 1 => .array (.object "java/lang/StackTraceElement")
  | 2 => .object "java/util/List"
  | 3 => .object "java/lang/String"
  | 4 => .object "java/lang/Object"
  | _ => .int
abbrev wsJ40 : List Cond := u_ws RJ4 TJ4 6
theorem nmJ4 : ∀ a, a < 6 → ∀ b, b < 6 → a ≠ b → (TJ4 a).2.1 ≠ (TJ4 b).2.1 := by decide +kernel
theorem tyJ4_ok : ∀ k, k < 6 → parseFieldDescriptor (TJ4 k).2.2.1 = some (tyJ4 k) := by decide +kernel
abbrev cJ4_init : ByteArray := prog_27_method_1_code
def yJ4_init : MethodName := ⟨RJ4, "<init>", "()V"⟩
theorem q341 : (Jvm.Cond.initialized "java/lang/IllegalArgumentException") ∈ lw_all := lw_g (lw_at lw_m1 27 rfl) rfl
theorem q1271 : (Jvm.Cond.instantiable "java/lang/IllegalArgumentException" (6 : Nat)) ∈ lw_all := lw_g (lw_at lw_m4 237 rfl) rfl
theorem q1272 : (Jvm.Cond.castable "java/lang/IllegalArgumentException" "java/lang/IllegalArgumentException") ∈ lw_tbl := lw_at lw_m4 238 rfl
theorem q1279 : (Jvm.Cond.selects "java/lang/IllegalArgumentException" ({ cls := "java/lang/Throwable", name := "fillInStackTrace", desc := "(I)Ljava/lang/Throwable;" } : Jvm.MethodName) ({ cls := "java/lang/Throwable", name := "fillInStackTrace", desc := "(I)Ljava/lang/Throwable;" } : Jvm.MethodName)) ∈ lw_all := lw_g (lw_at lw_m5 5 rfl) rfl
theorem q1280 : (Jvm.Cond.selects "java/lang/IllegalArgumentException" ({ cls := "java/lang/Throwable", name := "fillInStackTrace", desc := "()Ljava/lang/Throwable;" } : Jvm.MethodName) ({ cls := "java/lang/Throwable", name := "fillInStackTrace", desc := "()Ljava/lang/Throwable;" } : Jvm.MethodName)) ∈ lw_all := lw_g (lw_at lw_m5 6 rfl) rfl
theorem q1281 : (Jvm.Cond.lays "java/lang/IllegalArgumentException" "java/lang/Throwable" "cause" "Ljava/lang/Throwable;") ∈ lw_all := lw_g (lw_at lw_m5 7 rfl) rfl
theorem q1283 : (Jvm.Cond.lays "java/lang/IllegalArgumentException" "java/lang/Throwable" "stackTrace" "[Ljava/lang/StackTraceElement;") ∈ lw_all := lw_g (lw_at lw_m5 9 rfl) rfl
theorem q1285 : (Jvm.Cond.lays "java/lang/IllegalArgumentException" "java/lang/Throwable" "suppressedExceptions" "Ljava/util/List;") ∈ lw_all := lw_g (lw_at lw_m5 11 rfl) rfl
theorem q1287 : (Jvm.Cond.lays "java/lang/IllegalArgumentException" "java/lang/Throwable" "detailMessage" "Ljava/lang/String;") ∈ lw_all := lw_g (lw_at lw_m5 13 rfl) rfl
theorem q1289 : (Jvm.Cond.lays "java/lang/IllegalArgumentException" "java/lang/Throwable" "backtrace" "Ljava/lang/Object;") ∈ lw_all := lw_g (lw_at lw_m5 15 rfl) rfl
theorem q1314 : (Jvm.Cond.instanceMethod ({ cls := "java/lang/IllegalArgumentException", name := "<init>", desc := "()V" } : Jvm.MethodName)) ∈ lw_all := lw_g (lw_at lw_m5 40 rfl) rfl
theorem q1315 : (Jvm.Cond.code ({ cls := "java/lang/IllegalArgumentException", name := "<init>", desc := "()V" } : Jvm.MethodName) prog_27_method_1_code (1 : Nat) (Option.none : Option Jvm.ClassFile.FieldType)) ∈ lw_all := lw_g (lw_at lw_m5 41 rfl) rfl
theorem q1316 : (Jvm.Cond.methodLink "java/lang/IllegalArgumentException" (1 : Nat) ({ cls := "java/lang/RuntimeException", name := "<init>", desc := "()V" } : Jvm.MethodName)) ∈ lw_all := lw_g (lw_at lw_m5 42 rfl) rfl
theorem q1332 : (Jvm.Cond.lays "java/lang/IllegalArgumentException" "java/lang/Throwable" "depth" "I") ∈ lw_all := lw_g (lw_at lw_m5 58 rfl) rfl
theorem q1335 : (Jvm.Cond.superclass "java/lang/IllegalArgumentException" "java/lang/RuntimeException") ∈ lw_all := lw_g (lw_at lw_m5 61 rfl) rfl
theorem in_J4 : ∀ w ∈ wsJ40, w ∈ lw_all := lw_in wsJ40 [1281, 1283, 1285, 1287, 1289, 1332] (by decide +kernel) (by decide +kernel)
/-! J5.java_lang_String.lean.txt -/
def RJ5 : String := "java/lang/String"
def TJ5 : u_T := fun k => match k with
  | 0 => ("java/lang/String", "value", "[B", true)
  | _ => ("java/lang/String", "coder", "B", true)
def tyJ5 : Nat → FieldType := fun k => match k with
  | 0 => .array .byte
  | _ => .byte
abbrev wsJ50 : List Cond := u_ws RJ5 TJ5 2
theorem nmJ5 : ∀ a, a < 2 → ∀ b, b < 2 → a ≠ b → (TJ5 a).2.1 ≠ (TJ5 b).2.1 := by decide +kernel
theorem tyJ5_ok : ∀ k, k < 2 → parseFieldDescriptor (TJ5 k).2.2.1 = some (tyJ5 k) := by decide +kernel
abbrev cJ5_length : ByteArray := prog_32_method_54_code
def yJ5_length : MethodName := ⟨RJ5, "length", "()I"⟩
abbrev cJ5_coder : ByteArray := prog_32_method_152_code
def yJ5_coder : MethodName := ⟨RJ5, "coder", "()B"⟩
abbrev cJ5_charAt : ByteArray := prog_32_method_56_code
def yJ5_charAt : MethodName := ⟨RJ5, "charAt", "(I)C"⟩
abbrev cJ5_isLatin1 : ByteArray := prog_32_method_154_code
def yJ5_isLatin1 : MethodName := ⟨RJ5, "isLatin1", "()Z"⟩
abbrev cJ5_checkIndex : ByteArray := prog_32_method_155_code
def yJ5_checkIndex : MethodName := ⟨RJ5, "checkIndex", "(II)V"⟩
abbrev cJ5_equals : ByteArray := prog_32_method_66_code
def yJ5_equals : MethodName := ⟨RJ5, "equals", "(Ljava/lang/Object;)Z"⟩
theorem q342 : (Jvm.Cond.initialized "java/lang/String") ∈ lw_all := lw_g (lw_at lw_m1 28 rfl) rfl
theorem q1114 : (Jvm.Cond.instanceMethod ({ cls := "java/lang/String", name := "length", desc := "()I" } : Jvm.MethodName)) ∈ lw_all := lw_g (lw_at lw_m4 80 rfl) rfl
theorem q1115 : (Jvm.Cond.selects "java/lang/String" ({ cls := "java/lang/String", name := "length", desc := "()I" } : Jvm.MethodName) ({ cls := "java/lang/String", name := "length", desc := "()I" } : Jvm.MethodName)) ∈ lw_all := lw_g (lw_at lw_m4 81 rfl) rfl
theorem q1116 : (Jvm.Cond.code ({ cls := "java/lang/String", name := "length", desc := "()I" } : Jvm.MethodName) prog_32_method_54_code (1 : Nat) (Option.some Jvm.ClassFile.FieldType.int)) ∈ lw_all := lw_g (lw_at lw_m4 82 rfl) rfl
theorem q1117 : (Jvm.Cond.methodLink "java/lang/String" (335 : Nat) ({ cls := "java/lang/String", name := "coder", desc := "()B" } : Jvm.MethodName)) ∈ lw_all := lw_g (lw_at lw_m4 83 rfl) rfl
theorem q1118 : (Jvm.Cond.instanceMethod ({ cls := "java/lang/String", name := "coder", desc := "()B" } : Jvm.MethodName)) ∈ lw_all := lw_g (lw_at lw_m4 84 rfl) rfl
theorem q1119 : (Jvm.Cond.selects "java/lang/String" ({ cls := "java/lang/String", name := "coder", desc := "()B" } : Jvm.MethodName) ({ cls := "java/lang/String", name := "coder", desc := "()B" } : Jvm.MethodName)) ∈ lw_all := lw_g (lw_at lw_m4 85 rfl) rfl
theorem q1120 : (Jvm.Cond.code ({ cls := "java/lang/String", name := "coder", desc := "()B" } : Jvm.MethodName) prog_32_method_152_code (1 : Nat) (Option.some Jvm.ClassFile.FieldType.byte)) ∈ lw_all := lw_g (lw_at lw_m4 86 rfl) rfl
theorem q1121 : (Jvm.Cond.fieldLink "java/lang/String" (38 : Nat) "java/lang/String" "COMPACT_STRINGS" "Z") ∈ lw_all := lw_g (lw_at lw_m4 87 rfl) rfl
theorem q1122 : (Jvm.Cond.laysStatic "java/lang/String" "COMPACT_STRINGS" "Z") ∈ lw_tbl := lw_at lw_m4 88 rfl
theorem q1125 : (Jvm.Cond.instanceMethod ({ cls := "java/lang/String", name := "charAt", desc := "(I)C" } : Jvm.MethodName)) ∈ lw_all := lw_g (lw_at lw_m4 91 rfl) rfl
theorem q1126 : (Jvm.Cond.selects "java/lang/String" ({ cls := "java/lang/String", name := "charAt", desc := "(I)C" } : Jvm.MethodName) ({ cls := "java/lang/String", name := "charAt", desc := "(I)C" } : Jvm.MethodName)) ∈ lw_all := lw_g (lw_at lw_m4 92 rfl) rfl
theorem q1127 : (Jvm.Cond.code ({ cls := "java/lang/String", name := "charAt", desc := "(I)C" } : Jvm.MethodName) prog_32_method_56_code (2 : Nat) (Option.some Jvm.ClassFile.FieldType.char)) ∈ lw_all := lw_g (lw_at lw_m4 93 rfl) rfl
theorem q1128 : (Jvm.Cond.methodLink "java/lang/String" (492 : Nat) ({ cls := "java/lang/String", name := "isLatin1", desc := "()Z" } : Jvm.MethodName)) ∈ lw_all := lw_g (lw_at lw_m4 94 rfl) rfl
theorem q1129 : (Jvm.Cond.instanceMethod ({ cls := "java/lang/String", name := "isLatin1", desc := "()Z" } : Jvm.MethodName)) ∈ lw_all := lw_g (lw_at lw_m4 95 rfl) rfl
theorem q1130 : (Jvm.Cond.selects "java/lang/String" ({ cls := "java/lang/String", name := "isLatin1", desc := "()Z" } : Jvm.MethodName) ({ cls := "java/lang/String", name := "isLatin1", desc := "()Z" } : Jvm.MethodName)) ∈ lw_all := lw_g (lw_at lw_m4 96 rfl) rfl
theorem q1131 : (Jvm.Cond.code ({ cls := "java/lang/String", name := "isLatin1", desc := "()Z" } : Jvm.MethodName) prog_32_method_154_code (1 : Nat) (Option.some Jvm.ClassFile.FieldType.boolean)) ∈ lw_all := lw_g (lw_at lw_m4 97 rfl) rfl
theorem q1132 : (Jvm.Cond.methodLink "java/lang/String" (495 : Nat) ({ cls := "java/lang/StringLatin1", name := "charAt", desc := "([BI)C" } : Jvm.MethodName)) ∈ lw_all := lw_g (lw_at lw_m4 98 rfl) rfl
theorem q1136 : (Jvm.Cond.static ({ cls := "java/lang/String", name := "checkIndex", desc := "(II)V" } : Jvm.MethodName)) ∈ lw_all := lw_g (lw_at lw_m4 102 rfl) rfl
theorem q1137 : (Jvm.Cond.code ({ cls := "java/lang/String", name := "checkIndex", desc := "(II)V" } : Jvm.MethodName) prog_32_method_155_code (2 : Nat) (Option.none : Option Jvm.ClassFile.FieldType)) ∈ lw_all := lw_g (lw_at lw_m4 103 rfl) rfl
theorem q1138 : (Jvm.Cond.fieldLink "java/lang/String" (1053 : Nat) "jdk/internal/util/Preconditions" "SIOOBE_FORMATTER" "Ljava/util/function/BiFunction;") ∈ lw_all := lw_g (lw_at lw_m4 104 rfl) rfl
theorem q1140 : (Jvm.Cond.methodLink "java/lang/String" (1059 : Nat) ({ cls := "jdk/internal/util/Preconditions", name := "checkIndex", desc := "(IILjava/util/function/BiFunction;)I" } : Jvm.MethodName)) ∈ lw_all := lw_g (lw_at lw_m4 106 rfl) rfl
theorem q1143 : (Jvm.Cond.methodLink "java/lang/String" (498 : Nat) ({ cls := "java/lang/StringUTF16", name := "charAt", desc := "([BI)C" } : Jvm.MethodName)) ∈ lw_all := lw_g (lw_at lw_m4 109 rfl) rfl
theorem q2445 : (Jvm.Cond.instantiable "java/lang/String" (4 : Nat)) ∈ lw_all := lw_g (lw_at lw_m9 211 rfl) rfl
theorem q2446 : (Jvm.Cond.laysFinal "java/lang/String" "java/lang/String" "value" "[B") ∈ lw_all := lw_g (lw_at lw_m9 212 rfl) rfl
theorem q2447 : (Jvm.Cond.soleField "java/lang/String" "value") ∈ lw_all := lw_g (lw_at lw_m9 213 rfl) rfl
theorem q2448 : (Jvm.Cond.laysFinal "java/lang/String" "java/lang/String" "coder" "B") ∈ lw_all := lw_g (lw_at lw_m9 214 rfl) rfl
theorem q2449 : (Jvm.Cond.soleField "java/lang/String" "coder") ∈ lw_all := lw_g (lw_at lw_m9 215 rfl) rfl
theorem q3211 : (Jvm.Cond.instanceMethod ({ cls := "java/lang/String", name := "equals", desc := "(Ljava/lang/Object;)Z" } : Jvm.MethodName)) ∈ lw_all := lw_g (lw_at lw_m13 17 rfl) rfl
theorem q3212 : (Jvm.Cond.selects "java/lang/String" ({ cls := "java/lang/String", name := "equals", desc := "(Ljava/lang/Object;)Z" } : Jvm.MethodName) ({ cls := "java/lang/String", name := "equals", desc := "(Ljava/lang/Object;)Z" } : Jvm.MethodName)) ∈ lw_all := lw_g (lw_at lw_m13 18 rfl) rfl
theorem q3213 : (Jvm.Cond.code ({ cls := "java/lang/String", name := "equals", desc := "(Ljava/lang/Object;)Z" } : Jvm.MethodName) prog_32_method_66_code (3 : Nat) (Option.some Jvm.ClassFile.FieldType.boolean)) ∈ lw_all := lw_g (lw_at lw_m13 19 rfl) rfl
theorem q3214 : (Jvm.Cond.classLink "java/lang/String" (10 : Nat) "java/lang/String") ∈ lw_all := lw_g (lw_at lw_m13 20 rfl) rfl
theorem q3215 : (Jvm.Cond.methodLink "java/lang/String" (541 : Nat) ({ cls := "java/lang/StringLatin1", name := "equals", desc := "([B[B)Z" } : Jvm.MethodName)) ∈ lw_all := lw_g (lw_at lw_m13 21 rfl) rfl
theorem q3762 : (Jvm.Cond.fieldLink "java/lang/String" (9 : Nat) "java/lang/String" "value" "[B") ∈ lw_all := lw_g (lw_at lw_m15 88 rfl) rfl
theorem q3763 : (Jvm.Cond.fieldLink "java/lang/String" (15 : Nat) "java/lang/String" "coder" "B") ∈ lw_all := lw_g (lw_at lw_m15 89 rfl) rfl
theorem in_J5 : ∀ w ∈ wsJ50, w ∈ lw_all := lw_in wsJ50 [2446, 2448] (by decide +kernel) (by decide +kernel)
/-! J6.java_lang_StringLatin1.lean.txt -/
def RJ6 : String := "java/lang/StringLatin1"
abbrev cJ6_charAt : ByteArray := prog_33_method_2_code
def yJ6_charAt : MethodName := ⟨RJ6, "charAt", "([BI)C"⟩
abbrev cJ6_equals : ByteArray := prog_33_method_13_code
def yJ6_equals : MethodName := ⟨RJ6, "equals", "([B[B)Z"⟩
theorem q343 : (Jvm.Cond.initialized "java/lang/StringLatin1") ∈ lw_all := lw_g (lw_at lw_m1 29 rfl) rfl
theorem q1133 : (Jvm.Cond.static ({ cls := "java/lang/StringLatin1", name := "charAt", desc := "([BI)C" } : Jvm.MethodName)) ∈ lw_all := lw_g (lw_at lw_m4 99 rfl) rfl
theorem q1134 : (Jvm.Cond.code ({ cls := "java/lang/StringLatin1", name := "charAt", desc := "([BI)C" } : Jvm.MethodName) prog_33_method_2_code (2 : Nat) (Option.some Jvm.ClassFile.FieldType.char)) ∈ lw_all := lw_g (lw_at lw_m4 100 rfl) rfl
theorem q1135 : (Jvm.Cond.methodLink "java/lang/StringLatin1" (9 : Nat) ({ cls := "java/lang/String", name := "checkIndex", desc := "(II)V" } : Jvm.MethodName)) ∈ lw_all := lw_g (lw_at lw_m4 101 rfl) rfl
theorem q3216 : (Jvm.Cond.static ({ cls := "java/lang/StringLatin1", name := "equals", desc := "([B[B)Z" } : Jvm.MethodName)) ∈ lw_all := lw_g (lw_at lw_m13 22 rfl) rfl
theorem q3217 : (Jvm.Cond.code ({ cls := "java/lang/StringLatin1", name := "equals", desc := "([B[B)Z" } : Jvm.MethodName) prog_33_method_13_code (3 : Nat) (Option.some Jvm.ClassFile.FieldType.boolean)) ∈ lw_all := lw_g (lw_at lw_m13 23 rfl) rfl
/-! J7.jdk_internal_util_Preconditions.lean.txt -/
def RJ7 : String := "jdk/internal/util/Preconditions"
abbrev cJ7_checkIndex : ByteArray := prog_37_method_11_code
def yJ7_checkIndex : MethodName := ⟨RJ7, "checkIndex", "(IILjava/util/function/BiFunction;)I"⟩
theorem q344 : (Jvm.Cond.initialized "jdk/internal/util/Preconditions") ∈ lw_all := lw_g (lw_at lw_m1 30 rfl) rfl
theorem q1139 : (Jvm.Cond.laysStatic "jdk/internal/util/Preconditions" "SIOOBE_FORMATTER" "Ljava/util/function/BiFunction;") ∈ lw_tbl := lw_at lw_m4 105 rfl
theorem q1141 : (Jvm.Cond.static ({ cls := "jdk/internal/util/Preconditions", name := "checkIndex", desc := "(IILjava/util/function/BiFunction;)I" } : Jvm.MethodName)) ∈ lw_all := lw_g (lw_at lw_m4 107 rfl) rfl
theorem q1142 : (Jvm.Cond.code ({ cls := "jdk/internal/util/Preconditions", name := "checkIndex", desc := "(IILjava/util/function/BiFunction;)I" } : Jvm.MethodName) prog_37_method_11_code (3 : Nat) (Option.some Jvm.ClassFile.FieldType.int)) ∈ lw_all := lw_g (lw_at lw_m4 108 rfl) rfl
/-! J8.java_lang_StringUTF16.lean.txt -/
def RJ8 : String := "java/lang/StringUTF16"
abbrev cJ8_charAt : ByteArray := prog_34_method_83_code
def yJ8_charAt : MethodName := ⟨RJ8, "charAt", "([BI)C"⟩
abbrev cJ8_checkIndex : ByteArray := prog_34_method_91_code
def yJ8_checkIndex : MethodName := ⟨RJ8, "checkIndex", "(I[B)V"⟩
abbrev cJ8_length : ByteArray := prog_34_method_6_code
def yJ8_length : MethodName := ⟨RJ8, "length", "([B)I"⟩
abbrev cJ8_getChar : ByteArray := prog_34_method_5_code
def yJ8_getChar : MethodName := ⟨RJ8, "getChar", "([BI)C"⟩
theorem q345 : (Jvm.Cond.initialized "java/lang/StringUTF16") ∈ lw_all := lw_g (lw_at lw_m1 31 rfl) rfl
theorem q1144 : (Jvm.Cond.static ({ cls := "java/lang/StringUTF16", name := "charAt", desc := "([BI)C" } : Jvm.MethodName)) ∈ lw_all := lw_g (lw_at lw_m4 110 rfl) rfl
theorem q1145 : (Jvm.Cond.code ({ cls := "java/lang/StringUTF16", name := "charAt", desc := "([BI)C" } : Jvm.MethodName) prog_34_method_83_code (2 : Nat) (Option.some Jvm.ClassFile.FieldType.char)) ∈ lw_all := lw_g (lw_at lw_m4 111 rfl) rfl
theorem q1146 : (Jvm.Cond.methodLink "java/lang/StringUTF16" (67 : Nat) ({ cls := "java/lang/StringUTF16", name := "checkIndex", desc := "(I[B)V" } : Jvm.MethodName)) ∈ lw_all := lw_g (lw_at lw_m4 112 rfl) rfl
theorem q1147 : (Jvm.Cond.static ({ cls := "java/lang/StringUTF16", name := "checkIndex", desc := "(I[B)V" } : Jvm.MethodName)) ∈ lw_all := lw_g (lw_at lw_m4 113 rfl) rfl
theorem q1148 : (Jvm.Cond.code ({ cls := "java/lang/StringUTF16", name := "checkIndex", desc := "(I[B)V" } : Jvm.MethodName) prog_34_method_91_code (2 : Nat) (Option.none : Option Jvm.ClassFile.FieldType)) ∈ lw_all := lw_g (lw_at lw_m4 114 rfl) rfl
theorem q1149 : (Jvm.Cond.methodLink "java/lang/StringUTF16" (48 : Nat) ({ cls := "java/lang/StringUTF16", name := "length", desc := "([B)I" } : Jvm.MethodName)) ∈ lw_all := lw_g (lw_at lw_m4 115 rfl) rfl
theorem q1150 : (Jvm.Cond.static ({ cls := "java/lang/StringUTF16", name := "length", desc := "([B)I" } : Jvm.MethodName)) ∈ lw_all := lw_g (lw_at lw_m4 116 rfl) rfl
theorem q1151 : (Jvm.Cond.code ({ cls := "java/lang/StringUTF16", name := "length", desc := "([B)I" } : Jvm.MethodName) prog_34_method_6_code (1 : Nat) (Option.some Jvm.ClassFile.FieldType.int)) ∈ lw_all := lw_g (lw_at lw_m4 117 rfl) rfl
theorem q1152 : (Jvm.Cond.methodLink "java/lang/StringUTF16" (414 : Nat) ({ cls := "java/lang/String", name := "checkIndex", desc := "(II)V" } : Jvm.MethodName)) ∈ lw_all := lw_g (lw_at lw_m4 118 rfl) rfl
theorem q1153 : (Jvm.Cond.methodLink "java/lang/StringUTF16" (71 : Nat) ({ cls := "java/lang/StringUTF16", name := "getChar", desc := "([BI)C" } : Jvm.MethodName)) ∈ lw_all := lw_g (lw_at lw_m4 119 rfl) rfl
theorem q1154 : (Jvm.Cond.static ({ cls := "java/lang/StringUTF16", name := "getChar", desc := "([BI)C" } : Jvm.MethodName)) ∈ lw_all := lw_g (lw_at lw_m4 120 rfl) rfl
theorem q1155 : (Jvm.Cond.code ({ cls := "java/lang/StringUTF16", name := "getChar", desc := "([BI)C" } : Jvm.MethodName) prog_34_method_5_code (2 : Nat) (Option.some Jvm.ClassFile.FieldType.char)) ∈ lw_all := lw_g (lw_at lw_m4 121 rfl) rfl
theorem q1156 : (Jvm.Cond.fieldLink "java/lang/StringUTF16" (44 : Nat) "java/lang/StringUTF16" "$assertionsDisabled" "Z") ∈ lw_all := lw_g (lw_at lw_m4 122 rfl) rfl
theorem q1157 : (Jvm.Cond.laysStatic "java/lang/StringUTF16" "$assertionsDisabled" "Z") ∈ lw_tbl := lw_at lw_m4 123 rfl
theorem q1158 : (Jvm.Cond.fieldLink "java/lang/StringUTF16" (59 : Nat) "java/lang/StringUTF16" "HI_BYTE_SHIFT" "I") ∈ lw_all := lw_g (lw_at lw_m4 124 rfl) rfl
theorem q1159 : (Jvm.Cond.laysStatic "java/lang/StringUTF16" "HI_BYTE_SHIFT" "I") ∈ lw_tbl := lw_at lw_m4 125 rfl
theorem q1160 : (Jvm.Cond.fieldLink "java/lang/StringUTF16" (63 : Nat) "java/lang/StringUTF16" "LO_BYTE_SHIFT" "I") ∈ lw_all := lw_g (lw_at lw_m4 126 rfl) rfl
theorem q1161 : (Jvm.Cond.laysStatic "java/lang/StringUTF16" "LO_BYTE_SHIFT" "I") ∈ lw_tbl := lw_at lw_m4 127 rfl
/-! J9.java_lang_Math.lean.txt -/
def RJ9 : String := "java/lang/Math"
abbrev cJ9_max : ByteArray := prog_30_method_65_code
def yJ9_max : MethodName := ⟨RJ9, "max", "(II)I"⟩
abbrev cJ9_min : ByteArray := prog_30_method_69_code
def yJ9_min : MethodName := ⟨RJ9, "min", "(II)I"⟩
theorem q346 : (Jvm.Cond.initialized "java/lang/Math") ∈ lw_all := lw_g (lw_at lw_m1 32 rfl) rfl
theorem q1382 : (Jvm.Cond.static ({ cls := "java/lang/Math", name := "max", desc := "(II)I" } : Jvm.MethodName)) ∈ lw_all := lw_g (lw_at lw_m5 108 rfl) rfl
theorem q1383 : (Jvm.Cond.code ({ cls := "java/lang/Math", name := "max", desc := "(II)I" } : Jvm.MethodName) prog_30_method_65_code (2 : Nat) (Option.some Jvm.ClassFile.FieldType.int)) ∈ lw_all := lw_g (lw_at lw_m5 109 rfl) rfl
theorem q2675 : (Jvm.Cond.static ({ cls := "java/lang/Math", name := "min", desc := "(II)I" } : Jvm.MethodName)) ∈ lw_all := lw_g (lw_at lw_m10 201 rfl) rfl
theorem q2676 : (Jvm.Cond.code ({ cls := "java/lang/Math", name := "min", desc := "(II)I" } : Jvm.MethodName) prog_30_method_69_code (2 : Nat) (Option.some Jvm.ClassFile.FieldType.int)) ∈ lw_all := lw_g (lw_at lw_m10 202 rfl) rfl
/-! L.law.lean.txt -/
abbrev cL_law : ByteArray := code
/-! X0.HomeCompilerLaw.lean.txt -/
def RX0 : String := "HomeCompilerLaw"
abbrev cX0_feed : ByteArray := method_3_code
def yX0_feed : MethodName := ⟨RX0, "feed", "(LHomeCompiler;IIIII)I"⟩
abbrev cX0_end : ByteArray := method_4_code
def yX0_end : MethodName := ⟨RX0, "end", "(LHomeCompiler;I)I"⟩
abbrev cX0_input : ByteArray := method_5_code
def yX0_input : MethodName := ⟨RX0, "input", "(LHomeCompiler;I)I"⟩
abbrev cX0_run : ByteArray := method_6_code
def yX0_run : MethodName := ⟨RX0, "run", "(LHomeCompiler;III[J)I"⟩
abbrev cX0_paperAt : ByteArray := method_7_code
def yX0_paperAt : MethodName := ⟨RX0, "paperAt", "(LHomeCompiler;I[J)I"⟩
abbrev cX0_disk : ByteArray := method_8_code
def yX0_disk : MethodName := ⟨RX0, "disk", "(LHomeCompiler;I[J)I"⟩
abbrev cX0_setDisk : ByteArray := method_9_code
def yX0_setDisk : MethodName := ⟨RX0, "setDisk", "(LHomeCompiler;II)I"⟩
abbrev cX0_variable : ByteArray := method_10_code
def yX0_variable : MethodName := ⟨RX0, "variable", "(LHomeCompiler;I[J)I"⟩
theorem q314 : (Jvm.Cond.initialized "HomeCompilerLaw") ∈ lw_all := lw_g (lw_at lw_m1 0 rfl) rfl
theorem q351 : (Jvm.Cond.classLink "HomeCompilerLaw" (8 : Nat) "HomeCompiler") ∈ lw_all := lw_g (lw_at lw_m1 37 rfl) rfl
theorem q353 : (Jvm.Cond.methodLink "HomeCompilerLaw" (46 : Nat) ({ cls := "HomeCompiler", name := "<init>", desc := "()V" } : Jvm.MethodName)) ∈ lw_all := lw_g (lw_at lw_m1 39 rfl) rfl
theorem q1046 : (Jvm.Cond.methodLink "HomeCompilerLaw" (64 : Nat) ({ cls := "HomeCompiler", name := "load", desc := "()I" } : Jvm.MethodName)) ∈ lw_all := lw_g (lw_at lw_m4 12 rfl) rfl
theorem q2346 : (Jvm.Cond.methodLink "HomeCompilerLaw" (68 : Nat) ({ cls := "HomeCompiler", name := "place", desc := "()I" } : Jvm.MethodName)) ∈ lw_all := lw_g (lw_at lw_m9 112 rfl) rfl
theorem q2350 : (Jvm.Cond.methodLink "HomeCompilerLaw" (79 : Nat) ({ cls := "HomeCompiler", name := "value", desc := "()I" } : Jvm.MethodName)) ∈ lw_all := lw_g (lw_at lw_m9 116 rfl) rfl
theorem q2354 : (Jvm.Cond.methodLink "HomeCompilerLaw" (83 : Nat) ({ cls := "HomeCompiler", name := "left", desc := "()I" } : Jvm.MethodName)) ∈ lw_all := lw_g (lw_at lw_m9 120 rfl) rfl
theorem q2358 : (Jvm.Cond.methodLink "HomeCompilerLaw" (87 : Nat) ({ cls := "HomeCompiler", name := "paper", desc := "()I" } : Jvm.MethodName)) ∈ lw_all := lw_g (lw_at lw_m9 124 rfl) rfl
theorem q2362 : (Jvm.Cond.methodLink "HomeCompilerLaw" (95 : Nat) ({ cls := "HomeCompiler", name := "inputs", desc := "()I" } : Jvm.MethodName)) ∈ lw_all := lw_g (lw_at lw_m9 128 rfl) rfl
theorem q2366 : (Jvm.Cond.methodLink "HomeCompilerLaw" (109 : Nat) ({ cls := "HomeCompiler", name := "life", desc := "()I" } : Jvm.MethodName)) ∈ lw_all := lw_g (lw_at lw_m9 132 rfl) rfl
theorem q2370 : (Jvm.Cond.methodLink "HomeCompilerLaw" (50 : Nat) ({ cls := "HomeCompilerLaw", name := "feed", desc := "(LHomeCompiler;IIIII)I" } : Jvm.MethodName)) ∈ lw_all := lw_g (lw_at lw_m9 136 rfl) rfl
theorem q2371 : (Jvm.Cond.static ({ cls := "HomeCompilerLaw", name := "feed", desc := "(LHomeCompiler;IIIII)I" } : Jvm.MethodName)) ∈ lw_all := lw_g (lw_at lw_m9 137 rfl) rfl
theorem q2372 : (Jvm.Cond.codeWith ({ cls := "HomeCompilerLaw", name := "feed", desc := "(LHomeCompiler;IIIII)I" } : Jvm.MethodName) method_3_code (7 : Nat) (Option.some Jvm.ClassFile.FieldType.int) [((0 : Nat), (11 : Nat), (14 : Nat), (13 : Nat))]) ∈ lw_all := lw_g (lw_at lw_m9 138 rfl) rfl
theorem q2373 : (Jvm.Cond.classLink "HomeCompilerLaw" (13 : Nat) "java/lang/IllegalStateException") ∈ lw_all := lw_g (lw_at lw_m9 139 rfl) rfl
theorem q2374 : (Jvm.Cond.methodLink "HomeCompilerLaw" (7 : Nat) ({ cls := "HomeCompiler", name := "feed", desc := "(IIIII)V" } : Jvm.MethodName)) ∈ lw_all := lw_g (lw_at lw_m9 140 rfl) rfl
theorem q2401 : (Jvm.Cond.methodLink "HomeCompilerLaw" (60 : Nat) ({ cls := "HomeCompilerLaw", name := "end", desc := "(LHomeCompiler;I)I" } : Jvm.MethodName)) ∈ lw_all := lw_g (lw_at lw_m9 167 rfl) rfl
theorem q2402 : (Jvm.Cond.static ({ cls := "HomeCompilerLaw", name := "end", desc := "(LHomeCompiler;I)I" } : Jvm.MethodName)) ∈ lw_all := lw_g (lw_at lw_m9 168 rfl) rfl
theorem q2403 : (Jvm.Cond.codeWith ({ cls := "HomeCompilerLaw", name := "end", desc := "(LHomeCompiler;I)I" } : Jvm.MethodName) method_4_code (3 : Nat) (Option.some Jvm.ClassFile.FieldType.int) [((0 : Nat), (5 : Nat), (8 : Nat), (19 : Nat))]) ∈ lw_all := lw_g (lw_at lw_m9 169 rfl) rfl
theorem q2404 : (Jvm.Cond.classLink "HomeCompilerLaw" (19 : Nat) "java/lang/IllegalArgumentException") ∈ lw_all := lw_g (lw_at lw_m9 170 rfl) rfl
theorem q2405 : (Jvm.Cond.methodLink "HomeCompilerLaw" (15 : Nat) ({ cls := "HomeCompiler", name := "end", desc := "(I)V" } : Jvm.MethodName)) ∈ lw_all := lw_g (lw_at lw_m9 171 rfl) rfl
theorem q2413 : (Jvm.Cond.methodLink "HomeCompilerLaw" (72 : Nat) ({ cls := "HomeCompilerLaw", name := "input", desc := "(LHomeCompiler;I)I" } : Jvm.MethodName)) ∈ lw_all := lw_g (lw_at lw_m9 179 rfl) rfl
theorem q2414 : (Jvm.Cond.static ({ cls := "HomeCompilerLaw", name := "input", desc := "(LHomeCompiler;I)I" } : Jvm.MethodName)) ∈ lw_all := lw_g (lw_at lw_m9 180 rfl) rfl
theorem q2415 : (Jvm.Cond.codeWith ({ cls := "HomeCompilerLaw", name := "input", desc := "(LHomeCompiler;I)I" } : Jvm.MethodName) method_5_code (3 : Nat) (Option.some Jvm.ClassFile.FieldType.int) [((0 : Nat), (5 : Nat), (8 : Nat), (13 : Nat))]) ∈ lw_all := lw_g (lw_at lw_m9 181 rfl) rfl
theorem q2416 : (Jvm.Cond.methodLink "HomeCompilerLaw" (21 : Nat) ({ cls := "HomeCompiler", name := "input", desc := "(I)V" } : Jvm.MethodName)) ∈ lw_all := lw_g (lw_at lw_m9 182 rfl) rfl
theorem q2420 : (Jvm.Cond.methodLink "HomeCompilerLaw" (75 : Nat) ({ cls := "HomeCompilerLaw", name := "run", desc := "(LHomeCompiler;III[J)I" } : Jvm.MethodName)) ∈ lw_all := lw_g (lw_at lw_m9 186 rfl) rfl
theorem q2421 : (Jvm.Cond.static ({ cls := "HomeCompilerLaw", name := "run", desc := "(LHomeCompiler;III[J)I" } : Jvm.MethodName)) ∈ lw_all := lw_g (lw_at lw_m9 187 rfl) rfl
theorem q2422 : (Jvm.Cond.codeWith ({ cls := "HomeCompilerLaw", name := "run", desc := "(LHomeCompiler;III[J)I" } : Jvm.MethodName) method_6_code (6 : Nat) (Option.some Jvm.ClassFile.FieldType.int) [((0 : Nat), (12 : Nat), (15 : Nat), (13 : Nat)), ((0 : Nat), (12 : Nat), (19 : Nat), (19 : Nat)), ((0 : Nat), (12 : Nat), (23 : Nat), (28 : Nat))]) ∈ lw_all := lw_g (lw_at lw_m9 188 rfl) rfl
theorem q2423 : (Jvm.Cond.classLink "HomeCompilerLaw" (28 : Nat) "java/lang/ArithmeticException") ∈ lw_all := lw_g (lw_at lw_m9 189 rfl) rfl
theorem q2450 : (Jvm.Cond.methodLink "HomeCompilerLaw" (24 : Nat) ({ cls := "HomeCompiler", name := "run", desc := "(III)I" } : Jvm.MethodName)) ∈ lw_all := lw_g (lw_at lw_m9 216 rfl) rfl
theorem q2683 : (Jvm.Cond.methodLink "HomeCompilerLaw" (91 : Nat) ({ cls := "HomeCompilerLaw", name := "paperAt", desc := "(LHomeCompiler;I[J)I" } : Jvm.MethodName)) ∈ lw_all := lw_g (lw_at lw_m10 209 rfl) rfl
theorem q2684 : (Jvm.Cond.static ({ cls := "HomeCompilerLaw", name := "paperAt", desc := "(LHomeCompiler;I[J)I" } : Jvm.MethodName)) ∈ lw_all := lw_g (lw_at lw_m10 210 rfl) rfl
theorem q2685 : (Jvm.Cond.codeWith ({ cls := "HomeCompilerLaw", name := "paperAt", desc := "(LHomeCompiler;I[J)I" } : Jvm.MethodName) method_7_code (4 : Nat) (Option.some Jvm.ClassFile.FieldType.int) [((0 : Nat), (9 : Nat), (12 : Nat), (34 : Nat))]) ∈ lw_all := lw_g (lw_at lw_m10 211 rfl) rfl
theorem q2686 : (Jvm.Cond.classLink "HomeCompilerLaw" (34 : Nat) "java/lang/IndexOutOfBoundsException") ∈ lw_all := lw_g (lw_at lw_m10 212 rfl) rfl
theorem q2705 : (Jvm.Cond.methodLink "HomeCompilerLaw" (30 : Nat) ({ cls := "HomeCompiler", name := "paperAt", desc := "(I)I" } : Jvm.MethodName)) ∈ lw_all := lw_g (lw_at lw_m10 231 rfl) rfl
theorem q2728 : (Jvm.Cond.methodLink "HomeCompilerLaw" (99 : Nat) ({ cls := "HomeCompilerLaw", name := "disk", desc := "(LHomeCompiler;I[J)I" } : Jvm.MethodName)) ∈ lw_all := lw_g (lw_at lw_m11 14 rfl) rfl
theorem q2729 : (Jvm.Cond.static ({ cls := "HomeCompilerLaw", name := "disk", desc := "(LHomeCompiler;I[J)I" } : Jvm.MethodName)) ∈ lw_all := lw_g (lw_at lw_m11 15 rfl) rfl
theorem q2730 : (Jvm.Cond.codeWith ({ cls := "HomeCompilerLaw", name := "disk", desc := "(LHomeCompiler;I[J)I" } : Jvm.MethodName) method_8_code (4 : Nat) (Option.some Jvm.ClassFile.FieldType.int) [((0 : Nat), (9 : Nat), (12 : Nat), (34 : Nat))]) ∈ lw_all := lw_g (lw_at lw_m11 16 rfl) rfl
theorem q2731 : (Jvm.Cond.methodLink "HomeCompilerLaw" (36 : Nat) ({ cls := "HomeCompiler", name := "disk", desc := "(I)I" } : Jvm.MethodName)) ∈ lw_all := lw_g (lw_at lw_m11 17 rfl) rfl
theorem q2735 : (Jvm.Cond.methodLink "HomeCompilerLaw" (102 : Nat) ({ cls := "HomeCompilerLaw", name := "setDisk", desc := "(LHomeCompiler;II)I" } : Jvm.MethodName)) ∈ lw_all := lw_g (lw_at lw_m11 21 rfl) rfl
theorem q2736 : (Jvm.Cond.static ({ cls := "HomeCompilerLaw", name := "setDisk", desc := "(LHomeCompiler;II)I" } : Jvm.MethodName)) ∈ lw_all := lw_g (lw_at lw_m11 22 rfl) rfl
theorem q2737 : (Jvm.Cond.codeWith ({ cls := "HomeCompilerLaw", name := "setDisk", desc := "(LHomeCompiler;II)I" } : Jvm.MethodName) method_9_code (4 : Nat) (Option.some Jvm.ClassFile.FieldType.int) [((0 : Nat), (6 : Nat), (9 : Nat), (34 : Nat))]) ∈ lw_all := lw_g (lw_at lw_m11 23 rfl) rfl
theorem q2738 : (Jvm.Cond.methodLink "HomeCompilerLaw" (39 : Nat) ({ cls := "HomeCompiler", name := "setDisk", desc := "(II)V" } : Jvm.MethodName)) ∈ lw_all := lw_g (lw_at lw_m11 24 rfl) rfl
theorem q2742 : (Jvm.Cond.methodLink "HomeCompilerLaw" (106 : Nat) ({ cls := "HomeCompilerLaw", name := "variable", desc := "(LHomeCompiler;I[J)I" } : Jvm.MethodName)) ∈ lw_all := lw_g (lw_at lw_m11 28 rfl) rfl
theorem q2743 : (Jvm.Cond.static ({ cls := "HomeCompilerLaw", name := "variable", desc := "(LHomeCompiler;I[J)I" } : Jvm.MethodName)) ∈ lw_all := lw_g (lw_at lw_m11 29 rfl) rfl
theorem q2744 : (Jvm.Cond.codeWith ({ cls := "HomeCompilerLaw", name := "variable", desc := "(LHomeCompiler;I[J)I" } : Jvm.MethodName) method_10_code (4 : Nat) (Option.some Jvm.ClassFile.FieldType.int) [((0 : Nat), (9 : Nat), (12 : Nat), (34 : Nat))]) ∈ lw_all := lw_g (lw_at lw_m11 30 rfl) rfl
theorem q2745 : (Jvm.Cond.methodLink "HomeCompilerLaw" (43 : Nat) ({ cls := "HomeCompiler", name := "variable", desc := "(I)I" } : Jvm.MethodName)) ∈ lw_all := lw_g (lw_at lw_m11 31 rfl) rfl
theorem q2750 : (Jvm.Cond.classLink "HomeCompilerLaw" (47 : Nat) "HomeCompilerModel") ∈ lw_all := lw_g (lw_at lw_m11 36 rfl) rfl
theorem q2752 : (Jvm.Cond.methodLink "HomeCompilerLaw" (49 : Nat) ({ cls := "HomeCompilerModel", name := "<init>", desc := "()V" } : Jvm.MethodName)) ∈ lw_all := lw_g (lw_at lw_m11 38 rfl) rfl
theorem q3103 : (Jvm.Cond.methodLink "HomeCompilerLaw" (56 : Nat) ({ cls := "HomeCompilerModel", name := "thrown", desc := "()I" } : Jvm.MethodName)) ∈ lw_all := lw_g (lw_at lw_m12 149 rfl) rfl
theorem q3107 : (Jvm.Cond.methodLink "HomeCompilerLaw" (55 : Nat) ({ cls := "HomeCompilerModel", name := "feed", desc := "(IIIII)V" } : Jvm.MethodName)) ∈ lw_all := lw_g (lw_at lw_m12 153 rfl) rfl
theorem q3111 : (Jvm.Cond.methodLink "HomeCompilerLaw" (63 : Nat) ({ cls := "HomeCompilerModel", name := "end", desc := "(I)V" } : Jvm.MethodName)) ∈ lw_all := lw_g (lw_at lw_m12 157 rfl) rfl
theorem q3115 : (Jvm.Cond.methodLink "HomeCompilerLaw" (67 : Nat) ({ cls := "HomeCompilerModel", name := "load", desc := "()I" } : Jvm.MethodName)) ∈ lw_all := lw_g (lw_at lw_m12 161 rfl) rfl
theorem q3543 : (Jvm.Cond.methodLink "HomeCompilerLaw" (71 : Nat) ({ cls := "HomeCompilerModel", name := "place", desc := "()I" } : Jvm.MethodName)) ∈ lw_all := lw_g (lw_at lw_m14 109 rfl) rfl
theorem q3547 : (Jvm.Cond.methodLink "HomeCompilerLaw" (78 : Nat) ({ cls := "HomeCompilerModel", name := "run", desc := "(III)I" } : Jvm.MethodName)) ∈ lw_all := lw_g (lw_at lw_m14 113 rfl) rfl
theorem q3715 : (Jvm.Cond.methodLink "HomeCompilerLaw" (112 : Nat) ({ cls := "HomeCompilerModel", name := "life", desc := "()I" } : Jvm.MethodName)) ∈ lw_all := lw_g (lw_at lw_m15 41 rfl) rfl
theorem q3719 : (Jvm.Cond.methodLink "HomeCompilerLaw" (74 : Nat) ({ cls := "HomeCompilerModel", name := "input", desc := "(I)V" } : Jvm.MethodName)) ∈ lw_all := lw_g (lw_at lw_m15 45 rfl) rfl
theorem q3723 : (Jvm.Cond.methodLink "HomeCompilerLaw" (82 : Nat) ({ cls := "HomeCompilerModel", name := "value", desc := "()I" } : Jvm.MethodName)) ∈ lw_all := lw_g (lw_at lw_m15 49 rfl) rfl
theorem q3727 : (Jvm.Cond.methodLink "HomeCompilerLaw" (86 : Nat) ({ cls := "HomeCompilerModel", name := "left", desc := "()I" } : Jvm.MethodName)) ∈ lw_all := lw_g (lw_at lw_m15 53 rfl) rfl
theorem q3731 : (Jvm.Cond.methodLink "HomeCompilerLaw" (90 : Nat) ({ cls := "HomeCompilerModel", name := "paper", desc := "()I" } : Jvm.MethodName)) ∈ lw_all := lw_g (lw_at lw_m15 57 rfl) rfl
theorem q3735 : (Jvm.Cond.methodLink "HomeCompilerLaw" (94 : Nat) ({ cls := "HomeCompilerModel", name := "paperAt", desc := "(I)I" } : Jvm.MethodName)) ∈ lw_all := lw_g (lw_at lw_m15 61 rfl) rfl
theorem q3739 : (Jvm.Cond.methodLink "HomeCompilerLaw" (98 : Nat) ({ cls := "HomeCompilerModel", name := "inputs", desc := "()I" } : Jvm.MethodName)) ∈ lw_all := lw_g (lw_at lw_m15 65 rfl) rfl
theorem q3743 : (Jvm.Cond.methodLink "HomeCompilerLaw" (101 : Nat) ({ cls := "HomeCompilerModel", name := "disk", desc := "(I)I" } : Jvm.MethodName)) ∈ lw_all := lw_g (lw_at lw_m15 69 rfl) rfl
theorem q3747 : (Jvm.Cond.methodLink "HomeCompilerLaw" (105 : Nat) ({ cls := "HomeCompilerModel", name := "setDisk", desc := "(II)V" } : Jvm.MethodName)) ∈ lw_all := lw_g (lw_at lw_m15 73 rfl) rfl
theorem q3751 : (Jvm.Cond.methodLink "HomeCompilerLaw" (108 : Nat) ({ cls := "HomeCompilerModel", name := "variable", desc := "(I)I" } : Jvm.MethodName)) ∈ lw_all := lw_g (lw_at lw_m15 77 rfl) rfl
/-! X1.HomeCompiler.lean.txt -/
def RX1 : String := "HomeCompiler"
def TX1 : u_T := fun k => match k with
  | 0 => ("HomeCompiler", "words", "LHomeCompiler$Words;", true)
  | 1 => ("HomeCompiler", "names", "LHomeCompiler$Names;", true)
  | 2 => ("HomeCompiler", "strings", "LHomeCompiler$Bytes;", true)
  | 3 => ("HomeCompiler", "scan", "LHomeCompiler$Scanner;", true)
  | 4 => ("HomeCompiler", "nodes", "LHomeCompiler$Nodes;", true)
  | 5 => ("HomeCompiler", "reader", "LHomeCompiler$Reader;", true)
  | 6 => ("HomeCompiler", "checker", "LHomeCompiler$Checker;", true)
  | 7 => ("HomeCompiler", "emitter", "LHomeCompiler$Emitter;", true)
  | 8 => ("HomeCompiler", "generator", "LHomeCompiler$Generator;", true)
  | 9 => ("HomeCompiler", "host", "LHomeCompiler$Host;", true)
  | 10 => ("HomeCompiler", "tape", "LHomeCompiler$Bytes;", true)
  | 11 => ("HomeCompiler", "text", "I", false)
  | 12 => ("HomeCompiler", "place", "I", false)
  | 13 => ("HomeCompiler", "start", "I", false)
  | 14 => ("HomeCompiler", "variableWords", "I", false)
  | 15 => ("HomeCompiler", "ran", "Z", false)
  | 16 => ("HomeCompiler", "last", "I", false)
  | _ => ("HomeCompiler", "life", "I", false)
def tyX1 : Nat → FieldType := fun k => match k with
  | 0 => .object "HomeCompiler$Words"
  | 1 => .object "HomeCompiler$Names"
  | 2 => .object "HomeCompiler$Bytes"
  | 3 => .object "HomeCompiler$Scanner"
  | 4 => .object "HomeCompiler$Nodes"
  | 5 => .object "HomeCompiler$Reader"
  | 6 => .object "HomeCompiler$Checker"
  | 7 => .object "HomeCompiler$Emitter"
  | 8 => .object "HomeCompiler$Generator"
  | 9 => .object "HomeCompiler$Host"
  | 10 => .object "HomeCompiler$Bytes"
  | 11 => .int
  | 12 => .int
  | 13 => .int
  | 14 => .int
  | 15 => .boolean
  | 16 => .int
  | _ => .int
abbrev wsX10 : List Cond := u_ws RX1 TX1 18
theorem nmX1 : ∀ a, a < 18 → ∀ b, b < 18 → a ≠ b → (TX1 a).2.1 ≠ (TX1 b).2.1 := by decide +kernel
theorem tyX1_ok : ∀ k, k < 18 → parseFieldDescriptor (TX1 k).2.2.1 = some (tyX1 k) := by decide +kernel
abbrev cX1_init : ByteArray := prog_1_method_1_code
def yX1_init : MethodName := ⟨RX1, "<init>", "()V"⟩
abbrev cX1_load : ByteArray := prog_1_method_9_code
def yX1_load : MethodName := ⟨RX1, "load", "()I"⟩
abbrev cX1_read : ByteArray := prog_1_method_8_code
def yX1_read : MethodName := ⟨RX1, "read", "()I"⟩
abbrev cX1_compile : ByteArray := prog_1_method_10_code
def yX1_compile : MethodName := ⟨RX1, "compile", "()V"⟩
abbrev cX1_place : ByteArray := prog_1_method_11_code
def yX1_place : MethodName := ⟨RX1, "place", "()I"⟩
abbrev cX1_value : ByteArray := prog_1_method_16_code
def yX1_value : MethodName := ⟨RX1, "value", "()I"⟩
abbrev cX1_left : ByteArray := prog_1_method_17_code
def yX1_left : MethodName := ⟨RX1, "left", "()I"⟩
abbrev cX1_paper : ByteArray := prog_1_method_18_code
def yX1_paper : MethodName := ⟨RX1, "paper", "()I"⟩
abbrev cX1_inputs : ByteArray := prog_1_method_20_code
def yX1_inputs : MethodName := ⟨RX1, "inputs", "()I"⟩
abbrev cX1_life : ByteArray := prog_1_method_24_code
def yX1_life : MethodName := ⟨RX1, "life", "()I"⟩
abbrev cX1_feed : ByteArray := prog_1_method_6_code
def yX1_feed : MethodName := ⟨RX1, "feed", "(IIIII)V"⟩
abbrev cX1_ready : ByteArray := prog_1_method_3_code
def yX1_ready : MethodName := ⟨RX1, "ready", "(Z)V"⟩
abbrev cX1_feedInt : ByteArray := prog_1_method_2_code
def yX1_feedInt : MethodName := ⟨RX1, "feedInt", "(I)V"⟩
abbrev cX1_end : ByteArray := prog_1_method_7_code
def yX1_end : MethodName := ⟨RX1, "end", "(I)V"⟩
abbrev cX1_need : ByteArray := prog_1_method_4_code
def yX1_need : MethodName := ⟨RX1, "need", "(Z)V"⟩
abbrev cX1_input : ByteArray := prog_1_method_12_code
def yX1_input : MethodName := ⟨RX1, "input", "(I)V"⟩
abbrev cX1_run : ByteArray := prog_1_method_15_code
def yX1_run : MethodName := ⟨RX1, "run", "(III)I"⟩
abbrev cX1_begin : ByteArray := prog_1_method_13_code
def yX1_begin : MethodName := ⟨RX1, "begin", "()V"⟩
abbrev cX1_variable : ByteArray := prog_1_method_14_code
def yX1_variable : MethodName := ⟨RX1, "variable", "(IZ)V"⟩
abbrev cX1_paperAt : ByteArray := prog_1_method_19_code
def yX1_paperAt : MethodName := ⟨RX1, "paperAt", "(I)I"⟩
abbrev cX1_within : ByteArray := prog_1_method_5_code
def yX1_within : MethodName := ⟨RX1, "within", "(Z)V"⟩
abbrev cX1_disk : ByteArray := prog_1_method_21_code
def yX1_disk : MethodName := ⟨RX1, "disk", "(I)I"⟩
abbrev cX1_setDisk : ByteArray := prog_1_method_22_code
def yX1_setDisk : MethodName := ⟨RX1, "setDisk", "(II)V"⟩
abbrev cX1_variable_2 : ByteArray := prog_1_method_23_code
def yX1_variable_2 : MethodName := ⟨RX1, "variable", "(I)I"⟩
theorem q315 : (Jvm.Cond.initialized "HomeCompiler") ∈ lw_all := lw_g (lw_at lw_m1 1 rfl) rfl
theorem q352 : (Jvm.Cond.instantiable "HomeCompiler" (18 : Nat)) ∈ lw_all := lw_g (lw_at lw_m1 38 rfl) rfl
theorem q354 : (Jvm.Cond.instanceMethod ({ cls := "HomeCompiler", name := "<init>", desc := "()V" } : Jvm.MethodName)) ∈ lw_all := lw_g (lw_at lw_m1 40 rfl) rfl
theorem q355 : (Jvm.Cond.code ({ cls := "HomeCompiler", name := "<init>", desc := "()V" } : Jvm.MethodName) prog_1_method_1_code (1 : Nat) (Option.none : Option Jvm.ClassFile.FieldType)) ∈ lw_all := lw_g (lw_at lw_m1 41 rfl) rfl
theorem q356 : (Jvm.Cond.methodLink "HomeCompiler" (1 : Nat) ({ cls := "java/lang/Object", name := "<init>", desc := "()V" } : Jvm.MethodName)) ∈ lw_all := lw_g (lw_at lw_m1 42 rfl) rfl
theorem q359 : (Jvm.Cond.classLink "HomeCompiler" (7 : Nat) "HomeCompiler$Words") ∈ lw_all := lw_g (lw_at lw_m1 45 rfl) rfl
theorem q361 : (Jvm.Cond.methodLinkNest "HomeCompiler" (9 : Nat) ({ cls := "HomeCompiler$Words", name := "<init>", desc := "()V" } : Jvm.MethodName) "HomeCompiler") ∈ lw_tbl := lw_at lw_m1 47 rfl
theorem q417 : (Jvm.Cond.classLink "HomeCompiler" (16 : Nat) "HomeCompiler$Names") ∈ lw_all := lw_g (lw_at lw_m1 103 rfl) rfl
theorem q419 : (Jvm.Cond.methodLinkNest "HomeCompiler" (18 : Nat) ({ cls := "HomeCompiler$Names", name := "<init>", desc := "()V" } : Jvm.MethodName) "HomeCompiler") ∈ lw_tbl := lw_at lw_m1 105 rfl
theorem q456 : (Jvm.Cond.classLink "HomeCompiler" (23 : Nat) "HomeCompiler$Bytes") ∈ lw_all := lw_g (lw_at lw_m1 142 rfl) rfl
theorem q457 : (Jvm.Cond.methodLinkNest "HomeCompiler" (25 : Nat) ({ cls := "HomeCompiler$Bytes", name := "<init>", desc := "()V" } : Jvm.MethodName) "HomeCompiler") ∈ lw_tbl := lw_at lw_m1 143 rfl
theorem q458 : (Jvm.Cond.classLink "HomeCompiler" (30 : Nat) "HomeCompiler$Scanner") ∈ lw_all := lw_g (lw_at lw_m1 144 rfl) rfl
theorem q460 : (Jvm.Cond.methodLink "HomeCompiler" (32 : Nat) ({ cls := "HomeCompiler$Scanner", name := "<init>", desc := "(LHomeCompiler$Words;LHomeCompiler$Names;LHomeCompiler$Bytes;)V" } : Jvm.MethodName)) ∈ lw_all := lw_g (lw_at lw_m1 146 rfl) rfl
theorem q519 : (Jvm.Cond.classLink "HomeCompiler" (39 : Nat) "HomeCompiler$Nodes") ∈ lw_all := lw_g (lw_at lw_m1 205 rfl) rfl
theorem q521 : (Jvm.Cond.methodLinkNest "HomeCompiler" (41 : Nat) ({ cls := "HomeCompiler$Nodes", name := "<init>", desc := "()V" } : Jvm.MethodName) "HomeCompiler") ∈ lw_tbl := lw_at lw_m1 207 rfl
theorem q559 : (Jvm.Cond.classLink "HomeCompiler" (46 : Nat) "HomeCompiler$Reader") ∈ lw_all := lw_g (lw_at lw_m2 5 rfl) rfl
theorem q561 : (Jvm.Cond.methodLink "HomeCompiler" (48 : Nat) ({ cls := "HomeCompiler$Reader", name := "<init>", desc := "(LHomeCompiler$Scanner;LHomeCompiler$Nodes;)V" } : Jvm.MethodName)) ∈ lw_all := lw_g (lw_at lw_m2 7 rfl) rfl
theorem q584 : (Jvm.Cond.classLink "HomeCompiler" (55 : Nat) "HomeCompiler$Checker") ∈ lw_all := lw_g (lw_at lw_m2 30 rfl) rfl
theorem q586 : (Jvm.Cond.methodLink "HomeCompiler" (57 : Nat) ({ cls := "HomeCompiler$Checker", name := "<init>", desc := "(LHomeCompiler$Nodes;LHomeCompiler$Names;LHomeCompiler$Words;)V" } : Jvm.MethodName)) ∈ lw_all := lw_g (lw_at lw_m2 32 rfl) rfl
theorem q710 : (Jvm.Cond.classLink "HomeCompiler" (64 : Nat) "HomeCompiler$Emitter") ∈ lw_all := lw_g (lw_at lw_m2 156 rfl) rfl
theorem q712 : (Jvm.Cond.methodLinkNest "HomeCompiler" (66 : Nat) ({ cls := "HomeCompiler$Emitter", name := "<init>", desc := "()V" } : Jvm.MethodName) "HomeCompiler") ∈ lw_tbl := lw_at lw_m2 158 rfl
theorem q738 : (Jvm.Cond.classLink "HomeCompiler" (71 : Nat) "HomeCompiler$Generator") ∈ lw_all := lw_g (lw_at lw_m2 184 rfl) rfl
theorem q740 : (Jvm.Cond.methodLink "HomeCompiler" (73 : Nat) ({ cls := "HomeCompiler$Generator", name := "<init>", desc := "(LHomeCompiler$Nodes;LHomeCompiler$Checker;LHomeCompiler$Words;LHomeCompiler$Bytes;LHomeCompiler$Emitter;)V" } : Jvm.MethodName)) ∈ lw_all := lw_g (lw_at lw_m2 186 rfl) rfl
theorem q853 : (Jvm.Cond.classLink "HomeCompiler" (80 : Nat) "HomeCompiler$Host") ∈ lw_all := lw_g (lw_at lw_m3 59 rfl) rfl
theorem q855 : (Jvm.Cond.methodLinkNest "HomeCompiler" (82 : Nat) ({ cls := "HomeCompiler$Host", name := "<init>", desc := "()V" } : Jvm.MethodName) "HomeCompiler") ∈ lw_tbl := lw_at lw_m3 61 rfl
theorem q925 : (Jvm.Cond.fieldLinkNest "HomeCompiler" (273 : Nat) "HomeCompiler$Hart" "x" "[I" "HomeCompiler") ∈ lw_tbl := lw_at lw_m3 131 rfl
theorem q947 : (Jvm.Cond.fieldLinkNest "HomeCompiler" (208 : Nat) "HomeCompiler$Host" "ram" "LHomeCompiler$Ram;" "HomeCompiler") ∈ lw_tbl := lw_at lw_m3 153 rfl
theorem q950 : (Jvm.Cond.fieldLinkNest "HomeCompiler" (269 : Nat) "HomeCompiler$Host" "hart" "LHomeCompiler$Hart;" "HomeCompiler") ∈ lw_tbl := lw_at lw_m3 156 rfl
theorem q952 : (Jvm.Cond.fieldLinkNest "HomeCompiler" (287 : Nat) "HomeCompiler$Host" "paper" "[I" "HomeCompiler") ∈ lw_tbl := lw_at lw_m3 158 rfl
theorem q954 : (Jvm.Cond.fieldLinkNest "HomeCompiler" (136 : Nat) "HomeCompiler$Host" "written" "I" "HomeCompiler") ∈ lw_tbl := lw_at lw_m3 160 rfl
theorem q956 : (Jvm.Cond.fieldLinkNest "HomeCompiler" (224 : Nat) "HomeCompiler$Host" "input" "[I" "HomeCompiler") ∈ lw_tbl := lw_at lw_m3 162 rfl
theorem q958 : (Jvm.Cond.fieldLinkNest "HomeCompiler" (221 : Nat) "HomeCompiler$Host" "inputs" "I" "HomeCompiler") ∈ lw_tbl := lw_at lw_m3 164 rfl
theorem q960 : (Jvm.Cond.fieldLinkNest "HomeCompiler" (290 : Nat) "HomeCompiler$Host" "disk" "[I" "HomeCompiler") ∈ lw_tbl := lw_at lw_m3 166 rfl
theorem q962 : (Jvm.Cond.fieldLinkNest "HomeCompiler" (139 : Nat) "HomeCompiler$Host" "value" "I" "HomeCompiler") ∈ lw_tbl := lw_at lw_m3 168 rfl
theorem q982 : (Jvm.Cond.constant "HomeCompiler" (94 : Nat) (100000 : Int32)) ∈ lw_all := lw_g (lw_at lw_m3 188 rfl) rfl
theorem q983 : (Jvm.Cond.methodLink "HomeCompiler" (98 : Nat) ({ cls := "HomeCompiler$Names", name := "clear", desc := "()V" } : Jvm.MethodName)) ∈ lw_all := lw_g (lw_at lw_m3 189 rfl) rfl
theorem q991 : (Jvm.Cond.fieldLink "HomeCompiler" (10 : Nat) "HomeCompiler" "words" "LHomeCompiler$Words;") ∈ lw_all := lw_g (lw_at lw_m3 197 rfl) rfl
theorem q992 : (Jvm.Cond.fieldLink "HomeCompiler" (19 : Nat) "HomeCompiler" "names" "LHomeCompiler$Names;") ∈ lw_all := lw_g (lw_at lw_m3 198 rfl) rfl
theorem q993 : (Jvm.Cond.fieldLink "HomeCompiler" (26 : Nat) "HomeCompiler" "strings" "LHomeCompiler$Bytes;") ∈ lw_all := lw_g (lw_at lw_m3 199 rfl) rfl
theorem q994 : (Jvm.Cond.fieldLink "HomeCompiler" (35 : Nat) "HomeCompiler" "scan" "LHomeCompiler$Scanner;") ∈ lw_all := lw_g (lw_at lw_m3 200 rfl) rfl
theorem q995 : (Jvm.Cond.fieldLink "HomeCompiler" (42 : Nat) "HomeCompiler" "nodes" "LHomeCompiler$Nodes;") ∈ lw_all := lw_g (lw_at lw_m3 201 rfl) rfl
theorem q996 : (Jvm.Cond.fieldLink "HomeCompiler" (51 : Nat) "HomeCompiler" "reader" "LHomeCompiler$Reader;") ∈ lw_all := lw_g (lw_at lw_m3 202 rfl) rfl
theorem q997 : (Jvm.Cond.fieldLink "HomeCompiler" (60 : Nat) "HomeCompiler" "checker" "LHomeCompiler$Checker;") ∈ lw_all := lw_g (lw_at lw_m3 203 rfl) rfl
theorem q998 : (Jvm.Cond.fieldLink "HomeCompiler" (67 : Nat) "HomeCompiler" "emitter" "LHomeCompiler$Emitter;") ∈ lw_all := lw_g (lw_at lw_m3 204 rfl) rfl
theorem q999 : (Jvm.Cond.fieldLink "HomeCompiler" (76 : Nat) "HomeCompiler" "generator" "LHomeCompiler$Generator;") ∈ lw_all := lw_g (lw_at lw_m3 205 rfl) rfl
theorem q1000 : (Jvm.Cond.fieldLink "HomeCompiler" (83 : Nat) "HomeCompiler" "host" "LHomeCompiler$Host;") ∈ lw_all := lw_g (lw_at lw_m3 206 rfl) rfl
theorem q1001 : (Jvm.Cond.fieldLink "HomeCompiler" (87 : Nat) "HomeCompiler" "tape" "LHomeCompiler$Bytes;") ∈ lw_all := lw_g (lw_at lw_m3 207 rfl) rfl
theorem q1002 : (Jvm.Cond.fieldLink "HomeCompiler" (90 : Nat) "HomeCompiler" "text" "I") ∈ lw_all := lw_g (lw_at lw_m3 208 rfl) rfl
theorem q1003 : (Jvm.Cond.fieldLink "HomeCompiler" (160 : Nat) "HomeCompiler" "place" "I") ∈ lw_all := lw_g (lw_at lw_m3 209 rfl) rfl
theorem q1004 : (Jvm.Cond.fieldLink "HomeCompiler" (194 : Nat) "HomeCompiler" "start" "I") ∈ lw_all := lw_g (lw_at lw_m3 210 rfl) rfl
theorem q1005 : (Jvm.Cond.fieldLink "HomeCompiler" (149 : Nat) "HomeCompiler" "variableWords" "I") ∈ lw_all := lw_g (lw_at lw_m3 211 rfl) rfl
theorem q1006 : (Jvm.Cond.fieldLink "HomeCompiler" (142 : Nat) "HomeCompiler" "ran" "Z") ∈ lw_all := lw_g (lw_at lw_m3 212 rfl) rfl
theorem q1007 : (Jvm.Cond.fieldLink "HomeCompiler" (146 : Nat) "HomeCompiler" "last" "I") ∈ lw_all := lw_g (lw_at lw_m3 213 rfl) rfl
theorem q1008 : (Jvm.Cond.fieldLink "HomeCompiler" (95 : Nat) "HomeCompiler" "life" "I") ∈ lw_all := lw_g (lw_at lw_m3 214 rfl) rfl
theorem q1009 : (Jvm.Cond.laysFinal "HomeCompiler" "HomeCompiler" "words" "LHomeCompiler$Words;") ∈ lw_all := lw_g (lw_at lw_m3 215 rfl) rfl
theorem q1010 : (Jvm.Cond.soleField "HomeCompiler" "words") ∈ lw_all := lw_g (lw_at lw_m3 216 rfl) rfl
theorem q1011 : (Jvm.Cond.laysFinal "HomeCompiler" "HomeCompiler" "names" "LHomeCompiler$Names;") ∈ lw_all := lw_g (lw_at lw_m3 217 rfl) rfl
theorem q1012 : (Jvm.Cond.soleField "HomeCompiler" "names") ∈ lw_all := lw_g (lw_at lw_m3 218 rfl) rfl
theorem q1013 : (Jvm.Cond.laysFinal "HomeCompiler" "HomeCompiler" "strings" "LHomeCompiler$Bytes;") ∈ lw_all := lw_g (lw_at lw_m3 219 rfl) rfl
theorem q1014 : (Jvm.Cond.soleField "HomeCompiler" "strings") ∈ lw_all := lw_g (lw_at lw_m3 220 rfl) rfl
theorem q1015 : (Jvm.Cond.laysFinal "HomeCompiler" "HomeCompiler" "scan" "LHomeCompiler$Scanner;") ∈ lw_all := lw_g (lw_at lw_m3 221 rfl) rfl
theorem q1016 : (Jvm.Cond.soleField "HomeCompiler" "scan") ∈ lw_all := lw_g (lw_at lw_m3 222 rfl) rfl
theorem q1017 : (Jvm.Cond.laysFinal "HomeCompiler" "HomeCompiler" "nodes" "LHomeCompiler$Nodes;") ∈ lw_all := lw_g (lw_at lw_m3 223 rfl) rfl
theorem q1018 : (Jvm.Cond.soleField "HomeCompiler" "nodes") ∈ lw_all := lw_g (lw_at lw_m3 224 rfl) rfl
theorem q1019 : (Jvm.Cond.laysFinal "HomeCompiler" "HomeCompiler" "reader" "LHomeCompiler$Reader;") ∈ lw_all := lw_g (lw_at lw_m3 225 rfl) rfl
theorem q1020 : (Jvm.Cond.soleField "HomeCompiler" "reader") ∈ lw_all := lw_g (lw_at lw_m3 226 rfl) rfl
theorem q1021 : (Jvm.Cond.laysFinal "HomeCompiler" "HomeCompiler" "checker" "LHomeCompiler$Checker;") ∈ lw_all := lw_g (lw_at lw_m3 227 rfl) rfl
theorem q1022 : (Jvm.Cond.soleField "HomeCompiler" "checker") ∈ lw_all := lw_g (lw_at lw_m3 228 rfl) rfl
theorem q1023 : (Jvm.Cond.laysFinal "HomeCompiler" "HomeCompiler" "emitter" "LHomeCompiler$Emitter;") ∈ lw_all := lw_g (lw_at lw_m3 229 rfl) rfl
theorem q1024 : (Jvm.Cond.soleField "HomeCompiler" "emitter") ∈ lw_all := lw_g (lw_at lw_m3 230 rfl) rfl
theorem q1025 : (Jvm.Cond.laysFinal "HomeCompiler" "HomeCompiler" "generator" "LHomeCompiler$Generator;") ∈ lw_all := lw_g (lw_at lw_m3 231 rfl) rfl
theorem q1026 : (Jvm.Cond.soleField "HomeCompiler" "generator") ∈ lw_all := lw_g (lw_at lw_m3 232 rfl) rfl
theorem q1027 : (Jvm.Cond.laysFinal "HomeCompiler" "HomeCompiler" "host" "LHomeCompiler$Host;") ∈ lw_all := lw_g (lw_at lw_m3 233 rfl) rfl
theorem q1028 : (Jvm.Cond.soleField "HomeCompiler" "host") ∈ lw_all := lw_g (lw_at lw_m3 234 rfl) rfl
theorem q1029 : (Jvm.Cond.laysFinal "HomeCompiler" "HomeCompiler" "tape" "LHomeCompiler$Bytes;") ∈ lw_all := lw_g (lw_at lw_m3 235 rfl) rfl
theorem q1030 : (Jvm.Cond.soleField "HomeCompiler" "tape") ∈ lw_all := lw_g (lw_at lw_m3 236 rfl) rfl
theorem q1031 : (Jvm.Cond.lays "HomeCompiler" "HomeCompiler" "text" "I") ∈ lw_all := lw_g (lw_at lw_m3 237 rfl) rfl
theorem q1032 : (Jvm.Cond.soleField "HomeCompiler" "text") ∈ lw_all := lw_g (lw_at lw_m3 238 rfl) rfl
theorem q1033 : (Jvm.Cond.lays "HomeCompiler" "HomeCompiler" "place" "I") ∈ lw_all := lw_g (lw_at lw_m3 239 rfl) rfl
theorem q1034 : (Jvm.Cond.soleField "HomeCompiler" "place") ∈ lw_all := lw_g (lw_at lw_m4 0 rfl) rfl
theorem q1035 : (Jvm.Cond.lays "HomeCompiler" "HomeCompiler" "start" "I") ∈ lw_all := lw_g (lw_at lw_m4 1 rfl) rfl
theorem q1036 : (Jvm.Cond.soleField "HomeCompiler" "start") ∈ lw_all := lw_g (lw_at lw_m4 2 rfl) rfl
theorem q1037 : (Jvm.Cond.lays "HomeCompiler" "HomeCompiler" "variableWords" "I") ∈ lw_all := lw_g (lw_at lw_m4 3 rfl) rfl
theorem q1038 : (Jvm.Cond.soleField "HomeCompiler" "variableWords") ∈ lw_all := lw_g (lw_at lw_m4 4 rfl) rfl
theorem q1039 : (Jvm.Cond.lays "HomeCompiler" "HomeCompiler" "ran" "Z") ∈ lw_all := lw_g (lw_at lw_m4 5 rfl) rfl
theorem q1040 : (Jvm.Cond.soleField "HomeCompiler" "ran") ∈ lw_all := lw_g (lw_at lw_m4 6 rfl) rfl
theorem q1041 : (Jvm.Cond.lays "HomeCompiler" "HomeCompiler" "last" "I") ∈ lw_all := lw_g (lw_at lw_m4 7 rfl) rfl
theorem q1042 : (Jvm.Cond.soleField "HomeCompiler" "last") ∈ lw_all := lw_g (lw_at lw_m4 8 rfl) rfl
theorem q1043 : (Jvm.Cond.lays "HomeCompiler" "HomeCompiler" "life" "I") ∈ lw_all := lw_g (lw_at lw_m4 9 rfl) rfl
theorem q1044 : (Jvm.Cond.soleField "HomeCompiler" "life") ∈ lw_all := lw_g (lw_at lw_m4 10 rfl) rfl
theorem q1045 : (Jvm.Cond.superclass "HomeCompiler" "java/lang/Object") ∈ lw_all := lw_g (lw_at lw_m4 11 rfl) rfl
theorem q1047 : (Jvm.Cond.instanceMethod ({ cls := "HomeCompiler", name := "load", desc := "()I" } : Jvm.MethodName)) ∈ lw_all := lw_g (lw_at lw_m4 13 rfl) rfl
theorem q1048 : (Jvm.Cond.selects "HomeCompiler" ({ cls := "HomeCompiler", name := "load", desc := "()I" } : Jvm.MethodName) ({ cls := "HomeCompiler", name := "load", desc := "()I" } : Jvm.MethodName)) ∈ lw_all := lw_g (lw_at lw_m4 14 rfl) rfl
theorem q1049 : (Jvm.Cond.code ({ cls := "HomeCompiler", name := "load", desc := "()I" } : Jvm.MethodName) prog_1_method_9_code (4 : Nat) (Option.some Jvm.ClassFile.FieldType.int)) ∈ lw_all := lw_g (lw_at lw_m4 15 rfl) rfl
theorem q1050 : (Jvm.Cond.methodLink "HomeCompiler" (128 : Nat) ({ cls := "HomeCompiler$Bytes", name := "cut", desc := "(I)V" } : Jvm.MethodName)) ∈ lw_all := lw_g (lw_at lw_m4 16 rfl) rfl
theorem q1051 : (Jvm.Cond.methodLink "HomeCompiler" (134 : Nat) ({ cls := "HomeCompiler$Nodes", name := "clear", desc := "()V" } : Jvm.MethodName)) ∈ lw_all := lw_g (lw_at lw_m4 17 rfl) rfl
theorem q1055 : (Jvm.Cond.methodLink "HomeCompiler" (135 : Nat) ({ cls := "HomeCompiler$Checker", name := "clear", desc := "()V" } : Jvm.MethodName)) ∈ lw_all := lw_g (lw_at lw_m4 21 rfl) rfl
theorem q1067 : (Jvm.Cond.methodLink "HomeCompiler" (114 : Nat) ({ cls := "HomeCompiler$Bytes", name := "size", desc := "()I" } : Jvm.MethodName)) ∈ lw_all := lw_g (lw_at lw_m4 33 rfl) rfl
theorem q1071 : (Jvm.Cond.methodLink "HomeCompiler" (152 : Nat) ({ cls := "HomeCompiler$Scanner", name := "begin", desc := "(LHomeCompiler$Bytes;)V" } : Jvm.MethodName)) ∈ lw_all := lw_g (lw_at lw_m4 37 rfl) rfl
theorem q1221 : (Jvm.Cond.methodLink "HomeCompiler" (156 : Nat) ({ cls := "HomeCompiler", name := "read", desc := "()I" } : Jvm.MethodName)) ∈ lw_all := lw_g (lw_at lw_m4 187 rfl) rfl
theorem q1222 : (Jvm.Cond.privateMethod ({ cls := "HomeCompiler", name := "read", desc := "()I" } : Jvm.MethodName)) ∈ lw_tbl := lw_at lw_m4 188 rfl
theorem q1223 : (Jvm.Cond.instanceMethod ({ cls := "HomeCompiler", name := "read", desc := "()I" } : Jvm.MethodName)) ∈ lw_all := lw_g (lw_at lw_m4 189 rfl) rfl
theorem q1224 : (Jvm.Cond.codeWith ({ cls := "HomeCompiler", name := "read", desc := "()I" } : Jvm.MethodName) prog_1_method_8_code (3 : Nat) (Option.some Jvm.ClassFile.FieldType.int) [((2 : Nat), (10 : Nat), (13 : Nat), (108 : Nat))]) ∈ lw_all := lw_g (lw_at lw_m4 190 rfl) rfl
theorem q1225 : (Jvm.Cond.classLink "HomeCompiler" (108 : Nat) "java/lang/IllegalArgumentException") ∈ lw_all := lw_g (lw_at lw_m4 191 rfl) rfl
theorem q1226 : (Jvm.Cond.methodLink "HomeCompiler" (131 : Nat) ({ cls := "HomeCompiler$Reader", name := "read", desc := "()I" } : Jvm.MethodName)) ∈ lw_all := lw_g (lw_at lw_m4 192 rfl) rfl
theorem q1539 : (Jvm.Cond.methodLink "HomeCompiler" (157 : Nat) ({ cls := "HomeCompiler$Scanner", name := "start", desc := "()I" } : Jvm.MethodName)) ∈ lw_all := lw_g (lw_at lw_m6 25 rfl) rfl
theorem q1540 : (Jvm.Cond.methodLink "HomeCompiler" (163 : Nat) ({ cls := "HomeCompiler$Checker", name := "check", desc := "(IZI)V" } : Jvm.MethodName)) ∈ lw_all := lw_g (lw_at lw_m6 26 rfl) rfl
theorem q1844 : (Jvm.Cond.methodLink "HomeCompiler" (167 : Nat) ({ cls := "HomeCompiler$Checker", name := "wrong", desc := "()LHomeCompiler$Wrong;" } : Jvm.MethodName)) ∈ lw_all := lw_g (lw_at lw_m7 90 rfl) rfl
theorem q1848 : (Jvm.Cond.methodLink "HomeCompiler" (171 : Nat) ({ cls := "HomeCompiler$Wrong", name := "number", desc := "()I" } : Jvm.MethodName)) ∈ lw_all := lw_g (lw_at lw_m7 94 rfl) rfl
theorem q1849 : (Jvm.Cond.methodLink "HomeCompiler" (176 : Nat) ({ cls := "HomeCompiler$Wrong", name := "place", desc := "()I" } : Jvm.MethodName)) ∈ lw_all := lw_g (lw_at lw_m7 95 rfl) rfl
theorem q1853 : (Jvm.Cond.methodLink "HomeCompiler" (178 : Nat) ({ cls := "HomeCompiler", name := "compile", desc := "()V" } : Jvm.MethodName)) ∈ lw_all := lw_g (lw_at lw_m7 99 rfl) rfl
theorem q1854 : (Jvm.Cond.privateMethod ({ cls := "HomeCompiler", name := "compile", desc := "()V" } : Jvm.MethodName)) ∈ lw_tbl := lw_at lw_m7 100 rfl
theorem q1855 : (Jvm.Cond.instanceMethod ({ cls := "HomeCompiler", name := "compile", desc := "()V" } : Jvm.MethodName)) ∈ lw_all := lw_g (lw_at lw_m7 101 rfl) rfl
theorem q1856 : (Jvm.Cond.code ({ cls := "HomeCompiler", name := "compile", desc := "()V" } : Jvm.MethodName) prog_1_method_10_code (2 : Nat) (Option.none : Option Jvm.ClassFile.FieldType)) ∈ lw_all := lw_g (lw_at lw_m7 102 rfl) rfl
theorem q1857 : (Jvm.Cond.methodLink "HomeCompiler" (181 : Nat) ({ cls := "HomeCompiler$Checker", name := "variables", desc := "()LHomeCompiler$Variables;" } : Jvm.MethodName)) ∈ lw_all := lw_g (lw_at lw_m7 103 rfl) rfl
theorem q1858 : (Jvm.Cond.methodLink "HomeCompiler" (185 : Nat) ({ cls := "HomeCompiler$Variables", name := "wordsOf", desc := "(I)I" } : Jvm.MethodName)) ∈ lw_all := lw_g (lw_at lw_m7 104 rfl) rfl
theorem q1859 : (Jvm.Cond.methodLink "HomeCompiler" (191 : Nat) ({ cls := "HomeCompiler$Generator", name := "placeAll", desc := "(I)I" } : Jvm.MethodName)) ∈ lw_all := lw_g (lw_at lw_m7 105 rfl) rfl
theorem q1872 : (Jvm.Cond.methodLink "HomeCompiler" (196 : Nat) ({ cls := "HomeCompiler$Emitter", name := "clear", desc := "()V" } : Jvm.MethodName)) ∈ lw_all := lw_g (lw_at lw_m7 118 rfl) rfl
theorem q1876 : (Jvm.Cond.methodLink "HomeCompiler" (197 : Nat) ({ cls := "HomeCompiler$Checker", name := "main", desc := "()I" } : Jvm.MethodName)) ∈ lw_all := lw_g (lw_at lw_m7 122 rfl) rfl
theorem q1880 : (Jvm.Cond.methodLink "HomeCompiler" (200 : Nat) ({ cls := "HomeCompiler$Generator", name := "compile", desc := "(I)V" } : Jvm.MethodName)) ∈ lw_all := lw_g (lw_at lw_m7 126 rfl) rfl
theorem q2330 : (Jvm.Cond.methodLink "HomeCompiler" (202 : Nat) ({ cls := "HomeCompiler$Emitter", name := "finish", desc := "()V" } : Jvm.MethodName)) ∈ lw_all := lw_g (lw_at lw_m9 96 rfl) rfl
theorem q2334 : (Jvm.Cond.methodLink "HomeCompiler" (205 : Nat) ({ cls := "HomeCompiler$Emitter", name := "count", desc := "()I" } : Jvm.MethodName)) ∈ lw_all := lw_g (lw_at lw_m9 100 rfl) rfl
theorem q2338 : (Jvm.Cond.methodLink "HomeCompiler" (212 : Nat) ({ cls := "HomeCompiler$Emitter", name := "word", desc := "(I)I" } : Jvm.MethodName)) ∈ lw_all := lw_g (lw_at lw_m9 104 rfl) rfl
theorem q2342 : (Jvm.Cond.methodLink "HomeCompiler" (215 : Nat) ({ cls := "HomeCompiler$Ram", name := "write", desc := "(II)V" } : Jvm.MethodName)) ∈ lw_all := lw_g (lw_at lw_m9 108 rfl) rfl
theorem q2347 : (Jvm.Cond.instanceMethod ({ cls := "HomeCompiler", name := "place", desc := "()I" } : Jvm.MethodName)) ∈ lw_all := lw_g (lw_at lw_m9 113 rfl) rfl
theorem q2348 : (Jvm.Cond.selects "HomeCompiler" ({ cls := "HomeCompiler", name := "place", desc := "()I" } : Jvm.MethodName) ({ cls := "HomeCompiler", name := "place", desc := "()I" } : Jvm.MethodName)) ∈ lw_all := lw_g (lw_at lw_m9 114 rfl) rfl
theorem q2349 : (Jvm.Cond.code ({ cls := "HomeCompiler", name := "place", desc := "()I" } : Jvm.MethodName) prog_1_method_11_code (1 : Nat) (Option.some Jvm.ClassFile.FieldType.int)) ∈ lw_all := lw_g (lw_at lw_m9 115 rfl) rfl
theorem q2351 : (Jvm.Cond.instanceMethod ({ cls := "HomeCompiler", name := "value", desc := "()I" } : Jvm.MethodName)) ∈ lw_all := lw_g (lw_at lw_m9 117 rfl) rfl
theorem q2352 : (Jvm.Cond.selects "HomeCompiler" ({ cls := "HomeCompiler", name := "value", desc := "()I" } : Jvm.MethodName) ({ cls := "HomeCompiler", name := "value", desc := "()I" } : Jvm.MethodName)) ∈ lw_all := lw_g (lw_at lw_m9 118 rfl) rfl
theorem q2353 : (Jvm.Cond.code ({ cls := "HomeCompiler", name := "value", desc := "()I" } : Jvm.MethodName) prog_1_method_16_code (1 : Nat) (Option.some Jvm.ClassFile.FieldType.int)) ∈ lw_all := lw_g (lw_at lw_m9 119 rfl) rfl
theorem q2355 : (Jvm.Cond.instanceMethod ({ cls := "HomeCompiler", name := "left", desc := "()I" } : Jvm.MethodName)) ∈ lw_all := lw_g (lw_at lw_m9 121 rfl) rfl
theorem q2356 : (Jvm.Cond.selects "HomeCompiler" ({ cls := "HomeCompiler", name := "left", desc := "()I" } : Jvm.MethodName) ({ cls := "HomeCompiler", name := "left", desc := "()I" } : Jvm.MethodName)) ∈ lw_all := lw_g (lw_at lw_m9 122 rfl) rfl
theorem q2357 : (Jvm.Cond.code ({ cls := "HomeCompiler", name := "left", desc := "()I" } : Jvm.MethodName) prog_1_method_17_code (1 : Nat) (Option.some Jvm.ClassFile.FieldType.int)) ∈ lw_all := lw_g (lw_at lw_m9 123 rfl) rfl
theorem q2359 : (Jvm.Cond.instanceMethod ({ cls := "HomeCompiler", name := "paper", desc := "()I" } : Jvm.MethodName)) ∈ lw_all := lw_g (lw_at lw_m9 125 rfl) rfl
theorem q2360 : (Jvm.Cond.selects "HomeCompiler" ({ cls := "HomeCompiler", name := "paper", desc := "()I" } : Jvm.MethodName) ({ cls := "HomeCompiler", name := "paper", desc := "()I" } : Jvm.MethodName)) ∈ lw_all := lw_g (lw_at lw_m9 126 rfl) rfl
theorem q2361 : (Jvm.Cond.code ({ cls := "HomeCompiler", name := "paper", desc := "()I" } : Jvm.MethodName) prog_1_method_18_code (1 : Nat) (Option.some Jvm.ClassFile.FieldType.int)) ∈ lw_all := lw_g (lw_at lw_m9 127 rfl) rfl
theorem q2363 : (Jvm.Cond.instanceMethod ({ cls := "HomeCompiler", name := "inputs", desc := "()I" } : Jvm.MethodName)) ∈ lw_all := lw_g (lw_at lw_m9 129 rfl) rfl
theorem q2364 : (Jvm.Cond.selects "HomeCompiler" ({ cls := "HomeCompiler", name := "inputs", desc := "()I" } : Jvm.MethodName) ({ cls := "HomeCompiler", name := "inputs", desc := "()I" } : Jvm.MethodName)) ∈ lw_all := lw_g (lw_at lw_m9 130 rfl) rfl
theorem q2365 : (Jvm.Cond.code ({ cls := "HomeCompiler", name := "inputs", desc := "()I" } : Jvm.MethodName) prog_1_method_20_code (1 : Nat) (Option.some Jvm.ClassFile.FieldType.int)) ∈ lw_all := lw_g (lw_at lw_m9 131 rfl) rfl
theorem q2367 : (Jvm.Cond.instanceMethod ({ cls := "HomeCompiler", name := "life", desc := "()I" } : Jvm.MethodName)) ∈ lw_all := lw_g (lw_at lw_m9 133 rfl) rfl
theorem q2368 : (Jvm.Cond.selects "HomeCompiler" ({ cls := "HomeCompiler", name := "life", desc := "()I" } : Jvm.MethodName) ({ cls := "HomeCompiler", name := "life", desc := "()I" } : Jvm.MethodName)) ∈ lw_all := lw_g (lw_at lw_m9 134 rfl) rfl
theorem q2369 : (Jvm.Cond.code ({ cls := "HomeCompiler", name := "life", desc := "()I" } : Jvm.MethodName) prog_1_method_24_code (1 : Nat) (Option.some Jvm.ClassFile.FieldType.int)) ∈ lw_all := lw_g (lw_at lw_m9 135 rfl) rfl
theorem q2375 : (Jvm.Cond.instanceMethod ({ cls := "HomeCompiler", name := "feed", desc := "(IIIII)V" } : Jvm.MethodName)) ∈ lw_all := lw_g (lw_at lw_m9 141 rfl) rfl
theorem q2376 : (Jvm.Cond.selects "HomeCompiler" ({ cls := "HomeCompiler", name := "feed", desc := "(IIIII)V" } : Jvm.MethodName) ({ cls := "HomeCompiler", name := "feed", desc := "(IIIII)V" } : Jvm.MethodName)) ∈ lw_all := lw_g (lw_at lw_m9 142 rfl) rfl
theorem q2377 : (Jvm.Cond.code ({ cls := "HomeCompiler", name := "feed", desc := "(IIIII)V" } : Jvm.MethodName) prog_1_method_6_code (6 : Nat) (Option.none : Option Jvm.ClassFile.FieldType)) ∈ lw_all := lw_g (lw_at lw_m9 143 rfl) rfl
theorem q2378 : (Jvm.Cond.methodLink "HomeCompiler" (118 : Nat) ({ cls := "HomeCompiler", name := "ready", desc := "(Z)V" } : Jvm.MethodName)) ∈ lw_all := lw_g (lw_at lw_m9 144 rfl) rfl
theorem q2379 : (Jvm.Cond.static ({ cls := "HomeCompiler", name := "ready", desc := "(Z)V" } : Jvm.MethodName)) ∈ lw_all := lw_g (lw_at lw_m9 145 rfl) rfl
theorem q2380 : (Jvm.Cond.code ({ cls := "HomeCompiler", name := "ready", desc := "(Z)V" } : Jvm.MethodName) prog_1_method_3_code (1 : Nat) (Option.none : Option Jvm.ClassFile.FieldType)) ∈ lw_all := lw_g (lw_at lw_m9 146 rfl) rfl
theorem q2381 : (Jvm.Cond.classLink "HomeCompiler" (105 : Nat) "java/lang/IllegalStateException") ∈ lw_all := lw_g (lw_at lw_m9 147 rfl) rfl
theorem q2390 : (Jvm.Cond.methodLink "HomeCompiler" (107 : Nat) ({ cls := "java/lang/IllegalStateException", name := "<init>", desc := "()V" } : Jvm.MethodName)) ∈ lw_all := lw_g (lw_at lw_m9 156 rfl) rfl
theorem q2396 : (Jvm.Cond.methodLink "HomeCompiler" (122 : Nat) ({ cls := "HomeCompiler", name := "feedInt", desc := "(I)V" } : Jvm.MethodName)) ∈ lw_all := lw_g (lw_at lw_m9 162 rfl) rfl
theorem q2397 : (Jvm.Cond.privateMethod ({ cls := "HomeCompiler", name := "feedInt", desc := "(I)V" } : Jvm.MethodName)) ∈ lw_tbl := lw_at lw_m9 163 rfl
theorem q2398 : (Jvm.Cond.instanceMethod ({ cls := "HomeCompiler", name := "feedInt", desc := "(I)V" } : Jvm.MethodName)) ∈ lw_all := lw_g (lw_at lw_m9 164 rfl) rfl
theorem q2399 : (Jvm.Cond.code ({ cls := "HomeCompiler", name := "feedInt", desc := "(I)V" } : Jvm.MethodName) prog_1_method_2_code (3 : Nat) (Option.none : Option Jvm.ClassFile.FieldType)) ∈ lw_all := lw_g (lw_at lw_m9 165 rfl) rfl
theorem q2400 : (Jvm.Cond.methodLink "HomeCompiler" (101 : Nat) ({ cls := "HomeCompiler$Bytes", name := "add", desc := "(I)V" } : Jvm.MethodName)) ∈ lw_all := lw_g (lw_at lw_m9 166 rfl) rfl
theorem q2406 : (Jvm.Cond.instanceMethod ({ cls := "HomeCompiler", name := "end", desc := "(I)V" } : Jvm.MethodName)) ∈ lw_all := lw_g (lw_at lw_m9 172 rfl) rfl
theorem q2407 : (Jvm.Cond.selects "HomeCompiler" ({ cls := "HomeCompiler", name := "end", desc := "(I)V" } : Jvm.MethodName) ({ cls := "HomeCompiler", name := "end", desc := "(I)V" } : Jvm.MethodName)) ∈ lw_all := lw_g (lw_at lw_m9 173 rfl) rfl
theorem q2408 : (Jvm.Cond.code ({ cls := "HomeCompiler", name := "end", desc := "(I)V" } : Jvm.MethodName) prog_1_method_7_code (2 : Nat) (Option.none : Option Jvm.ClassFile.FieldType)) ∈ lw_all := lw_g (lw_at lw_m9 174 rfl) rfl
theorem q2409 : (Jvm.Cond.methodLink "HomeCompiler" (125 : Nat) ({ cls := "HomeCompiler", name := "need", desc := "(Z)V" } : Jvm.MethodName)) ∈ lw_all := lw_g (lw_at lw_m9 175 rfl) rfl
theorem q2410 : (Jvm.Cond.static ({ cls := "HomeCompiler", name := "need", desc := "(Z)V" } : Jvm.MethodName)) ∈ lw_all := lw_g (lw_at lw_m9 176 rfl) rfl
theorem q2411 : (Jvm.Cond.code ({ cls := "HomeCompiler", name := "need", desc := "(Z)V" } : Jvm.MethodName) prog_1_method_4_code (1 : Nat) (Option.none : Option Jvm.ClassFile.FieldType)) ∈ lw_all := lw_g (lw_at lw_m9 177 rfl) rfl
theorem q2412 : (Jvm.Cond.methodLink "HomeCompiler" (110 : Nat) ({ cls := "java/lang/IllegalArgumentException", name := "<init>", desc := "()V" } : Jvm.MethodName)) ∈ lw_all := lw_g (lw_at lw_m9 178 rfl) rfl
theorem q2417 : (Jvm.Cond.instanceMethod ({ cls := "HomeCompiler", name := "input", desc := "(I)V" } : Jvm.MethodName)) ∈ lw_all := lw_g (lw_at lw_m9 183 rfl) rfl
theorem q2418 : (Jvm.Cond.selects "HomeCompiler" ({ cls := "HomeCompiler", name := "input", desc := "(I)V" } : Jvm.MethodName) ({ cls := "HomeCompiler", name := "input", desc := "(I)V" } : Jvm.MethodName)) ∈ lw_all := lw_g (lw_at lw_m9 184 rfl) rfl
theorem q2419 : (Jvm.Cond.code ({ cls := "HomeCompiler", name := "input", desc := "(I)V" } : Jvm.MethodName) prog_1_method_12_code (2 : Nat) (Option.none : Option Jvm.ClassFile.FieldType)) ∈ lw_all := lw_g (lw_at lw_m9 185 rfl) rfl
theorem q2451 : (Jvm.Cond.instanceMethod ({ cls := "HomeCompiler", name := "run", desc := "(III)I" } : Jvm.MethodName)) ∈ lw_all := lw_g (lw_at lw_m9 217 rfl) rfl
theorem q2452 : (Jvm.Cond.selects "HomeCompiler" ({ cls := "HomeCompiler", name := "run", desc := "(III)I" } : Jvm.MethodName) ({ cls := "HomeCompiler", name := "run", desc := "(III)I" } : Jvm.MethodName)) ∈ lw_all := lw_g (lw_at lw_m9 218 rfl) rfl
theorem q2453 : (Jvm.Cond.code ({ cls := "HomeCompiler", name := "run", desc := "(III)I" } : Jvm.MethodName) prog_1_method_15_code (5 : Nat) (Option.some Jvm.ClassFile.FieldType.int)) ∈ lw_all := lw_g (lw_at lw_m9 219 rfl) rfl
theorem q2454 : (Jvm.Cond.classLink "HomeCompiler" (260 : Nat) "java/lang/ArithmeticException") ∈ lw_all := lw_g (lw_at lw_m9 220 rfl) rfl
theorem q2455 : (Jvm.Cond.methodLink "HomeCompiler" (262 : Nat) ({ cls := "java/lang/ArithmeticException", name := "<init>", desc := "()V" } : Jvm.MethodName)) ∈ lw_all := lw_g (lw_at lw_m9 221 rfl) rfl
theorem q2459 : (Jvm.Cond.methodLink "HomeCompiler" (263 : Nat) ({ cls := "HomeCompiler", name := "begin", desc := "()V" } : Jvm.MethodName)) ∈ lw_all := lw_g (lw_at lw_m9 225 rfl) rfl
theorem q2460 : (Jvm.Cond.privateMethod ({ cls := "HomeCompiler", name := "begin", desc := "()V" } : Jvm.MethodName)) ∈ lw_tbl := lw_at lw_m9 226 rfl
theorem q2461 : (Jvm.Cond.instanceMethod ({ cls := "HomeCompiler", name := "begin", desc := "()V" } : Jvm.MethodName)) ∈ lw_all := lw_g (lw_at lw_m9 227 rfl) rfl
theorem q2462 : (Jvm.Cond.code ({ cls := "HomeCompiler", name := "begin", desc := "()V" } : Jvm.MethodName) prog_1_method_13_code (3 : Nat) (Option.none : Option Jvm.ClassFile.FieldType)) ∈ lw_all := lw_g (lw_at lw_m9 228 rfl) rfl
theorem q2463 : (Jvm.Cond.methodLink "HomeCompiler" (228 : Nat) ({ cls := "HomeCompiler$Nodes", name := "first", desc := "(I)I" } : Jvm.MethodName)) ∈ lw_all := lw_g (lw_at lw_m9 229 rfl) rfl
theorem q2464 : (Jvm.Cond.methodLink "HomeCompiler" (231 : Nat) ({ cls := "HomeCompiler$Nodes", name := "kind", desc := "(I)I" } : Jvm.MethodName)) ∈ lw_all := lw_g (lw_at lw_m9 230 rfl) rfl
theorem q2465 : (Jvm.Cond.methodLink "HomeCompiler" (234 : Nat) ({ cls := "HomeCompiler$Nodes", name := "op", desc := "(I)I" } : Jvm.MethodName)) ∈ lw_all := lw_g (lw_at lw_m9 231 rfl) rfl
theorem q2466 : (Jvm.Cond.methodLink "HomeCompiler" (237 : Nat) ({ cls := "HomeCompiler", name := "variable", desc := "(IZ)V" } : Jvm.MethodName)) ∈ lw_all := lw_g (lw_at lw_m9 232 rfl) rfl
theorem q2467 : (Jvm.Cond.privateMethod ({ cls := "HomeCompiler", name := "variable", desc := "(IZ)V" } : Jvm.MethodName)) ∈ lw_tbl := lw_at lw_m9 233 rfl
theorem q2468 : (Jvm.Cond.instanceMethod ({ cls := "HomeCompiler", name := "variable", desc := "(IZ)V" } : Jvm.MethodName)) ∈ lw_all := lw_g (lw_at lw_m9 234 rfl) rfl
theorem q2469 : (Jvm.Cond.code ({ cls := "HomeCompiler", name := "variable", desc := "(IZ)V" } : Jvm.MethodName) prog_1_method_14_code (8 : Nat) (Option.none : Option Jvm.ClassFile.FieldType)) ∈ lw_all := lw_g (lw_at lw_m9 235 rfl) rfl
theorem q2470 : (Jvm.Cond.methodLink "HomeCompiler" (244 : Nat) ({ cls := "HomeCompiler$Nodes", name := "extra", desc := "(I)I" } : Jvm.MethodName)) ∈ lw_all := lw_g (lw_at lw_m9 236 rfl) rfl
theorem q2471 : (Jvm.Cond.methodLink "HomeCompiler" (247 : Nat) ({ cls := "HomeCompiler$Generator", name := "address", desc := "(I)I" } : Jvm.MethodName)) ∈ lw_all := lw_g (lw_at lw_m9 237 rfl) rfl
theorem q2475 : (Jvm.Cond.methodLink "HomeCompiler" (241 : Nat) ({ cls := "HomeCompiler$Nodes", name := "next", desc := "(I)I" } : Jvm.MethodName)) ∈ lw_all := lw_g (lw_at lw_m10 1 rfl) rfl
theorem q2476 : (Jvm.Cond.methodLink "HomeCompiler" (250 : Nat) ({ cls := "HomeCompiler$Generator", name := "given", desc := "(IZ)I" } : Jvm.MethodName)) ∈ lw_all := lw_g (lw_at lw_m10 2 rfl) rfl
theorem q2477 : (Jvm.Cond.methodLink "HomeCompiler" (254 : Nat) ({ cls := "HomeCompiler$Generator", name := "begins", desc := "(IZI)I" } : Jvm.MethodName)) ∈ lw_all := lw_g (lw_at lw_m10 3 rfl) rfl
theorem q2478 : (Jvm.Cond.methodLink "HomeCompiler" (258 : Nat) ({ cls := "HomeCompiler$Nodes", name := "value", desc := "(I)I" } : Jvm.MethodName)) ∈ lw_all := lw_g (lw_at lw_m10 4 rfl) rfl
theorem q2479 : (Jvm.Cond.methodLink "HomeCompiler" (265 : Nat) ({ cls := "HomeCompiler$Host", name := "run", desc := "(IIII)I" } : Jvm.MethodName)) ∈ lw_all := lw_g (lw_at lw_m10 5 rfl) rfl
theorem q2706 : (Jvm.Cond.instanceMethod ({ cls := "HomeCompiler", name := "paperAt", desc := "(I)I" } : Jvm.MethodName)) ∈ lw_all := lw_g (lw_at lw_m10 232 rfl) rfl
theorem q2707 : (Jvm.Cond.selects "HomeCompiler" ({ cls := "HomeCompiler", name := "paperAt", desc := "(I)I" } : Jvm.MethodName) ({ cls := "HomeCompiler", name := "paperAt", desc := "(I)I" } : Jvm.MethodName)) ∈ lw_all := lw_g (lw_at lw_m10 233 rfl) rfl
theorem q2708 : (Jvm.Cond.code ({ cls := "HomeCompiler", name := "paperAt", desc := "(I)I" } : Jvm.MethodName) prog_1_method_19_code (2 : Nat) (Option.some Jvm.ClassFile.FieldType.int)) ∈ lw_all := lw_g (lw_at lw_m10 234 rfl) rfl
theorem q2709 : (Jvm.Cond.methodLink "HomeCompiler" (278 : Nat) ({ cls := "java/lang/Math", name := "min", desc := "(II)I" } : Jvm.MethodName)) ∈ lw_all := lw_g (lw_at lw_m10 235 rfl) rfl
theorem q2710 : (Jvm.Cond.methodLink "HomeCompiler" (284 : Nat) ({ cls := "HomeCompiler", name := "within", desc := "(Z)V" } : Jvm.MethodName)) ∈ lw_all := lw_g (lw_at lw_m10 236 rfl) rfl
theorem q2711 : (Jvm.Cond.static ({ cls := "HomeCompiler", name := "within", desc := "(Z)V" } : Jvm.MethodName)) ∈ lw_all := lw_g (lw_at lw_m10 237 rfl) rfl
theorem q2712 : (Jvm.Cond.code ({ cls := "HomeCompiler", name := "within", desc := "(Z)V" } : Jvm.MethodName) prog_1_method_5_code (1 : Nat) (Option.none : Option Jvm.ClassFile.FieldType)) ∈ lw_all := lw_g (lw_at lw_m10 238 rfl) rfl
theorem q2713 : (Jvm.Cond.classLink "HomeCompiler" (111 : Nat) "java/lang/IndexOutOfBoundsException") ∈ lw_all := lw_g (lw_at lw_m10 239 rfl) rfl
theorem q2722 : (Jvm.Cond.methodLink "HomeCompiler" (113 : Nat) ({ cls := "java/lang/IndexOutOfBoundsException", name := "<init>", desc := "()V" } : Jvm.MethodName)) ∈ lw_all := lw_g (lw_at lw_m11 8 rfl) rfl
theorem q2732 : (Jvm.Cond.instanceMethod ({ cls := "HomeCompiler", name := "disk", desc := "(I)I" } : Jvm.MethodName)) ∈ lw_all := lw_g (lw_at lw_m11 18 rfl) rfl
theorem q2733 : (Jvm.Cond.selects "HomeCompiler" ({ cls := "HomeCompiler", name := "disk", desc := "(I)I" } : Jvm.MethodName) ({ cls := "HomeCompiler", name := "disk", desc := "(I)I" } : Jvm.MethodName)) ∈ lw_all := lw_g (lw_at lw_m11 19 rfl) rfl
theorem q2734 : (Jvm.Cond.code ({ cls := "HomeCompiler", name := "disk", desc := "(I)I" } : Jvm.MethodName) prog_1_method_21_code (2 : Nat) (Option.some Jvm.ClassFile.FieldType.int)) ∈ lw_all := lw_g (lw_at lw_m11 20 rfl) rfl
theorem q2739 : (Jvm.Cond.instanceMethod ({ cls := "HomeCompiler", name := "setDisk", desc := "(II)V" } : Jvm.MethodName)) ∈ lw_all := lw_g (lw_at lw_m11 25 rfl) rfl
theorem q2740 : (Jvm.Cond.selects "HomeCompiler" ({ cls := "HomeCompiler", name := "setDisk", desc := "(II)V" } : Jvm.MethodName) ({ cls := "HomeCompiler", name := "setDisk", desc := "(II)V" } : Jvm.MethodName)) ∈ lw_all := lw_g (lw_at lw_m11 26 rfl) rfl
theorem q2741 : (Jvm.Cond.code ({ cls := "HomeCompiler", name := "setDisk", desc := "(II)V" } : Jvm.MethodName) prog_1_method_22_code (3 : Nat) (Option.none : Option Jvm.ClassFile.FieldType)) ∈ lw_all := lw_g (lw_at lw_m11 27 rfl) rfl
theorem q2746 : (Jvm.Cond.instanceMethod ({ cls := "HomeCompiler", name := "variable", desc := "(I)I" } : Jvm.MethodName)) ∈ lw_all := lw_g (lw_at lw_m11 32 rfl) rfl
theorem q2747 : (Jvm.Cond.selects "HomeCompiler" ({ cls := "HomeCompiler", name := "variable", desc := "(I)I" } : Jvm.MethodName) ({ cls := "HomeCompiler", name := "variable", desc := "(I)I" } : Jvm.MethodName)) ∈ lw_all := lw_g (lw_at lw_m11 33 rfl) rfl
theorem q2748 : (Jvm.Cond.code ({ cls := "HomeCompiler", name := "variable", desc := "(I)I" } : Jvm.MethodName) prog_1_method_23_code (2 : Nat) (Option.some Jvm.ClassFile.FieldType.int)) ∈ lw_all := lw_g (lw_at lw_m11 34 rfl) rfl
theorem q2749 : (Jvm.Cond.methodLink "HomeCompiler" (293 : Nat) ({ cls := "HomeCompiler$Ram", name := "word", desc := "(I)I" } : Jvm.MethodName)) ∈ lw_all := lw_g (lw_at lw_m11 35 rfl) rfl
theorem in_X1 : ∀ w ∈ wsX10, w ∈ lw_all := lw_in wsX10 [1009, 1011, 1013, 1015, 1017, 1019, 1021, 1023, 1025, 1027, 1029, 1031, 1033, 1035, 1037, 1039, 1041, 1043] (by decide +kernel) (by decide +kernel)
/-! X10.HomeCompiler_Symbols.lean.txt -/
def RX10 : String := "HomeCompiler$Symbols"
def TX10 : u_T := fun k => match k with
  | 0 => ("HomeCompiler$Symbols", "names", "[I", false)
  | 1 => ("HomeCompiler$Symbols", "sorts", "[I", false)
  | 2 => ("HomeCompiler$Symbols", "values", "[I", false)
  | 3 => ("HomeCompiler$Symbols", "before", "[I", false)
  | 4 => ("HomeCompiler$Symbols", "count", "I", false)
  | 5 => ("HomeCompiler$Symbols", "lasts", "[I", false)
  | 6 => ("HomeCompiler$Symbols", "begins", "[I", true)
  | _ => ("HomeCompiler$Symbols", "deep", "I", false)
def tyX10 : Nat → FieldType := fun k => match k with
  | 0 => .array .int
  | 1 => .array .int
  | 2 => .array .int
  | 3 => .array .int
  | 4 => .int
  | 5 => .array .int
  | 6 => .array .int
  | _ => .int
abbrev wsX100 : List Cond := u_ws RX10 TX10 8
theorem nmX10 : ∀ a, a < 8 → ∀ b, b < 8 → a ≠ b → (TX10 a).2.1 ≠ (TX10 b).2.1 := by decide +kernel
theorem tyX10_ok : ∀ k, k < 8 → parseFieldDescriptor (TX10 k).2.2.1 = some (tyX10 k) := by decide +kernel
abbrev cX10_init : ByteArray := prog_17_method_1_code
def yX10_init : MethodName := ⟨RX10, "<init>", "()V"⟩
abbrev cX10_clear : ByteArray := prog_17_method_2_code
def yX10_clear : MethodName := ⟨RX10, "clear", "(I)V"⟩
abbrev cX10_add : ByteArray := prog_17_method_6_code
def yX10_add : MethodName := ⟨RX10, "add", "(III)V"⟩
abbrev cX10_longer : ByteArray := prog_17_method_5_code
def yX10_longer : MethodName := ⟨RX10, "longer", "([I)[I"⟩
abbrev cX10_isHere : ByteArray := prog_17_method_8_code
def yX10_isHere : MethodName := ⟨RX10, "isHere", "(I)Z"⟩
abbrev cX10_find : ByteArray := prog_17_method_7_code
def yX10_find : MethodName := ⟨RX10, "find", "(I)I"⟩
abbrev cX10_sort : ByteArray := prog_17_method_9_code
def yX10_sort : MethodName := ⟨RX10, "sort", "(I)I"⟩
abbrev cX10_value : ByteArray := prog_17_method_10_code
def yX10_value : MethodName := ⟨RX10, "value", "(I)I"⟩
abbrev cX10_open : ByteArray := prog_17_method_3_code
def yX10_open : MethodName := ⟨RX10, "open", "()V"⟩
abbrev cX10_close : ByteArray := prog_17_method_4_code
def yX10_close : MethodName := ⟨RX10, "close", "()V"⟩
theorem q324 : (Jvm.Cond.initialized "HomeCompiler$Symbols") ∈ lw_all := lw_g (lw_at lw_m1 10 rfl) rfl
theorem q604 : (Jvm.Cond.instantiable "HomeCompiler$Symbols" (8 : Nat)) ∈ lw_all := lw_g (lw_at lw_m2 50 rfl) rfl
theorem q606 : (Jvm.Cond.instanceMethod ({ cls := "HomeCompiler$Symbols", name := "<init>", desc := "()V" } : Jvm.MethodName)) ∈ lw_all := lw_g (lw_at lw_m2 52 rfl) rfl
theorem q607 : (Jvm.Cond.code ({ cls := "HomeCompiler$Symbols", name := "<init>", desc := "()V" } : Jvm.MethodName) prog_17_method_1_code (1 : Nat) (Option.none : Option Jvm.ClassFile.FieldType)) ∈ lw_all := lw_g (lw_at lw_m2 53 rfl) rfl
theorem q608 : (Jvm.Cond.methodLink "HomeCompiler$Symbols" (3 : Nat) ({ cls := "java/lang/Object", name := "<init>", desc := "()V" } : Jvm.MethodName)) ∈ lw_all := lw_g (lw_at lw_m2 54 rfl) rfl
theorem q609 : (Jvm.Cond.fieldLink "HomeCompiler$Symbols" (9 : Nat) "HomeCompiler$Symbols" "names" "[I") ∈ lw_all := lw_g (lw_at lw_m2 55 rfl) rfl
theorem q610 : (Jvm.Cond.fieldLink "HomeCompiler$Symbols" (15 : Nat) "HomeCompiler$Symbols" "sorts" "[I") ∈ lw_all := lw_g (lw_at lw_m2 56 rfl) rfl
theorem q611 : (Jvm.Cond.fieldLink "HomeCompiler$Symbols" (18 : Nat) "HomeCompiler$Symbols" "values" "[I") ∈ lw_all := lw_g (lw_at lw_m2 57 rfl) rfl
theorem q612 : (Jvm.Cond.fieldLink "HomeCompiler$Symbols" (21 : Nat) "HomeCompiler$Symbols" "before" "[I") ∈ lw_all := lw_g (lw_at lw_m2 58 rfl) rfl
theorem q613 : (Jvm.Cond.fieldLink "HomeCompiler$Symbols" (30 : Nat) "HomeCompiler$Symbols" "count" "I") ∈ lw_all := lw_g (lw_at lw_m2 59 rfl) rfl
theorem q614 : (Jvm.Cond.fieldLink "HomeCompiler$Symbols" (24 : Nat) "HomeCompiler$Symbols" "lasts" "[I") ∈ lw_all := lw_g (lw_at lw_m2 60 rfl) rfl
theorem q615 : (Jvm.Cond.fieldLink "HomeCompiler$Symbols" (27 : Nat) "HomeCompiler$Symbols" "begins" "[I") ∈ lw_all := lw_g (lw_at lw_m2 61 rfl) rfl
theorem q616 : (Jvm.Cond.fieldLink "HomeCompiler$Symbols" (34 : Nat) "HomeCompiler$Symbols" "deep" "I") ∈ lw_all := lw_g (lw_at lw_m2 62 rfl) rfl
theorem q617 : (Jvm.Cond.lays "HomeCompiler$Symbols" "HomeCompiler$Symbols" "names" "[I") ∈ lw_all := lw_g (lw_at lw_m2 63 rfl) rfl
theorem q618 : (Jvm.Cond.soleField "HomeCompiler$Symbols" "names") ∈ lw_all := lw_g (lw_at lw_m2 64 rfl) rfl
theorem q619 : (Jvm.Cond.lays "HomeCompiler$Symbols" "HomeCompiler$Symbols" "sorts" "[I") ∈ lw_all := lw_g (lw_at lw_m2 65 rfl) rfl
theorem q620 : (Jvm.Cond.soleField "HomeCompiler$Symbols" "sorts") ∈ lw_all := lw_g (lw_at lw_m2 66 rfl) rfl
theorem q621 : (Jvm.Cond.lays "HomeCompiler$Symbols" "HomeCompiler$Symbols" "values" "[I") ∈ lw_all := lw_g (lw_at lw_m2 67 rfl) rfl
theorem q622 : (Jvm.Cond.soleField "HomeCompiler$Symbols" "values") ∈ lw_all := lw_g (lw_at lw_m2 68 rfl) rfl
theorem q623 : (Jvm.Cond.lays "HomeCompiler$Symbols" "HomeCompiler$Symbols" "before" "[I") ∈ lw_all := lw_g (lw_at lw_m2 69 rfl) rfl
theorem q624 : (Jvm.Cond.soleField "HomeCompiler$Symbols" "before") ∈ lw_all := lw_g (lw_at lw_m2 70 rfl) rfl
theorem q625 : (Jvm.Cond.lays "HomeCompiler$Symbols" "HomeCompiler$Symbols" "count" "I") ∈ lw_all := lw_g (lw_at lw_m2 71 rfl) rfl
theorem q626 : (Jvm.Cond.soleField "HomeCompiler$Symbols" "count") ∈ lw_all := lw_g (lw_at lw_m2 72 rfl) rfl
theorem q627 : (Jvm.Cond.lays "HomeCompiler$Symbols" "HomeCompiler$Symbols" "lasts" "[I") ∈ lw_all := lw_g (lw_at lw_m2 73 rfl) rfl
theorem q628 : (Jvm.Cond.soleField "HomeCompiler$Symbols" "lasts") ∈ lw_all := lw_g (lw_at lw_m2 74 rfl) rfl
theorem q629 : (Jvm.Cond.laysFinal "HomeCompiler$Symbols" "HomeCompiler$Symbols" "begins" "[I") ∈ lw_all := lw_g (lw_at lw_m2 75 rfl) rfl
theorem q630 : (Jvm.Cond.soleField "HomeCompiler$Symbols" "begins") ∈ lw_all := lw_g (lw_at lw_m2 76 rfl) rfl
theorem q631 : (Jvm.Cond.lays "HomeCompiler$Symbols" "HomeCompiler$Symbols" "deep" "I") ∈ lw_all := lw_g (lw_at lw_m2 77 rfl) rfl
theorem q632 : (Jvm.Cond.soleField "HomeCompiler$Symbols" "deep") ∈ lw_all := lw_g (lw_at lw_m2 78 rfl) rfl
theorem q633 : (Jvm.Cond.superclass "HomeCompiler$Symbols" "java/lang/Object") ∈ lw_all := lw_g (lw_at lw_m2 79 rfl) rfl
theorem q1550 : (Jvm.Cond.instanceMethod ({ cls := "HomeCompiler$Symbols", name := "clear", desc := "(I)V" } : Jvm.MethodName)) ∈ lw_all := lw_g (lw_at lw_m6 36 rfl) rfl
theorem q1551 : (Jvm.Cond.selects "HomeCompiler$Symbols" ({ cls := "HomeCompiler$Symbols", name := "clear", desc := "(I)V" } : Jvm.MethodName) ({ cls := "HomeCompiler$Symbols", name := "clear", desc := "(I)V" } : Jvm.MethodName)) ∈ lw_all := lw_g (lw_at lw_m6 37 rfl) rfl
theorem q1552 : (Jvm.Cond.code ({ cls := "HomeCompiler$Symbols", name := "clear", desc := "(I)V" } : Jvm.MethodName) prog_17_method_2_code (3 : Nat) (Option.none : Option Jvm.ClassFile.FieldType)) ∈ lw_all := lw_g (lw_at lw_m6 38 rfl) rfl
theorem q1568 : (Jvm.Cond.instanceMethod ({ cls := "HomeCompiler$Symbols", name := "add", desc := "(III)V" } : Jvm.MethodName)) ∈ lw_all := lw_g (lw_at lw_m6 54 rfl) rfl
theorem q1569 : (Jvm.Cond.selects "HomeCompiler$Symbols" ({ cls := "HomeCompiler$Symbols", name := "add", desc := "(III)V" } : Jvm.MethodName) ({ cls := "HomeCompiler$Symbols", name := "add", desc := "(III)V" } : Jvm.MethodName)) ∈ lw_all := lw_g (lw_at lw_m6 55 rfl) rfl
theorem q1570 : (Jvm.Cond.code ({ cls := "HomeCompiler$Symbols", name := "add", desc := "(III)V" } : Jvm.MethodName) prog_17_method_6_code (4 : Nat) (Option.none : Option Jvm.ClassFile.FieldType)) ∈ lw_all := lw_g (lw_at lw_m6 56 rfl) rfl
theorem q1571 : (Jvm.Cond.methodLink "HomeCompiler$Symbols" (43 : Nat) ({ cls := "HomeCompiler$Symbols", name := "longer", desc := "([I)[I" } : Jvm.MethodName)) ∈ lw_all := lw_g (lw_at lw_m6 57 rfl) rfl
theorem q1572 : (Jvm.Cond.static ({ cls := "HomeCompiler$Symbols", name := "longer", desc := "([I)[I" } : Jvm.MethodName)) ∈ lw_all := lw_g (lw_at lw_m6 58 rfl) rfl
theorem q1573 : (Jvm.Cond.code ({ cls := "HomeCompiler$Symbols", name := "longer", desc := "([I)[I" } : Jvm.MethodName) prog_17_method_5_code (2 : Nat) (Option.some (Jvm.ClassFile.FieldType.array Jvm.ClassFile.FieldType.int))) ∈ lw_all := lw_g (lw_at lw_m6 59 rfl) rfl
theorem q1574 : (Jvm.Cond.methodLink "HomeCompiler$Symbols" (37 : Nat) ({ cls := "java/lang/System", name := "arraycopy", desc := "(Ljava/lang/Object;ILjava/lang/Object;II)V" } : Jvm.MethodName)) ∈ lw_all := lw_g (lw_at lw_m6 60 rfl) rfl
theorem q1590 : (Jvm.Cond.instanceMethod ({ cls := "HomeCompiler$Symbols", name := "isHere", desc := "(I)Z" } : Jvm.MethodName)) ∈ lw_all := lw_g (lw_at lw_m6 76 rfl) rfl
theorem q1591 : (Jvm.Cond.selects "HomeCompiler$Symbols" ({ cls := "HomeCompiler$Symbols", name := "isHere", desc := "(I)Z" } : Jvm.MethodName) ({ cls := "HomeCompiler$Symbols", name := "isHere", desc := "(I)Z" } : Jvm.MethodName)) ∈ lw_all := lw_g (lw_at lw_m6 77 rfl) rfl
theorem q1592 : (Jvm.Cond.code ({ cls := "HomeCompiler$Symbols", name := "isHere", desc := "(I)Z" } : Jvm.MethodName) prog_17_method_8_code (2 : Nat) (Option.some Jvm.ClassFile.FieldType.boolean)) ∈ lw_all := lw_g (lw_at lw_m6 78 rfl) rfl
theorem q1631 : (Jvm.Cond.instanceMethod ({ cls := "HomeCompiler$Symbols", name := "find", desc := "(I)I" } : Jvm.MethodName)) ∈ lw_all := lw_g (lw_at lw_m6 117 rfl) rfl
theorem q1632 : (Jvm.Cond.selects "HomeCompiler$Symbols" ({ cls := "HomeCompiler$Symbols", name := "find", desc := "(I)I" } : Jvm.MethodName) ({ cls := "HomeCompiler$Symbols", name := "find", desc := "(I)I" } : Jvm.MethodName)) ∈ lw_all := lw_g (lw_at lw_m6 118 rfl) rfl
theorem q1633 : (Jvm.Cond.code ({ cls := "HomeCompiler$Symbols", name := "find", desc := "(I)I" } : Jvm.MethodName) prog_17_method_7_code (2 : Nat) (Option.some Jvm.ClassFile.FieldType.int)) ∈ lw_all := lw_g (lw_at lw_m6 119 rfl) rfl
theorem q1635 : (Jvm.Cond.instanceMethod ({ cls := "HomeCompiler$Symbols", name := "sort", desc := "(I)I" } : Jvm.MethodName)) ∈ lw_all := lw_g (lw_at lw_m6 121 rfl) rfl
theorem q1636 : (Jvm.Cond.selects "HomeCompiler$Symbols" ({ cls := "HomeCompiler$Symbols", name := "sort", desc := "(I)I" } : Jvm.MethodName) ({ cls := "HomeCompiler$Symbols", name := "sort", desc := "(I)I" } : Jvm.MethodName)) ∈ lw_all := lw_g (lw_at lw_m6 122 rfl) rfl
theorem q1637 : (Jvm.Cond.code ({ cls := "HomeCompiler$Symbols", name := "sort", desc := "(I)I" } : Jvm.MethodName) prog_17_method_9_code (2 : Nat) (Option.some Jvm.ClassFile.FieldType.int)) ∈ lw_all := lw_g (lw_at lw_m6 123 rfl) rfl
theorem q1643 : (Jvm.Cond.instanceMethod ({ cls := "HomeCompiler$Symbols", name := "value", desc := "(I)I" } : Jvm.MethodName)) ∈ lw_all := lw_g (lw_at lw_m6 129 rfl) rfl
theorem q1644 : (Jvm.Cond.selects "HomeCompiler$Symbols" ({ cls := "HomeCompiler$Symbols", name := "value", desc := "(I)I" } : Jvm.MethodName) ({ cls := "HomeCompiler$Symbols", name := "value", desc := "(I)I" } : Jvm.MethodName)) ∈ lw_all := lw_g (lw_at lw_m6 130 rfl) rfl
theorem q1645 : (Jvm.Cond.code ({ cls := "HomeCompiler$Symbols", name := "value", desc := "(I)I" } : Jvm.MethodName) prog_17_method_10_code (2 : Nat) (Option.some Jvm.ClassFile.FieldType.int)) ∈ lw_all := lw_g (lw_at lw_m6 131 rfl) rfl
theorem q1769 : (Jvm.Cond.instanceMethod ({ cls := "HomeCompiler$Symbols", name := "open", desc := "()V" } : Jvm.MethodName)) ∈ lw_all := lw_g (lw_at lw_m7 15 rfl) rfl
theorem q1770 : (Jvm.Cond.selects "HomeCompiler$Symbols" ({ cls := "HomeCompiler$Symbols", name := "open", desc := "()V" } : Jvm.MethodName) ({ cls := "HomeCompiler$Symbols", name := "open", desc := "()V" } : Jvm.MethodName)) ∈ lw_all := lw_g (lw_at lw_m7 16 rfl) rfl
theorem q1771 : (Jvm.Cond.code ({ cls := "HomeCompiler$Symbols", name := "open", desc := "()V" } : Jvm.MethodName) prog_17_method_3_code (1 : Nat) (Option.none : Option Jvm.ClassFile.FieldType)) ∈ lw_all := lw_g (lw_at lw_m7 17 rfl) rfl
theorem q1781 : (Jvm.Cond.instanceMethod ({ cls := "HomeCompiler$Symbols", name := "close", desc := "()V" } : Jvm.MethodName)) ∈ lw_all := lw_g (lw_at lw_m7 27 rfl) rfl
theorem q1782 : (Jvm.Cond.selects "HomeCompiler$Symbols" ({ cls := "HomeCompiler$Symbols", name := "close", desc := "()V" } : Jvm.MethodName) ({ cls := "HomeCompiler$Symbols", name := "close", desc := "()V" } : Jvm.MethodName)) ∈ lw_all := lw_g (lw_at lw_m7 28 rfl) rfl
theorem q1783 : (Jvm.Cond.code ({ cls := "HomeCompiler$Symbols", name := "close", desc := "()V" } : Jvm.MethodName) prog_17_method_4_code (1 : Nat) (Option.none : Option Jvm.ClassFile.FieldType)) ∈ lw_all := lw_g (lw_at lw_m7 29 rfl) rfl
theorem in_X10 : ∀ w ∈ wsX100, w ∈ lw_all := lw_in wsX100 [617, 619, 621, 623, 625, 627, 629, 631] (by decide +kernel) (by decide +kernel)
/-! X11.HomeCompiler_Variables.lean.txt -/
def RX11 : String := "HomeCompiler$Variables"
def TX11 : u_T := fun k => match k with
  | 0 => ("HomeCompiler$Variables", "types", "[I", false)
  | 1 => ("HomeCompiler$Variables", "sizes", "[I", false)
  | 2 => ("HomeCompiler$Variables", "owners", "[I", false)
  | 3 => ("HomeCompiler$Variables", "count", "I", false)
  | 4 => ("HomeCompiler$Variables", "sums", "[I", false)
  | _ => ("HomeCompiler$Variables", "textWords", "I", false)
def tyX11 : Nat → FieldType := fun k => match k with
  | 0 => .array .int
  | 1 => .array .int
  | 2 => .array .int
  | 3 => .int
  | 4 => .array .int
  | _ => .int
abbrev wsX110 : List Cond := u_ws RX11 TX11 6
theorem nmX11 : ∀ a, a < 6 → ∀ b, b < 6 → a ≠ b → (TX11 a).2.1 ≠ (TX11 b).2.1 := by decide +kernel
theorem tyX11_ok : ∀ k, k < 6 → parseFieldDescriptor (TX11 k).2.2.1 = some (tyX11 k) := by decide +kernel
abbrev cX11_init : ByteArray := prog_18_method_1_code
def yX11_init : MethodName := ⟨RX11, "<init>", "()V"⟩
abbrev cX11_clear : ByteArray := prog_18_method_2_code
def yX11_clear : MethodName := ⟨RX11, "clear", "()V"⟩
abbrev cX11_size : ByteArray := prog_18_method_7_code
def yX11_size : MethodName := ⟨RX11, "size", "(I)I"⟩
abbrev cX11_type : ByteArray := prog_18_method_6_code
def yX11_type : MethodName := ⟨RX11, "type", "(I)I"⟩
abbrev cX11_add : ByteArray := prog_18_method_5_code
def yX11_add : MethodName := ⟨RX11, "add", "(III)I"⟩
abbrev cX11_longer : ByteArray := prog_18_method_4_code
def yX11_longer : MethodName := ⟨RX11, "longer", "([I)[I"⟩
abbrev cX11_words : ByteArray := prog_18_method_10_code
def yX11_words : MethodName := ⟨RX11, "words", "(I)I"⟩
abbrev cX11_sum : ByteArray := prog_18_method_3_code
def yX11_sum : MethodName := ⟨RX11, "sum", "(II)V"⟩
abbrev cX11_wordsOf : ByteArray := prog_18_method_11_code
def yX11_wordsOf : MethodName := ⟨RX11, "wordsOf", "(I)I"⟩
abbrev cX11_count : ByteArray := prog_18_method_8_code
def yX11_count : MethodName := ⟨RX11, "count", "()I"⟩
abbrev cX11_owner : ByteArray := prog_18_method_9_code
def yX11_owner : MethodName := ⟨RX11, "owner", "(I)I"⟩
theorem q325 : (Jvm.Cond.initialized "HomeCompiler$Variables") ∈ lw_all := lw_g (lw_at lw_m1 11 rfl) rfl
theorem q635 : (Jvm.Cond.instantiable "HomeCompiler$Variables" (6 : Nat)) ∈ lw_all := lw_g (lw_at lw_m2 81 rfl) rfl
theorem q637 : (Jvm.Cond.instanceMethod ({ cls := "HomeCompiler$Variables", name := "<init>", desc := "()V" } : Jvm.MethodName)) ∈ lw_all := lw_g (lw_at lw_m2 83 rfl) rfl
theorem q638 : (Jvm.Cond.code ({ cls := "HomeCompiler$Variables", name := "<init>", desc := "()V" } : Jvm.MethodName) prog_18_method_1_code (1 : Nat) (Option.none : Option Jvm.ClassFile.FieldType)) ∈ lw_all := lw_g (lw_at lw_m2 84 rfl) rfl
theorem q639 : (Jvm.Cond.methodLink "HomeCompiler$Variables" (3 : Nat) ({ cls := "java/lang/Object", name := "<init>", desc := "()V" } : Jvm.MethodName)) ∈ lw_all := lw_g (lw_at lw_m2 85 rfl) rfl
theorem q640 : (Jvm.Cond.fieldLink "HomeCompiler$Variables" (9 : Nat) "HomeCompiler$Variables" "types" "[I") ∈ lw_all := lw_g (lw_at lw_m2 86 rfl) rfl
theorem q641 : (Jvm.Cond.fieldLink "HomeCompiler$Variables" (15 : Nat) "HomeCompiler$Variables" "sizes" "[I") ∈ lw_all := lw_g (lw_at lw_m2 87 rfl) rfl
theorem q642 : (Jvm.Cond.fieldLink "HomeCompiler$Variables" (18 : Nat) "HomeCompiler$Variables" "owners" "[I") ∈ lw_all := lw_g (lw_at lw_m2 88 rfl) rfl
theorem q643 : (Jvm.Cond.fieldLink "HomeCompiler$Variables" (24 : Nat) "HomeCompiler$Variables" "count" "I") ∈ lw_all := lw_g (lw_at lw_m2 89 rfl) rfl
theorem q644 : (Jvm.Cond.fieldLink "HomeCompiler$Variables" (21 : Nat) "HomeCompiler$Variables" "sums" "[I") ∈ lw_all := lw_g (lw_at lw_m2 90 rfl) rfl
theorem q645 : (Jvm.Cond.fieldLink "HomeCompiler$Variables" (28 : Nat) "HomeCompiler$Variables" "textWords" "I") ∈ lw_all := lw_g (lw_at lw_m2 91 rfl) rfl
theorem q646 : (Jvm.Cond.lays "HomeCompiler$Variables" "HomeCompiler$Variables" "types" "[I") ∈ lw_all := lw_g (lw_at lw_m2 92 rfl) rfl
theorem q647 : (Jvm.Cond.soleField "HomeCompiler$Variables" "types") ∈ lw_all := lw_g (lw_at lw_m2 93 rfl) rfl
theorem q648 : (Jvm.Cond.lays "HomeCompiler$Variables" "HomeCompiler$Variables" "sizes" "[I") ∈ lw_all := lw_g (lw_at lw_m2 94 rfl) rfl
theorem q649 : (Jvm.Cond.soleField "HomeCompiler$Variables" "sizes") ∈ lw_all := lw_g (lw_at lw_m2 95 rfl) rfl
theorem q650 : (Jvm.Cond.lays "HomeCompiler$Variables" "HomeCompiler$Variables" "owners" "[I") ∈ lw_all := lw_g (lw_at lw_m2 96 rfl) rfl
theorem q651 : (Jvm.Cond.soleField "HomeCompiler$Variables" "owners") ∈ lw_all := lw_g (lw_at lw_m2 97 rfl) rfl
theorem q652 : (Jvm.Cond.lays "HomeCompiler$Variables" "HomeCompiler$Variables" "count" "I") ∈ lw_all := lw_g (lw_at lw_m2 98 rfl) rfl
theorem q653 : (Jvm.Cond.soleField "HomeCompiler$Variables" "count") ∈ lw_all := lw_g (lw_at lw_m2 99 rfl) rfl
theorem q654 : (Jvm.Cond.lays "HomeCompiler$Variables" "HomeCompiler$Variables" "sums" "[I") ∈ lw_all := lw_g (lw_at lw_m2 100 rfl) rfl
theorem q655 : (Jvm.Cond.soleField "HomeCompiler$Variables" "sums") ∈ lw_all := lw_g (lw_at lw_m2 101 rfl) rfl
theorem q656 : (Jvm.Cond.lays "HomeCompiler$Variables" "HomeCompiler$Variables" "textWords" "I") ∈ lw_all := lw_g (lw_at lw_m2 102 rfl) rfl
theorem q657 : (Jvm.Cond.soleField "HomeCompiler$Variables" "textWords") ∈ lw_all := lw_g (lw_at lw_m2 103 rfl) rfl
theorem q658 : (Jvm.Cond.superclass "HomeCompiler$Variables" "java/lang/Object") ∈ lw_all := lw_g (lw_at lw_m2 104 rfl) rfl
theorem q1064 : (Jvm.Cond.instanceMethod ({ cls := "HomeCompiler$Variables", name := "clear", desc := "()V" } : Jvm.MethodName)) ∈ lw_all := lw_g (lw_at lw_m4 30 rfl) rfl
theorem q1065 : (Jvm.Cond.selects "HomeCompiler$Variables" ({ cls := "HomeCompiler$Variables", name := "clear", desc := "()V" } : Jvm.MethodName) ({ cls := "HomeCompiler$Variables", name := "clear", desc := "()V" } : Jvm.MethodName)) ∈ lw_all := lw_g (lw_at lw_m4 31 rfl) rfl
theorem q1066 : (Jvm.Cond.code ({ cls := "HomeCompiler$Variables", name := "clear", desc := "()V" } : Jvm.MethodName) prog_18_method_2_code (2 : Nat) (Option.none : Option Jvm.ClassFile.FieldType)) ∈ lw_all := lw_g (lw_at lw_m4 32 rfl) rfl
theorem q1655 : (Jvm.Cond.instanceMethod ({ cls := "HomeCompiler$Variables", name := "size", desc := "(I)I" } : Jvm.MethodName)) ∈ lw_all := lw_g (lw_at lw_m6 141 rfl) rfl
theorem q1656 : (Jvm.Cond.selects "HomeCompiler$Variables" ({ cls := "HomeCompiler$Variables", name := "size", desc := "(I)I" } : Jvm.MethodName) ({ cls := "HomeCompiler$Variables", name := "size", desc := "(I)I" } : Jvm.MethodName)) ∈ lw_all := lw_g (lw_at lw_m6 142 rfl) rfl
theorem q1657 : (Jvm.Cond.code ({ cls := "HomeCompiler$Variables", name := "size", desc := "(I)I" } : Jvm.MethodName) prog_18_method_7_code (2 : Nat) (Option.some Jvm.ClassFile.FieldType.int)) ∈ lw_all := lw_g (lw_at lw_m6 143 rfl) rfl
theorem q1659 : (Jvm.Cond.instanceMethod ({ cls := "HomeCompiler$Variables", name := "type", desc := "(I)I" } : Jvm.MethodName)) ∈ lw_all := lw_g (lw_at lw_m6 145 rfl) rfl
theorem q1660 : (Jvm.Cond.selects "HomeCompiler$Variables" ({ cls := "HomeCompiler$Variables", name := "type", desc := "(I)I" } : Jvm.MethodName) ({ cls := "HomeCompiler$Variables", name := "type", desc := "(I)I" } : Jvm.MethodName)) ∈ lw_all := lw_g (lw_at lw_m6 146 rfl) rfl
theorem q1661 : (Jvm.Cond.code ({ cls := "HomeCompiler$Variables", name := "type", desc := "(I)I" } : Jvm.MethodName) prog_18_method_6_code (2 : Nat) (Option.some Jvm.ClassFile.FieldType.int)) ∈ lw_all := lw_g (lw_at lw_m6 147 rfl) rfl
theorem q1749 : (Jvm.Cond.instanceMethod ({ cls := "HomeCompiler$Variables", name := "add", desc := "(III)I" } : Jvm.MethodName)) ∈ lw_all := lw_g (lw_at lw_m6 235 rfl) rfl
theorem q1750 : (Jvm.Cond.selects "HomeCompiler$Variables" ({ cls := "HomeCompiler$Variables", name := "add", desc := "(III)I" } : Jvm.MethodName) ({ cls := "HomeCompiler$Variables", name := "add", desc := "(III)I" } : Jvm.MethodName)) ∈ lw_all := lw_g (lw_at lw_m6 236 rfl) rfl
theorem q1751 : (Jvm.Cond.code ({ cls := "HomeCompiler$Variables", name := "add", desc := "(III)I" } : Jvm.MethodName) prog_18_method_5_code (4 : Nat) (Option.some Jvm.ClassFile.FieldType.int)) ∈ lw_all := lw_g (lw_at lw_m6 237 rfl) rfl
theorem q1752 : (Jvm.Cond.methodLink "HomeCompiler$Variables" (31 : Nat) ({ cls := "HomeCompiler$Variables", name := "longer", desc := "([I)[I" } : Jvm.MethodName)) ∈ lw_all := lw_g (lw_at lw_m6 238 rfl) rfl
theorem q1753 : (Jvm.Cond.static ({ cls := "HomeCompiler$Variables", name := "longer", desc := "([I)[I" } : Jvm.MethodName)) ∈ lw_all := lw_g (lw_at lw_m6 239 rfl) rfl
theorem q1754 : (Jvm.Cond.code ({ cls := "HomeCompiler$Variables", name := "longer", desc := "([I)[I" } : Jvm.MethodName) prog_18_method_4_code (2 : Nat) (Option.some (Jvm.ClassFile.FieldType.array Jvm.ClassFile.FieldType.int))) ∈ lw_all := lw_g (lw_at lw_m7 0 rfl) rfl
theorem q1755 : (Jvm.Cond.methodLink "HomeCompiler$Variables" (35 : Nat) ({ cls := "java/lang/System", name := "arraycopy", desc := "(Ljava/lang/Object;ILjava/lang/Object;II)V" } : Jvm.MethodName)) ∈ lw_all := lw_g (lw_at lw_m7 1 rfl) rfl
theorem q1756 : (Jvm.Cond.methodLink "HomeCompiler$Variables" (41 : Nat) ({ cls := "HomeCompiler$Variables", name := "words", desc := "(I)I" } : Jvm.MethodName)) ∈ lw_all := lw_g (lw_at lw_m7 2 rfl) rfl
theorem q1757 : (Jvm.Cond.instanceMethod ({ cls := "HomeCompiler$Variables", name := "words", desc := "(I)I" } : Jvm.MethodName)) ∈ lw_all := lw_g (lw_at lw_m7 3 rfl) rfl
theorem q1758 : (Jvm.Cond.selects "HomeCompiler$Variables" ({ cls := "HomeCompiler$Variables", name := "words", desc := "(I)I" } : Jvm.MethodName) ({ cls := "HomeCompiler$Variables", name := "words", desc := "(I)I" } : Jvm.MethodName)) ∈ lw_all := lw_g (lw_at lw_m7 4 rfl) rfl
theorem q1759 : (Jvm.Cond.code ({ cls := "HomeCompiler$Variables", name := "words", desc := "(I)I" } : Jvm.MethodName) prog_18_method_10_code (3 : Nat) (Option.some Jvm.ClassFile.FieldType.int)) ∈ lw_all := lw_g (lw_at lw_m7 5 rfl) rfl
theorem q1760 : (Jvm.Cond.methodLink "HomeCompiler$Variables" (45 : Nat) ({ cls := "HomeCompiler$Variables", name := "sum", desc := "(II)V" } : Jvm.MethodName)) ∈ lw_all := lw_g (lw_at lw_m7 6 rfl) rfl
theorem q1761 : (Jvm.Cond.privateMethod ({ cls := "HomeCompiler$Variables", name := "sum", desc := "(II)V" } : Jvm.MethodName)) ∈ lw_tbl := lw_at lw_m7 7 rfl
theorem q1762 : (Jvm.Cond.instanceMethod ({ cls := "HomeCompiler$Variables", name := "sum", desc := "(II)V" } : Jvm.MethodName)) ∈ lw_all := lw_g (lw_at lw_m7 8 rfl) rfl
theorem q1763 : (Jvm.Cond.code ({ cls := "HomeCompiler$Variables", name := "sum", desc := "(II)V" } : Jvm.MethodName) prog_18_method_3_code (3 : Nat) (Option.none : Option Jvm.ClassFile.FieldType)) ∈ lw_all := lw_g (lw_at lw_m7 9 rfl) rfl
theorem q1841 : (Jvm.Cond.instanceMethod ({ cls := "HomeCompiler$Variables", name := "wordsOf", desc := "(I)I" } : Jvm.MethodName)) ∈ lw_all := lw_g (lw_at lw_m7 87 rfl) rfl
theorem q1842 : (Jvm.Cond.selects "HomeCompiler$Variables" ({ cls := "HomeCompiler$Variables", name := "wordsOf", desc := "(I)I" } : Jvm.MethodName) ({ cls := "HomeCompiler$Variables", name := "wordsOf", desc := "(I)I" } : Jvm.MethodName)) ∈ lw_all := lw_g (lw_at lw_m7 88 rfl) rfl
theorem q1843 : (Jvm.Cond.code ({ cls := "HomeCompiler$Variables", name := "wordsOf", desc := "(I)I" } : Jvm.MethodName) prog_18_method_11_code (2 : Nat) (Option.some Jvm.ClassFile.FieldType.int)) ∈ lw_all := lw_g (lw_at lw_m7 89 rfl) rfl
theorem q1864 : (Jvm.Cond.instanceMethod ({ cls := "HomeCompiler$Variables", name := "count", desc := "()I" } : Jvm.MethodName)) ∈ lw_all := lw_g (lw_at lw_m7 110 rfl) rfl
theorem q1865 : (Jvm.Cond.selects "HomeCompiler$Variables" ({ cls := "HomeCompiler$Variables", name := "count", desc := "()I" } : Jvm.MethodName) ({ cls := "HomeCompiler$Variables", name := "count", desc := "()I" } : Jvm.MethodName)) ∈ lw_all := lw_g (lw_at lw_m7 111 rfl) rfl
theorem q1866 : (Jvm.Cond.code ({ cls := "HomeCompiler$Variables", name := "count", desc := "()I" } : Jvm.MethodName) prog_18_method_8_code (1 : Nat) (Option.some Jvm.ClassFile.FieldType.int)) ∈ lw_all := lw_g (lw_at lw_m7 112 rfl) rfl
theorem q1868 : (Jvm.Cond.instanceMethod ({ cls := "HomeCompiler$Variables", name := "owner", desc := "(I)I" } : Jvm.MethodName)) ∈ lw_all := lw_g (lw_at lw_m7 114 rfl) rfl
theorem q1869 : (Jvm.Cond.selects "HomeCompiler$Variables" ({ cls := "HomeCompiler$Variables", name := "owner", desc := "(I)I" } : Jvm.MethodName) ({ cls := "HomeCompiler$Variables", name := "owner", desc := "(I)I" } : Jvm.MethodName)) ∈ lw_all := lw_g (lw_at lw_m7 115 rfl) rfl
theorem q1870 : (Jvm.Cond.code ({ cls := "HomeCompiler$Variables", name := "owner", desc := "(I)I" } : Jvm.MethodName) prog_18_method_9_code (2 : Nat) (Option.some Jvm.ClassFile.FieldType.int)) ∈ lw_all := lw_g (lw_at lw_m7 116 rfl) rfl
theorem in_X11 : ∀ w ∈ wsX110, w ∈ lw_all := lw_in wsX110 [646, 648, 650, 652, 654, 656] (by decide +kernel) (by decide +kernel)
/-! X12.HomeCompiler_Emitter.lean.txt -/
def RX12 : String := "HomeCompiler$Emitter"
def TX12 : u_T := fun k => match k with
  | 0 => ("HomeCompiler$Emitter", "words", "[I", false)
  | 1 => ("HomeCompiler$Emitter", "count", "I", false)
  | 2 => ("HomeCompiler$Emitter", "labels", "[I", false)
  | 3 => ("HomeCompiler$Emitter", "labelCount", "I", false)
  | 4 => ("HomeCompiler$Emitter", "jumps", "[I", false)
  | 5 => ("HomeCompiler$Emitter", "targets", "[I", false)
  | _ => ("HomeCompiler$Emitter", "jumpCount", "I", false)
def tyX12 : Nat → FieldType := fun k => match k with
  | 0 => .array .int
  | 1 => .int
  | 2 => .array .int
  | 3 => .int
  | 4 => .array .int
  | 5 => .array .int
  | _ => .int
abbrev wsX120 : List Cond := u_ws RX12 TX12 7
theorem nmX12 : ∀ a, a < 7 → ∀ b, b < 7 → a ≠ b → (TX12 a).2.1 ≠ (TX12 b).2.1 := by decide +kernel
theorem tyX12_ok : ∀ k, k < 7 → parseFieldDescriptor (TX12 k).2.2.1 = some (tyX12 k) := by decide +kernel
abbrev cX12_init : ByteArray := prog_6_method_1_code
def yX12_init : MethodName := ⟨RX12, "<init>", "()V"⟩
abbrev cX12_clear : ByteArray := prog_6_method_2_code
def yX12_clear : MethodName := ⟨RX12, "clear", "()V"⟩
abbrev cX12_label : ByteArray := prog_6_method_7_code
def yX12_label : MethodName := ⟨RX12, "label", "()I"⟩
abbrev cX12_longer : ByteArray := prog_6_method_5_code
def yX12_longer : MethodName := ⟨RX12, "longer", "([I)[I"⟩
abbrev cX12_store : ByteArray := prog_6_method_13_code
def yX12_store : MethodName := ⟨RX12, "store", "(IIII)V"⟩
abbrev cX12_emit : ByteArray := prog_6_method_6_code
def yX12_emit : MethodName := ⟨RX12, "emit", "(I)V"⟩
abbrev cX12_jump : ByteArray := prog_6_method_24_code
def yX12_jump : MethodName := ⟨RX12, "jump", "(II)V"⟩
abbrev cX12_set : ByteArray := prog_6_method_17_code
def yX12_set : MethodName := ⟨RX12, "set", "(II)V"⟩
abbrev cX12_number : ByteArray := prog_6_method_11_code
def yX12_number : MethodName := ⟨RX12, "number", "(IIII)V"⟩
abbrev cX12_setLong : ByteArray := prog_6_method_18_code
def yX12_setLong : MethodName := ⟨RX12, "setLong", "(II)V"⟩
abbrev cX12_upper : ByteArray := prog_6_method_16_code
def yX12_upper : MethodName := ⟨RX12, "upper", "(I)I"⟩
abbrev cX12_call : ByteArray := prog_6_method_26_code
def yX12_call : MethodName := ⟨RX12, "call", "()V"⟩
abbrev cX12_here : ByteArray := prog_6_method_8_code
def yX12_here : MethodName := ⟨RX12, "here", "(I)V"⟩
abbrev cX12_branch : ByteArray := prog_6_method_25_code
def yX12_branch : MethodName := ⟨RX12, "branch", "(IIII)V"⟩
abbrev cX12_add : ByteArray := prog_6_method_21_code
def yX12_add : MethodName := ⟨RX12, "add", "(IIII)V"⟩
abbrev cX12_both : ByteArray := prog_6_method_10_code
def yX12_both : MethodName := ⟨RX12, "both", "(IIIII)V"⟩
abbrev cX12_move : ByteArray := prog_6_method_15_code
def yX12_move : MethodName := ⟨RX12, "move", "(II)V"⟩
abbrev cX12_hole : ByteArray := prog_6_method_19_code
def yX12_hole : MethodName := ⟨RX12, "hole", "(I)I"⟩
abbrev cX12_storeAt : ByteArray := prog_6_method_23_code
def yX12_storeAt : MethodName := ⟨RX12, "storeAt", "(IIII)V"⟩
abbrev cX12_loadAt : ByteArray := prog_6_method_22_code
def yX12_loadAt : MethodName := ⟨RX12, "loadAt", "(IIII)V"⟩
abbrev cX12_load : ByteArray := prog_6_method_12_code
def yX12_load : MethodName := ⟨RX12, "load", "(IIII)V"⟩
abbrev cX12_control : ByteArray := prog_6_method_14_code
def yX12_control : MethodName := ⟨RX12, "control", "(IIII)V"⟩
abbrev cX12_fill : ByteArray := prog_6_method_20_code
def yX12_fill : MethodName := ⟨RX12, "fill", "(III)V"⟩
abbrev cX12_finish : ByteArray := prog_6_method_27_code
def yX12_finish : MethodName := ⟨RX12, "finish", "()V"⟩
abbrev cX12_count : ByteArray := prog_6_method_3_code
def yX12_count : MethodName := ⟨RX12, "count", "()I"⟩
abbrev cX12_word : ByteArray := prog_6_method_4_code
def yX12_word : MethodName := ⟨RX12, "word", "(I)I"⟩
theorem q326 : (Jvm.Cond.initialized "HomeCompiler$Emitter") ∈ lw_all := lw_g (lw_at lw_m1 12 rfl) rfl
theorem q711 : (Jvm.Cond.instantiable "HomeCompiler$Emitter" (7 : Nat)) ∈ lw_all := lw_g (lw_at lw_m2 157 rfl) rfl
theorem q713 : (Jvm.Cond.instanceMethod ({ cls := "HomeCompiler$Emitter", name := "<init>", desc := "()V" } : Jvm.MethodName)) ∈ lw_all := lw_g (lw_at lw_m2 159 rfl) rfl
theorem q714 : (Jvm.Cond.code ({ cls := "HomeCompiler$Emitter", name := "<init>", desc := "()V" } : Jvm.MethodName) prog_6_method_1_code (1 : Nat) (Option.none : Option Jvm.ClassFile.FieldType)) ∈ lw_all := lw_g (lw_at lw_m2 160 rfl) rfl
theorem q715 : (Jvm.Cond.methodLink "HomeCompiler$Emitter" (3 : Nat) ({ cls := "java/lang/Object", name := "<init>", desc := "()V" } : Jvm.MethodName)) ∈ lw_all := lw_g (lw_at lw_m2 161 rfl) rfl
theorem q716 : (Jvm.Cond.fieldLink "HomeCompiler$Emitter" (9 : Nat) "HomeCompiler$Emitter" "words" "[I") ∈ lw_all := lw_g (lw_at lw_m2 162 rfl) rfl
theorem q717 : (Jvm.Cond.fieldLink "HomeCompiler$Emitter" (24 : Nat) "HomeCompiler$Emitter" "count" "I") ∈ lw_all := lw_g (lw_at lw_m2 163 rfl) rfl
theorem q718 : (Jvm.Cond.fieldLink "HomeCompiler$Emitter" (15 : Nat) "HomeCompiler$Emitter" "labels" "[I") ∈ lw_all := lw_g (lw_at lw_m2 164 rfl) rfl
theorem q719 : (Jvm.Cond.fieldLink "HomeCompiler$Emitter" (28 : Nat) "HomeCompiler$Emitter" "labelCount" "I") ∈ lw_all := lw_g (lw_at lw_m2 165 rfl) rfl
theorem q720 : (Jvm.Cond.fieldLink "HomeCompiler$Emitter" (18 : Nat) "HomeCompiler$Emitter" "jumps" "[I") ∈ lw_all := lw_g (lw_at lw_m2 166 rfl) rfl
theorem q721 : (Jvm.Cond.fieldLink "HomeCompiler$Emitter" (21 : Nat) "HomeCompiler$Emitter" "targets" "[I") ∈ lw_all := lw_g (lw_at lw_m2 167 rfl) rfl
theorem q722 : (Jvm.Cond.fieldLink "HomeCompiler$Emitter" (31 : Nat) "HomeCompiler$Emitter" "jumpCount" "I") ∈ lw_all := lw_g (lw_at lw_m2 168 rfl) rfl
theorem q723 : (Jvm.Cond.lays "HomeCompiler$Emitter" "HomeCompiler$Emitter" "words" "[I") ∈ lw_all := lw_g (lw_at lw_m2 169 rfl) rfl
theorem q724 : (Jvm.Cond.soleField "HomeCompiler$Emitter" "words") ∈ lw_all := lw_g (lw_at lw_m2 170 rfl) rfl
theorem q725 : (Jvm.Cond.lays "HomeCompiler$Emitter" "HomeCompiler$Emitter" "count" "I") ∈ lw_all := lw_g (lw_at lw_m2 171 rfl) rfl
theorem q726 : (Jvm.Cond.soleField "HomeCompiler$Emitter" "count") ∈ lw_all := lw_g (lw_at lw_m2 172 rfl) rfl
theorem q727 : (Jvm.Cond.lays "HomeCompiler$Emitter" "HomeCompiler$Emitter" "labels" "[I") ∈ lw_all := lw_g (lw_at lw_m2 173 rfl) rfl
theorem q728 : (Jvm.Cond.soleField "HomeCompiler$Emitter" "labels") ∈ lw_all := lw_g (lw_at lw_m2 174 rfl) rfl
theorem q729 : (Jvm.Cond.lays "HomeCompiler$Emitter" "HomeCompiler$Emitter" "labelCount" "I") ∈ lw_all := lw_g (lw_at lw_m2 175 rfl) rfl
theorem q730 : (Jvm.Cond.soleField "HomeCompiler$Emitter" "labelCount") ∈ lw_all := lw_g (lw_at lw_m2 176 rfl) rfl
theorem q731 : (Jvm.Cond.lays "HomeCompiler$Emitter" "HomeCompiler$Emitter" "jumps" "[I") ∈ lw_all := lw_g (lw_at lw_m2 177 rfl) rfl
theorem q732 : (Jvm.Cond.soleField "HomeCompiler$Emitter" "jumps") ∈ lw_all := lw_g (lw_at lw_m2 178 rfl) rfl
theorem q733 : (Jvm.Cond.lays "HomeCompiler$Emitter" "HomeCompiler$Emitter" "targets" "[I") ∈ lw_all := lw_g (lw_at lw_m2 179 rfl) rfl
theorem q734 : (Jvm.Cond.soleField "HomeCompiler$Emitter" "targets") ∈ lw_all := lw_g (lw_at lw_m2 180 rfl) rfl
theorem q735 : (Jvm.Cond.lays "HomeCompiler$Emitter" "HomeCompiler$Emitter" "jumpCount" "I") ∈ lw_all := lw_g (lw_at lw_m2 181 rfl) rfl
theorem q736 : (Jvm.Cond.soleField "HomeCompiler$Emitter" "jumpCount") ∈ lw_all := lw_g (lw_at lw_m2 182 rfl) rfl
theorem q737 : (Jvm.Cond.superclass "HomeCompiler$Emitter" "java/lang/Object") ∈ lw_all := lw_g (lw_at lw_m2 183 rfl) rfl
theorem q1873 : (Jvm.Cond.instanceMethod ({ cls := "HomeCompiler$Emitter", name := "clear", desc := "()V" } : Jvm.MethodName)) ∈ lw_all := lw_g (lw_at lw_m7 119 rfl) rfl
theorem q1874 : (Jvm.Cond.selects "HomeCompiler$Emitter" ({ cls := "HomeCompiler$Emitter", name := "clear", desc := "()V" } : Jvm.MethodName) ({ cls := "HomeCompiler$Emitter", name := "clear", desc := "()V" } : Jvm.MethodName)) ∈ lw_all := lw_g (lw_at lw_m7 120 rfl) rfl
theorem q1875 : (Jvm.Cond.code ({ cls := "HomeCompiler$Emitter", name := "clear", desc := "()V" } : Jvm.MethodName) prog_6_method_2_code (1 : Nat) (Option.none : Option Jvm.ClassFile.FieldType)) ∈ lw_all := lw_g (lw_at lw_m7 121 rfl) rfl
theorem q1889 : (Jvm.Cond.instanceMethod ({ cls := "HomeCompiler$Emitter", name := "label", desc := "()I" } : Jvm.MethodName)) ∈ lw_all := lw_g (lw_at lw_m7 135 rfl) rfl
theorem q1890 : (Jvm.Cond.selects "HomeCompiler$Emitter" ({ cls := "HomeCompiler$Emitter", name := "label", desc := "()I" } : Jvm.MethodName) ({ cls := "HomeCompiler$Emitter", name := "label", desc := "()I" } : Jvm.MethodName)) ∈ lw_all := lw_g (lw_at lw_m7 136 rfl) rfl
theorem q1891 : (Jvm.Cond.code ({ cls := "HomeCompiler$Emitter", name := "label", desc := "()I" } : Jvm.MethodName) prog_6_method_7_code (1 : Nat) (Option.some Jvm.ClassFile.FieldType.int)) ∈ lw_all := lw_g (lw_at lw_m7 137 rfl) rfl
theorem q1892 : (Jvm.Cond.methodLink "HomeCompiler$Emitter" (40 : Nat) ({ cls := "HomeCompiler$Emitter", name := "longer", desc := "([I)[I" } : Jvm.MethodName)) ∈ lw_all := lw_g (lw_at lw_m7 138 rfl) rfl
theorem q1893 : (Jvm.Cond.static ({ cls := "HomeCompiler$Emitter", name := "longer", desc := "([I)[I" } : Jvm.MethodName)) ∈ lw_all := lw_g (lw_at lw_m7 139 rfl) rfl
theorem q1894 : (Jvm.Cond.code ({ cls := "HomeCompiler$Emitter", name := "longer", desc := "([I)[I" } : Jvm.MethodName) prog_6_method_5_code (2 : Nat) (Option.some (Jvm.ClassFile.FieldType.array Jvm.ClassFile.FieldType.int))) ∈ lw_all := lw_g (lw_at lw_m7 140 rfl) rfl
theorem q1895 : (Jvm.Cond.methodLink "HomeCompiler$Emitter" (34 : Nat) ({ cls := "java/lang/System", name := "arraycopy", desc := "(Ljava/lang/Object;ILjava/lang/Object;II)V" } : Jvm.MethodName)) ∈ lw_all := lw_g (lw_at lw_m7 141 rfl) rfl
theorem q1897 : (Jvm.Cond.instanceMethod ({ cls := "HomeCompiler$Emitter", name := "store", desc := "(IIII)V" } : Jvm.MethodName)) ∈ lw_all := lw_g (lw_at lw_m7 143 rfl) rfl
theorem q1898 : (Jvm.Cond.selects "HomeCompiler$Emitter" ({ cls := "HomeCompiler$Emitter", name := "store", desc := "(IIII)V" } : Jvm.MethodName) ({ cls := "HomeCompiler$Emitter", name := "store", desc := "(IIII)V" } : Jvm.MethodName)) ∈ lw_all := lw_g (lw_at lw_m7 144 rfl) rfl
theorem q1899 : (Jvm.Cond.code ({ cls := "HomeCompiler$Emitter", name := "store", desc := "(IIII)V" } : Jvm.MethodName) prog_6_method_13_code (5 : Nat) (Option.none : Option Jvm.ClassFile.FieldType)) ∈ lw_all := lw_g (lw_at lw_m7 145 rfl) rfl
theorem q1900 : (Jvm.Cond.methodLink "HomeCompiler$Emitter" (44 : Nat) ({ cls := "HomeCompiler$Emitter", name := "emit", desc := "(I)V" } : Jvm.MethodName)) ∈ lw_all := lw_g (lw_at lw_m7 146 rfl) rfl
theorem q1901 : (Jvm.Cond.instanceMethod ({ cls := "HomeCompiler$Emitter", name := "emit", desc := "(I)V" } : Jvm.MethodName)) ∈ lw_all := lw_g (lw_at lw_m7 147 rfl) rfl
theorem q1902 : (Jvm.Cond.selects "HomeCompiler$Emitter" ({ cls := "HomeCompiler$Emitter", name := "emit", desc := "(I)V" } : Jvm.MethodName) ({ cls := "HomeCompiler$Emitter", name := "emit", desc := "(I)V" } : Jvm.MethodName)) ∈ lw_all := lw_g (lw_at lw_m7 148 rfl) rfl
theorem q1903 : (Jvm.Cond.code ({ cls := "HomeCompiler$Emitter", name := "emit", desc := "(I)V" } : Jvm.MethodName) prog_6_method_6_code (2 : Nat) (Option.none : Option Jvm.ClassFile.FieldType)) ∈ lw_all := lw_g (lw_at lw_m7 149 rfl) rfl
theorem q1905 : (Jvm.Cond.instanceMethod ({ cls := "HomeCompiler$Emitter", name := "jump", desc := "(II)V" } : Jvm.MethodName)) ∈ lw_all := lw_g (lw_at lw_m7 151 rfl) rfl
theorem q1906 : (Jvm.Cond.selects "HomeCompiler$Emitter" ({ cls := "HomeCompiler$Emitter", name := "jump", desc := "(II)V" } : Jvm.MethodName) ({ cls := "HomeCompiler$Emitter", name := "jump", desc := "(II)V" } : Jvm.MethodName)) ∈ lw_all := lw_g (lw_at lw_m7 152 rfl) rfl
theorem q1907 : (Jvm.Cond.code ({ cls := "HomeCompiler$Emitter", name := "jump", desc := "(II)V" } : Jvm.MethodName) prog_6_method_24_code (3 : Nat) (Option.none : Option Jvm.ClassFile.FieldType)) ∈ lw_all := lw_g (lw_at lw_m7 153 rfl) rfl
theorem q1909 : (Jvm.Cond.instanceMethod ({ cls := "HomeCompiler$Emitter", name := "set", desc := "(II)V" } : Jvm.MethodName)) ∈ lw_all := lw_g (lw_at lw_m7 155 rfl) rfl
theorem q1910 : (Jvm.Cond.selects "HomeCompiler$Emitter" ({ cls := "HomeCompiler$Emitter", name := "set", desc := "(II)V" } : Jvm.MethodName) ({ cls := "HomeCompiler$Emitter", name := "set", desc := "(II)V" } : Jvm.MethodName)) ∈ lw_all := lw_g (lw_at lw_m7 156 rfl) rfl
theorem q1911 : (Jvm.Cond.code ({ cls := "HomeCompiler$Emitter", name := "set", desc := "(II)V" } : Jvm.MethodName) prog_6_method_17_code (3 : Nat) (Option.none : Option Jvm.ClassFile.FieldType)) ∈ lw_all := lw_g (lw_at lw_m7 157 rfl) rfl
theorem q1912 : (Jvm.Cond.methodLink "HomeCompiler$Emitter" (48 : Nat) ({ cls := "HomeCompiler$Emitter", name := "number", desc := "(IIII)V" } : Jvm.MethodName)) ∈ lw_all := lw_g (lw_at lw_m7 158 rfl) rfl
theorem q1913 : (Jvm.Cond.instanceMethod ({ cls := "HomeCompiler$Emitter", name := "number", desc := "(IIII)V" } : Jvm.MethodName)) ∈ lw_all := lw_g (lw_at lw_m7 159 rfl) rfl
theorem q1914 : (Jvm.Cond.selects "HomeCompiler$Emitter" ({ cls := "HomeCompiler$Emitter", name := "number", desc := "(IIII)V" } : Jvm.MethodName) ({ cls := "HomeCompiler$Emitter", name := "number", desc := "(IIII)V" } : Jvm.MethodName)) ∈ lw_all := lw_g (lw_at lw_m7 160 rfl) rfl
theorem q1915 : (Jvm.Cond.code ({ cls := "HomeCompiler$Emitter", name := "number", desc := "(IIII)V" } : Jvm.MethodName) prog_6_method_11_code (5 : Nat) (Option.none : Option Jvm.ClassFile.FieldType)) ∈ lw_all := lw_g (lw_at lw_m7 161 rfl) rfl
theorem q1916 : (Jvm.Cond.methodLink "HomeCompiler$Emitter" (52 : Nat) ({ cls := "HomeCompiler$Emitter", name := "setLong", desc := "(II)V" } : Jvm.MethodName)) ∈ lw_all := lw_g (lw_at lw_m7 162 rfl) rfl
theorem q1917 : (Jvm.Cond.privateMethod ({ cls := "HomeCompiler$Emitter", name := "setLong", desc := "(II)V" } : Jvm.MethodName)) ∈ lw_tbl := lw_at lw_m7 163 rfl
theorem q1918 : (Jvm.Cond.instanceMethod ({ cls := "HomeCompiler$Emitter", name := "setLong", desc := "(II)V" } : Jvm.MethodName)) ∈ lw_all := lw_g (lw_at lw_m7 164 rfl) rfl
theorem q1919 : (Jvm.Cond.code ({ cls := "HomeCompiler$Emitter", name := "setLong", desc := "(II)V" } : Jvm.MethodName) prog_6_method_18_code (3 : Nat) (Option.none : Option Jvm.ClassFile.FieldType)) ∈ lw_all := lw_g (lw_at lw_m7 165 rfl) rfl
theorem q1920 : (Jvm.Cond.methodLink "HomeCompiler$Emitter" (56 : Nat) ({ cls := "HomeCompiler$Emitter", name := "upper", desc := "(I)I" } : Jvm.MethodName)) ∈ lw_all := lw_g (lw_at lw_m7 166 rfl) rfl
theorem q1921 : (Jvm.Cond.static ({ cls := "HomeCompiler$Emitter", name := "upper", desc := "(I)I" } : Jvm.MethodName)) ∈ lw_all := lw_g (lw_at lw_m7 167 rfl) rfl
theorem q1922 : (Jvm.Cond.code ({ cls := "HomeCompiler$Emitter", name := "upper", desc := "(I)I" } : Jvm.MethodName) prog_6_method_16_code (1 : Nat) (Option.some Jvm.ClassFile.FieldType.int)) ∈ lw_all := lw_g (lw_at lw_m7 168 rfl) rfl
theorem q1924 : (Jvm.Cond.instanceMethod ({ cls := "HomeCompiler$Emitter", name := "call", desc := "()V" } : Jvm.MethodName)) ∈ lw_all := lw_g (lw_at lw_m7 170 rfl) rfl
theorem q1925 : (Jvm.Cond.selects "HomeCompiler$Emitter" ({ cls := "HomeCompiler$Emitter", name := "call", desc := "()V" } : Jvm.MethodName) ({ cls := "HomeCompiler$Emitter", name := "call", desc := "()V" } : Jvm.MethodName)) ∈ lw_all := lw_g (lw_at lw_m7 171 rfl) rfl
theorem q1926 : (Jvm.Cond.code ({ cls := "HomeCompiler$Emitter", name := "call", desc := "()V" } : Jvm.MethodName) prog_6_method_26_code (1 : Nat) (Option.none : Option Jvm.ClassFile.FieldType)) ∈ lw_all := lw_g (lw_at lw_m7 172 rfl) rfl
theorem q1928 : (Jvm.Cond.instanceMethod ({ cls := "HomeCompiler$Emitter", name := "here", desc := "(I)V" } : Jvm.MethodName)) ∈ lw_all := lw_g (lw_at lw_m7 174 rfl) rfl
theorem q1929 : (Jvm.Cond.selects "HomeCompiler$Emitter" ({ cls := "HomeCompiler$Emitter", name := "here", desc := "(I)V" } : Jvm.MethodName) ({ cls := "HomeCompiler$Emitter", name := "here", desc := "(I)V" } : Jvm.MethodName)) ∈ lw_all := lw_g (lw_at lw_m7 175 rfl) rfl
theorem q1930 : (Jvm.Cond.code ({ cls := "HomeCompiler$Emitter", name := "here", desc := "(I)V" } : Jvm.MethodName) prog_6_method_8_code (2 : Nat) (Option.none : Option Jvm.ClassFile.FieldType)) ∈ lw_all := lw_g (lw_at lw_m7 176 rfl) rfl
theorem q1988 : (Jvm.Cond.instanceMethod ({ cls := "HomeCompiler$Emitter", name := "branch", desc := "(IIII)V" } : Jvm.MethodName)) ∈ lw_all := lw_g (lw_at lw_m7 234 rfl) rfl
theorem q1989 : (Jvm.Cond.selects "HomeCompiler$Emitter" ({ cls := "HomeCompiler$Emitter", name := "branch", desc := "(IIII)V" } : Jvm.MethodName) ({ cls := "HomeCompiler$Emitter", name := "branch", desc := "(IIII)V" } : Jvm.MethodName)) ∈ lw_all := lw_g (lw_at lw_m7 235 rfl) rfl
theorem q1990 : (Jvm.Cond.code ({ cls := "HomeCompiler$Emitter", name := "branch", desc := "(IIII)V" } : Jvm.MethodName) prog_6_method_25_code (5 : Nat) (Option.none : Option Jvm.ClassFile.FieldType)) ∈ lw_all := lw_g (lw_at lw_m7 236 rfl) rfl
theorem q1991 : (Jvm.Cond.methodLink "HomeCompiler$Emitter" (76 : Nat) ({ cls := "HomeCompiler$Emitter", name := "jump", desc := "(II)V" } : Jvm.MethodName)) ∈ lw_all := lw_g (lw_at lw_m7 237 rfl) rfl
theorem q1995 : (Jvm.Cond.instanceMethod ({ cls := "HomeCompiler$Emitter", name := "add", desc := "(IIII)V" } : Jvm.MethodName)) ∈ lw_all := lw_g (lw_at lw_m8 1 rfl) rfl
theorem q1996 : (Jvm.Cond.selects "HomeCompiler$Emitter" ({ cls := "HomeCompiler$Emitter", name := "add", desc := "(IIII)V" } : Jvm.MethodName) ({ cls := "HomeCompiler$Emitter", name := "add", desc := "(IIII)V" } : Jvm.MethodName)) ∈ lw_all := lw_g (lw_at lw_m8 2 rfl) rfl
theorem q1997 : (Jvm.Cond.code ({ cls := "HomeCompiler$Emitter", name := "add", desc := "(IIII)V" } : Jvm.MethodName) prog_6_method_21_code (5 : Nat) (Option.none : Option Jvm.ClassFile.FieldType)) ∈ lw_all := lw_g (lw_at lw_m8 3 rfl) rfl
theorem q1998 : (Jvm.Cond.methodLink "HomeCompiler$Emitter" (60 : Nat) ({ cls := "HomeCompiler$Emitter", name := "set", desc := "(II)V" } : Jvm.MethodName)) ∈ lw_all := lw_g (lw_at lw_m8 4 rfl) rfl
theorem q1999 : (Jvm.Cond.methodLink "HomeCompiler$Emitter" (63 : Nat) ({ cls := "HomeCompiler$Emitter", name := "both", desc := "(IIIII)V" } : Jvm.MethodName)) ∈ lw_all := lw_g (lw_at lw_m8 5 rfl) rfl
theorem q2000 : (Jvm.Cond.instanceMethod ({ cls := "HomeCompiler$Emitter", name := "both", desc := "(IIIII)V" } : Jvm.MethodName)) ∈ lw_all := lw_g (lw_at lw_m8 6 rfl) rfl
theorem q2001 : (Jvm.Cond.selects "HomeCompiler$Emitter" ({ cls := "HomeCompiler$Emitter", name := "both", desc := "(IIIII)V" } : Jvm.MethodName) ({ cls := "HomeCompiler$Emitter", name := "both", desc := "(IIIII)V" } : Jvm.MethodName)) ∈ lw_all := lw_g (lw_at lw_m8 7 rfl) rfl
theorem q2002 : (Jvm.Cond.code ({ cls := "HomeCompiler$Emitter", name := "both", desc := "(IIIII)V" } : Jvm.MethodName) prog_6_method_10_code (6 : Nat) (Option.none : Option Jvm.ClassFile.FieldType)) ∈ lw_all := lw_g (lw_at lw_m8 8 rfl) rfl
theorem q2008 : (Jvm.Cond.instanceMethod ({ cls := "HomeCompiler$Emitter", name := "move", desc := "(II)V" } : Jvm.MethodName)) ∈ lw_all := lw_g (lw_at lw_m8 14 rfl) rfl
theorem q2009 : (Jvm.Cond.selects "HomeCompiler$Emitter" ({ cls := "HomeCompiler$Emitter", name := "move", desc := "(II)V" } : Jvm.MethodName) ({ cls := "HomeCompiler$Emitter", name := "move", desc := "(II)V" } : Jvm.MethodName)) ∈ lw_all := lw_g (lw_at lw_m8 15 rfl) rfl
theorem q2010 : (Jvm.Cond.code ({ cls := "HomeCompiler$Emitter", name := "move", desc := "(II)V" } : Jvm.MethodName) prog_6_method_15_code (3 : Nat) (Option.none : Option Jvm.ClassFile.FieldType)) ∈ lw_all := lw_g (lw_at lw_m8 16 rfl) rfl
theorem q2012 : (Jvm.Cond.instanceMethod ({ cls := "HomeCompiler$Emitter", name := "hole", desc := "(I)I" } : Jvm.MethodName)) ∈ lw_all := lw_g (lw_at lw_m8 18 rfl) rfl
theorem q2013 : (Jvm.Cond.selects "HomeCompiler$Emitter" ({ cls := "HomeCompiler$Emitter", name := "hole", desc := "(I)I" } : Jvm.MethodName) ({ cls := "HomeCompiler$Emitter", name := "hole", desc := "(I)I" } : Jvm.MethodName)) ∈ lw_all := lw_g (lw_at lw_m8 19 rfl) rfl
theorem q2014 : (Jvm.Cond.code ({ cls := "HomeCompiler$Emitter", name := "hole", desc := "(I)I" } : Jvm.MethodName) prog_6_method_19_code (3 : Nat) (Option.some Jvm.ClassFile.FieldType.int)) ∈ lw_all := lw_g (lw_at lw_m8 20 rfl) rfl
theorem q2021 : (Jvm.Cond.instanceMethod ({ cls := "HomeCompiler$Emitter", name := "storeAt", desc := "(IIII)V" } : Jvm.MethodName)) ∈ lw_all := lw_g (lw_at lw_m8 27 rfl) rfl
theorem q2022 : (Jvm.Cond.selects "HomeCompiler$Emitter" ({ cls := "HomeCompiler$Emitter", name := "storeAt", desc := "(IIII)V" } : Jvm.MethodName) ({ cls := "HomeCompiler$Emitter", name := "storeAt", desc := "(IIII)V" } : Jvm.MethodName)) ∈ lw_all := lw_g (lw_at lw_m8 28 rfl) rfl
theorem q2023 : (Jvm.Cond.code ({ cls := "HomeCompiler$Emitter", name := "storeAt", desc := "(IIII)V" } : Jvm.MethodName) prog_6_method_23_code (5 : Nat) (Option.none : Option Jvm.ClassFile.FieldType)) ∈ lw_all := lw_g (lw_at lw_m8 29 rfl) rfl
theorem q2024 : (Jvm.Cond.methodLink "HomeCompiler$Emitter" (73 : Nat) ({ cls := "HomeCompiler$Emitter", name := "store", desc := "(IIII)V" } : Jvm.MethodName)) ∈ lw_all := lw_g (lw_at lw_m8 30 rfl) rfl
theorem q2025 : (Jvm.Cond.methodLink "HomeCompiler$Emitter" (70 : Nat) ({ cls := "HomeCompiler$Emitter", name := "add", desc := "(IIII)V" } : Jvm.MethodName)) ∈ lw_all := lw_g (lw_at lw_m8 31 rfl) rfl
theorem q2057 : (Jvm.Cond.instanceMethod ({ cls := "HomeCompiler$Emitter", name := "loadAt", desc := "(IIII)V" } : Jvm.MethodName)) ∈ lw_all := lw_g (lw_at lw_m8 63 rfl) rfl
theorem q2058 : (Jvm.Cond.selects "HomeCompiler$Emitter" ({ cls := "HomeCompiler$Emitter", name := "loadAt", desc := "(IIII)V" } : Jvm.MethodName) ({ cls := "HomeCompiler$Emitter", name := "loadAt", desc := "(IIII)V" } : Jvm.MethodName)) ∈ lw_all := lw_g (lw_at lw_m8 64 rfl) rfl
theorem q2059 : (Jvm.Cond.code ({ cls := "HomeCompiler$Emitter", name := "loadAt", desc := "(IIII)V" } : Jvm.MethodName) prog_6_method_22_code (5 : Nat) (Option.none : Option Jvm.ClassFile.FieldType)) ∈ lw_all := lw_g (lw_at lw_m8 65 rfl) rfl
theorem q2060 : (Jvm.Cond.methodLink "HomeCompiler$Emitter" (67 : Nat) ({ cls := "HomeCompiler$Emitter", name := "load", desc := "(IIII)V" } : Jvm.MethodName)) ∈ lw_all := lw_g (lw_at lw_m8 66 rfl) rfl
theorem q2061 : (Jvm.Cond.instanceMethod ({ cls := "HomeCompiler$Emitter", name := "load", desc := "(IIII)V" } : Jvm.MethodName)) ∈ lw_all := lw_g (lw_at lw_m8 67 rfl) rfl
theorem q2062 : (Jvm.Cond.selects "HomeCompiler$Emitter" ({ cls := "HomeCompiler$Emitter", name := "load", desc := "(IIII)V" } : Jvm.MethodName) ({ cls := "HomeCompiler$Emitter", name := "load", desc := "(IIII)V" } : Jvm.MethodName)) ∈ lw_all := lw_g (lw_at lw_m8 68 rfl) rfl
theorem q2063 : (Jvm.Cond.code ({ cls := "HomeCompiler$Emitter", name := "load", desc := "(IIII)V" } : Jvm.MethodName) prog_6_method_12_code (5 : Nat) (Option.none : Option Jvm.ClassFile.FieldType)) ∈ lw_all := lw_g (lw_at lw_m8 69 rfl) rfl
theorem q2208 : (Jvm.Cond.instanceMethod ({ cls := "HomeCompiler$Emitter", name := "control", desc := "(IIII)V" } : Jvm.MethodName)) ∈ lw_all := lw_g (lw_at lw_m8 214 rfl) rfl
theorem q2209 : (Jvm.Cond.selects "HomeCompiler$Emitter" ({ cls := "HomeCompiler$Emitter", name := "control", desc := "(IIII)V" } : Jvm.MethodName) ({ cls := "HomeCompiler$Emitter", name := "control", desc := "(IIII)V" } : Jvm.MethodName)) ∈ lw_all := lw_g (lw_at lw_m8 215 rfl) rfl
theorem q2210 : (Jvm.Cond.code ({ cls := "HomeCompiler$Emitter", name := "control", desc := "(IIII)V" } : Jvm.MethodName) prog_6_method_14_code (5 : Nat) (Option.none : Option Jvm.ClassFile.FieldType)) ∈ lw_all := lw_g (lw_at lw_m8 216 rfl) rfl
theorem q2322 : (Jvm.Cond.instanceMethod ({ cls := "HomeCompiler$Emitter", name := "fill", desc := "(III)V" } : Jvm.MethodName)) ∈ lw_all := lw_g (lw_at lw_m9 88 rfl) rfl
theorem q2323 : (Jvm.Cond.selects "HomeCompiler$Emitter" ({ cls := "HomeCompiler$Emitter", name := "fill", desc := "(III)V" } : Jvm.MethodName) ({ cls := "HomeCompiler$Emitter", name := "fill", desc := "(III)V" } : Jvm.MethodName)) ∈ lw_all := lw_g (lw_at lw_m9 89 rfl) rfl
theorem q2324 : (Jvm.Cond.code ({ cls := "HomeCompiler$Emitter", name := "fill", desc := "(III)V" } : Jvm.MethodName) prog_6_method_20_code (5 : Nat) (Option.none : Option Jvm.ClassFile.FieldType)) ∈ lw_all := lw_g (lw_at lw_m9 90 rfl) rfl
theorem q2331 : (Jvm.Cond.instanceMethod ({ cls := "HomeCompiler$Emitter", name := "finish", desc := "()V" } : Jvm.MethodName)) ∈ lw_all := lw_g (lw_at lw_m9 97 rfl) rfl
theorem q2332 : (Jvm.Cond.selects "HomeCompiler$Emitter" ({ cls := "HomeCompiler$Emitter", name := "finish", desc := "()V" } : Jvm.MethodName) ({ cls := "HomeCompiler$Emitter", name := "finish", desc := "()V" } : Jvm.MethodName)) ∈ lw_all := lw_g (lw_at lw_m9 98 rfl) rfl
theorem q2333 : (Jvm.Cond.code ({ cls := "HomeCompiler$Emitter", name := "finish", desc := "()V" } : Jvm.MethodName) prog_6_method_27_code (3 : Nat) (Option.none : Option Jvm.ClassFile.FieldType)) ∈ lw_all := lw_g (lw_at lw_m9 99 rfl) rfl
theorem q2335 : (Jvm.Cond.instanceMethod ({ cls := "HomeCompiler$Emitter", name := "count", desc := "()I" } : Jvm.MethodName)) ∈ lw_all := lw_g (lw_at lw_m9 101 rfl) rfl
theorem q2336 : (Jvm.Cond.selects "HomeCompiler$Emitter" ({ cls := "HomeCompiler$Emitter", name := "count", desc := "()I" } : Jvm.MethodName) ({ cls := "HomeCompiler$Emitter", name := "count", desc := "()I" } : Jvm.MethodName)) ∈ lw_all := lw_g (lw_at lw_m9 102 rfl) rfl
theorem q2337 : (Jvm.Cond.code ({ cls := "HomeCompiler$Emitter", name := "count", desc := "()I" } : Jvm.MethodName) prog_6_method_3_code (1 : Nat) (Option.some Jvm.ClassFile.FieldType.int)) ∈ lw_all := lw_g (lw_at lw_m9 103 rfl) rfl
theorem q2339 : (Jvm.Cond.instanceMethod ({ cls := "HomeCompiler$Emitter", name := "word", desc := "(I)I" } : Jvm.MethodName)) ∈ lw_all := lw_g (lw_at lw_m9 105 rfl) rfl
theorem q2340 : (Jvm.Cond.selects "HomeCompiler$Emitter" ({ cls := "HomeCompiler$Emitter", name := "word", desc := "(I)I" } : Jvm.MethodName) ({ cls := "HomeCompiler$Emitter", name := "word", desc := "(I)I" } : Jvm.MethodName)) ∈ lw_all := lw_g (lw_at lw_m9 106 rfl) rfl
theorem q2341 : (Jvm.Cond.code ({ cls := "HomeCompiler$Emitter", name := "word", desc := "(I)I" } : Jvm.MethodName) prog_6_method_4_code (2 : Nat) (Option.some Jvm.ClassFile.FieldType.int)) ∈ lw_all := lw_g (lw_at lw_m9 107 rfl) rfl
theorem in_X12 : ∀ w ∈ wsX120, w ∈ lw_all := lw_in wsX120 [723, 725, 727, 729, 731, 733, 735] (by decide +kernel) (by decide +kernel)
/-! X13.HomeCompiler_Generator.lean.txt -/
def RX13 : String := "HomeCompiler$Generator"
def TX13 : u_T := fun k => match k with
  | 0 => ("HomeCompiler$Generator", "nodes", "LHomeCompiler$Nodes;", true)
  | 1 => ("HomeCompiler$Generator", "checker", "LHomeCompiler$Checker;", true)
  | 2 => ("HomeCompiler$Generator", "variables", "LHomeCompiler$Variables;", true)
  | 3 => ("HomeCompiler$Generator", "words", "LHomeCompiler$Words;", true)
  | 4 => ("HomeCompiler$Generator", "strings", "LHomeCompiler$Bytes;", true)
  | 5 => ("HomeCompiler$Generator", "out", "LHomeCompiler$Emitter;", true)
  | 6 => ("HomeCompiler$Generator", "folder", "LHomeCompiler$Folder;", true)
  | 7 => ("HomeCompiler$Generator", "homes", "LHomeCompiler$Homes;", true)
  | 8 => ("HomeCompiler$Generator", "entries", "[I", false)
  | 9 => ("HomeCompiler$Generator", "globals", "[I", false)
  | 10 => ("HomeCompiler$Generator", "ends", "[I", true)
  | 11 => ("HomeCompiler$Generator", "most", "I", false)
  | 12 => ("HomeCompiler$Generator", "leave", "I", false)
  | 13 => ("HomeCompiler$Generator", "result", "I", false)
  | 14 => ("HomeCompiler$Generator", "breakTo", "I", false)
  | 15 => ("HomeCompiler$Generator", "continueTo", "I", false)
  | 16 => ("HomeCompiler$Generator", "askedList", "I", false)
  | 17 => ("HomeCompiler$Generator", "askedAt", "I", false)
  | _ => ("HomeCompiler$Generator", "asked", "I", false)
def tyX13 : Nat → FieldType := fun k => match k with
  | 0 => .object "HomeCompiler$Nodes"
  | 1 => .object "HomeCompiler$Checker"
  | 2 => .object "HomeCompiler$Variables"
  | 3 => .object "HomeCompiler$Words"
  | 4 => .object "HomeCompiler$Bytes"
  | 5 => .object "HomeCompiler$Emitter"
  | 6 => .object "HomeCompiler$Folder"
  | 7 => .object "HomeCompiler$Homes"
  | 8 => .array .int
  | 9 => .array .int
  | 10 => .array .int
  | 11 => .int
  | 12 => .int
  | 13 => .int
  | 14 => .int
  | 15 => .int
  | 16 => .int
  | 17 => .int
  | _ => .int
abbrev wsX130 : List Cond := u_ws RX13 TX13 19
theorem nmX13 : ∀ a, a < 19 → ∀ b, b < 19 → a ≠ b → (TX13 a).2.1 ≠ (TX13 b).2.1 := by decide +kernel
theorem tyX13_ok : ∀ k, k < 19 → parseFieldDescriptor (TX13 k).2.2.1 = some (tyX13 k) := by decide +kernel
abbrev cX13_init : ByteArray := prog_8_method_1_code
def yX13_init : MethodName := ⟨RX13, "<init>", "(LHomeCompiler$Nodes;LHomeCompiler$Checker;LHomeCompiler$Words;LHomeCompiler$Bytes;LHomeCompiler$Emitter;)V"⟩
abbrev cX13_placeAll : ByteArray := prog_8_method_2_code
def yX13_placeAll : MethodName := ⟨RX13, "placeAll", "(I)I"⟩
abbrev cX13_compile : ByteArray := prog_8_method_3_code
def yX13_compile : MethodName := ⟨RX13, "compile", "(I)V"⟩
abbrev cX13_function : ByteArray := prog_8_method_6_code
def yX13_function : MethodName := ⟨RX13, "function", "(II)V"⟩
abbrev cX13_takeWork : ByteArray := prog_8_method_7_code
def yX13_takeWork : MethodName := ⟨RX13, "takeWork", "()V"⟩
abbrev cX13_end : ByteArray := prog_8_method_5_code
def yX13_end : MethodName := ⟨RX13, "end", "(I)I"⟩
abbrev cX13_begin : ByteArray := prog_8_method_8_code
def yX13_begin : MethodName := ⟨RX13, "begin", "(I)I"⟩
abbrev cX13_clear : ByteArray := prog_8_method_10_code
def yX13_clear : MethodName := ⟨RX13, "clear", "(III)V"⟩
abbrev cX13_statements : ByteArray := prog_8_method_21_code
def yX13_statements : MethodName := ⟨RX13, "statements", "(I)V"⟩
abbrev cX13_statement : ByteArray := prog_8_method_22_code
def yX13_statement : MethodName := ⟨RX13, "statement", "(I)V"⟩
abbrev cX13_variable : ByteArray := prog_8_method_28_code
def yX13_variable : MethodName := ⟨RX13, "variable", "(I)V"⟩
abbrev cX13_array : ByteArray := prog_8_method_32_code
def yX13_array : MethodName := ⟨RX13, "array", "(II)V"⟩
abbrev cX13_given : ByteArray := prog_8_method_31_code
def yX13_given : MethodName := ⟨RX13, "given", "(IZ)I"⟩
abbrev cX13_begins : ByteArray := prog_8_method_29_code
def yX13_begins : MethodName := ⟨RX13, "begins", "(IZI)I"⟩
abbrev cX13_element : ByteArray := prog_8_method_30_code
def yX13_element : MethodName := ⟨RX13, "element", "(II)I"⟩
abbrev cX13_value : ByteArray := prog_8_method_40_code
def yX13_value : MethodName := ⟨RX13, "value", "(II)I"⟩
abbrev cX13_dest : ByteArray := prog_8_method_14_code
def yX13_dest : MethodName := ⟨RX13, "dest", "(I)I"⟩
abbrev cX13_temp : ByteArray := prog_8_method_11_code
def yX13_temp : MethodName := ⟨RX13, "temp", "(I)I"⟩
abbrev cX13_keep : ByteArray := prog_8_method_15_code
def yX13_keep : MethodName := ⟨RX13, "keep", "(I)I"⟩
abbrev cX13_met : ByteArray := prog_8_method_13_code
def yX13_met : MethodName := ⟨RX13, "met", "(I)V"⟩
abbrev cX13_slot : ByteArray := prog_8_method_12_code
def yX13_slot : MethodName := ⟨RX13, "slot", "(I)I"⟩
abbrev cX13_name : ByteArray := prog_8_method_41_code
def yX13_name : MethodName := ⟨RX13, "name", "(II)I"⟩
abbrev cX13_read : ByteArray := prog_8_method_34_code
def yX13_read : MethodName := ⟨RX13, "read", "(II)V"⟩
abbrev cX13_reach : ByteArray := prog_8_method_37_code
def yX13_reach : MethodName := ⟨RX13, "reach", "(II)V"⟩
abbrev cX13_use : ByteArray := prog_8_method_16_code
def yX13_use : MethodName := ⟨RX13, "use", "(II)I"⟩
abbrev cX13_length : ByteArray := prog_8_method_36_code
def yX13_length : MethodName := ⟨RX13, "length", "(II)V"⟩
abbrev cX13_address : ByteArray := prog_8_method_35_code
def yX13_address : MethodName := ⟨RX13, "address", "(III)V"⟩
abbrev cX13_loadElement : ByteArray := prog_8_method_38_code
def yX13_loadElement : MethodName := ⟨RX13, "loadElement", "(II)V"⟩
abbrev cX13_call : ByteArray := prog_8_method_58_code
def yX13_call : MethodName := ⟨RX13, "call", "(II)I"⟩
abbrev cX13_own : ByteArray := prog_8_method_59_code
def yX13_own : MethodName := ⟨RX13, "own", "(III)I"⟩
abbrev cX13_isHome : ByteArray := prog_8_method_18_code
def yX13_isHome : MethodName := ⟨RX13, "isHome", "(II)Z"⟩
abbrev cX13_copy : ByteArray := prog_8_method_17_code
def yX13_copy : MethodName := ⟨RX13, "copy", "(II)I"⟩
abbrev cX13_isArray : ByteArray := prog_8_method_57_code
def yX13_isArray : MethodName := ⟨RX13, "isArray", "(I)Z"⟩
abbrev cX13_handOn : ByteArray := prog_8_method_56_code
def yX13_handOn : MethodName := ⟨RX13, "handOn", "(II)V"⟩
abbrev cX13_save : ByteArray := prog_8_method_19_code
def yX13_save : MethodName := ⟨RX13, "save", "(I)V"⟩
abbrev cX13_takeBack : ByteArray := prog_8_method_20_code
def yX13_takeBack : MethodName := ⟨RX13, "takeBack", "(I)V"⟩
abbrev cX13_set : ByteArray := prog_8_method_52_code
def yX13_set : MethodName := ⟨RX13, "set", "(III)I"⟩
abbrev cX13_within : ByteArray := prog_8_method_51_code
def yX13_within : MethodName := ⟨RX13, "within", "(I)I"⟩
abbrev cX13_reckon : ByteArray := prog_8_method_49_code
def yX13_reckon : MethodName := ⟨RX13, "reckon", "(IIII)V"⟩
abbrev cX13_compare : ByteArray := prog_8_method_50_code
def yX13_compare : MethodName := ⟨RX13, "compare", "(IIII)V"⟩
abbrev cX13_assign : ByteArray := prog_8_method_33_code
def yX13_assign : MethodName := ⟨RX13, "assign", "(III)I"⟩
abbrev cX13_storeElement : ByteArray := prog_8_method_39_code
def yX13_storeElement : MethodName := ⟨RX13, "storeElement", "(II)V"⟩
abbrev cX13_narrowed : ByteArray := prog_8_method_53_code
def yX13_narrowed : MethodName := ⟨RX13, "narrowed", "(III)I"⟩
abbrev cX13_count : ByteArray := prog_8_method_54_code
def yX13_count : MethodName := ⟨RX13, "count", "(III)I"⟩
abbrev cX13_assignFromT0 : ByteArray := prog_8_method_55_code
def yX13_assignFromT0 : MethodName := ⟨RX13, "assignFromT0", "(I)V"⟩
abbrev cX13_unary : ByteArray := prog_8_method_42_code
def yX13_unary : MethodName := ⟨RX13, "unary", "(III)I"⟩
abbrev cX13_choice : ByteArray := prog_8_method_44_code
def yX13_choice : MethodName := ⟨RX13, "choice", "(II)I"⟩
abbrev cX13_branch : ByteArray := prog_8_method_60_code
def yX13_branch : MethodName := ⟨RX13, "branch", "(IIZI)V"⟩
abbrev cX13_decide : ByteArray := prog_8_method_61_code
def yX13_decide : MethodName := ⟨RX13, "decide", "(IIIZI)V"⟩
abbrev cX13_compared : ByteArray := prog_8_method_62_code
def yX13_compared : MethodName := ⟨RX13, "compared", "(IIZI)V"⟩
abbrev cX13_truth : ByteArray := prog_8_method_43_code
def yX13_truth : MethodName := ⟨RX13, "truth", "(II)I"⟩
abbrev cX13_chain : ByteArray := prog_8_method_45_code
def yX13_chain : MethodName := ⟨RX13, "chain", "(II)I"⟩
abbrev cX13_isShort : ByteArray := prog_8_method_46_code
def yX13_isShort : MethodName := ⟨RX13, "isShort", "(II)Z"⟩
abbrev cX13_withNumber : ByteArray := prog_8_method_48_code
def yX13_withNumber : MethodName := ⟨RX13, "withNumber", "(IIII)V"⟩
abbrev cX13_power : ByteArray := prog_8_method_47_code
def yX13_power : MethodName := ⟨RX13, "power", "(I)I"⟩
abbrev cX13_choosing : ByteArray := prog_8_method_24_code
def yX13_choosing : MethodName := ⟨RX13, "choosing", "(I)V"⟩
abbrev cX13_looping : ByteArray := prog_8_method_26_code
def yX13_looping : MethodName := ⟨RX13, "looping", "(IIIZ)V"⟩
abbrev cX13_counting : ByteArray := prog_8_method_25_code
def yX13_counting : MethodName := ⟨RX13, "counting", "(I)V"⟩
abbrev cX13_switching : ByteArray := prog_8_method_27_code
def yX13_switching : MethodName := ⟨RX13, "switching", "(II)V"⟩
abbrev cX13_returning : ByteArray := prog_8_method_23_code
def yX13_returning : MethodName := ⟨RX13, "returning", "(I)V"⟩
abbrev cX13_finish : ByteArray := prog_8_method_9_code
def yX13_finish : MethodName := ⟨RX13, "finish", "(I)V"⟩
abbrev cX13_address_2 : ByteArray := prog_8_method_4_code
def yX13_address_2 : MethodName := ⟨RX13, "address", "(I)I"⟩
theorem q327 : (Jvm.Cond.initialized "HomeCompiler$Generator") ∈ lw_all := lw_g (lw_at lw_m1 13 rfl) rfl
theorem q739 : (Jvm.Cond.instantiable "HomeCompiler$Generator" (19 : Nat)) ∈ lw_all := lw_g (lw_at lw_m2 185 rfl) rfl
theorem q741 : (Jvm.Cond.instanceMethod ({ cls := "HomeCompiler$Generator", name := "<init>", desc := "(LHomeCompiler$Nodes;LHomeCompiler$Checker;LHomeCompiler$Words;LHomeCompiler$Bytes;LHomeCompiler$Emitter;)V" } : Jvm.MethodName)) ∈ lw_all := lw_g (lw_at lw_m2 187 rfl) rfl
theorem q742 : (Jvm.Cond.code ({ cls := "HomeCompiler$Generator", name := "<init>", desc := "(LHomeCompiler$Nodes;LHomeCompiler$Checker;LHomeCompiler$Words;LHomeCompiler$Bytes;LHomeCompiler$Emitter;)V" } : Jvm.MethodName) prog_8_method_1_code (6 : Nat) (Option.none : Option Jvm.ClassFile.FieldType)) ∈ lw_all := lw_g (lw_at lw_m2 188 rfl) rfl
theorem q743 : (Jvm.Cond.methodLink "HomeCompiler$Generator" (3 : Nat) ({ cls := "java/lang/Object", name := "<init>", desc := "()V" } : Jvm.MethodName)) ∈ lw_all := lw_g (lw_at lw_m2 189 rfl) rfl
theorem q744 : (Jvm.Cond.methodLink "HomeCompiler$Generator" (33 : Nat) ({ cls := "HomeCompiler$Checker", name := "variables", desc := "()LHomeCompiler$Variables;" } : Jvm.MethodName)) ∈ lw_all := lw_g (lw_at lw_m2 190 rfl) rfl
theorem q748 : (Jvm.Cond.classLink "HomeCompiler$Generator" (54 : Nat) "HomeCompiler$Folder") ∈ lw_all := lw_g (lw_at lw_m2 194 rfl) rfl
theorem q750 : (Jvm.Cond.methodLink "HomeCompiler$Generator" (56 : Nat) ({ cls := "HomeCompiler$Folder", name := "<init>", desc := "(LHomeCompiler$Nodes;)V" } : Jvm.MethodName)) ∈ lw_all := lw_g (lw_at lw_m2 196 rfl) rfl
theorem q761 : (Jvm.Cond.classLink "HomeCompiler$Generator" (63 : Nat) "HomeCompiler$Homes") ∈ lw_all := lw_g (lw_at lw_m2 207 rfl) rfl
theorem q763 : (Jvm.Cond.methodLink "HomeCompiler$Generator" (65 : Nat) ({ cls := "HomeCompiler$Homes", name := "<init>", desc := "(LHomeCompiler$Nodes;LHomeCompiler$Variables;)V" } : Jvm.MethodName)) ∈ lw_all := lw_g (lw_at lw_m2 209 rfl) rfl
theorem q795 : (Jvm.Cond.fieldLink "HomeCompiler$Generator" (25 : Nat) "HomeCompiler$Generator" "nodes" "LHomeCompiler$Nodes;") ∈ lw_all := lw_g (lw_at lw_m3 1 rfl) rfl
theorem q796 : (Jvm.Cond.fieldLink "HomeCompiler$Generator" (29 : Nat) "HomeCompiler$Generator" "checker" "LHomeCompiler$Checker;") ∈ lw_all := lw_g (lw_at lw_m3 2 rfl) rfl
theorem q797 : (Jvm.Cond.fieldLink "HomeCompiler$Generator" (39 : Nat) "HomeCompiler$Generator" "variables" "LHomeCompiler$Variables;") ∈ lw_all := lw_g (lw_at lw_m3 3 rfl) rfl
theorem q798 : (Jvm.Cond.fieldLink "HomeCompiler$Generator" (42 : Nat) "HomeCompiler$Generator" "words" "LHomeCompiler$Words;") ∈ lw_all := lw_g (lw_at lw_m3 4 rfl) rfl
theorem q799 : (Jvm.Cond.fieldLink "HomeCompiler$Generator" (46 : Nat) "HomeCompiler$Generator" "strings" "LHomeCompiler$Bytes;") ∈ lw_all := lw_g (lw_at lw_m3 5 rfl) rfl
theorem q800 : (Jvm.Cond.fieldLink "HomeCompiler$Generator" (50 : Nat) "HomeCompiler$Generator" "out" "LHomeCompiler$Emitter;") ∈ lw_all := lw_g (lw_at lw_m3 6 rfl) rfl
theorem q801 : (Jvm.Cond.fieldLink "HomeCompiler$Generator" (59 : Nat) "HomeCompiler$Generator" "folder" "LHomeCompiler$Folder;") ∈ lw_all := lw_g (lw_at lw_m3 7 rfl) rfl
theorem q802 : (Jvm.Cond.fieldLink "HomeCompiler$Generator" (68 : Nat) "HomeCompiler$Generator" "homes" "LHomeCompiler$Homes;") ∈ lw_all := lw_g (lw_at lw_m3 8 rfl) rfl
theorem q803 : (Jvm.Cond.fieldLink "HomeCompiler$Generator" (9 : Nat) "HomeCompiler$Generator" "entries" "[I") ∈ lw_all := lw_g (lw_at lw_m3 9 rfl) rfl
theorem q804 : (Jvm.Cond.fieldLink "HomeCompiler$Generator" (15 : Nat) "HomeCompiler$Generator" "globals" "[I") ∈ lw_all := lw_g (lw_at lw_m3 10 rfl) rfl
theorem q805 : (Jvm.Cond.fieldLink "HomeCompiler$Generator" (18 : Nat) "HomeCompiler$Generator" "ends" "[I") ∈ lw_all := lw_g (lw_at lw_m3 11 rfl) rfl
theorem q806 : (Jvm.Cond.fieldLink "HomeCompiler$Generator" (117 : Nat) "HomeCompiler$Generator" "most" "I") ∈ lw_all := lw_g (lw_at lw_m3 12 rfl) rfl
theorem q807 : (Jvm.Cond.fieldLink "HomeCompiler$Generator" (120 : Nat) "HomeCompiler$Generator" "leave" "I") ∈ lw_all := lw_g (lw_at lw_m3 13 rfl) rfl
theorem q808 : (Jvm.Cond.fieldLink "HomeCompiler$Generator" (128 : Nat) "HomeCompiler$Generator" "result" "I") ∈ lw_all := lw_g (lw_at lw_m3 14 rfl) rfl
theorem q809 : (Jvm.Cond.fieldLink "HomeCompiler$Generator" (131 : Nat) "HomeCompiler$Generator" "breakTo" "I") ∈ lw_all := lw_g (lw_at lw_m3 15 rfl) rfl
theorem q810 : (Jvm.Cond.fieldLink "HomeCompiler$Generator" (134 : Nat) "HomeCompiler$Generator" "continueTo" "I") ∈ lw_all := lw_g (lw_at lw_m3 16 rfl) rfl
theorem q811 : (Jvm.Cond.fieldLink "HomeCompiler$Generator" (21 : Nat) "HomeCompiler$Generator" "askedList" "I") ∈ lw_all := lw_g (lw_at lw_m3 17 rfl) rfl
theorem q812 : (Jvm.Cond.fieldLink "HomeCompiler$Generator" (308 : Nat) "HomeCompiler$Generator" "askedAt" "I") ∈ lw_all := lw_g (lw_at lw_m3 18 rfl) rfl
theorem q813 : (Jvm.Cond.fieldLink "HomeCompiler$Generator" (311 : Nat) "HomeCompiler$Generator" "asked" "I") ∈ lw_all := lw_g (lw_at lw_m3 19 rfl) rfl
theorem q814 : (Jvm.Cond.laysFinal "HomeCompiler$Generator" "HomeCompiler$Generator" "nodes" "LHomeCompiler$Nodes;") ∈ lw_all := lw_g (lw_at lw_m3 20 rfl) rfl
theorem q815 : (Jvm.Cond.soleField "HomeCompiler$Generator" "nodes") ∈ lw_all := lw_g (lw_at lw_m3 21 rfl) rfl
theorem q816 : (Jvm.Cond.laysFinal "HomeCompiler$Generator" "HomeCompiler$Generator" "checker" "LHomeCompiler$Checker;") ∈ lw_all := lw_g (lw_at lw_m3 22 rfl) rfl
theorem q817 : (Jvm.Cond.soleField "HomeCompiler$Generator" "checker") ∈ lw_all := lw_g (lw_at lw_m3 23 rfl) rfl
theorem q818 : (Jvm.Cond.laysFinal "HomeCompiler$Generator" "HomeCompiler$Generator" "variables" "LHomeCompiler$Variables;") ∈ lw_all := lw_g (lw_at lw_m3 24 rfl) rfl
theorem q819 : (Jvm.Cond.soleField "HomeCompiler$Generator" "variables") ∈ lw_all := lw_g (lw_at lw_m3 25 rfl) rfl
theorem q820 : (Jvm.Cond.laysFinal "HomeCompiler$Generator" "HomeCompiler$Generator" "words" "LHomeCompiler$Words;") ∈ lw_all := lw_g (lw_at lw_m3 26 rfl) rfl
theorem q821 : (Jvm.Cond.soleField "HomeCompiler$Generator" "words") ∈ lw_all := lw_g (lw_at lw_m3 27 rfl) rfl
theorem q822 : (Jvm.Cond.laysFinal "HomeCompiler$Generator" "HomeCompiler$Generator" "strings" "LHomeCompiler$Bytes;") ∈ lw_all := lw_g (lw_at lw_m3 28 rfl) rfl
theorem q823 : (Jvm.Cond.soleField "HomeCompiler$Generator" "strings") ∈ lw_all := lw_g (lw_at lw_m3 29 rfl) rfl
theorem q824 : (Jvm.Cond.laysFinal "HomeCompiler$Generator" "HomeCompiler$Generator" "out" "LHomeCompiler$Emitter;") ∈ lw_all := lw_g (lw_at lw_m3 30 rfl) rfl
theorem q825 : (Jvm.Cond.soleField "HomeCompiler$Generator" "out") ∈ lw_all := lw_g (lw_at lw_m3 31 rfl) rfl
theorem q826 : (Jvm.Cond.laysFinal "HomeCompiler$Generator" "HomeCompiler$Generator" "folder" "LHomeCompiler$Folder;") ∈ lw_all := lw_g (lw_at lw_m3 32 rfl) rfl
theorem q827 : (Jvm.Cond.soleField "HomeCompiler$Generator" "folder") ∈ lw_all := lw_g (lw_at lw_m3 33 rfl) rfl
theorem q828 : (Jvm.Cond.laysFinal "HomeCompiler$Generator" "HomeCompiler$Generator" "homes" "LHomeCompiler$Homes;") ∈ lw_all := lw_g (lw_at lw_m3 34 rfl) rfl
theorem q829 : (Jvm.Cond.soleField "HomeCompiler$Generator" "homes") ∈ lw_all := lw_g (lw_at lw_m3 35 rfl) rfl
theorem q830 : (Jvm.Cond.lays "HomeCompiler$Generator" "HomeCompiler$Generator" "entries" "[I") ∈ lw_all := lw_g (lw_at lw_m3 36 rfl) rfl
theorem q831 : (Jvm.Cond.soleField "HomeCompiler$Generator" "entries") ∈ lw_all := lw_g (lw_at lw_m3 37 rfl) rfl
theorem q832 : (Jvm.Cond.lays "HomeCompiler$Generator" "HomeCompiler$Generator" "globals" "[I") ∈ lw_all := lw_g (lw_at lw_m3 38 rfl) rfl
theorem q833 : (Jvm.Cond.soleField "HomeCompiler$Generator" "globals") ∈ lw_all := lw_g (lw_at lw_m3 39 rfl) rfl
theorem q834 : (Jvm.Cond.laysFinal "HomeCompiler$Generator" "HomeCompiler$Generator" "ends" "[I") ∈ lw_all := lw_g (lw_at lw_m3 40 rfl) rfl
theorem q835 : (Jvm.Cond.soleField "HomeCompiler$Generator" "ends") ∈ lw_all := lw_g (lw_at lw_m3 41 rfl) rfl
theorem q836 : (Jvm.Cond.lays "HomeCompiler$Generator" "HomeCompiler$Generator" "most" "I") ∈ lw_all := lw_g (lw_at lw_m3 42 rfl) rfl
theorem q837 : (Jvm.Cond.soleField "HomeCompiler$Generator" "most") ∈ lw_all := lw_g (lw_at lw_m3 43 rfl) rfl
theorem q838 : (Jvm.Cond.lays "HomeCompiler$Generator" "HomeCompiler$Generator" "leave" "I") ∈ lw_all := lw_g (lw_at lw_m3 44 rfl) rfl
theorem q839 : (Jvm.Cond.soleField "HomeCompiler$Generator" "leave") ∈ lw_all := lw_g (lw_at lw_m3 45 rfl) rfl
theorem q840 : (Jvm.Cond.lays "HomeCompiler$Generator" "HomeCompiler$Generator" "result" "I") ∈ lw_all := lw_g (lw_at lw_m3 46 rfl) rfl
theorem q841 : (Jvm.Cond.soleField "HomeCompiler$Generator" "result") ∈ lw_all := lw_g (lw_at lw_m3 47 rfl) rfl
theorem q842 : (Jvm.Cond.lays "HomeCompiler$Generator" "HomeCompiler$Generator" "breakTo" "I") ∈ lw_all := lw_g (lw_at lw_m3 48 rfl) rfl
theorem q843 : (Jvm.Cond.soleField "HomeCompiler$Generator" "breakTo") ∈ lw_all := lw_g (lw_at lw_m3 49 rfl) rfl
theorem q844 : (Jvm.Cond.lays "HomeCompiler$Generator" "HomeCompiler$Generator" "continueTo" "I") ∈ lw_all := lw_g (lw_at lw_m3 50 rfl) rfl
theorem q845 : (Jvm.Cond.soleField "HomeCompiler$Generator" "continueTo") ∈ lw_all := lw_g (lw_at lw_m3 51 rfl) rfl
theorem q846 : (Jvm.Cond.lays "HomeCompiler$Generator" "HomeCompiler$Generator" "askedList" "I") ∈ lw_all := lw_g (lw_at lw_m3 52 rfl) rfl
theorem q847 : (Jvm.Cond.soleField "HomeCompiler$Generator" "askedList") ∈ lw_all := lw_g (lw_at lw_m3 53 rfl) rfl
theorem q848 : (Jvm.Cond.lays "HomeCompiler$Generator" "HomeCompiler$Generator" "askedAt" "I") ∈ lw_all := lw_g (lw_at lw_m3 54 rfl) rfl
theorem q849 : (Jvm.Cond.soleField "HomeCompiler$Generator" "askedAt") ∈ lw_all := lw_g (lw_at lw_m3 55 rfl) rfl
theorem q850 : (Jvm.Cond.lays "HomeCompiler$Generator" "HomeCompiler$Generator" "asked" "I") ∈ lw_all := lw_g (lw_at lw_m3 56 rfl) rfl
theorem q851 : (Jvm.Cond.soleField "HomeCompiler$Generator" "asked") ∈ lw_all := lw_g (lw_at lw_m3 57 rfl) rfl
theorem q852 : (Jvm.Cond.superclass "HomeCompiler$Generator" "java/lang/Object") ∈ lw_all := lw_g (lw_at lw_m3 58 rfl) rfl
theorem q1860 : (Jvm.Cond.instanceMethod ({ cls := "HomeCompiler$Generator", name := "placeAll", desc := "(I)I" } : Jvm.MethodName)) ∈ lw_all := lw_g (lw_at lw_m7 106 rfl) rfl
theorem q1861 : (Jvm.Cond.selects "HomeCompiler$Generator" ({ cls := "HomeCompiler$Generator", name := "placeAll", desc := "(I)I" } : Jvm.MethodName) ({ cls := "HomeCompiler$Generator", name := "placeAll", desc := "(I)I" } : Jvm.MethodName)) ∈ lw_all := lw_g (lw_at lw_m7 107 rfl) rfl
theorem q1862 : (Jvm.Cond.code ({ cls := "HomeCompiler$Generator", name := "placeAll", desc := "(I)I" } : Jvm.MethodName) prog_8_method_2_code (4 : Nat) (Option.some Jvm.ClassFile.FieldType.int)) ∈ lw_all := lw_g (lw_at lw_m7 108 rfl) rfl
theorem q1863 : (Jvm.Cond.methodLink "HomeCompiler$Generator" (72 : Nat) ({ cls := "HomeCompiler$Variables", name := "count", desc := "()I" } : Jvm.MethodName)) ∈ lw_all := lw_g (lw_at lw_m7 109 rfl) rfl
theorem q1867 : (Jvm.Cond.methodLink "HomeCompiler$Generator" (78 : Nat) ({ cls := "HomeCompiler$Variables", name := "owner", desc := "(I)I" } : Jvm.MethodName)) ∈ lw_all := lw_g (lw_at lw_m7 113 rfl) rfl
theorem q1871 : (Jvm.Cond.methodLink "HomeCompiler$Generator" (82 : Nat) ({ cls := "HomeCompiler$Variables", name := "words", desc := "(I)I" } : Jvm.MethodName)) ∈ lw_all := lw_g (lw_at lw_m7 117 rfl) rfl
theorem q1881 : (Jvm.Cond.instanceMethod ({ cls := "HomeCompiler$Generator", name := "compile", desc := "(I)V" } : Jvm.MethodName)) ∈ lw_all := lw_g (lw_at lw_m7 127 rfl) rfl
theorem q1882 : (Jvm.Cond.selects "HomeCompiler$Generator" ({ cls := "HomeCompiler$Generator", name := "compile", desc := "(I)V" } : Jvm.MethodName) ({ cls := "HomeCompiler$Generator", name := "compile", desc := "(I)V" } : Jvm.MethodName)) ∈ lw_all := lw_g (lw_at lw_m7 128 rfl) rfl
theorem q1883 : (Jvm.Cond.code ({ cls := "HomeCompiler$Generator", name := "compile", desc := "(I)V" } : Jvm.MethodName) prog_8_method_3_code (3 : Nat) (Option.none : Option Jvm.ClassFile.FieldType)) ∈ lw_all := lw_g (lw_at lw_m7 129 rfl) rfl
theorem q1884 : (Jvm.Cond.methodLink "HomeCompiler$Generator" (84 : Nat) ({ cls := "HomeCompiler$Checker", name := "count", desc := "()I" } : Jvm.MethodName)) ∈ lw_all := lw_g (lw_at lw_m7 130 rfl) rfl
theorem q1888 : (Jvm.Cond.methodLink "HomeCompiler$Generator" (85 : Nat) ({ cls := "HomeCompiler$Emitter", name := "label", desc := "()I" } : Jvm.MethodName)) ∈ lw_all := lw_g (lw_at lw_m7 134 rfl) rfl
theorem q1896 : (Jvm.Cond.methodLink "HomeCompiler$Generator" (90 : Nat) ({ cls := "HomeCompiler$Emitter", name := "store", desc := "(IIII)V" } : Jvm.MethodName)) ∈ lw_all := lw_g (lw_at lw_m7 142 rfl) rfl
theorem q1904 : (Jvm.Cond.methodLink "HomeCompiler$Generator" (94 : Nat) ({ cls := "HomeCompiler$Emitter", name := "jump", desc := "(II)V" } : Jvm.MethodName)) ∈ lw_all := lw_g (lw_at lw_m7 150 rfl) rfl
theorem q1908 : (Jvm.Cond.methodLink "HomeCompiler$Generator" (98 : Nat) ({ cls := "HomeCompiler$Emitter", name := "set", desc := "(II)V" } : Jvm.MethodName)) ∈ lw_all := lw_g (lw_at lw_m7 154 rfl) rfl
theorem q1923 : (Jvm.Cond.methodLink "HomeCompiler$Generator" (101 : Nat) ({ cls := "HomeCompiler$Emitter", name := "call", desc := "()V" } : Jvm.MethodName)) ∈ lw_all := lw_g (lw_at lw_m7 169 rfl) rfl
theorem q1927 : (Jvm.Cond.methodLink "HomeCompiler$Generator" (104 : Nat) ({ cls := "HomeCompiler$Emitter", name := "here", desc := "(I)V" } : Jvm.MethodName)) ∈ lw_all := lw_g (lw_at lw_m7 173 rfl) rfl
theorem q1931 : (Jvm.Cond.methodLink "HomeCompiler$Generator" (108 : Nat) ({ cls := "HomeCompiler$Checker", name := "node", desc := "(I)I" } : Jvm.MethodName)) ∈ lw_all := lw_g (lw_at lw_m7 177 rfl) rfl
theorem q1935 : (Jvm.Cond.methodLink "HomeCompiler$Generator" (111 : Nat) ({ cls := "HomeCompiler$Generator", name := "function", desc := "(II)V" } : Jvm.MethodName)) ∈ lw_all := lw_g (lw_at lw_m7 181 rfl) rfl
theorem q1936 : (Jvm.Cond.privateMethod ({ cls := "HomeCompiler$Generator", name := "function", desc := "(II)V" } : Jvm.MethodName)) ∈ lw_tbl := lw_at lw_m7 182 rfl
theorem q1937 : (Jvm.Cond.instanceMethod ({ cls := "HomeCompiler$Generator", name := "function", desc := "(II)V" } : Jvm.MethodName)) ∈ lw_all := lw_g (lw_at lw_m7 183 rfl) rfl
theorem q1938 : (Jvm.Cond.code ({ cls := "HomeCompiler$Generator", name := "function", desc := "(II)V" } : Jvm.MethodName) prog_8_method_6_code (6 : Nat) (Option.none : Option Jvm.ClassFile.FieldType)) ∈ lw_all := lw_g (lw_at lw_m7 184 rfl) rfl
theorem q1939 : (Jvm.Cond.methodLink "HomeCompiler$Generator" (114 : Nat) ({ cls := "HomeCompiler$Homes", name := "find", desc := "(II)V" } : Jvm.MethodName)) ∈ lw_all := lw_g (lw_at lw_m7 185 rfl) rfl
theorem q1978 : (Jvm.Cond.methodLink "HomeCompiler$Generator" (123 : Nat) ({ cls := "HomeCompiler$Nodes", name := "op", desc := "(I)I" } : Jvm.MethodName)) ∈ lw_all := lw_g (lw_at lw_m7 224 rfl) rfl
theorem q1979 : (Jvm.Cond.methodLink "HomeCompiler$Generator" (137 : Nat) ({ cls := "HomeCompiler$Generator", name := "takeWork", desc := "()V" } : Jvm.MethodName)) ∈ lw_all := lw_g (lw_at lw_m7 225 rfl) rfl
theorem q1980 : (Jvm.Cond.privateMethod ({ cls := "HomeCompiler$Generator", name := "takeWork", desc := "()V" } : Jvm.MethodName)) ∈ lw_tbl := lw_at lw_m7 226 rfl
theorem q1981 : (Jvm.Cond.instanceMethod ({ cls := "HomeCompiler$Generator", name := "takeWork", desc := "()V" } : Jvm.MethodName)) ∈ lw_all := lw_g (lw_at lw_m7 227 rfl) rfl
theorem q1982 : (Jvm.Cond.code ({ cls := "HomeCompiler$Generator", name := "takeWork", desc := "()V" } : Jvm.MethodName) prog_8_method_7_code (1 : Nat) (Option.none : Option Jvm.ClassFile.FieldType)) ∈ lw_all := lw_g (lw_at lw_m7 228 rfl) rfl
theorem q1983 : (Jvm.Cond.methodLink "HomeCompiler$Generator" (146 : Nat) ({ cls := "HomeCompiler$Generator", name := "end", desc := "(I)I" } : Jvm.MethodName)) ∈ lw_all := lw_g (lw_at lw_m7 229 rfl) rfl
theorem q1984 : (Jvm.Cond.privateMethod ({ cls := "HomeCompiler$Generator", name := "end", desc := "(I)I" } : Jvm.MethodName)) ∈ lw_tbl := lw_at lw_m7 230 rfl
theorem q1985 : (Jvm.Cond.instanceMethod ({ cls := "HomeCompiler$Generator", name := "end", desc := "(I)I" } : Jvm.MethodName)) ∈ lw_all := lw_g (lw_at lw_m7 231 rfl) rfl
theorem q1986 : (Jvm.Cond.code ({ cls := "HomeCompiler$Generator", name := "end", desc := "(I)I" } : Jvm.MethodName) prog_8_method_5_code (2 : Nat) (Option.some Jvm.ClassFile.FieldType.int)) ∈ lw_all := lw_g (lw_at lw_m7 232 rfl) rfl
theorem q1987 : (Jvm.Cond.methodLink "HomeCompiler$Generator" (149 : Nat) ({ cls := "HomeCompiler$Emitter", name := "branch", desc := "(IIII)V" } : Jvm.MethodName)) ∈ lw_all := lw_g (lw_at lw_m7 233 rfl) rfl
theorem q1992 : (Jvm.Cond.methodLink "HomeCompiler$Generator" (179 : Nat) ({ cls := "HomeCompiler$Emitter", name := "number", desc := "(IIII)V" } : Jvm.MethodName)) ∈ lw_all := lw_g (lw_at lw_m7 238 rfl) rfl
theorem q1993 : (Jvm.Cond.methodLink "HomeCompiler$Generator" (140 : Nat) ({ cls := "HomeCompiler$Checker", name := "frame", desc := "(I)I" } : Jvm.MethodName)) ∈ lw_all := lw_g (lw_at lw_m7 239 rfl) rfl
theorem q1994 : (Jvm.Cond.methodLink "HomeCompiler$Generator" (143 : Nat) ({ cls := "HomeCompiler$Emitter", name := "add", desc := "(IIII)V" } : Jvm.MethodName)) ∈ lw_all := lw_g (lw_at lw_m8 0 rfl) rfl
theorem q2003 : (Jvm.Cond.methodLink "HomeCompiler$Generator" (152 : Nat) ({ cls := "HomeCompiler$Generator", name := "begin", desc := "(I)I" } : Jvm.MethodName)) ∈ lw_all := lw_g (lw_at lw_m8 9 rfl) rfl
theorem q2004 : (Jvm.Cond.privateMethod ({ cls := "HomeCompiler$Generator", name := "begin", desc := "(I)I" } : Jvm.MethodName)) ∈ lw_tbl := lw_at lw_m8 10 rfl
theorem q2005 : (Jvm.Cond.instanceMethod ({ cls := "HomeCompiler$Generator", name := "begin", desc := "(I)I" } : Jvm.MethodName)) ∈ lw_all := lw_g (lw_at lw_m8 11 rfl) rfl
theorem q2006 : (Jvm.Cond.code ({ cls := "HomeCompiler$Generator", name := "begin", desc := "(I)I" } : Jvm.MethodName) prog_8_method_8_code (7 : Nat) (Option.some Jvm.ClassFile.FieldType.int)) ∈ lw_all := lw_g (lw_at lw_m8 12 rfl) rfl
theorem q2007 : (Jvm.Cond.methodLink "HomeCompiler$Generator" (167 : Nat) ({ cls := "HomeCompiler$Emitter", name := "move", desc := "(II)V" } : Jvm.MethodName)) ∈ lw_all := lw_g (lw_at lw_m8 13 rfl) rfl
theorem q2011 : (Jvm.Cond.methodLink "HomeCompiler$Generator" (182 : Nat) ({ cls := "HomeCompiler$Emitter", name := "hole", desc := "(I)I" } : Jvm.MethodName)) ∈ lw_all := lw_g (lw_at lw_m8 17 rfl) rfl
theorem q2015 : (Jvm.Cond.methodLink "HomeCompiler$Generator" (185 : Nat) ({ cls := "HomeCompiler$Emitter", name := "both", desc := "(IIIII)V" } : Jvm.MethodName)) ∈ lw_all := lw_g (lw_at lw_m8 21 rfl) rfl
theorem q2016 : (Jvm.Cond.methodLink "HomeCompiler$Generator" (189 : Nat) ({ cls := "HomeCompiler$Homes", name := "parameterWords", desc := "()I" } : Jvm.MethodName)) ∈ lw_all := lw_g (lw_at lw_m8 22 rfl) rfl
theorem q2020 : (Jvm.Cond.methodLink "HomeCompiler$Generator" (192 : Nat) ({ cls := "HomeCompiler$Emitter", name := "storeAt", desc := "(IIII)V" } : Jvm.MethodName)) ∈ lw_all := lw_g (lw_at lw_m8 26 rfl) rfl
theorem q2026 : (Jvm.Cond.methodLink "HomeCompiler$Generator" (195 : Nat) ({ cls := "HomeCompiler$Homes", name := "used", desc := "()I" } : Jvm.MethodName)) ∈ lw_all := lw_g (lw_at lw_m8 32 rfl) rfl
theorem q2030 : (Jvm.Cond.methodLink "HomeCompiler$Generator" (198 : Nat) ({ cls := "HomeCompiler$Homes", name := "register", desc := "(I)I" } : Jvm.MethodName)) ∈ lw_all := lw_g (lw_at lw_m8 36 rfl) rfl
theorem q2031 : (Jvm.Cond.methodLink "HomeCompiler$Generator" (201 : Nat) ({ cls := "HomeCompiler$Homes", name := "localWords", desc := "()I" } : Jvm.MethodName)) ∈ lw_all := lw_g (lw_at lw_m8 37 rfl) rfl
theorem q2035 : (Jvm.Cond.methodLink "HomeCompiler$Generator" (170 : Nat) ({ cls := "HomeCompiler$Homes", name := "words", desc := "()I" } : Jvm.MethodName)) ∈ lw_all := lw_g (lw_at lw_m8 41 rfl) rfl
theorem q2039 : (Jvm.Cond.methodLink "HomeCompiler$Generator" (204 : Nat) ({ cls := "HomeCompiler$Generator", name := "clear", desc := "(III)V" } : Jvm.MethodName)) ∈ lw_all := lw_g (lw_at lw_m8 45 rfl) rfl
theorem q2040 : (Jvm.Cond.privateMethod ({ cls := "HomeCompiler$Generator", name := "clear", desc := "(III)V" } : Jvm.MethodName)) ∈ lw_tbl := lw_at lw_m8 46 rfl
theorem q2041 : (Jvm.Cond.instanceMethod ({ cls := "HomeCompiler$Generator", name := "clear", desc := "(III)V" } : Jvm.MethodName)) ∈ lw_all := lw_g (lw_at lw_m8 47 rfl) rfl
theorem q2042 : (Jvm.Cond.code ({ cls := "HomeCompiler$Generator", name := "clear", desc := "(III)V" } : Jvm.MethodName) prog_8_method_10_code (5 : Nat) (Option.none : Option Jvm.ClassFile.FieldType)) ∈ lw_all := lw_g (lw_at lw_m8 48 rfl) rfl
theorem q2043 : (Jvm.Cond.methodLink "HomeCompiler$Generator" (207 : Nat) ({ cls := "HomeCompiler$Nodes", name := "extra", desc := "(I)I" } : Jvm.MethodName)) ∈ lw_all := lw_g (lw_at lw_m8 49 rfl) rfl
theorem q2044 : (Jvm.Cond.methodLink "HomeCompiler$Generator" (210 : Nat) ({ cls := "HomeCompiler$Homes", name := "of", desc := "(I)I" } : Jvm.MethodName)) ∈ lw_all := lw_g (lw_at lw_m8 50 rfl) rfl
theorem q2048 : (Jvm.Cond.methodLink "HomeCompiler$Generator" (155 : Nat) ({ cls := "HomeCompiler$Nodes", name := "first", desc := "(I)I" } : Jvm.MethodName)) ∈ lw_all := lw_g (lw_at lw_m8 54 rfl) rfl
theorem q2049 : (Jvm.Cond.methodLink "HomeCompiler$Generator" (158 : Nat) ({ cls := "HomeCompiler$Nodes", name := "kind", desc := "(I)I" } : Jvm.MethodName)) ∈ lw_all := lw_g (lw_at lw_m8 55 rfl) rfl
theorem q2050 : (Jvm.Cond.methodLink "HomeCompiler$Generator" (213 : Nat) ({ cls := "HomeCompiler$Nodes", name := "number", desc := "(I)I" } : Jvm.MethodName)) ∈ lw_all := lw_g (lw_at lw_m8 56 rfl) rfl
theorem q2051 : (Jvm.Cond.methodLink "HomeCompiler$Generator" (215 : Nat) ({ cls := "HomeCompiler$Variables", name := "size", desc := "(I)I" } : Jvm.MethodName)) ∈ lw_all := lw_g (lw_at lw_m8 57 rfl) rfl
theorem q2052 : (Jvm.Cond.methodLink "HomeCompiler$Generator" (218 : Nat) ({ cls := "HomeCompiler$Homes", name := "place", desc := "(I)I" } : Jvm.MethodName)) ∈ lw_all := lw_g (lw_at lw_m8 58 rfl) rfl
theorem q2056 : (Jvm.Cond.methodLink "HomeCompiler$Generator" (221 : Nat) ({ cls := "HomeCompiler$Emitter", name := "loadAt", desc := "(IIII)V" } : Jvm.MethodName)) ∈ lw_all := lw_g (lw_at lw_m8 62 rfl) rfl
theorem q2064 : (Jvm.Cond.methodLink "HomeCompiler$Generator" (224 : Nat) ({ cls := "HomeCompiler$Homes", name := "lengthOf", desc := "(I)I" } : Jvm.MethodName)) ∈ lw_all := lw_g (lw_at lw_m8 70 rfl) rfl
theorem q2068 : (Jvm.Cond.methodLink "HomeCompiler$Generator" (161 : Nat) ({ cls := "HomeCompiler$Nodes", name := "next", desc := "(I)I" } : Jvm.MethodName)) ∈ lw_all := lw_g (lw_at lw_m8 74 rfl) rfl
theorem q2069 : (Jvm.Cond.methodLink "HomeCompiler$Generator" (164 : Nat) ({ cls := "HomeCompiler$Generator", name := "statements", desc := "(I)V" } : Jvm.MethodName)) ∈ lw_all := lw_g (lw_at lw_m8 75 rfl) rfl
theorem q2070 : (Jvm.Cond.privateMethod ({ cls := "HomeCompiler$Generator", name := "statements", desc := "(I)V" } : Jvm.MethodName)) ∈ lw_tbl := lw_at lw_m8 76 rfl
theorem q2071 : (Jvm.Cond.instanceMethod ({ cls := "HomeCompiler$Generator", name := "statements", desc := "(I)V" } : Jvm.MethodName)) ∈ lw_all := lw_g (lw_at lw_m8 77 rfl) rfl
theorem q2072 : (Jvm.Cond.code ({ cls := "HomeCompiler$Generator", name := "statements", desc := "(I)V" } : Jvm.MethodName) prog_8_method_21_code (3 : Nat) (Option.none : Option Jvm.ClassFile.FieldType)) ∈ lw_all := lw_g (lw_at lw_m8 78 rfl) rfl
theorem q2073 : (Jvm.Cond.methodLink "HomeCompiler$Generator" (255 : Nat) ({ cls := "HomeCompiler$Generator", name := "statement", desc := "(I)V" } : Jvm.MethodName)) ∈ lw_all := lw_g (lw_at lw_m8 79 rfl) rfl
theorem q2074 : (Jvm.Cond.privateMethod ({ cls := "HomeCompiler$Generator", name := "statement", desc := "(I)V" } : Jvm.MethodName)) ∈ lw_tbl := lw_at lw_m8 80 rfl
theorem q2075 : (Jvm.Cond.instanceMethod ({ cls := "HomeCompiler$Generator", name := "statement", desc := "(I)V" } : Jvm.MethodName)) ∈ lw_all := lw_g (lw_at lw_m8 81 rfl) rfl
theorem q2076 : (Jvm.Cond.code ({ cls := "HomeCompiler$Generator", name := "statement", desc := "(I)V" } : Jvm.MethodName) prog_8_method_22_code (4 : Nat) (Option.none : Option Jvm.ClassFile.FieldType)) ∈ lw_all := lw_g (lw_at lw_m8 82 rfl) rfl
theorem q2077 : (Jvm.Cond.methodLink "HomeCompiler$Generator" (258 : Nat) ({ cls := "HomeCompiler$Generator", name := "variable", desc := "(I)V" } : Jvm.MethodName)) ∈ lw_all := lw_g (lw_at lw_m8 83 rfl) rfl
theorem q2078 : (Jvm.Cond.privateMethod ({ cls := "HomeCompiler$Generator", name := "variable", desc := "(I)V" } : Jvm.MethodName)) ∈ lw_tbl := lw_at lw_m8 84 rfl
theorem q2079 : (Jvm.Cond.instanceMethod ({ cls := "HomeCompiler$Generator", name := "variable", desc := "(I)V" } : Jvm.MethodName)) ∈ lw_all := lw_g (lw_at lw_m8 85 rfl) rfl
theorem q2080 : (Jvm.Cond.code ({ cls := "HomeCompiler$Generator", name := "variable", desc := "(I)V" } : Jvm.MethodName) prog_8_method_28_code (5 : Nat) (Option.none : Option Jvm.ClassFile.FieldType)) ∈ lw_all := lw_g (lw_at lw_m8 86 rfl) rfl
theorem q2081 : (Jvm.Cond.methodLink "HomeCompiler$Generator" (293 : Nat) ({ cls := "HomeCompiler$Generator", name := "array", desc := "(II)V" } : Jvm.MethodName)) ∈ lw_all := lw_g (lw_at lw_m8 87 rfl) rfl
theorem q2082 : (Jvm.Cond.privateMethod ({ cls := "HomeCompiler$Generator", name := "array", desc := "(II)V" } : Jvm.MethodName)) ∈ lw_tbl := lw_at lw_m8 88 rfl
theorem q2083 : (Jvm.Cond.instanceMethod ({ cls := "HomeCompiler$Generator", name := "array", desc := "(II)V" } : Jvm.MethodName)) ∈ lw_all := lw_g (lw_at lw_m8 89 rfl) rfl
theorem q2084 : (Jvm.Cond.code ({ cls := "HomeCompiler$Generator", name := "array", desc := "(II)V" } : Jvm.MethodName) prog_8_method_32_code (7 : Nat) (Option.none : Option Jvm.ClassFile.FieldType)) ∈ lw_all := lw_g (lw_at lw_m8 90 rfl) rfl
theorem q2085 : (Jvm.Cond.methodLink "HomeCompiler$Generator" (317 : Nat) ({ cls := "HomeCompiler$Variables", name := "type", desc := "(I)I" } : Jvm.MethodName)) ∈ lw_all := lw_g (lw_at lw_m8 91 rfl) rfl
theorem q2086 : (Jvm.Cond.methodLink "HomeCompiler$Generator" (320 : Nat) ({ cls := "HomeCompiler$Generator", name := "given", desc := "(IZ)I" } : Jvm.MethodName)) ∈ lw_all := lw_g (lw_at lw_m8 92 rfl) rfl
theorem q2087 : (Jvm.Cond.instanceMethod ({ cls := "HomeCompiler$Generator", name := "given", desc := "(IZ)I" } : Jvm.MethodName)) ∈ lw_all := lw_g (lw_at lw_m8 93 rfl) rfl
theorem q2088 : (Jvm.Cond.selects "HomeCompiler$Generator" ({ cls := "HomeCompiler$Generator", name := "given", desc := "(IZ)I" } : Jvm.MethodName) ({ cls := "HomeCompiler$Generator", name := "given", desc := "(IZ)I" } : Jvm.MethodName)) ∈ lw_all := lw_g (lw_at lw_m8 94 rfl) rfl
theorem q2089 : (Jvm.Cond.code ({ cls := "HomeCompiler$Generator", name := "given", desc := "(IZ)I" } : Jvm.MethodName) prog_8_method_31_code (4 : Nat) (Option.some Jvm.ClassFile.FieldType.int)) ∈ lw_all := lw_g (lw_at lw_m8 95 rfl) rfl
theorem q2090 : (Jvm.Cond.methodLink "HomeCompiler$Generator" (314 : Nat) ({ cls := "HomeCompiler$Nodes", name := "children", desc := "(I)I" } : Jvm.MethodName)) ∈ lw_all := lw_g (lw_at lw_m8 96 rfl) rfl
theorem q2091 : (Jvm.Cond.methodLink "HomeCompiler$Generator" (324 : Nat) ({ cls := "HomeCompiler$Generator", name := "begins", desc := "(IZI)I" } : Jvm.MethodName)) ∈ lw_all := lw_g (lw_at lw_m8 97 rfl) rfl
theorem q2092 : (Jvm.Cond.instanceMethod ({ cls := "HomeCompiler$Generator", name := "begins", desc := "(IZI)I" } : Jvm.MethodName)) ∈ lw_all := lw_g (lw_at lw_m8 98 rfl) rfl
theorem q2093 : (Jvm.Cond.selects "HomeCompiler$Generator" ({ cls := "HomeCompiler$Generator", name := "begins", desc := "(IZI)I" } : Jvm.MethodName) ({ cls := "HomeCompiler$Generator", name := "begins", desc := "(IZI)I" } : Jvm.MethodName)) ∈ lw_all := lw_g (lw_at lw_m8 99 rfl) rfl
theorem q2094 : (Jvm.Cond.code ({ cls := "HomeCompiler$Generator", name := "begins", desc := "(IZI)I" } : Jvm.MethodName) prog_8_method_29_code (8 : Nat) (Option.some Jvm.ClassFile.FieldType.int)) ∈ lw_all := lw_g (lw_at lw_m8 100 rfl) rfl
theorem q2095 : (Jvm.Cond.methodLink "HomeCompiler$Generator" (300 : Nat) ({ cls := "HomeCompiler$Generator", name := "element", desc := "(II)I" } : Jvm.MethodName)) ∈ lw_all := lw_g (lw_at lw_m8 101 rfl) rfl
theorem q2096 : (Jvm.Cond.privateMethod ({ cls := "HomeCompiler$Generator", name := "element", desc := "(II)I" } : Jvm.MethodName)) ∈ lw_tbl := lw_at lw_m8 102 rfl
theorem q2097 : (Jvm.Cond.instanceMethod ({ cls := "HomeCompiler$Generator", name := "element", desc := "(II)I" } : Jvm.MethodName)) ∈ lw_all := lw_g (lw_at lw_m8 103 rfl) rfl
theorem q2098 : (Jvm.Cond.code ({ cls := "HomeCompiler$Generator", name := "element", desc := "(II)I" } : Jvm.MethodName) prog_8_method_30_code (6 : Nat) (Option.some Jvm.ClassFile.FieldType.int)) ∈ lw_all := lw_g (lw_at lw_m8 104 rfl) rfl
theorem q2099 : (Jvm.Cond.methodLink "HomeCompiler$Generator" (291 : Nat) ({ cls := "HomeCompiler$Nodes", name := "value", desc := "(I)I" } : Jvm.MethodName)) ∈ lw_all := lw_g (lw_at lw_m8 105 rfl) rfl
theorem q2100 : (Jvm.Cond.methodLink "HomeCompiler$Generator" (303 : Nat) ({ cls := "HomeCompiler$Bytes", name := "at", desc := "(I)I" } : Jvm.MethodName)) ∈ lw_all := lw_g (lw_at lw_m8 106 rfl) rfl
theorem q2101 : (Jvm.Cond.methodLink "HomeCompiler$Generator" (261 : Nat) ({ cls := "HomeCompiler$Generator", name := "value", desc := "(II)I" } : Jvm.MethodName)) ∈ lw_all := lw_g (lw_at lw_m8 107 rfl) rfl
theorem q2102 : (Jvm.Cond.privateMethod ({ cls := "HomeCompiler$Generator", name := "value", desc := "(II)I" } : Jvm.MethodName)) ∈ lw_tbl := lw_at lw_m8 108 rfl
theorem q2103 : (Jvm.Cond.instanceMethod ({ cls := "HomeCompiler$Generator", name := "value", desc := "(II)I" } : Jvm.MethodName)) ∈ lw_all := lw_g (lw_at lw_m8 109 rfl) rfl
theorem q2104 : (Jvm.Cond.code ({ cls := "HomeCompiler$Generator", name := "value", desc := "(II)I" } : Jvm.MethodName) prog_8_method_40_code (4 : Nat) (Option.some Jvm.ClassFile.FieldType.int)) ∈ lw_all := lw_g (lw_at lw_m8 110 rfl) rfl
theorem q2105 : (Jvm.Cond.methodLink "HomeCompiler$Generator" (338 : Nat) ({ cls := "HomeCompiler$Folder", name := "isNumber", desc := "(I)Z" } : Jvm.MethodName)) ∈ lw_all := lw_g (lw_at lw_m8 111 rfl) rfl
theorem q2131 : (Jvm.Cond.methodLink "HomeCompiler$Generator" (342 : Nat) ({ cls := "HomeCompiler$Folder", name := "value", desc := "()I" } : Jvm.MethodName)) ∈ lw_all := lw_g (lw_at lw_m8 137 rfl) rfl
theorem q2135 : (Jvm.Cond.methodLink "HomeCompiler$Generator" (246 : Nat) ({ cls := "HomeCompiler$Generator", name := "dest", desc := "(I)I" } : Jvm.MethodName)) ∈ lw_all := lw_g (lw_at lw_m8 141 rfl) rfl
theorem q2136 : (Jvm.Cond.privateMethod ({ cls := "HomeCompiler$Generator", name := "dest", desc := "(I)I" } : Jvm.MethodName)) ∈ lw_tbl := lw_at lw_m8 142 rfl
theorem q2137 : (Jvm.Cond.instanceMethod ({ cls := "HomeCompiler$Generator", name := "dest", desc := "(I)I" } : Jvm.MethodName)) ∈ lw_all := lw_g (lw_at lw_m8 143 rfl) rfl
theorem q2138 : (Jvm.Cond.code ({ cls := "HomeCompiler$Generator", name := "dest", desc := "(I)I" } : Jvm.MethodName) prog_8_method_14_code (2 : Nat) (Option.some Jvm.ClassFile.FieldType.int)) ∈ lw_all := lw_g (lw_at lw_m8 144 rfl) rfl
theorem q2139 : (Jvm.Cond.methodLink "HomeCompiler$Generator" (237 : Nat) ({ cls := "HomeCompiler$Generator", name := "temp", desc := "(I)I" } : Jvm.MethodName)) ∈ lw_all := lw_g (lw_at lw_m8 145 rfl) rfl
theorem q2140 : (Jvm.Cond.static ({ cls := "HomeCompiler$Generator", name := "temp", desc := "(I)I" } : Jvm.MethodName)) ∈ lw_all := lw_g (lw_at lw_m8 146 rfl) rfl
theorem q2141 : (Jvm.Cond.code ({ cls := "HomeCompiler$Generator", name := "temp", desc := "(I)I" } : Jvm.MethodName) prog_8_method_11_code (1 : Nat) (Option.some Jvm.ClassFile.FieldType.int)) ∈ lw_all := lw_g (lw_at lw_m8 147 rfl) rfl
theorem q2142 : (Jvm.Cond.methodLink "HomeCompiler$Generator" (252 : Nat) ({ cls := "HomeCompiler$Generator", name := "keep", desc := "(I)I" } : Jvm.MethodName)) ∈ lw_all := lw_g (lw_at lw_m8 148 rfl) rfl
theorem q2143 : (Jvm.Cond.privateMethod ({ cls := "HomeCompiler$Generator", name := "keep", desc := "(I)I" } : Jvm.MethodName)) ∈ lw_tbl := lw_at lw_m8 149 rfl
theorem q2144 : (Jvm.Cond.instanceMethod ({ cls := "HomeCompiler$Generator", name := "keep", desc := "(I)I" } : Jvm.MethodName)) ∈ lw_all := lw_g (lw_at lw_m8 150 rfl) rfl
theorem q2145 : (Jvm.Cond.code ({ cls := "HomeCompiler$Generator", name := "keep", desc := "(I)I" } : Jvm.MethodName) prog_8_method_15_code (2 : Nat) (Option.some Jvm.ClassFile.FieldType.int)) ∈ lw_all := lw_g (lw_at lw_m8 151 rfl) rfl
theorem q2146 : (Jvm.Cond.methodLink "HomeCompiler$Generator" (240 : Nat) ({ cls := "HomeCompiler$Generator", name := "met", desc := "(I)V" } : Jvm.MethodName)) ∈ lw_all := lw_g (lw_at lw_m8 152 rfl) rfl
theorem q2147 : (Jvm.Cond.privateMethod ({ cls := "HomeCompiler$Generator", name := "met", desc := "(I)V" } : Jvm.MethodName)) ∈ lw_tbl := lw_at lw_m8 153 rfl
theorem q2148 : (Jvm.Cond.instanceMethod ({ cls := "HomeCompiler$Generator", name := "met", desc := "(I)V" } : Jvm.MethodName)) ∈ lw_all := lw_g (lw_at lw_m8 154 rfl) rfl
theorem q2149 : (Jvm.Cond.code ({ cls := "HomeCompiler$Generator", name := "met", desc := "(I)V" } : Jvm.MethodName) prog_8_method_13_code (2 : Nat) (Option.none : Option Jvm.ClassFile.FieldType)) ∈ lw_all := lw_g (lw_at lw_m8 155 rfl) rfl
theorem q2150 : (Jvm.Cond.methodLink "HomeCompiler$Generator" (231 : Nat) ({ cls := "java/lang/Math", name := "max", desc := "(II)I" } : Jvm.MethodName)) ∈ lw_all := lw_g (lw_at lw_m8 156 rfl) rfl
theorem q2151 : (Jvm.Cond.methodLink "HomeCompiler$Generator" (243 : Nat) ({ cls := "HomeCompiler$Generator", name := "slot", desc := "(I)I" } : Jvm.MethodName)) ∈ lw_all := lw_g (lw_at lw_m8 157 rfl) rfl
theorem q2152 : (Jvm.Cond.static ({ cls := "HomeCompiler$Generator", name := "slot", desc := "(I)I" } : Jvm.MethodName)) ∈ lw_all := lw_g (lw_at lw_m8 158 rfl) rfl
theorem q2153 : (Jvm.Cond.code ({ cls := "HomeCompiler$Generator", name := "slot", desc := "(I)I" } : Jvm.MethodName) prog_8_method_12_code (1 : Nat) (Option.some Jvm.ClassFile.FieldType.int)) ∈ lw_all := lw_g (lw_at lw_m8 159 rfl) rfl
theorem q2154 : (Jvm.Cond.methodLink "HomeCompiler$Generator" (344 : Nat) ({ cls := "HomeCompiler$Generator", name := "name", desc := "(II)I" } : Jvm.MethodName)) ∈ lw_all := lw_g (lw_at lw_m8 160 rfl) rfl
theorem q2155 : (Jvm.Cond.privateMethod ({ cls := "HomeCompiler$Generator", name := "name", desc := "(II)I" } : Jvm.MethodName)) ∈ lw_tbl := lw_at lw_m8 161 rfl
theorem q2156 : (Jvm.Cond.instanceMethod ({ cls := "HomeCompiler$Generator", name := "name", desc := "(II)I" } : Jvm.MethodName)) ∈ lw_all := lw_g (lw_at lw_m8 162 rfl) rfl
theorem q2157 : (Jvm.Cond.code ({ cls := "HomeCompiler$Generator", name := "name", desc := "(II)I" } : Jvm.MethodName) prog_8_method_41_code (3 : Nat) (Option.some Jvm.ClassFile.FieldType.int)) ∈ lw_all := lw_g (lw_at lw_m8 163 rfl) rfl
theorem q2158 : (Jvm.Cond.methodLink "HomeCompiler$Generator" (371 : Nat) ({ cls := "HomeCompiler$Generator", name := "read", desc := "(II)V" } : Jvm.MethodName)) ∈ lw_all := lw_g (lw_at lw_m8 164 rfl) rfl
theorem q2159 : (Jvm.Cond.privateMethod ({ cls := "HomeCompiler$Generator", name := "read", desc := "(II)V" } : Jvm.MethodName)) ∈ lw_tbl := lw_at lw_m8 165 rfl
theorem q2160 : (Jvm.Cond.instanceMethod ({ cls := "HomeCompiler$Generator", name := "read", desc := "(II)V" } : Jvm.MethodName)) ∈ lw_all := lw_g (lw_at lw_m8 166 rfl) rfl
theorem q2161 : (Jvm.Cond.code ({ cls := "HomeCompiler$Generator", name := "read", desc := "(II)V" } : Jvm.MethodName) prog_8_method_34_code (3 : Nat) (Option.none : Option Jvm.ClassFile.FieldType)) ∈ lw_all := lw_g (lw_at lw_m8 167 rfl) rfl
theorem q2162 : (Jvm.Cond.methodLink "HomeCompiler$Generator" (328 : Nat) ({ cls := "HomeCompiler$Emitter", name := "load", desc := "(IIII)V" } : Jvm.MethodName)) ∈ lw_all := lw_g (lw_at lw_m8 168 rfl) rfl
theorem q2163 : (Jvm.Cond.methodLink "HomeCompiler$Generator" (347 : Nat) ({ cls := "HomeCompiler$Generator", name := "reach", desc := "(II)V" } : Jvm.MethodName)) ∈ lw_all := lw_g (lw_at lw_m8 169 rfl) rfl
theorem q2164 : (Jvm.Cond.privateMethod ({ cls := "HomeCompiler$Generator", name := "reach", desc := "(II)V" } : Jvm.MethodName)) ∈ lw_tbl := lw_at lw_m8 170 rfl
theorem q2165 : (Jvm.Cond.instanceMethod ({ cls := "HomeCompiler$Generator", name := "reach", desc := "(II)V" } : Jvm.MethodName)) ∈ lw_all := lw_g (lw_at lw_m8 171 rfl) rfl
theorem q2166 : (Jvm.Cond.code ({ cls := "HomeCompiler$Generator", name := "reach", desc := "(II)V" } : Jvm.MethodName) prog_8_method_37_code (5 : Nat) (Option.none : Option Jvm.ClassFile.FieldType)) ∈ lw_all := lw_g (lw_at lw_m8 172 rfl) rfl
theorem q2167 : (Jvm.Cond.methodLink "HomeCompiler$Generator" (249 : Nat) ({ cls := "HomeCompiler$Generator", name := "use", desc := "(II)I" } : Jvm.MethodName)) ∈ lw_all := lw_g (lw_at lw_m8 173 rfl) rfl
theorem q2168 : (Jvm.Cond.privateMethod ({ cls := "HomeCompiler$Generator", name := "use", desc := "(II)I" } : Jvm.MethodName)) ∈ lw_tbl := lw_at lw_m8 174 rfl
theorem q2169 : (Jvm.Cond.instanceMethod ({ cls := "HomeCompiler$Generator", name := "use", desc := "(II)I" } : Jvm.MethodName)) ∈ lw_all := lw_g (lw_at lw_m8 175 rfl) rfl
theorem q2170 : (Jvm.Cond.code ({ cls := "HomeCompiler$Generator", name := "use", desc := "(II)I" } : Jvm.MethodName) prog_8_method_16_code (3 : Nat) (Option.some Jvm.ClassFile.FieldType.int)) ∈ lw_all := lw_g (lw_at lw_m8 176 rfl) rfl
theorem q2171 : (Jvm.Cond.methodLink "HomeCompiler$Generator" (331 : Nat) ({ cls := "HomeCompiler$Generator", name := "length", desc := "(II)V" } : Jvm.MethodName)) ∈ lw_all := lw_g (lw_at lw_m8 177 rfl) rfl
theorem q2172 : (Jvm.Cond.privateMethod ({ cls := "HomeCompiler$Generator", name := "length", desc := "(II)V" } : Jvm.MethodName)) ∈ lw_tbl := lw_at lw_m8 178 rfl
theorem q2173 : (Jvm.Cond.instanceMethod ({ cls := "HomeCompiler$Generator", name := "length", desc := "(II)V" } : Jvm.MethodName)) ∈ lw_all := lw_g (lw_at lw_m8 179 rfl) rfl
theorem q2174 : (Jvm.Cond.code ({ cls := "HomeCompiler$Generator", name := "length", desc := "(II)V" } : Jvm.MethodName) prog_8_method_36_code (3 : Nat) (Option.none : Option Jvm.ClassFile.FieldType)) ∈ lw_all := lw_g (lw_at lw_m8 180 rfl) rfl
theorem q2175 : (Jvm.Cond.constant "HomeCompiler$Generator" (334 : Nat) (6291456 : Int32)) ∈ lw_all := lw_g (lw_at lw_m8 181 rfl) rfl
theorem q2176 : (Jvm.Cond.methodLink "HomeCompiler$Generator" (228 : Nat) ({ cls := "HomeCompiler$Emitter", name := "emit", desc := "(I)V" } : Jvm.MethodName)) ∈ lw_all := lw_g (lw_at lw_m8 182 rfl) rfl
theorem q2177 : (Jvm.Cond.methodLink "HomeCompiler$Generator" (335 : Nat) ({ cls := "HomeCompiler$Generator", name := "address", desc := "(III)V" } : Jvm.MethodName)) ∈ lw_all := lw_g (lw_at lw_m8 183 rfl) rfl
theorem q2178 : (Jvm.Cond.privateMethod ({ cls := "HomeCompiler$Generator", name := "address", desc := "(III)V" } : Jvm.MethodName)) ∈ lw_tbl := lw_at lw_m8 184 rfl
theorem q2179 : (Jvm.Cond.instanceMethod ({ cls := "HomeCompiler$Generator", name := "address", desc := "(III)V" } : Jvm.MethodName)) ∈ lw_all := lw_g (lw_at lw_m8 185 rfl) rfl
theorem q2180 : (Jvm.Cond.code ({ cls := "HomeCompiler$Generator", name := "address", desc := "(III)V" } : Jvm.MethodName) prog_8_method_35_code (4 : Nat) (Option.none : Option Jvm.ClassFile.FieldType)) ∈ lw_all := lw_g (lw_at lw_m8 186 rfl) rfl
theorem q2181 : (Jvm.Cond.methodLink "HomeCompiler$Generator" (350 : Nat) ({ cls := "HomeCompiler$Generator", name := "loadElement", desc := "(II)V" } : Jvm.MethodName)) ∈ lw_all := lw_g (lw_at lw_m8 187 rfl) rfl
theorem q2182 : (Jvm.Cond.privateMethod ({ cls := "HomeCompiler$Generator", name := "loadElement", desc := "(II)V" } : Jvm.MethodName)) ∈ lw_tbl := lw_at lw_m8 188 rfl
theorem q2183 : (Jvm.Cond.instanceMethod ({ cls := "HomeCompiler$Generator", name := "loadElement", desc := "(II)V" } : Jvm.MethodName)) ∈ lw_all := lw_g (lw_at lw_m8 189 rfl) rfl
theorem q2184 : (Jvm.Cond.code ({ cls := "HomeCompiler$Generator", name := "loadElement", desc := "(II)V" } : Jvm.MethodName) prog_8_method_38_code (3 : Nat) (Option.none : Option Jvm.ClassFile.FieldType)) ∈ lw_all := lw_g (lw_at lw_m8 190 rfl) rfl
theorem q2185 : (Jvm.Cond.methodLink "HomeCompiler$Generator" (353 : Nat) ({ cls := "HomeCompiler$Generator", name := "call", desc := "(II)I" } : Jvm.MethodName)) ∈ lw_all := lw_g (lw_at lw_m8 191 rfl) rfl
theorem q2186 : (Jvm.Cond.privateMethod ({ cls := "HomeCompiler$Generator", name := "call", desc := "(II)I" } : Jvm.MethodName)) ∈ lw_tbl := lw_at lw_m8 192 rfl
theorem q2187 : (Jvm.Cond.instanceMethod ({ cls := "HomeCompiler$Generator", name := "call", desc := "(II)I" } : Jvm.MethodName)) ∈ lw_all := lw_g (lw_at lw_m8 193 rfl) rfl
theorem q2188 : (Jvm.Cond.code ({ cls := "HomeCompiler$Generator", name := "call", desc := "(II)I" } : Jvm.MethodName) prog_8_method_58_code (9 : Nat) (Option.some Jvm.ClassFile.FieldType.int)) ∈ lw_all := lw_g (lw_at lw_m8 194 rfl) rfl
theorem q2189 : (Jvm.Cond.methodLink "HomeCompiler$Generator" (410 : Nat) ({ cls := "HomeCompiler$Words", name := "takes", desc := "(I)Ljava/lang/String;" } : Jvm.MethodName)) ∈ lw_all := lw_g (lw_at lw_m8 195 rfl) rfl
theorem q2190 : (Jvm.Cond.methodLink "HomeCompiler$Generator" (414 : Nat) ({ cls := "java/lang/String", name := "charAt", desc := "(I)C" } : Jvm.MethodName)) ∈ lw_all := lw_g (lw_at lw_m8 196 rfl) rfl
theorem q2191 : (Jvm.Cond.methodLink "HomeCompiler$Generator" (420 : Nat) ({ cls := "HomeCompiler$Generator", name := "own", desc := "(III)I" } : Jvm.MethodName)) ∈ lw_all := lw_g (lw_at lw_m8 197 rfl) rfl
theorem q2192 : (Jvm.Cond.privateMethod ({ cls := "HomeCompiler$Generator", name := "own", desc := "(III)I" } : Jvm.MethodName)) ∈ lw_tbl := lw_at lw_m8 198 rfl
theorem q2193 : (Jvm.Cond.instanceMethod ({ cls := "HomeCompiler$Generator", name := "own", desc := "(III)I" } : Jvm.MethodName)) ∈ lw_all := lw_g (lw_at lw_m8 199 rfl) rfl
theorem q2194 : (Jvm.Cond.code ({ cls := "HomeCompiler$Generator", name := "own", desc := "(III)I" } : Jvm.MethodName) prog_8_method_59_code (8 : Nat) (Option.some Jvm.ClassFile.FieldType.int)) ∈ lw_all := lw_g (lw_at lw_m8 200 rfl) rfl
theorem q2195 : (Jvm.Cond.methodLink "HomeCompiler$Generator" (381 : Nat) ({ cls := "HomeCompiler$Generator", name := "isHome", desc := "(II)Z" } : Jvm.MethodName)) ∈ lw_all := lw_g (lw_at lw_m8 201 rfl) rfl
theorem q2196 : (Jvm.Cond.static ({ cls := "HomeCompiler$Generator", name := "isHome", desc := "(II)Z" } : Jvm.MethodName)) ∈ lw_all := lw_g (lw_at lw_m8 202 rfl) rfl
theorem q2197 : (Jvm.Cond.code ({ cls := "HomeCompiler$Generator", name := "isHome", desc := "(II)Z" } : Jvm.MethodName) prog_8_method_18_code (2 : Nat) (Option.some Jvm.ClassFile.FieldType.boolean)) ∈ lw_all := lw_g (lw_at lw_m8 203 rfl) rfl
theorem q2198 : (Jvm.Cond.methodLink "HomeCompiler$Generator" (384 : Nat) ({ cls := "HomeCompiler$Folder", name := "changes", desc := "(I)Z" } : Jvm.MethodName)) ∈ lw_all := lw_g (lw_at lw_m8 204 rfl) rfl
theorem q2203 : (Jvm.Cond.methodLink "HomeCompiler$Generator" (285 : Nat) ({ cls := "HomeCompiler$Generator", name := "copy", desc := "(II)I" } : Jvm.MethodName)) ∈ lw_all := lw_g (lw_at lw_m8 209 rfl) rfl
theorem q2204 : (Jvm.Cond.privateMethod ({ cls := "HomeCompiler$Generator", name := "copy", desc := "(II)I" } : Jvm.MethodName)) ∈ lw_tbl := lw_at lw_m8 210 rfl
theorem q2205 : (Jvm.Cond.instanceMethod ({ cls := "HomeCompiler$Generator", name := "copy", desc := "(II)I" } : Jvm.MethodName)) ∈ lw_all := lw_g (lw_at lw_m8 211 rfl) rfl
theorem q2206 : (Jvm.Cond.code ({ cls := "HomeCompiler$Generator", name := "copy", desc := "(II)I" } : Jvm.MethodName) prog_8_method_17_code (3 : Nat) (Option.some Jvm.ClassFile.FieldType.int)) ∈ lw_all := lw_g (lw_at lw_m8 212 rfl) rfl
theorem q2207 : (Jvm.Cond.methodLink "HomeCompiler$Generator" (435 : Nat) ({ cls := "HomeCompiler$Emitter", name := "control", desc := "(IIII)V" } : Jvm.MethodName)) ∈ lw_all := lw_g (lw_at lw_m8 213 rfl) rfl
theorem q2211 : (Jvm.Cond.methodLink "HomeCompiler$Generator" (423 : Nat) ({ cls := "HomeCompiler$Generator", name := "isArray", desc := "(I)Z" } : Jvm.MethodName)) ∈ lw_all := lw_g (lw_at lw_m8 217 rfl) rfl
theorem q2212 : (Jvm.Cond.privateMethod ({ cls := "HomeCompiler$Generator", name := "isArray", desc := "(I)Z" } : Jvm.MethodName)) ∈ lw_tbl := lw_at lw_m8 218 rfl
theorem q2213 : (Jvm.Cond.instanceMethod ({ cls := "HomeCompiler$Generator", name := "isArray", desc := "(I)Z" } : Jvm.MethodName)) ∈ lw_all := lw_g (lw_at lw_m8 219 rfl) rfl
theorem q2214 : (Jvm.Cond.code ({ cls := "HomeCompiler$Generator", name := "isArray", desc := "(I)Z" } : Jvm.MethodName) prog_8_method_57_code (2 : Nat) (Option.some Jvm.ClassFile.FieldType.boolean)) ∈ lw_all := lw_g (lw_at lw_m8 220 rfl) rfl
theorem q2215 : (Jvm.Cond.methodLink "HomeCompiler$Generator" (426 : Nat) ({ cls := "HomeCompiler$Generator", name := "handOn", desc := "(II)V" } : Jvm.MethodName)) ∈ lw_all := lw_g (lw_at lw_m8 221 rfl) rfl
theorem q2216 : (Jvm.Cond.privateMethod ({ cls := "HomeCompiler$Generator", name := "handOn", desc := "(II)V" } : Jvm.MethodName)) ∈ lw_tbl := lw_at lw_m8 222 rfl
theorem q2217 : (Jvm.Cond.instanceMethod ({ cls := "HomeCompiler$Generator", name := "handOn", desc := "(II)V" } : Jvm.MethodName)) ∈ lw_all := lw_g (lw_at lw_m8 223 rfl) rfl
theorem q2218 : (Jvm.Cond.code ({ cls := "HomeCompiler$Generator", name := "handOn", desc := "(II)V" } : Jvm.MethodName) prog_8_method_56_code (6 : Nat) (Option.none : Option Jvm.ClassFile.FieldType)) ∈ lw_all := lw_g (lw_at lw_m8 224 rfl) rfl
theorem q2219 : (Jvm.Cond.methodLink "HomeCompiler$Generator" (429 : Nat) ({ cls := "HomeCompiler$Generator", name := "save", desc := "(I)V" } : Jvm.MethodName)) ∈ lw_all := lw_g (lw_at lw_m8 225 rfl) rfl
theorem q2220 : (Jvm.Cond.privateMethod ({ cls := "HomeCompiler$Generator", name := "save", desc := "(I)V" } : Jvm.MethodName)) ∈ lw_tbl := lw_at lw_m8 226 rfl
theorem q2221 : (Jvm.Cond.instanceMethod ({ cls := "HomeCompiler$Generator", name := "save", desc := "(I)V" } : Jvm.MethodName)) ∈ lw_all := lw_g (lw_at lw_m8 227 rfl) rfl
theorem q2222 : (Jvm.Cond.code ({ cls := "HomeCompiler$Generator", name := "save", desc := "(I)V" } : Jvm.MethodName) prog_8_method_19_code (3 : Nat) (Option.none : Option Jvm.ClassFile.FieldType)) ∈ lw_all := lw_g (lw_at lw_m8 228 rfl) rfl
theorem q2223 : (Jvm.Cond.methodLink "HomeCompiler$Generator" (432 : Nat) ({ cls := "HomeCompiler$Generator", name := "takeBack", desc := "(I)V" } : Jvm.MethodName)) ∈ lw_all := lw_g (lw_at lw_m8 229 rfl) rfl
theorem q2224 : (Jvm.Cond.privateMethod ({ cls := "HomeCompiler$Generator", name := "takeBack", desc := "(I)V" } : Jvm.MethodName)) ∈ lw_tbl := lw_at lw_m8 230 rfl
theorem q2225 : (Jvm.Cond.instanceMethod ({ cls := "HomeCompiler$Generator", name := "takeBack", desc := "(I)V" } : Jvm.MethodName)) ∈ lw_all := lw_g (lw_at lw_m8 231 rfl) rfl
theorem q2226 : (Jvm.Cond.code ({ cls := "HomeCompiler$Generator", name := "takeBack", desc := "(I)V" } : Jvm.MethodName) prog_8_method_20_code (3 : Nat) (Option.none : Option Jvm.ClassFile.FieldType)) ∈ lw_all := lw_g (lw_at lw_m8 232 rfl) rfl
theorem q2227 : (Jvm.Cond.methodLink "HomeCompiler$Generator" (355 : Nat) ({ cls := "HomeCompiler$Generator", name := "set", desc := "(III)I" } : Jvm.MethodName)) ∈ lw_all := lw_g (lw_at lw_m8 233 rfl) rfl
theorem q2228 : (Jvm.Cond.privateMethod ({ cls := "HomeCompiler$Generator", name := "set", desc := "(III)I" } : Jvm.MethodName)) ∈ lw_tbl := lw_at lw_m8 234 rfl
theorem q2229 : (Jvm.Cond.instanceMethod ({ cls := "HomeCompiler$Generator", name := "set", desc := "(III)I" } : Jvm.MethodName)) ∈ lw_all := lw_g (lw_at lw_m8 235 rfl) rfl
theorem q2230 : (Jvm.Cond.code ({ cls := "HomeCompiler$Generator", name := "set", desc := "(III)I" } : Jvm.MethodName) prog_8_method_52_code (10 : Nat) (Option.some Jvm.ClassFile.FieldType.int)) ∈ lw_all := lw_g (lw_at lw_m8 236 rfl) rfl
theorem q2231 : (Jvm.Cond.methodLink "HomeCompiler$Generator" (398 : Nat) ({ cls := "HomeCompiler$Generator", name := "within", desc := "(I)I" } : Jvm.MethodName)) ∈ lw_all := lw_g (lw_at lw_m8 237 rfl) rfl
theorem q2232 : (Jvm.Cond.static ({ cls := "HomeCompiler$Generator", name := "within", desc := "(I)I" } : Jvm.MethodName)) ∈ lw_all := lw_g (lw_at lw_m8 238 rfl) rfl
theorem q2233 : (Jvm.Cond.code ({ cls := "HomeCompiler$Generator", name := "within", desc := "(I)I" } : Jvm.MethodName) prog_8_method_51_code (1 : Nat) (Option.some Jvm.ClassFile.FieldType.int)) ∈ lw_all := lw_g (lw_at lw_m8 239 rfl) rfl
theorem q2234 : (Jvm.Cond.methodLink "HomeCompiler$Generator" (387 : Nat) ({ cls := "HomeCompiler$Generator", name := "reckon", desc := "(IIII)V" } : Jvm.MethodName)) ∈ lw_all := lw_g (lw_at lw_m9 0 rfl) rfl
theorem q2235 : (Jvm.Cond.privateMethod ({ cls := "HomeCompiler$Generator", name := "reckon", desc := "(IIII)V" } : Jvm.MethodName)) ∈ lw_tbl := lw_at lw_m9 1 rfl
theorem q2236 : (Jvm.Cond.instanceMethod ({ cls := "HomeCompiler$Generator", name := "reckon", desc := "(IIII)V" } : Jvm.MethodName)) ∈ lw_all := lw_g (lw_at lw_m9 2 rfl) rfl
theorem q2237 : (Jvm.Cond.code ({ cls := "HomeCompiler$Generator", name := "reckon", desc := "(IIII)V" } : Jvm.MethodName) prog_8_method_49_code (5 : Nat) (Option.none : Option Jvm.ClassFile.FieldType)) ∈ lw_all := lw_g (lw_at lw_m9 3 rfl) rfl
theorem q2238 : (Jvm.Cond.methodLink "HomeCompiler$Generator" (393 : Nat) ({ cls := "HomeCompiler$Generator", name := "compare", desc := "(IIII)V" } : Jvm.MethodName)) ∈ lw_all := lw_g (lw_at lw_m9 4 rfl) rfl
theorem q2239 : (Jvm.Cond.privateMethod ({ cls := "HomeCompiler$Generator", name := "compare", desc := "(IIII)V" } : Jvm.MethodName)) ∈ lw_tbl := lw_at lw_m9 5 rfl
theorem q2240 : (Jvm.Cond.instanceMethod ({ cls := "HomeCompiler$Generator", name := "compare", desc := "(IIII)V" } : Jvm.MethodName)) ∈ lw_all := lw_g (lw_at lw_m9 6 rfl) rfl
theorem q2241 : (Jvm.Cond.code ({ cls := "HomeCompiler$Generator", name := "compare", desc := "(IIII)V" } : Jvm.MethodName) prog_8_method_50_code (5 : Nat) (Option.none : Option Jvm.ClassFile.FieldType)) ∈ lw_all := lw_g (lw_at lw_m9 7 rfl) rfl
theorem q2242 : (Jvm.Cond.methodLink "HomeCompiler$Generator" (296 : Nat) ({ cls := "HomeCompiler$Generator", name := "assign", desc := "(III)I" } : Jvm.MethodName)) ∈ lw_all := lw_g (lw_at lw_m9 8 rfl) rfl
theorem q2243 : (Jvm.Cond.privateMethod ({ cls := "HomeCompiler$Generator", name := "assign", desc := "(III)I" } : Jvm.MethodName)) ∈ lw_tbl := lw_at lw_m9 9 rfl
theorem q2244 : (Jvm.Cond.instanceMethod ({ cls := "HomeCompiler$Generator", name := "assign", desc := "(III)I" } : Jvm.MethodName)) ∈ lw_all := lw_g (lw_at lw_m9 10 rfl) rfl
theorem q2245 : (Jvm.Cond.code ({ cls := "HomeCompiler$Generator", name := "assign", desc := "(III)I" } : Jvm.MethodName) prog_8_method_33_code (8 : Nat) (Option.some Jvm.ClassFile.FieldType.int)) ∈ lw_all := lw_g (lw_at lw_m9 11 rfl) rfl
theorem q2246 : (Jvm.Cond.methodLink "HomeCompiler$Generator" (401 : Nat) ({ cls := "HomeCompiler$Generator", name := "storeElement", desc := "(II)V" } : Jvm.MethodName)) ∈ lw_all := lw_g (lw_at lw_m9 12 rfl) rfl
theorem q2247 : (Jvm.Cond.privateMethod ({ cls := "HomeCompiler$Generator", name := "storeElement", desc := "(II)V" } : Jvm.MethodName)) ∈ lw_tbl := lw_at lw_m9 13 rfl
theorem q2248 : (Jvm.Cond.instanceMethod ({ cls := "HomeCompiler$Generator", name := "storeElement", desc := "(II)V" } : Jvm.MethodName)) ∈ lw_all := lw_g (lw_at lw_m9 14 rfl) rfl
theorem q2249 : (Jvm.Cond.code ({ cls := "HomeCompiler$Generator", name := "storeElement", desc := "(II)V" } : Jvm.MethodName) prog_8_method_39_code (3 : Nat) (Option.none : Option Jvm.ClassFile.FieldType)) ∈ lw_all := lw_g (lw_at lw_m9 15 rfl) rfl
theorem q2250 : (Jvm.Cond.methodLink "HomeCompiler$Generator" (404 : Nat) ({ cls := "HomeCompiler$Generator", name := "narrowed", desc := "(III)I" } : Jvm.MethodName)) ∈ lw_all := lw_g (lw_at lw_m9 16 rfl) rfl
theorem q2251 : (Jvm.Cond.privateMethod ({ cls := "HomeCompiler$Generator", name := "narrowed", desc := "(III)I" } : Jvm.MethodName)) ∈ lw_tbl := lw_at lw_m9 17 rfl
theorem q2252 : (Jvm.Cond.instanceMethod ({ cls := "HomeCompiler$Generator", name := "narrowed", desc := "(III)I" } : Jvm.MethodName)) ∈ lw_all := lw_g (lw_at lw_m9 18 rfl) rfl
theorem q2253 : (Jvm.Cond.code ({ cls := "HomeCompiler$Generator", name := "narrowed", desc := "(III)I" } : Jvm.MethodName) prog_8_method_53_code (4 : Nat) (Option.some Jvm.ClassFile.FieldType.int)) ∈ lw_all := lw_g (lw_at lw_m9 19 rfl) rfl
theorem q2254 : (Jvm.Cond.methodLink "HomeCompiler$Generator" (357 : Nat) ({ cls := "HomeCompiler$Generator", name := "count", desc := "(III)I" } : Jvm.MethodName)) ∈ lw_all := lw_g (lw_at lw_m9 20 rfl) rfl
theorem q2255 : (Jvm.Cond.privateMethod ({ cls := "HomeCompiler$Generator", name := "count", desc := "(III)I" } : Jvm.MethodName)) ∈ lw_tbl := lw_at lw_m9 21 rfl
theorem q2256 : (Jvm.Cond.instanceMethod ({ cls := "HomeCompiler$Generator", name := "count", desc := "(III)I" } : Jvm.MethodName)) ∈ lw_all := lw_g (lw_at lw_m9 22 rfl) rfl
theorem q2257 : (Jvm.Cond.code ({ cls := "HomeCompiler$Generator", name := "count", desc := "(III)I" } : Jvm.MethodName) prog_8_method_54_code (8 : Nat) (Option.some Jvm.ClassFile.FieldType.int)) ∈ lw_all := lw_g (lw_at lw_m9 23 rfl) rfl
theorem q2258 : (Jvm.Cond.methodLink "HomeCompiler$Generator" (407 : Nat) ({ cls := "HomeCompiler$Generator", name := "assignFromT0", desc := "(I)V" } : Jvm.MethodName)) ∈ lw_all := lw_g (lw_at lw_m9 24 rfl) rfl
theorem q2259 : (Jvm.Cond.privateMethod ({ cls := "HomeCompiler$Generator", name := "assignFromT0", desc := "(I)V" } : Jvm.MethodName)) ∈ lw_tbl := lw_at lw_m9 25 rfl
theorem q2260 : (Jvm.Cond.instanceMethod ({ cls := "HomeCompiler$Generator", name := "assignFromT0", desc := "(I)V" } : Jvm.MethodName)) ∈ lw_all := lw_g (lw_at lw_m9 26 rfl) rfl
theorem q2261 : (Jvm.Cond.code ({ cls := "HomeCompiler$Generator", name := "assignFromT0", desc := "(I)V" } : Jvm.MethodName) prog_8_method_55_code (2 : Nat) (Option.none : Option Jvm.ClassFile.FieldType)) ∈ lw_all := lw_g (lw_at lw_m9 27 rfl) rfl
theorem q2262 : (Jvm.Cond.methodLink "HomeCompiler$Generator" (359 : Nat) ({ cls := "HomeCompiler$Generator", name := "unary", desc := "(III)I" } : Jvm.MethodName)) ∈ lw_all := lw_g (lw_at lw_m9 28 rfl) rfl
theorem q2263 : (Jvm.Cond.privateMethod ({ cls := "HomeCompiler$Generator", name := "unary", desc := "(III)I" } : Jvm.MethodName)) ∈ lw_tbl := lw_at lw_m9 29 rfl
theorem q2264 : (Jvm.Cond.instanceMethod ({ cls := "HomeCompiler$Generator", name := "unary", desc := "(III)I" } : Jvm.MethodName)) ∈ lw_all := lw_g (lw_at lw_m9 30 rfl) rfl
theorem q2265 : (Jvm.Cond.code ({ cls := "HomeCompiler$Generator", name := "unary", desc := "(III)I" } : Jvm.MethodName) prog_8_method_42_code (6 : Nat) (Option.some Jvm.ClassFile.FieldType.int)) ∈ lw_all := lw_g (lw_at lw_m9 31 rfl) rfl
theorem q2266 : (Jvm.Cond.methodLink "HomeCompiler$Generator" (362 : Nat) ({ cls := "HomeCompiler$Generator", name := "choice", desc := "(II)I" } : Jvm.MethodName)) ∈ lw_all := lw_g (lw_at lw_m9 32 rfl) rfl
theorem q2267 : (Jvm.Cond.privateMethod ({ cls := "HomeCompiler$Generator", name := "choice", desc := "(II)I" } : Jvm.MethodName)) ∈ lw_tbl := lw_at lw_m9 33 rfl
theorem q2268 : (Jvm.Cond.instanceMethod ({ cls := "HomeCompiler$Generator", name := "choice", desc := "(II)I" } : Jvm.MethodName)) ∈ lw_all := lw_g (lw_at lw_m9 34 rfl) rfl
theorem q2269 : (Jvm.Cond.code ({ cls := "HomeCompiler$Generator", name := "choice", desc := "(II)I" } : Jvm.MethodName) prog_8_method_44_code (8 : Nat) (Option.some Jvm.ClassFile.FieldType.int)) ∈ lw_all := lw_g (lw_at lw_m9 35 rfl) rfl
theorem q2270 : (Jvm.Cond.methodLink "HomeCompiler$Generator" (282 : Nat) ({ cls := "HomeCompiler$Generator", name := "branch", desc := "(IIZI)V" } : Jvm.MethodName)) ∈ lw_all := lw_g (lw_at lw_m9 36 rfl) rfl
theorem q2271 : (Jvm.Cond.privateMethod ({ cls := "HomeCompiler$Generator", name := "branch", desc := "(IIZI)V" } : Jvm.MethodName)) ∈ lw_tbl := lw_at lw_m9 37 rfl
theorem q2272 : (Jvm.Cond.instanceMethod ({ cls := "HomeCompiler$Generator", name := "branch", desc := "(IIZI)V" } : Jvm.MethodName)) ∈ lw_all := lw_g (lw_at lw_m9 38 rfl) rfl
theorem q2273 : (Jvm.Cond.code ({ cls := "HomeCompiler$Generator", name := "branch", desc := "(IIZI)V" } : Jvm.MethodName) prog_8_method_60_code (8 : Nat) (Option.none : Option Jvm.ClassFile.FieldType)) ∈ lw_all := lw_g (lw_at lw_m9 39 rfl) rfl
theorem q2274 : (Jvm.Cond.methodLink "HomeCompiler$Generator" (438 : Nat) ({ cls := "HomeCompiler$Generator", name := "decide", desc := "(IIIZI)V" } : Jvm.MethodName)) ∈ lw_all := lw_g (lw_at lw_m9 40 rfl) rfl
theorem q2275 : (Jvm.Cond.privateMethod ({ cls := "HomeCompiler$Generator", name := "decide", desc := "(IIIZI)V" } : Jvm.MethodName)) ∈ lw_tbl := lw_at lw_m9 41 rfl
theorem q2276 : (Jvm.Cond.instanceMethod ({ cls := "HomeCompiler$Generator", name := "decide", desc := "(IIIZI)V" } : Jvm.MethodName)) ∈ lw_all := lw_g (lw_at lw_m9 42 rfl) rfl
theorem q2277 : (Jvm.Cond.code ({ cls := "HomeCompiler$Generator", name := "decide", desc := "(IIIZI)V" } : Jvm.MethodName) prog_8_method_61_code (11 : Nat) (Option.none : Option Jvm.ClassFile.FieldType)) ∈ lw_all := lw_g (lw_at lw_m9 43 rfl) rfl
theorem q2278 : (Jvm.Cond.methodLink "HomeCompiler$Generator" (442 : Nat) ({ cls := "HomeCompiler$Generator", name := "compared", desc := "(IIZI)V" } : Jvm.MethodName)) ∈ lw_all := lw_g (lw_at lw_m9 44 rfl) rfl
theorem q2279 : (Jvm.Cond.privateMethod ({ cls := "HomeCompiler$Generator", name := "compared", desc := "(IIZI)V" } : Jvm.MethodName)) ∈ lw_tbl := lw_at lw_m9 45 rfl
theorem q2280 : (Jvm.Cond.instanceMethod ({ cls := "HomeCompiler$Generator", name := "compared", desc := "(IIZI)V" } : Jvm.MethodName)) ∈ lw_all := lw_g (lw_at lw_m9 46 rfl) rfl
theorem q2281 : (Jvm.Cond.code ({ cls := "HomeCompiler$Generator", name := "compared", desc := "(IIZI)V" } : Jvm.MethodName) prog_8_method_62_code (14 : Nat) (Option.none : Option Jvm.ClassFile.FieldType)) ∈ lw_all := lw_g (lw_at lw_m9 47 rfl) rfl
theorem q2282 : (Jvm.Cond.methodLink "HomeCompiler$Generator" (365 : Nat) ({ cls := "HomeCompiler$Generator", name := "truth", desc := "(II)I" } : Jvm.MethodName)) ∈ lw_all := lw_g (lw_at lw_m9 48 rfl) rfl
theorem q2283 : (Jvm.Cond.privateMethod ({ cls := "HomeCompiler$Generator", name := "truth", desc := "(II)I" } : Jvm.MethodName)) ∈ lw_tbl := lw_at lw_m9 49 rfl
theorem q2284 : (Jvm.Cond.instanceMethod ({ cls := "HomeCompiler$Generator", name := "truth", desc := "(II)I" } : Jvm.MethodName)) ∈ lw_all := lw_g (lw_at lw_m9 50 rfl) rfl
theorem q2285 : (Jvm.Cond.code ({ cls := "HomeCompiler$Generator", name := "truth", desc := "(II)I" } : Jvm.MethodName) prog_8_method_43_code (5 : Nat) (Option.some Jvm.ClassFile.FieldType.int)) ∈ lw_all := lw_g (lw_at lw_m9 51 rfl) rfl
theorem q2286 : (Jvm.Cond.methodLink "HomeCompiler$Generator" (368 : Nat) ({ cls := "HomeCompiler$Generator", name := "chain", desc := "(II)I" } : Jvm.MethodName)) ∈ lw_all := lw_g (lw_at lw_m9 52 rfl) rfl
theorem q2287 : (Jvm.Cond.privateMethod ({ cls := "HomeCompiler$Generator", name := "chain", desc := "(II)I" } : Jvm.MethodName)) ∈ lw_tbl := lw_at lw_m9 53 rfl
theorem q2288 : (Jvm.Cond.instanceMethod ({ cls := "HomeCompiler$Generator", name := "chain", desc := "(II)I" } : Jvm.MethodName)) ∈ lw_all := lw_g (lw_at lw_m9 54 rfl) rfl
theorem q2289 : (Jvm.Cond.code ({ cls := "HomeCompiler$Generator", name := "chain", desc := "(II)I" } : Jvm.MethodName) prog_8_method_45_code (9 : Nat) (Option.some Jvm.ClassFile.FieldType.int)) ∈ lw_all := lw_g (lw_at lw_m9 55 rfl) rfl
theorem q2290 : (Jvm.Cond.methodLink "HomeCompiler$Generator" (374 : Nat) ({ cls := "HomeCompiler$Generator", name := "isShort", desc := "(II)Z" } : Jvm.MethodName)) ∈ lw_all := lw_g (lw_at lw_m9 56 rfl) rfl
theorem q2291 : (Jvm.Cond.static ({ cls := "HomeCompiler$Generator", name := "isShort", desc := "(II)Z" } : Jvm.MethodName)) ∈ lw_all := lw_g (lw_at lw_m9 57 rfl) rfl
theorem q2292 : (Jvm.Cond.code ({ cls := "HomeCompiler$Generator", name := "isShort", desc := "(II)Z" } : Jvm.MethodName) prog_8_method_46_code (3 : Nat) (Option.some Jvm.ClassFile.FieldType.boolean)) ∈ lw_all := lw_g (lw_at lw_m9 58 rfl) rfl
theorem q2293 : (Jvm.Cond.methodLink "HomeCompiler$Generator" (378 : Nat) ({ cls := "HomeCompiler$Generator", name := "withNumber", desc := "(IIII)V" } : Jvm.MethodName)) ∈ lw_all := lw_g (lw_at lw_m9 59 rfl) rfl
theorem q2294 : (Jvm.Cond.privateMethod ({ cls := "HomeCompiler$Generator", name := "withNumber", desc := "(IIII)V" } : Jvm.MethodName)) ∈ lw_tbl := lw_at lw_m9 60 rfl
theorem q2295 : (Jvm.Cond.instanceMethod ({ cls := "HomeCompiler$Generator", name := "withNumber", desc := "(IIII)V" } : Jvm.MethodName)) ∈ lw_all := lw_g (lw_at lw_m9 61 rfl) rfl
theorem q2296 : (Jvm.Cond.code ({ cls := "HomeCompiler$Generator", name := "withNumber", desc := "(IIII)V" } : Jvm.MethodName) prog_8_method_48_code (5 : Nat) (Option.none : Option Jvm.ClassFile.FieldType)) ∈ lw_all := lw_g (lw_at lw_m9 62 rfl) rfl
theorem q2297 : (Jvm.Cond.methodLink "HomeCompiler$Generator" (390 : Nat) ({ cls := "HomeCompiler$Generator", name := "power", desc := "(I)I" } : Jvm.MethodName)) ∈ lw_all := lw_g (lw_at lw_m9 63 rfl) rfl
theorem q2298 : (Jvm.Cond.static ({ cls := "HomeCompiler$Generator", name := "power", desc := "(I)I" } : Jvm.MethodName)) ∈ lw_all := lw_g (lw_at lw_m9 64 rfl) rfl
theorem q2299 : (Jvm.Cond.code ({ cls := "HomeCompiler$Generator", name := "power", desc := "(I)I" } : Jvm.MethodName) prog_8_method_47_code (2 : Nat) (Option.some Jvm.ClassFile.FieldType.int)) ∈ lw_all := lw_g (lw_at lw_m9 65 rfl) rfl
theorem q2300 : (Jvm.Cond.methodLink "HomeCompiler$Generator" (264 : Nat) ({ cls := "HomeCompiler$Generator", name := "choosing", desc := "(I)V" } : Jvm.MethodName)) ∈ lw_all := lw_g (lw_at lw_m9 66 rfl) rfl
theorem q2301 : (Jvm.Cond.privateMethod ({ cls := "HomeCompiler$Generator", name := "choosing", desc := "(I)V" } : Jvm.MethodName)) ∈ lw_tbl := lw_at lw_m9 67 rfl
theorem q2302 : (Jvm.Cond.instanceMethod ({ cls := "HomeCompiler$Generator", name := "choosing", desc := "(I)V" } : Jvm.MethodName)) ∈ lw_all := lw_g (lw_at lw_m9 68 rfl) rfl
theorem q2303 : (Jvm.Cond.code ({ cls := "HomeCompiler$Generator", name := "choosing", desc := "(I)V" } : Jvm.MethodName) prog_8_method_24_code (6 : Nat) (Option.none : Option Jvm.ClassFile.FieldType)) ∈ lw_all := lw_g (lw_at lw_m9 69 rfl) rfl
theorem q2304 : (Jvm.Cond.methodLink "HomeCompiler$Generator" (267 : Nat) ({ cls := "HomeCompiler$Generator", name := "looping", desc := "(IIIZ)V" } : Jvm.MethodName)) ∈ lw_all := lw_g (lw_at lw_m9 70 rfl) rfl
theorem q2305 : (Jvm.Cond.privateMethod ({ cls := "HomeCompiler$Generator", name := "looping", desc := "(IIIZ)V" } : Jvm.MethodName)) ∈ lw_tbl := lw_at lw_m9 71 rfl
theorem q2306 : (Jvm.Cond.instanceMethod ({ cls := "HomeCompiler$Generator", name := "looping", desc := "(IIIZ)V" } : Jvm.MethodName)) ∈ lw_all := lw_g (lw_at lw_m9 72 rfl) rfl
theorem q2307 : (Jvm.Cond.code ({ cls := "HomeCompiler$Generator", name := "looping", desc := "(IIIZ)V" } : Jvm.MethodName) prog_8_method_26_code (9 : Nat) (Option.none : Option Jvm.ClassFile.FieldType)) ∈ lw_all := lw_g (lw_at lw_m9 73 rfl) rfl
theorem q2308 : (Jvm.Cond.methodLink "HomeCompiler$Generator" (271 : Nat) ({ cls := "HomeCompiler$Generator", name := "counting", desc := "(I)V" } : Jvm.MethodName)) ∈ lw_all := lw_g (lw_at lw_m9 74 rfl) rfl
theorem q2309 : (Jvm.Cond.privateMethod ({ cls := "HomeCompiler$Generator", name := "counting", desc := "(I)V" } : Jvm.MethodName)) ∈ lw_tbl := lw_at lw_m9 75 rfl
theorem q2310 : (Jvm.Cond.instanceMethod ({ cls := "HomeCompiler$Generator", name := "counting", desc := "(I)V" } : Jvm.MethodName)) ∈ lw_all := lw_g (lw_at lw_m9 76 rfl) rfl
theorem q2311 : (Jvm.Cond.code ({ cls := "HomeCompiler$Generator", name := "counting", desc := "(I)V" } : Jvm.MethodName) prog_8_method_25_code (4 : Nat) (Option.none : Option Jvm.ClassFile.FieldType)) ∈ lw_all := lw_g (lw_at lw_m9 77 rfl) rfl
theorem q2312 : (Jvm.Cond.methodLink "HomeCompiler$Generator" (274 : Nat) ({ cls := "HomeCompiler$Generator", name := "switching", desc := "(II)V" } : Jvm.MethodName)) ∈ lw_all := lw_g (lw_at lw_m9 78 rfl) rfl
theorem q2313 : (Jvm.Cond.privateMethod ({ cls := "HomeCompiler$Generator", name := "switching", desc := "(II)V" } : Jvm.MethodName)) ∈ lw_tbl := lw_at lw_m9 79 rfl
theorem q2314 : (Jvm.Cond.instanceMethod ({ cls := "HomeCompiler$Generator", name := "switching", desc := "(II)V" } : Jvm.MethodName)) ∈ lw_all := lw_g (lw_at lw_m9 80 rfl) rfl
theorem q2315 : (Jvm.Cond.code ({ cls := "HomeCompiler$Generator", name := "switching", desc := "(II)V" } : Jvm.MethodName) prog_8_method_27_code (7 : Nat) (Option.none : Option Jvm.ClassFile.FieldType)) ∈ lw_all := lw_g (lw_at lw_m9 81 rfl) rfl
theorem q2316 : (Jvm.Cond.methodLink "HomeCompiler$Generator" (288 : Nat) ({ cls := "HomeCompiler$Nodes", name := "setNumber", desc := "(II)V" } : Jvm.MethodName)) ∈ lw_all := lw_g (lw_at lw_m9 82 rfl) rfl
theorem q2317 : (Jvm.Cond.methodLink "HomeCompiler$Generator" (277 : Nat) ({ cls := "HomeCompiler$Generator", name := "returning", desc := "(I)V" } : Jvm.MethodName)) ∈ lw_all := lw_g (lw_at lw_m9 83 rfl) rfl
theorem q2318 : (Jvm.Cond.privateMethod ({ cls := "HomeCompiler$Generator", name := "returning", desc := "(I)V" } : Jvm.MethodName)) ∈ lw_tbl := lw_at lw_m9 84 rfl
theorem q2319 : (Jvm.Cond.instanceMethod ({ cls := "HomeCompiler$Generator", name := "returning", desc := "(I)V" } : Jvm.MethodName)) ∈ lw_all := lw_g (lw_at lw_m9 85 rfl) rfl
theorem q2320 : (Jvm.Cond.code ({ cls := "HomeCompiler$Generator", name := "returning", desc := "(I)V" } : Jvm.MethodName) prog_8_method_23_code (3 : Nat) (Option.none : Option Jvm.ClassFile.FieldType)) ∈ lw_all := lw_g (lw_at lw_m9 86 rfl) rfl
theorem q2321 : (Jvm.Cond.methodLink "HomeCompiler$Generator" (172 : Nat) ({ cls := "HomeCompiler$Emitter", name := "fill", desc := "(III)V" } : Jvm.MethodName)) ∈ lw_all := lw_g (lw_at lw_m9 87 rfl) rfl
theorem q2325 : (Jvm.Cond.methodLink "HomeCompiler$Generator" (176 : Nat) ({ cls := "HomeCompiler$Generator", name := "finish", desc := "(I)V" } : Jvm.MethodName)) ∈ lw_all := lw_g (lw_at lw_m9 91 rfl) rfl
theorem q2326 : (Jvm.Cond.privateMethod ({ cls := "HomeCompiler$Generator", name := "finish", desc := "(I)V" } : Jvm.MethodName)) ∈ lw_tbl := lw_at lw_m9 92 rfl
theorem q2327 : (Jvm.Cond.instanceMethod ({ cls := "HomeCompiler$Generator", name := "finish", desc := "(I)V" } : Jvm.MethodName)) ∈ lw_all := lw_g (lw_at lw_m9 93 rfl) rfl
theorem q2328 : (Jvm.Cond.code ({ cls := "HomeCompiler$Generator", name := "finish", desc := "(I)V" } : Jvm.MethodName) prog_8_method_9_code (4 : Nat) (Option.none : Option Jvm.ClassFile.FieldType)) ∈ lw_all := lw_g (lw_at lw_m9 94 rfl) rfl
theorem q2329 : (Jvm.Cond.constant "HomeCompiler$Generator" (227 : Nat) (32871 : Int32)) ∈ lw_all := lw_g (lw_at lw_m9 95 rfl) rfl
theorem q2472 : (Jvm.Cond.instanceMethod ({ cls := "HomeCompiler$Generator", name := "address", desc := "(I)I" } : Jvm.MethodName)) ∈ lw_all := lw_g (lw_at lw_m9 238 rfl) rfl
theorem q2473 : (Jvm.Cond.selects "HomeCompiler$Generator" ({ cls := "HomeCompiler$Generator", name := "address", desc := "(I)I" } : Jvm.MethodName) ({ cls := "HomeCompiler$Generator", name := "address", desc := "(I)I" } : Jvm.MethodName)) ∈ lw_all := lw_g (lw_at lw_m9 239 rfl) rfl
theorem q2474 : (Jvm.Cond.code ({ cls := "HomeCompiler$Generator", name := "address", desc := "(I)I" } : Jvm.MethodName) prog_8_method_4_code (2 : Nat) (Option.some Jvm.ClassFile.FieldType.int)) ∈ lw_all := lw_g (lw_at lw_m10 0 rfl) rfl
theorem in_X13 : ∀ w ∈ wsX130, w ∈ lw_all := lw_in wsX130 [814, 816, 818, 820, 822, 824, 826, 828, 830, 832, 834, 836, 838, 840, 842, 844, 846, 848, 850] (by decide +kernel) (by decide +kernel)
/-! X14.HomeCompiler_Folder.lean.txt -/
def RX14 : String := "HomeCompiler$Folder"
def TX14 : u_T := fun k => match k with
  | 0 => ("HomeCompiler$Folder", "nodes", "LHomeCompiler$Nodes;", true)
  | _ => ("HomeCompiler$Folder", "value", "I", false)
def tyX14 : Nat → FieldType := fun k => match k with
  | 0 => .object "HomeCompiler$Nodes"
  | _ => .int
abbrev wsX140 : List Cond := u_ws RX14 TX14 2
theorem nmX14 : ∀ a, a < 2 → ∀ b, b < 2 → a ≠ b → (TX14 a).2.1 ≠ (TX14 b).2.1 := by decide +kernel
theorem tyX14_ok : ∀ k, k < 2 → parseFieldDescriptor (TX14 k).2.2.1 = some (tyX14 k) := by decide +kernel
abbrev cX14_init : ByteArray := prog_7_method_1_code
def yX14_init : MethodName := ⟨RX14, "<init>", "(LHomeCompiler$Nodes;)V"⟩
abbrev cX14_isNumber : ByteArray := prog_7_method_3_code
def yX14_isNumber : MethodName := ⟨RX14, "isNumber", "(I)Z"⟩
abbrev cX14_truth : ByteArray := prog_7_method_5_code
def yX14_truth : MethodName := ⟨RX14, "truth", "(Z)I"⟩
abbrev cX14_told : ByteArray := prog_7_method_4_code
def yX14_told : MethodName := ⟨RX14, "told", "(I)Z"⟩
abbrev cX14_isChain : ByteArray := prog_7_method_6_code
def yX14_isChain : MethodName := ⟨RX14, "isChain", "(II)Z"⟩
abbrev cX14_reckon : ByteArray := prog_7_method_7_code
def yX14_reckon : MethodName := ⟨RX14, "reckon", "(III)I"⟩
abbrev cX14_value : ByteArray := prog_7_method_2_code
def yX14_value : MethodName := ⟨RX14, "value", "()I"⟩
abbrev cX14_changes : ByteArray := prog_7_method_8_code
def yX14_changes : MethodName := ⟨RX14, "changes", "(I)Z"⟩
theorem q328 : (Jvm.Cond.initialized "HomeCompiler$Folder") ∈ lw_all := lw_g (lw_at lw_m1 14 rfl) rfl
theorem q749 : (Jvm.Cond.instantiable "HomeCompiler$Folder" (2 : Nat)) ∈ lw_all := lw_g (lw_at lw_m2 195 rfl) rfl
theorem q751 : (Jvm.Cond.instanceMethod ({ cls := "HomeCompiler$Folder", name := "<init>", desc := "(LHomeCompiler$Nodes;)V" } : Jvm.MethodName)) ∈ lw_all := lw_g (lw_at lw_m2 197 rfl) rfl
theorem q752 : (Jvm.Cond.code ({ cls := "HomeCompiler$Folder", name := "<init>", desc := "(LHomeCompiler$Nodes;)V" } : Jvm.MethodName) prog_7_method_1_code (2 : Nat) (Option.none : Option Jvm.ClassFile.FieldType)) ∈ lw_all := lw_g (lw_at lw_m2 198 rfl) rfl
theorem q753 : (Jvm.Cond.methodLink "HomeCompiler$Folder" (3 : Nat) ({ cls := "java/lang/Object", name := "<init>", desc := "()V" } : Jvm.MethodName)) ∈ lw_all := lw_g (lw_at lw_m2 199 rfl) rfl
theorem q754 : (Jvm.Cond.fieldLink "HomeCompiler$Folder" (9 : Nat) "HomeCompiler$Folder" "nodes" "LHomeCompiler$Nodes;") ∈ lw_all := lw_g (lw_at lw_m2 200 rfl) rfl
theorem q755 : (Jvm.Cond.fieldLink "HomeCompiler$Folder" (15 : Nat) "HomeCompiler$Folder" "value" "I") ∈ lw_all := lw_g (lw_at lw_m2 201 rfl) rfl
theorem q756 : (Jvm.Cond.laysFinal "HomeCompiler$Folder" "HomeCompiler$Folder" "nodes" "LHomeCompiler$Nodes;") ∈ lw_all := lw_g (lw_at lw_m2 202 rfl) rfl
theorem q757 : (Jvm.Cond.soleField "HomeCompiler$Folder" "nodes") ∈ lw_all := lw_g (lw_at lw_m2 203 rfl) rfl
theorem q758 : (Jvm.Cond.lays "HomeCompiler$Folder" "HomeCompiler$Folder" "value" "I") ∈ lw_all := lw_g (lw_at lw_m2 204 rfl) rfl
theorem q759 : (Jvm.Cond.soleField "HomeCompiler$Folder" "value") ∈ lw_all := lw_g (lw_at lw_m2 205 rfl) rfl
theorem q760 : (Jvm.Cond.superclass "HomeCompiler$Folder" "java/lang/Object") ∈ lw_all := lw_g (lw_at lw_m2 206 rfl) rfl
theorem q2106 : (Jvm.Cond.instanceMethod ({ cls := "HomeCompiler$Folder", name := "isNumber", desc := "(I)Z" } : Jvm.MethodName)) ∈ lw_all := lw_g (lw_at lw_m8 112 rfl) rfl
theorem q2107 : (Jvm.Cond.selects "HomeCompiler$Folder" ({ cls := "HomeCompiler$Folder", name := "isNumber", desc := "(I)Z" } : Jvm.MethodName) ({ cls := "HomeCompiler$Folder", name := "isNumber", desc := "(I)Z" } : Jvm.MethodName)) ∈ lw_all := lw_g (lw_at lw_m8 113 rfl) rfl
theorem q2108 : (Jvm.Cond.code ({ cls := "HomeCompiler$Folder", name := "isNumber", desc := "(I)Z" } : Jvm.MethodName) prog_7_method_3_code (3 : Nat) (Option.some Jvm.ClassFile.FieldType.boolean)) ∈ lw_all := lw_g (lw_at lw_m8 114 rfl) rfl
theorem q2109 : (Jvm.Cond.methodLink "HomeCompiler$Folder" (19 : Nat) ({ cls := "HomeCompiler$Nodes", name := "first", desc := "(I)I" } : Jvm.MethodName)) ∈ lw_all := lw_g (lw_at lw_m8 115 rfl) rfl
theorem q2110 : (Jvm.Cond.methodLink "HomeCompiler$Folder" (25 : Nat) ({ cls := "HomeCompiler$Nodes", name := "kind", desc := "(I)I" } : Jvm.MethodName)) ∈ lw_all := lw_g (lw_at lw_m8 116 rfl) rfl
theorem q2111 : (Jvm.Cond.methodLink "HomeCompiler$Folder" (28 : Nat) ({ cls := "HomeCompiler$Nodes", name := "value", desc := "(I)I" } : Jvm.MethodName)) ∈ lw_all := lw_g (lw_at lw_m8 117 rfl) rfl
theorem q2112 : (Jvm.Cond.methodLink "HomeCompiler$Folder" (30 : Nat) ({ cls := "HomeCompiler$Nodes", name := "number", desc := "(I)I" } : Jvm.MethodName)) ∈ lw_all := lw_g (lw_at lw_m8 118 rfl) rfl
theorem q2113 : (Jvm.Cond.methodLink "HomeCompiler$Folder" (33 : Nat) ({ cls := "HomeCompiler$Nodes", name := "extra", desc := "(I)I" } : Jvm.MethodName)) ∈ lw_all := lw_g (lw_at lw_m8 119 rfl) rfl
theorem q2114 : (Jvm.Cond.methodLink "HomeCompiler$Folder" (36 : Nat) ({ cls := "HomeCompiler$Folder", name := "isNumber", desc := "(I)Z" } : Jvm.MethodName)) ∈ lw_all := lw_g (lw_at lw_m8 120 rfl) rfl
theorem q2115 : (Jvm.Cond.methodLink "HomeCompiler$Folder" (40 : Nat) ({ cls := "HomeCompiler$Nodes", name := "op", desc := "(I)I" } : Jvm.MethodName)) ∈ lw_all := lw_g (lw_at lw_m8 121 rfl) rfl
theorem q2116 : (Jvm.Cond.methodLink "HomeCompiler$Folder" (43 : Nat) ({ cls := "HomeCompiler$Folder", name := "truth", desc := "(Z)I" } : Jvm.MethodName)) ∈ lw_all := lw_g (lw_at lw_m8 122 rfl) rfl
theorem q2117 : (Jvm.Cond.static ({ cls := "HomeCompiler$Folder", name := "truth", desc := "(Z)I" } : Jvm.MethodName)) ∈ lw_all := lw_g (lw_at lw_m8 123 rfl) rfl
theorem q2118 : (Jvm.Cond.code ({ cls := "HomeCompiler$Folder", name := "truth", desc := "(Z)I" } : Jvm.MethodName) prog_7_method_5_code (1 : Nat) (Option.some Jvm.ClassFile.FieldType.int)) ∈ lw_all := lw_g (lw_at lw_m8 124 rfl) rfl
theorem q2119 : (Jvm.Cond.methodLink "HomeCompiler$Folder" (47 : Nat) ({ cls := "HomeCompiler$Folder", name := "told", desc := "(I)Z" } : Jvm.MethodName)) ∈ lw_all := lw_g (lw_at lw_m8 125 rfl) rfl
theorem q2120 : (Jvm.Cond.privateMethod ({ cls := "HomeCompiler$Folder", name := "told", desc := "(I)Z" } : Jvm.MethodName)) ∈ lw_tbl := lw_at lw_m8 126 rfl
theorem q2121 : (Jvm.Cond.instanceMethod ({ cls := "HomeCompiler$Folder", name := "told", desc := "(I)Z" } : Jvm.MethodName)) ∈ lw_all := lw_g (lw_at lw_m8 127 rfl) rfl
theorem q2122 : (Jvm.Cond.code ({ cls := "HomeCompiler$Folder", name := "told", desc := "(I)Z" } : Jvm.MethodName) prog_7_method_4_code (2 : Nat) (Option.some Jvm.ClassFile.FieldType.boolean)) ∈ lw_all := lw_g (lw_at lw_m8 128 rfl) rfl
theorem q2123 : (Jvm.Cond.methodLink "HomeCompiler$Folder" (50 : Nat) ({ cls := "HomeCompiler$Nodes", name := "next", desc := "(I)I" } : Jvm.MethodName)) ∈ lw_all := lw_g (lw_at lw_m8 129 rfl) rfl
theorem q2124 : (Jvm.Cond.methodLink "HomeCompiler$Folder" (53 : Nat) ({ cls := "HomeCompiler$Folder", name := "isChain", desc := "(II)Z" } : Jvm.MethodName)) ∈ lw_all := lw_g (lw_at lw_m8 130 rfl) rfl
theorem q2125 : (Jvm.Cond.privateMethod ({ cls := "HomeCompiler$Folder", name := "isChain", desc := "(II)Z" } : Jvm.MethodName)) ∈ lw_tbl := lw_at lw_m8 131 rfl
theorem q2126 : (Jvm.Cond.instanceMethod ({ cls := "HomeCompiler$Folder", name := "isChain", desc := "(II)Z" } : Jvm.MethodName)) ∈ lw_all := lw_g (lw_at lw_m8 132 rfl) rfl
theorem q2127 : (Jvm.Cond.code ({ cls := "HomeCompiler$Folder", name := "isChain", desc := "(II)Z" } : Jvm.MethodName) prog_7_method_6_code (10 : Nat) (Option.some Jvm.ClassFile.FieldType.boolean)) ∈ lw_all := lw_g (lw_at lw_m8 133 rfl) rfl
theorem q2128 : (Jvm.Cond.methodLink "HomeCompiler$Folder" (57 : Nat) ({ cls := "HomeCompiler$Folder", name := "reckon", desc := "(III)I" } : Jvm.MethodName)) ∈ lw_all := lw_g (lw_at lw_m8 134 rfl) rfl
theorem q2129 : (Jvm.Cond.static ({ cls := "HomeCompiler$Folder", name := "reckon", desc := "(III)I" } : Jvm.MethodName)) ∈ lw_all := lw_g (lw_at lw_m8 135 rfl) rfl
theorem q2130 : (Jvm.Cond.code ({ cls := "HomeCompiler$Folder", name := "reckon", desc := "(III)I" } : Jvm.MethodName) prog_7_method_7_code (3 : Nat) (Option.some Jvm.ClassFile.FieldType.int)) ∈ lw_all := lw_g (lw_at lw_m8 136 rfl) rfl
theorem q2132 : (Jvm.Cond.instanceMethod ({ cls := "HomeCompiler$Folder", name := "value", desc := "()I" } : Jvm.MethodName)) ∈ lw_all := lw_g (lw_at lw_m8 138 rfl) rfl
theorem q2133 : (Jvm.Cond.selects "HomeCompiler$Folder" ({ cls := "HomeCompiler$Folder", name := "value", desc := "()I" } : Jvm.MethodName) ({ cls := "HomeCompiler$Folder", name := "value", desc := "()I" } : Jvm.MethodName)) ∈ lw_all := lw_g (lw_at lw_m8 139 rfl) rfl
theorem q2134 : (Jvm.Cond.code ({ cls := "HomeCompiler$Folder", name := "value", desc := "()I" } : Jvm.MethodName) prog_7_method_2_code (1 : Nat) (Option.some Jvm.ClassFile.FieldType.int)) ∈ lw_all := lw_g (lw_at lw_m8 140 rfl) rfl
theorem q2199 : (Jvm.Cond.instanceMethod ({ cls := "HomeCompiler$Folder", name := "changes", desc := "(I)Z" } : Jvm.MethodName)) ∈ lw_all := lw_g (lw_at lw_m8 205 rfl) rfl
theorem q2200 : (Jvm.Cond.selects "HomeCompiler$Folder" ({ cls := "HomeCompiler$Folder", name := "changes", desc := "(I)Z" } : Jvm.MethodName) ({ cls := "HomeCompiler$Folder", name := "changes", desc := "(I)Z" } : Jvm.MethodName)) ∈ lw_all := lw_g (lw_at lw_m8 206 rfl) rfl
theorem q2201 : (Jvm.Cond.code ({ cls := "HomeCompiler$Folder", name := "changes", desc := "(I)Z" } : Jvm.MethodName) prog_7_method_8_code (5 : Nat) (Option.some Jvm.ClassFile.FieldType.boolean)) ∈ lw_all := lw_g (lw_at lw_m8 207 rfl) rfl
theorem q2202 : (Jvm.Cond.methodLink "HomeCompiler$Folder" (61 : Nat) ({ cls := "HomeCompiler$Folder", name := "changes", desc := "(I)Z" } : Jvm.MethodName)) ∈ lw_all := lw_g (lw_at lw_m8 208 rfl) rfl
theorem in_X14 : ∀ w ∈ wsX140, w ∈ lw_all := lw_in wsX140 [756, 758] (by decide +kernel) (by decide +kernel)
/-! X15.HomeCompiler_Homes.lean.txt -/
def RX15 : String := "HomeCompiler$Homes"
def TX15 : u_T := fun k => match k with
  | 0 => ("HomeCompiler$Homes", "nodes", "LHomeCompiler$Nodes;", true)
  | 1 => ("HomeCompiler$Homes", "variables", "LHomeCompiler$Variables;", true)
  | 2 => ("HomeCompiler$Homes", "weights", "[I", false)
  | 3 => ("HomeCompiler$Homes", "registers", "[I", false)
  | 4 => ("HomeCompiler$Homes", "lengths", "[I", false)
  | 5 => ("HomeCompiler$Homes", "places", "[I", false)
  | 6 => ("HomeCompiler$Homes", "used", "I", false)
  | 7 => ("HomeCompiler$Homes", "parameterWords", "I", false)
  | _ => ("HomeCompiler$Homes", "localWords", "I", false)
def tyX15 : Nat → FieldType := fun k => match k with
  | 0 => .object "HomeCompiler$Nodes"
  | 1 => .object "HomeCompiler$Variables"
  | 2 => .array .int
  | 3 => .array .int
  | 4 => .array .int
  | 5 => .array .int
  | 6 => .int
  | 7 => .int
  | _ => .int
abbrev wsX150 : List Cond := u_ws RX15 TX15 9
theorem nmX15 : ∀ a, a < 9 → ∀ b, b < 9 → a ≠ b → (TX15 a).2.1 ≠ (TX15 b).2.1 := by decide +kernel
theorem tyX15_ok : ∀ k, k < 9 → parseFieldDescriptor (TX15 k).2.2.1 = some (tyX15 k) := by decide +kernel
abbrev cX15_init : ByteArray := prog_10_method_1_code
def yX15_init : MethodName := ⟨RX15, "<init>", "(LHomeCompiler$Nodes;LHomeCompiler$Variables;)V"⟩
abbrev cX15_find : ByteArray := prog_10_method_5_code
def yX15_find : MethodName := ⟨RX15, "find", "(II)V"⟩
abbrev cX15_room : ByteArray := prog_10_method_2_code
def yX15_room : MethodName := ⟨RX15, "room", "()V"⟩
abbrev cX15_weigh : ByteArray := prog_10_method_4_code
def yX15_weigh : MethodName := ⟨RX15, "weigh", "(II)V"⟩
abbrev cX15_heaviest : ByteArray := prog_10_method_6_code
def yX15_heaviest : MethodName := ⟨RX15, "heaviest", "(I)I"⟩
abbrev cX15_register : ByteArray := prog_10_method_3_code
def yX15_register : MethodName := ⟨RX15, "register", "(I)I"⟩
abbrev cX15_place : ByteArray := prog_10_method_7_code
def yX15_place : MethodName := ⟨RX15, "place", "(II)V"⟩
abbrev cX15_isParameter : ByteArray := prog_10_method_8_code
def yX15_isParameter : MethodName := ⟨RX15, "isParameter", "(II)Z"⟩
abbrev cX15_parameterWords : ByteArray := prog_10_method_10_code
def yX15_parameterWords : MethodName := ⟨RX15, "parameterWords", "()I"⟩
abbrev cX15_used : ByteArray := prog_10_method_9_code
def yX15_used : MethodName := ⟨RX15, "used", "()I"⟩
abbrev cX15_localWords : ByteArray := prog_10_method_11_code
def yX15_localWords : MethodName := ⟨RX15, "localWords", "()I"⟩
abbrev cX15_words : ByteArray := prog_10_method_12_code
def yX15_words : MethodName := ⟨RX15, "words", "()I"⟩
abbrev cX15_of : ByteArray := prog_10_method_13_code
def yX15_of : MethodName := ⟨RX15, "of", "(I)I"⟩
abbrev cX15_place_2 : ByteArray := prog_10_method_15_code
def yX15_place_2 : MethodName := ⟨RX15, "place", "(I)I"⟩
abbrev cX15_lengthOf : ByteArray := prog_10_method_14_code
def yX15_lengthOf : MethodName := ⟨RX15, "lengthOf", "(I)I"⟩
theorem q329 : (Jvm.Cond.initialized "HomeCompiler$Homes") ∈ lw_all := lw_g (lw_at lw_m1 15 rfl) rfl
theorem q762 : (Jvm.Cond.instantiable "HomeCompiler$Homes" (9 : Nat)) ∈ lw_all := lw_g (lw_at lw_m2 208 rfl) rfl
theorem q764 : (Jvm.Cond.instanceMethod ({ cls := "HomeCompiler$Homes", name := "<init>", desc := "(LHomeCompiler$Nodes;LHomeCompiler$Variables;)V" } : Jvm.MethodName)) ∈ lw_all := lw_g (lw_at lw_m2 210 rfl) rfl
theorem q765 : (Jvm.Cond.code ({ cls := "HomeCompiler$Homes", name := "<init>", desc := "(LHomeCompiler$Nodes;LHomeCompiler$Variables;)V" } : Jvm.MethodName) prog_10_method_1_code (3 : Nat) (Option.none : Option Jvm.ClassFile.FieldType)) ∈ lw_all := lw_g (lw_at lw_m2 211 rfl) rfl
theorem q766 : (Jvm.Cond.methodLink "HomeCompiler$Homes" (3 : Nat) ({ cls := "java/lang/Object", name := "<init>", desc := "()V" } : Jvm.MethodName)) ∈ lw_all := lw_g (lw_at lw_m2 212 rfl) rfl
theorem q767 : (Jvm.Cond.fieldLink "HomeCompiler$Homes" (24 : Nat) "HomeCompiler$Homes" "nodes" "LHomeCompiler$Nodes;") ∈ lw_all := lw_g (lw_at lw_m2 213 rfl) rfl
theorem q768 : (Jvm.Cond.fieldLink "HomeCompiler$Homes" (28 : Nat) "HomeCompiler$Homes" "variables" "LHomeCompiler$Variables;") ∈ lw_all := lw_g (lw_at lw_m2 214 rfl) rfl
theorem q769 : (Jvm.Cond.fieldLink "HomeCompiler$Homes" (9 : Nat) "HomeCompiler$Homes" "weights" "[I") ∈ lw_all := lw_g (lw_at lw_m2 215 rfl) rfl
theorem q770 : (Jvm.Cond.fieldLink "HomeCompiler$Homes" (15 : Nat) "HomeCompiler$Homes" "registers" "[I") ∈ lw_all := lw_g (lw_at lw_m2 216 rfl) rfl
theorem q771 : (Jvm.Cond.fieldLink "HomeCompiler$Homes" (18 : Nat) "HomeCompiler$Homes" "lengths" "[I") ∈ lw_all := lw_g (lw_at lw_m2 217 rfl) rfl
theorem q772 : (Jvm.Cond.fieldLink "HomeCompiler$Homes" (21 : Nat) "HomeCompiler$Homes" "places" "[I") ∈ lw_all := lw_g (lw_at lw_m2 218 rfl) rfl
theorem q773 : (Jvm.Cond.fieldLink "HomeCompiler$Homes" (63 : Nat) "HomeCompiler$Homes" "used" "I") ∈ lw_all := lw_g (lw_at lw_m2 219 rfl) rfl
theorem q774 : (Jvm.Cond.fieldLink "HomeCompiler$Homes" (79 : Nat) "HomeCompiler$Homes" "parameterWords" "I") ∈ lw_all := lw_g (lw_at lw_m2 220 rfl) rfl
theorem q775 : (Jvm.Cond.fieldLink "HomeCompiler$Homes" (88 : Nat) "HomeCompiler$Homes" "localWords" "I") ∈ lw_all := lw_g (lw_at lw_m2 221 rfl) rfl
theorem q776 : (Jvm.Cond.laysFinal "HomeCompiler$Homes" "HomeCompiler$Homes" "nodes" "LHomeCompiler$Nodes;") ∈ lw_all := lw_g (lw_at lw_m2 222 rfl) rfl
theorem q777 : (Jvm.Cond.soleField "HomeCompiler$Homes" "nodes") ∈ lw_all := lw_g (lw_at lw_m2 223 rfl) rfl
theorem q778 : (Jvm.Cond.laysFinal "HomeCompiler$Homes" "HomeCompiler$Homes" "variables" "LHomeCompiler$Variables;") ∈ lw_all := lw_g (lw_at lw_m2 224 rfl) rfl
theorem q779 : (Jvm.Cond.soleField "HomeCompiler$Homes" "variables") ∈ lw_all := lw_g (lw_at lw_m2 225 rfl) rfl
theorem q780 : (Jvm.Cond.lays "HomeCompiler$Homes" "HomeCompiler$Homes" "weights" "[I") ∈ lw_all := lw_g (lw_at lw_m2 226 rfl) rfl
theorem q781 : (Jvm.Cond.soleField "HomeCompiler$Homes" "weights") ∈ lw_all := lw_g (lw_at lw_m2 227 rfl) rfl
theorem q782 : (Jvm.Cond.lays "HomeCompiler$Homes" "HomeCompiler$Homes" "registers" "[I") ∈ lw_all := lw_g (lw_at lw_m2 228 rfl) rfl
theorem q783 : (Jvm.Cond.soleField "HomeCompiler$Homes" "registers") ∈ lw_all := lw_g (lw_at lw_m2 229 rfl) rfl
theorem q784 : (Jvm.Cond.lays "HomeCompiler$Homes" "HomeCompiler$Homes" "lengths" "[I") ∈ lw_all := lw_g (lw_at lw_m2 230 rfl) rfl
theorem q785 : (Jvm.Cond.soleField "HomeCompiler$Homes" "lengths") ∈ lw_all := lw_g (lw_at lw_m2 231 rfl) rfl
theorem q786 : (Jvm.Cond.lays "HomeCompiler$Homes" "HomeCompiler$Homes" "places" "[I") ∈ lw_all := lw_g (lw_at lw_m2 232 rfl) rfl
theorem q787 : (Jvm.Cond.soleField "HomeCompiler$Homes" "places") ∈ lw_all := lw_g (lw_at lw_m2 233 rfl) rfl
theorem q788 : (Jvm.Cond.lays "HomeCompiler$Homes" "HomeCompiler$Homes" "used" "I") ∈ lw_all := lw_g (lw_at lw_m2 234 rfl) rfl
theorem q789 : (Jvm.Cond.soleField "HomeCompiler$Homes" "used") ∈ lw_all := lw_g (lw_at lw_m2 235 rfl) rfl
theorem q790 : (Jvm.Cond.lays "HomeCompiler$Homes" "HomeCompiler$Homes" "parameterWords" "I") ∈ lw_all := lw_g (lw_at lw_m2 236 rfl) rfl
theorem q791 : (Jvm.Cond.soleField "HomeCompiler$Homes" "parameterWords") ∈ lw_all := lw_g (lw_at lw_m2 237 rfl) rfl
theorem q792 : (Jvm.Cond.lays "HomeCompiler$Homes" "HomeCompiler$Homes" "localWords" "I") ∈ lw_all := lw_g (lw_at lw_m2 238 rfl) rfl
theorem q793 : (Jvm.Cond.soleField "HomeCompiler$Homes" "localWords") ∈ lw_all := lw_g (lw_at lw_m2 239 rfl) rfl
theorem q794 : (Jvm.Cond.superclass "HomeCompiler$Homes" "java/lang/Object") ∈ lw_all := lw_g (lw_at lw_m3 0 rfl) rfl
theorem q1940 : (Jvm.Cond.instanceMethod ({ cls := "HomeCompiler$Homes", name := "find", desc := "(II)V" } : Jvm.MethodName)) ∈ lw_all := lw_g (lw_at lw_m7 186 rfl) rfl
theorem q1941 : (Jvm.Cond.selects "HomeCompiler$Homes" ({ cls := "HomeCompiler$Homes", name := "find", desc := "(II)V" } : Jvm.MethodName) ({ cls := "HomeCompiler$Homes", name := "find", desc := "(II)V" } : Jvm.MethodName)) ∈ lw_all := lw_g (lw_at lw_m7 187 rfl) rfl
theorem q1942 : (Jvm.Cond.code ({ cls := "HomeCompiler$Homes", name := "find", desc := "(II)V" } : Jvm.MethodName) prog_10_method_5_code (4 : Nat) (Option.none : Option Jvm.ClassFile.FieldType)) ∈ lw_all := lw_g (lw_at lw_m7 188 rfl) rfl
theorem q1943 : (Jvm.Cond.methodLink "HomeCompiler$Homes" (57 : Nat) ({ cls := "HomeCompiler$Homes", name := "room", desc := "()V" } : Jvm.MethodName)) ∈ lw_all := lw_g (lw_at lw_m7 189 rfl) rfl
theorem q1944 : (Jvm.Cond.privateMethod ({ cls := "HomeCompiler$Homes", name := "room", desc := "()V" } : Jvm.MethodName)) ∈ lw_tbl := lw_at lw_m7 190 rfl
theorem q1945 : (Jvm.Cond.instanceMethod ({ cls := "HomeCompiler$Homes", name := "room", desc := "()V" } : Jvm.MethodName)) ∈ lw_all := lw_g (lw_at lw_m7 191 rfl) rfl
theorem q1946 : (Jvm.Cond.code ({ cls := "HomeCompiler$Homes", name := "room", desc := "()V" } : Jvm.MethodName) prog_10_method_2_code (2 : Nat) (Option.none : Option Jvm.ClassFile.FieldType)) ∈ lw_all := lw_g (lw_at lw_m7 192 rfl) rfl
theorem q1947 : (Jvm.Cond.methodLink "HomeCompiler$Homes" (32 : Nat) ({ cls := "HomeCompiler$Variables", name := "count", desc := "()I" } : Jvm.MethodName)) ∈ lw_all := lw_g (lw_at lw_m7 193 rfl) rfl
theorem q1948 : (Jvm.Cond.methodLink "HomeCompiler$Homes" (60 : Nat) ({ cls := "HomeCompiler$Variables", name := "owner", desc := "(I)I" } : Jvm.MethodName)) ∈ lw_all := lw_g (lw_at lw_m7 194 rfl) rfl
theorem q1949 : (Jvm.Cond.methodLink "HomeCompiler$Homes" (50 : Nat) ({ cls := "HomeCompiler$Homes", name := "weigh", desc := "(II)V" } : Jvm.MethodName)) ∈ lw_all := lw_g (lw_at lw_m7 195 rfl) rfl
theorem q1950 : (Jvm.Cond.privateMethod ({ cls := "HomeCompiler$Homes", name := "weigh", desc := "(II)V" } : Jvm.MethodName)) ∈ lw_tbl := lw_at lw_m7 196 rfl
theorem q1951 : (Jvm.Cond.instanceMethod ({ cls := "HomeCompiler$Homes", name := "weigh", desc := "(II)V" } : Jvm.MethodName)) ∈ lw_all := lw_g (lw_at lw_m7 197 rfl) rfl
theorem q1952 : (Jvm.Cond.code ({ cls := "HomeCompiler$Homes", name := "weigh", desc := "(II)V" } : Jvm.MethodName) prog_10_method_4_code (8 : Nat) (Option.none : Option Jvm.ClassFile.FieldType)) ∈ lw_all := lw_g (lw_at lw_m7 198 rfl) rfl
theorem q1953 : (Jvm.Cond.methodLink "HomeCompiler$Homes" (38 : Nat) ({ cls := "HomeCompiler$Nodes", name := "kind", desc := "(I)I" } : Jvm.MethodName)) ∈ lw_all := lw_g (lw_at lw_m7 199 rfl) rfl
theorem q1954 : (Jvm.Cond.methodLink "HomeCompiler$Homes" (44 : Nat) ({ cls := "HomeCompiler$Nodes", name := "extra", desc := "(I)I" } : Jvm.MethodName)) ∈ lw_all := lw_g (lw_at lw_m7 200 rfl) rfl
theorem q1955 : (Jvm.Cond.methodLink "HomeCompiler$Homes" (47 : Nat) ({ cls := "HomeCompiler$Nodes", name := "first", desc := "(I)I" } : Jvm.MethodName)) ∈ lw_all := lw_g (lw_at lw_m7 201 rfl) rfl
theorem q1956 : (Jvm.Cond.methodLink "HomeCompiler$Homes" (54 : Nat) ({ cls := "HomeCompiler$Nodes", name := "next", desc := "(I)I" } : Jvm.MethodName)) ∈ lw_all := lw_g (lw_at lw_m7 202 rfl) rfl
theorem q1957 : (Jvm.Cond.methodLink "HomeCompiler$Homes" (67 : Nat) ({ cls := "HomeCompiler$Homes", name := "heaviest", desc := "(I)I" } : Jvm.MethodName)) ∈ lw_all := lw_g (lw_at lw_m7 203 rfl) rfl
theorem q1958 : (Jvm.Cond.privateMethod ({ cls := "HomeCompiler$Homes", name := "heaviest", desc := "(I)I" } : Jvm.MethodName)) ∈ lw_tbl := lw_at lw_m7 204 rfl
theorem q1959 : (Jvm.Cond.instanceMethod ({ cls := "HomeCompiler$Homes", name := "heaviest", desc := "(I)I" } : Jvm.MethodName)) ∈ lw_all := lw_g (lw_at lw_m7 205 rfl) rfl
theorem q1960 : (Jvm.Cond.code ({ cls := "HomeCompiler$Homes", name := "heaviest", desc := "(I)I" } : Jvm.MethodName) prog_10_method_6_code (6 : Nat) (Option.some Jvm.ClassFile.FieldType.int)) ∈ lw_all := lw_g (lw_at lw_m7 206 rfl) rfl
theorem q1961 : (Jvm.Cond.methodLink "HomeCompiler$Homes" (73 : Nat) ({ cls := "HomeCompiler$Variables", name := "size", desc := "(I)I" } : Jvm.MethodName)) ∈ lw_all := lw_g (lw_at lw_m7 207 rfl) rfl
theorem q1962 : (Jvm.Cond.methodLink "HomeCompiler$Homes" (70 : Nat) ({ cls := "HomeCompiler$Homes", name := "register", desc := "(I)I" } : Jvm.MethodName)) ∈ lw_all := lw_g (lw_at lw_m7 208 rfl) rfl
theorem q1963 : (Jvm.Cond.static ({ cls := "HomeCompiler$Homes", name := "register", desc := "(I)I" } : Jvm.MethodName)) ∈ lw_all := lw_g (lw_at lw_m7 209 rfl) rfl
theorem q1964 : (Jvm.Cond.code ({ cls := "HomeCompiler$Homes", name := "register", desc := "(I)I" } : Jvm.MethodName) prog_10_method_3_code (1 : Nat) (Option.some Jvm.ClassFile.FieldType.int)) ∈ lw_all := lw_g (lw_at lw_m7 210 rfl) rfl
theorem q1965 : (Jvm.Cond.methodLink "HomeCompiler$Homes" (76 : Nat) ({ cls := "HomeCompiler$Homes", name := "place", desc := "(II)V" } : Jvm.MethodName)) ∈ lw_all := lw_g (lw_at lw_m7 211 rfl) rfl
theorem q1966 : (Jvm.Cond.privateMethod ({ cls := "HomeCompiler$Homes", name := "place", desc := "(II)V" } : Jvm.MethodName)) ∈ lw_tbl := lw_at lw_m7 212 rfl
theorem q1967 : (Jvm.Cond.instanceMethod ({ cls := "HomeCompiler$Homes", name := "place", desc := "(II)V" } : Jvm.MethodName)) ∈ lw_all := lw_g (lw_at lw_m7 213 rfl) rfl
theorem q1968 : (Jvm.Cond.code ({ cls := "HomeCompiler$Homes", name := "place", desc := "(II)V" } : Jvm.MethodName) prog_10_method_7_code (7 : Nat) (Option.none : Option Jvm.ClassFile.FieldType)) ∈ lw_all := lw_g (lw_at lw_m7 214 rfl) rfl
theorem q1969 : (Jvm.Cond.methodLink "HomeCompiler$Homes" (82 : Nat) ({ cls := "HomeCompiler$Nodes", name := "number", desc := "(I)I" } : Jvm.MethodName)) ∈ lw_all := lw_g (lw_at lw_m7 215 rfl) rfl
theorem q1973 : (Jvm.Cond.methodLink "HomeCompiler$Homes" (85 : Nat) ({ cls := "HomeCompiler$Variables", name := "words", desc := "(I)I" } : Jvm.MethodName)) ∈ lw_all := lw_g (lw_at lw_m7 219 rfl) rfl
theorem q1974 : (Jvm.Cond.methodLink "HomeCompiler$Homes" (91 : Nat) ({ cls := "HomeCompiler$Homes", name := "isParameter", desc := "(II)Z" } : Jvm.MethodName)) ∈ lw_all := lw_g (lw_at lw_m7 220 rfl) rfl
theorem q1975 : (Jvm.Cond.privateMethod ({ cls := "HomeCompiler$Homes", name := "isParameter", desc := "(II)Z" } : Jvm.MethodName)) ∈ lw_tbl := lw_at lw_m7 221 rfl
theorem q1976 : (Jvm.Cond.instanceMethod ({ cls := "HomeCompiler$Homes", name := "isParameter", desc := "(II)Z" } : Jvm.MethodName)) ∈ lw_all := lw_g (lw_at lw_m7 222 rfl) rfl
theorem q1977 : (Jvm.Cond.code ({ cls := "HomeCompiler$Homes", name := "isParameter", desc := "(II)Z" } : Jvm.MethodName) prog_10_method_8_code (5 : Nat) (Option.some Jvm.ClassFile.FieldType.boolean)) ∈ lw_all := lw_g (lw_at lw_m7 223 rfl) rfl
theorem q2017 : (Jvm.Cond.instanceMethod ({ cls := "HomeCompiler$Homes", name := "parameterWords", desc := "()I" } : Jvm.MethodName)) ∈ lw_all := lw_g (lw_at lw_m8 23 rfl) rfl
theorem q2018 : (Jvm.Cond.selects "HomeCompiler$Homes" ({ cls := "HomeCompiler$Homes", name := "parameterWords", desc := "()I" } : Jvm.MethodName) ({ cls := "HomeCompiler$Homes", name := "parameterWords", desc := "()I" } : Jvm.MethodName)) ∈ lw_all := lw_g (lw_at lw_m8 24 rfl) rfl
theorem q2019 : (Jvm.Cond.code ({ cls := "HomeCompiler$Homes", name := "parameterWords", desc := "()I" } : Jvm.MethodName) prog_10_method_10_code (1 : Nat) (Option.some Jvm.ClassFile.FieldType.int)) ∈ lw_all := lw_g (lw_at lw_m8 25 rfl) rfl
theorem q2027 : (Jvm.Cond.instanceMethod ({ cls := "HomeCompiler$Homes", name := "used", desc := "()I" } : Jvm.MethodName)) ∈ lw_all := lw_g (lw_at lw_m8 33 rfl) rfl
theorem q2028 : (Jvm.Cond.selects "HomeCompiler$Homes" ({ cls := "HomeCompiler$Homes", name := "used", desc := "()I" } : Jvm.MethodName) ({ cls := "HomeCompiler$Homes", name := "used", desc := "()I" } : Jvm.MethodName)) ∈ lw_all := lw_g (lw_at lw_m8 34 rfl) rfl
theorem q2029 : (Jvm.Cond.code ({ cls := "HomeCompiler$Homes", name := "used", desc := "()I" } : Jvm.MethodName) prog_10_method_9_code (1 : Nat) (Option.some Jvm.ClassFile.FieldType.int)) ∈ lw_all := lw_g (lw_at lw_m8 35 rfl) rfl
theorem q2032 : (Jvm.Cond.instanceMethod ({ cls := "HomeCompiler$Homes", name := "localWords", desc := "()I" } : Jvm.MethodName)) ∈ lw_all := lw_g (lw_at lw_m8 38 rfl) rfl
theorem q2033 : (Jvm.Cond.selects "HomeCompiler$Homes" ({ cls := "HomeCompiler$Homes", name := "localWords", desc := "()I" } : Jvm.MethodName) ({ cls := "HomeCompiler$Homes", name := "localWords", desc := "()I" } : Jvm.MethodName)) ∈ lw_all := lw_g (lw_at lw_m8 39 rfl) rfl
theorem q2034 : (Jvm.Cond.code ({ cls := "HomeCompiler$Homes", name := "localWords", desc := "()I" } : Jvm.MethodName) prog_10_method_11_code (1 : Nat) (Option.some Jvm.ClassFile.FieldType.int)) ∈ lw_all := lw_g (lw_at lw_m8 40 rfl) rfl
theorem q2036 : (Jvm.Cond.instanceMethod ({ cls := "HomeCompiler$Homes", name := "words", desc := "()I" } : Jvm.MethodName)) ∈ lw_all := lw_g (lw_at lw_m8 42 rfl) rfl
theorem q2037 : (Jvm.Cond.selects "HomeCompiler$Homes" ({ cls := "HomeCompiler$Homes", name := "words", desc := "()I" } : Jvm.MethodName) ({ cls := "HomeCompiler$Homes", name := "words", desc := "()I" } : Jvm.MethodName)) ∈ lw_all := lw_g (lw_at lw_m8 43 rfl) rfl
theorem q2038 : (Jvm.Cond.code ({ cls := "HomeCompiler$Homes", name := "words", desc := "()I" } : Jvm.MethodName) prog_10_method_12_code (1 : Nat) (Option.some Jvm.ClassFile.FieldType.int)) ∈ lw_all := lw_g (lw_at lw_m8 44 rfl) rfl
theorem q2045 : (Jvm.Cond.instanceMethod ({ cls := "HomeCompiler$Homes", name := "of", desc := "(I)I" } : Jvm.MethodName)) ∈ lw_all := lw_g (lw_at lw_m8 51 rfl) rfl
theorem q2046 : (Jvm.Cond.selects "HomeCompiler$Homes" ({ cls := "HomeCompiler$Homes", name := "of", desc := "(I)I" } : Jvm.MethodName) ({ cls := "HomeCompiler$Homes", name := "of", desc := "(I)I" } : Jvm.MethodName)) ∈ lw_all := lw_g (lw_at lw_m8 52 rfl) rfl
theorem q2047 : (Jvm.Cond.code ({ cls := "HomeCompiler$Homes", name := "of", desc := "(I)I" } : Jvm.MethodName) prog_10_method_13_code (2 : Nat) (Option.some Jvm.ClassFile.FieldType.int)) ∈ lw_all := lw_g (lw_at lw_m8 53 rfl) rfl
theorem q2053 : (Jvm.Cond.instanceMethod ({ cls := "HomeCompiler$Homes", name := "place", desc := "(I)I" } : Jvm.MethodName)) ∈ lw_all := lw_g (lw_at lw_m8 59 rfl) rfl
theorem q2054 : (Jvm.Cond.selects "HomeCompiler$Homes" ({ cls := "HomeCompiler$Homes", name := "place", desc := "(I)I" } : Jvm.MethodName) ({ cls := "HomeCompiler$Homes", name := "place", desc := "(I)I" } : Jvm.MethodName)) ∈ lw_all := lw_g (lw_at lw_m8 60 rfl) rfl
theorem q2055 : (Jvm.Cond.code ({ cls := "HomeCompiler$Homes", name := "place", desc := "(I)I" } : Jvm.MethodName) prog_10_method_15_code (2 : Nat) (Option.some Jvm.ClassFile.FieldType.int)) ∈ lw_all := lw_g (lw_at lw_m8 61 rfl) rfl
theorem q2065 : (Jvm.Cond.instanceMethod ({ cls := "HomeCompiler$Homes", name := "lengthOf", desc := "(I)I" } : Jvm.MethodName)) ∈ lw_all := lw_g (lw_at lw_m8 71 rfl) rfl
theorem q2066 : (Jvm.Cond.selects "HomeCompiler$Homes" ({ cls := "HomeCompiler$Homes", name := "lengthOf", desc := "(I)I" } : Jvm.MethodName) ({ cls := "HomeCompiler$Homes", name := "lengthOf", desc := "(I)I" } : Jvm.MethodName)) ∈ lw_all := lw_g (lw_at lw_m8 72 rfl) rfl
theorem q2067 : (Jvm.Cond.code ({ cls := "HomeCompiler$Homes", name := "lengthOf", desc := "(I)I" } : Jvm.MethodName) prog_10_method_14_code (2 : Nat) (Option.some Jvm.ClassFile.FieldType.int)) ∈ lw_all := lw_g (lw_at lw_m8 73 rfl) rfl
theorem in_X15 : ∀ w ∈ wsX150, w ∈ lw_all := lw_in wsX150 [776, 778, 780, 782, 784, 786, 788, 790, 792] (by decide +kernel) (by decide +kernel)
/-! X16.HomeCompiler_Host.lean.txt -/
def RX16 : String := "HomeCompiler$Host"
def TX16 : u_T := fun k => match k with
  | 0 => ("HomeCompiler$Host", "ram", "LHomeCompiler$Ram;", true)
  | 1 => ("HomeCompiler$Host", "controls", "LHomeCompiler$Controls;", true)
  | 2 => ("HomeCompiler$Host", "hart", "LHomeCompiler$Hart;", true)
  | 3 => ("HomeCompiler$Host", "paper", "[I", true)
  | 4 => ("HomeCompiler$Host", "written", "I", false)
  | 5 => ("HomeCompiler$Host", "input", "[I", true)
  | 6 => ("HomeCompiler$Host", "inputs", "I", false)
  | 7 => ("HomeCompiler$Host", "disk", "[I", true)
  | _ => ("HomeCompiler$Host", "value", "I", false)
def tyX16 : Nat → FieldType := fun k => match k with
  | 0 => .object "HomeCompiler$Ram"
  | 1 => .object "HomeCompiler$Controls"
  | 2 => .object "HomeCompiler$Hart"
  | 3 => .array .int
  | 4 => .int
  | 5 => .array .int
  | 6 => .int
  | 7 => .array .int
  | _ => .int
abbrev wsX160 : List Cond := u_ws RX16 TX16 9
theorem nmX16 : ∀ a, a < 9 → ∀ b, b < 9 → a ≠ b → (TX16 a).2.1 ≠ (TX16 b).2.1 := by decide +kernel
theorem tyX16_ok : ∀ k, k < 9 → parseFieldDescriptor (TX16 k).2.2.1 = some (tyX16 k) := by decide +kernel
abbrev cX16_init : ByteArray := prog_11_method_1_code
def yX16_init : MethodName := ⟨RX16, "<init>", "()V"⟩
abbrev cX16_run : ByteArray := prog_11_method_2_code
def yX16_run : MethodName := ⟨RX16, "run", "(IIII)I"⟩
abbrev cX16_serve : ByteArray := prog_11_method_4_code
def yX16_serve : MethodName := ⟨RX16, "serve", "(II)I"⟩
abbrev cX16_write : ByteArray := prog_11_method_3_code
def yX16_write : MethodName := ⟨RX16, "write", "(I)V"⟩
abbrev cX16_takes : ByteArray := prog_11_method_6_code
def yX16_takes : MethodName := ⟨RX16, "takes", "()I"⟩
abbrev cX16_answers : ByteArray := prog_11_method_5_code
def yX16_answers : MethodName := ⟨RX16, "answers", "(I)I"⟩
abbrev cX16_moves : ByteArray := prog_11_method_7_code
def yX16_moves : MethodName := ⟨RX16, "moves", "(IIIZ)I"⟩
theorem q330 : (Jvm.Cond.initialized "HomeCompiler$Host") ∈ lw_all := lw_g (lw_at lw_m1 16 rfl) rfl
theorem q854 : (Jvm.Cond.instantiable "HomeCompiler$Host" (9 : Nat)) ∈ lw_all := lw_g (lw_at lw_m3 60 rfl) rfl
theorem q856 : (Jvm.Cond.instanceMethod ({ cls := "HomeCompiler$Host", name := "<init>", desc := "()V" } : Jvm.MethodName)) ∈ lw_all := lw_g (lw_at lw_m3 62 rfl) rfl
theorem q857 : (Jvm.Cond.code ({ cls := "HomeCompiler$Host", name := "<init>", desc := "()V" } : Jvm.MethodName) prog_11_method_1_code (1 : Nat) (Option.none : Option Jvm.ClassFile.FieldType)) ∈ lw_all := lw_g (lw_at lw_m3 63 rfl) rfl
theorem q858 : (Jvm.Cond.methodLink "HomeCompiler$Host" (5 : Nat) ({ cls := "java/lang/Object", name := "<init>", desc := "()V" } : Jvm.MethodName)) ∈ lw_all := lw_g (lw_at lw_m3 64 rfl) rfl
theorem q859 : (Jvm.Cond.classLink "HomeCompiler$Host" (11 : Nat) "HomeCompiler$Ram") ∈ lw_all := lw_g (lw_at lw_m3 65 rfl) rfl
theorem q861 : (Jvm.Cond.methodLink "HomeCompiler$Host" (13 : Nat) ({ cls := "HomeCompiler$Ram", name := "<init>", desc := "(I)V" } : Jvm.MethodName)) ∈ lw_all := lw_g (lw_at lw_m3 67 rfl) rfl
theorem q882 : (Jvm.Cond.classLink "HomeCompiler$Host" (20 : Nat) "HomeCompiler$Controls") ∈ lw_all := lw_g (lw_at lw_m3 88 rfl) rfl
theorem q884 : (Jvm.Cond.methodLink "HomeCompiler$Host" (22 : Nat) ({ cls := "HomeCompiler$Controls", name := "<init>", desc := "()V" } : Jvm.MethodName)) ∈ lw_all := lw_g (lw_at lw_m3 90 rfl) rfl
theorem q892 : (Jvm.Cond.classLink "HomeCompiler$Host" (27 : Nat) "HomeCompiler$Hart") ∈ lw_all := lw_g (lw_at lw_m3 98 rfl) rfl
theorem q894 : (Jvm.Cond.methodLink "HomeCompiler$Host" (29 : Nat) ({ cls := "HomeCompiler$Hart", name := "<init>", desc := "(LHomeCompiler$Ram;LHomeCompiler$Controls;)V" } : Jvm.MethodName)) ∈ lw_all := lw_g (lw_at lw_m3 100 rfl) rfl
theorem q924 : (Jvm.Cond.fieldLinkNest "HomeCompiler$Host" (54 : Nat) "HomeCompiler$Hart" "x" "[I" "HomeCompiler") ∈ lw_tbl := lw_at lw_m3 130 rfl
theorem q926 : (Jvm.Cond.fieldLinkNest "HomeCompiler$Host" (60 : Nat) "HomeCompiler$Hart" "pc" "I" "HomeCompiler") ∈ lw_tbl := lw_at lw_m3 132 rfl
theorem q929 : (Jvm.Cond.fieldLinkNest "HomeCompiler$Host" (63 : Nat) "HomeCompiler$Hart" "mode" "I" "HomeCompiler") ∈ lw_tbl := lw_at lw_m3 135 rfl
theorem q946 : (Jvm.Cond.fieldLink "HomeCompiler$Host" (16 : Nat) "HomeCompiler$Host" "ram" "LHomeCompiler$Ram;") ∈ lw_all := lw_g (lw_at lw_m3 152 rfl) rfl
theorem q948 : (Jvm.Cond.fieldLink "HomeCompiler$Host" (23 : Nat) "HomeCompiler$Host" "controls" "LHomeCompiler$Controls;") ∈ lw_all := lw_g (lw_at lw_m3 154 rfl) rfl
theorem q949 : (Jvm.Cond.fieldLink "HomeCompiler$Host" (32 : Nat) "HomeCompiler$Host" "hart" "LHomeCompiler$Hart;") ∈ lw_all := lw_g (lw_at lw_m3 155 rfl) rfl
theorem q951 : (Jvm.Cond.fieldLink "HomeCompiler$Host" (36 : Nat) "HomeCompiler$Host" "paper" "[I") ∈ lw_all := lw_g (lw_at lw_m3 157 rfl) rfl
theorem q953 : (Jvm.Cond.fieldLink "HomeCompiler$Host" (50 : Nat) "HomeCompiler$Host" "written" "I") ∈ lw_all := lw_g (lw_at lw_m3 159 rfl) rfl
theorem q955 : (Jvm.Cond.fieldLink "HomeCompiler$Host" (40 : Nat) "HomeCompiler$Host" "input" "[I") ∈ lw_all := lw_g (lw_at lw_m3 161 rfl) rfl
theorem q957 : (Jvm.Cond.fieldLink "HomeCompiler$Host" (86 : Nat) "HomeCompiler$Host" "inputs" "I") ∈ lw_all := lw_g (lw_at lw_m3 163 rfl) rfl
theorem q959 : (Jvm.Cond.fieldLink "HomeCompiler$Host" (43 : Nat) "HomeCompiler$Host" "disk" "[I") ∈ lw_all := lw_g (lw_at lw_m3 165 rfl) rfl
theorem q961 : (Jvm.Cond.fieldLink "HomeCompiler$Host" (78 : Nat) "HomeCompiler$Host" "value" "I") ∈ lw_all := lw_g (lw_at lw_m3 167 rfl) rfl
theorem q963 : (Jvm.Cond.laysFinal "HomeCompiler$Host" "HomeCompiler$Host" "ram" "LHomeCompiler$Ram;") ∈ lw_all := lw_g (lw_at lw_m3 169 rfl) rfl
theorem q964 : (Jvm.Cond.soleField "HomeCompiler$Host" "ram") ∈ lw_all := lw_g (lw_at lw_m3 170 rfl) rfl
theorem q965 : (Jvm.Cond.laysFinal "HomeCompiler$Host" "HomeCompiler$Host" "controls" "LHomeCompiler$Controls;") ∈ lw_all := lw_g (lw_at lw_m3 171 rfl) rfl
theorem q966 : (Jvm.Cond.soleField "HomeCompiler$Host" "controls") ∈ lw_all := lw_g (lw_at lw_m3 172 rfl) rfl
theorem q967 : (Jvm.Cond.laysFinal "HomeCompiler$Host" "HomeCompiler$Host" "hart" "LHomeCompiler$Hart;") ∈ lw_all := lw_g (lw_at lw_m3 173 rfl) rfl
theorem q968 : (Jvm.Cond.soleField "HomeCompiler$Host" "hart") ∈ lw_all := lw_g (lw_at lw_m3 174 rfl) rfl
theorem q969 : (Jvm.Cond.laysFinal "HomeCompiler$Host" "HomeCompiler$Host" "paper" "[I") ∈ lw_all := lw_g (lw_at lw_m3 175 rfl) rfl
theorem q970 : (Jvm.Cond.soleField "HomeCompiler$Host" "paper") ∈ lw_all := lw_g (lw_at lw_m3 176 rfl) rfl
theorem q971 : (Jvm.Cond.lays "HomeCompiler$Host" "HomeCompiler$Host" "written" "I") ∈ lw_all := lw_g (lw_at lw_m3 177 rfl) rfl
theorem q972 : (Jvm.Cond.soleField "HomeCompiler$Host" "written") ∈ lw_all := lw_g (lw_at lw_m3 178 rfl) rfl
theorem q973 : (Jvm.Cond.laysFinal "HomeCompiler$Host" "HomeCompiler$Host" "input" "[I") ∈ lw_all := lw_g (lw_at lw_m3 179 rfl) rfl
theorem q974 : (Jvm.Cond.soleField "HomeCompiler$Host" "input") ∈ lw_all := lw_g (lw_at lw_m3 180 rfl) rfl
theorem q975 : (Jvm.Cond.lays "HomeCompiler$Host" "HomeCompiler$Host" "inputs" "I") ∈ lw_all := lw_g (lw_at lw_m3 181 rfl) rfl
theorem q976 : (Jvm.Cond.soleField "HomeCompiler$Host" "inputs") ∈ lw_all := lw_g (lw_at lw_m3 182 rfl) rfl
theorem q977 : (Jvm.Cond.laysFinal "HomeCompiler$Host" "HomeCompiler$Host" "disk" "[I") ∈ lw_all := lw_g (lw_at lw_m3 183 rfl) rfl
theorem q978 : (Jvm.Cond.soleField "HomeCompiler$Host" "disk") ∈ lw_all := lw_g (lw_at lw_m3 184 rfl) rfl
theorem q979 : (Jvm.Cond.lays "HomeCompiler$Host" "HomeCompiler$Host" "value" "I") ∈ lw_all := lw_g (lw_at lw_m3 185 rfl) rfl
theorem q980 : (Jvm.Cond.soleField "HomeCompiler$Host" "value") ∈ lw_all := lw_g (lw_at lw_m3 186 rfl) rfl
theorem q981 : (Jvm.Cond.superclass "HomeCompiler$Host" "java/lang/Object") ∈ lw_all := lw_g (lw_at lw_m3 187 rfl) rfl
theorem q2480 : (Jvm.Cond.instanceMethod ({ cls := "HomeCompiler$Host", name := "run", desc := "(IIII)I" } : Jvm.MethodName)) ∈ lw_all := lw_g (lw_at lw_m10 6 rfl) rfl
theorem q2481 : (Jvm.Cond.selects "HomeCompiler$Host" ({ cls := "HomeCompiler$Host", name := "run", desc := "(IIII)I" } : Jvm.MethodName) ({ cls := "HomeCompiler$Host", name := "run", desc := "(IIII)I" } : Jvm.MethodName)) ∈ lw_all := lw_g (lw_at lw_m10 7 rfl) rfl
theorem q2482 : (Jvm.Cond.code ({ cls := "HomeCompiler$Host", name := "run", desc := "(IIII)I" } : Jvm.MethodName) prog_11_method_2_code (6 : Nat) (Option.some Jvm.ClassFile.FieldType.int)) ∈ lw_all := lw_g (lw_at lw_m10 8 rfl) rfl
theorem q2483 : (Jvm.Cond.methodLink "HomeCompiler$Host" (46 : Nat) ({ cls := "HomeCompiler$Ram", name := "write", desc := "(II)V" } : Jvm.MethodName)) ∈ lw_all := lw_g (lw_at lw_m10 9 rfl) rfl
theorem q2484 : (Jvm.Cond.constant "HomeCompiler$Host" (59 : Nat) (1048576 : Int32)) ∈ lw_all := lw_g (lw_at lw_m10 10 rfl) rfl
theorem q2485 : (Jvm.Cond.methodLink "HomeCompiler$Host" (66 : Nat) ({ cls := "HomeCompiler$Hart", name := "step", desc := "()I" } : Jvm.MethodName)) ∈ lw_all := lw_g (lw_at lw_m10 11 rfl) rfl
theorem q2658 : (Jvm.Cond.methodLink "HomeCompiler$Host" (70 : Nat) ({ cls := "HomeCompiler$Host", name := "serve", desc := "(II)I" } : Jvm.MethodName)) ∈ lw_all := lw_g (lw_at lw_m10 184 rfl) rfl
theorem q2659 : (Jvm.Cond.privateMethod ({ cls := "HomeCompiler$Host", name := "serve", desc := "(II)I" } : Jvm.MethodName)) ∈ lw_tbl := lw_at lw_m10 185 rfl
theorem q2660 : (Jvm.Cond.instanceMethod ({ cls := "HomeCompiler$Host", name := "serve", desc := "(II)I" } : Jvm.MethodName)) ∈ lw_all := lw_g (lw_at lw_m10 186 rfl) rfl
theorem q2661 : (Jvm.Cond.code ({ cls := "HomeCompiler$Host", name := "serve", desc := "(II)I" } : Jvm.MethodName) prog_11_method_4_code (3 : Nat) (Option.some Jvm.ClassFile.FieldType.int)) ∈ lw_all := lw_g (lw_at lw_m10 187 rfl) rfl
theorem q2662 : (Jvm.Cond.methodLink "HomeCompiler$Host" (81 : Nat) ({ cls := "HomeCompiler$Host", name := "write", desc := "(I)V" } : Jvm.MethodName)) ∈ lw_all := lw_g (lw_at lw_m10 188 rfl) rfl
theorem q2663 : (Jvm.Cond.privateMethod ({ cls := "HomeCompiler$Host", name := "write", desc := "(I)V" } : Jvm.MethodName)) ∈ lw_tbl := lw_at lw_m10 189 rfl
theorem q2664 : (Jvm.Cond.instanceMethod ({ cls := "HomeCompiler$Host", name := "write", desc := "(I)V" } : Jvm.MethodName)) ∈ lw_all := lw_g (lw_at lw_m10 190 rfl) rfl
theorem q2665 : (Jvm.Cond.code ({ cls := "HomeCompiler$Host", name := "write", desc := "(I)V" } : Jvm.MethodName) prog_11_method_3_code (2 : Nat) (Option.none : Option Jvm.ClassFile.FieldType)) ∈ lw_all := lw_g (lw_at lw_m10 191 rfl) rfl
theorem q2666 : (Jvm.Cond.methodLink "HomeCompiler$Host" (83 : Nat) ({ cls := "HomeCompiler$Host", name := "takes", desc := "()I" } : Jvm.MethodName)) ∈ lw_all := lw_g (lw_at lw_m10 192 rfl) rfl
theorem q2667 : (Jvm.Cond.privateMethod ({ cls := "HomeCompiler$Host", name := "takes", desc := "()I" } : Jvm.MethodName)) ∈ lw_tbl := lw_at lw_m10 193 rfl
theorem q2668 : (Jvm.Cond.instanceMethod ({ cls := "HomeCompiler$Host", name := "takes", desc := "()I" } : Jvm.MethodName)) ∈ lw_all := lw_g (lw_at lw_m10 194 rfl) rfl
theorem q2669 : (Jvm.Cond.code ({ cls := "HomeCompiler$Host", name := "takes", desc := "()I" } : Jvm.MethodName) prog_11_method_6_code (3 : Nat) (Option.some Jvm.ClassFile.FieldType.int)) ∈ lw_all := lw_g (lw_at lw_m10 195 rfl) rfl
theorem q2670 : (Jvm.Cond.methodLink "HomeCompiler$Host" (89 : Nat) ({ cls := "HomeCompiler$Host", name := "answers", desc := "(I)I" } : Jvm.MethodName)) ∈ lw_all := lw_g (lw_at lw_m10 196 rfl) rfl
theorem q2671 : (Jvm.Cond.privateMethod ({ cls := "HomeCompiler$Host", name := "answers", desc := "(I)I" } : Jvm.MethodName)) ∈ lw_tbl := lw_at lw_m10 197 rfl
theorem q2672 : (Jvm.Cond.instanceMethod ({ cls := "HomeCompiler$Host", name := "answers", desc := "(I)I" } : Jvm.MethodName)) ∈ lw_all := lw_g (lw_at lw_m10 198 rfl) rfl
theorem q2673 : (Jvm.Cond.code ({ cls := "HomeCompiler$Host", name := "answers", desc := "(I)I" } : Jvm.MethodName) prog_11_method_5_code (2 : Nat) (Option.some Jvm.ClassFile.FieldType.int)) ∈ lw_all := lw_g (lw_at lw_m10 199 rfl) rfl
theorem q2674 : (Jvm.Cond.methodLink "HomeCompiler$Host" (92 : Nat) ({ cls := "java/lang/Math", name := "min", desc := "(II)I" } : Jvm.MethodName)) ∈ lw_all := lw_g (lw_at lw_m10 200 rfl) rfl
theorem q2677 : (Jvm.Cond.methodLink "HomeCompiler$Host" (97 : Nat) ({ cls := "HomeCompiler$Host", name := "moves", desc := "(IIIZ)I" } : Jvm.MethodName)) ∈ lw_all := lw_g (lw_at lw_m10 203 rfl) rfl
theorem q2678 : (Jvm.Cond.privateMethod ({ cls := "HomeCompiler$Host", name := "moves", desc := "(IIIZ)I" } : Jvm.MethodName)) ∈ lw_tbl := lw_at lw_m10 204 rfl
theorem q2679 : (Jvm.Cond.instanceMethod ({ cls := "HomeCompiler$Host", name := "moves", desc := "(IIIZ)I" } : Jvm.MethodName)) ∈ lw_all := lw_g (lw_at lw_m10 205 rfl) rfl
theorem q2680 : (Jvm.Cond.code ({ cls := "HomeCompiler$Host", name := "moves", desc := "(IIIZ)I" } : Jvm.MethodName) prog_11_method_7_code (6 : Nat) (Option.some Jvm.ClassFile.FieldType.int)) ∈ lw_all := lw_g (lw_at lw_m10 206 rfl) rfl
theorem q2681 : (Jvm.Cond.methodLink "HomeCompiler$Host" (103 : Nat) ({ cls := "HomeCompiler$Ram", name := "word", desc := "(I)I" } : Jvm.MethodName)) ∈ lw_all := lw_g (lw_at lw_m10 207 rfl) rfl
theorem q2682 : (Jvm.Cond.methodLink "HomeCompiler$Host" (74 : Nat) ({ cls := "HomeCompiler$Controls", name := "get", desc := "(I)I" } : Jvm.MethodName)) ∈ lw_all := lw_g (lw_at lw_m10 208 rfl) rfl
theorem in_X16 : ∀ w ∈ wsX160, w ∈ lw_all := lw_in wsX160 [963, 965, 967, 969, 971, 973, 975, 977, 979] (by decide +kernel) (by decide +kernel)
/-! X17.HomeCompiler_Ram.lean.txt -/
def RX17 : String := "HomeCompiler$Ram"
def TX17 : u_T := fun k => match k with
  | 0 => ("HomeCompiler$Ram", "bits", "I", true)
  | 1 => ("HomeCompiler$Ram", "words", "[I", true)
  | 2 => ("HomeCompiler$Ram", "kept", "[B", true)
  | 3 => ("HomeCompiler$Ram", "tables", "[Z", true)
  | _ => ("HomeCompiler$Ram", "changes", "I", false)
def tyX17 : Nat → FieldType := fun k => match k with
  | 0 => .int
  | 1 => .array .int
  | 2 => .array .byte
  | 3 => .array .boolean
  | _ => .int
abbrev wsX170 : List Cond := u_ws RX17 TX17 5
theorem nmX17 : ∀ a, a < 5 → ∀ b, b < 5 → a ≠ b → (TX17 a).2.1 ≠ (TX17 b).2.1 := by decide +kernel
theorem tyX17_ok : ∀ k, k < 5 → parseFieldDescriptor (TX17 k).2.2.1 = some (tyX17 k) := by decide +kernel
abbrev cX17_init : ByteArray := prog_14_method_1_code
def yX17_init : MethodName := ⟨RX17, "<init>", "(I)V"⟩
abbrev cX17_write : ByteArray := prog_14_method_4_code
def yX17_write : MethodName := ⟨RX17, "write", "(II)V"⟩
abbrev cX17_has : ByteArray := prog_14_method_2_code
def yX17_has : MethodName := ⟨RX17, "has", "(I)Z"⟩
abbrev cX17_changes : ByteArray := prog_14_method_8_code
def yX17_changes : MethodName := ⟨RX17, "changes", "()I"⟩
abbrev cX17_forget : ByteArray := prog_14_method_9_code
def yX17_forget : MethodName := ⟨RX17, "forget", "()V"⟩
abbrev cX17_watch : ByteArray := prog_14_method_7_code
def yX17_watch : MethodName := ⟨RX17, "watch", "(I)V"⟩
abbrev cX17_word : ByteArray := prog_14_method_3_code
def yX17_word : MethodName := ⟨RX17, "word", "(I)I"⟩
abbrev cX17_operation : ByteArray := prog_14_method_6_code
def yX17_operation : MethodName := ⟨RX17, "operation", "(I)I"⟩
abbrev cX17_writePart : ByteArray := prog_14_method_5_code
def yX17_writePart : MethodName := ⟨RX17, "writePart", "(III)V"⟩
theorem q331 : (Jvm.Cond.initialized "HomeCompiler$Ram") ∈ lw_all := lw_g (lw_at lw_m1 17 rfl) rfl
theorem q860 : (Jvm.Cond.instantiable "HomeCompiler$Ram" (5 : Nat)) ∈ lw_all := lw_g (lw_at lw_m3 66 rfl) rfl
theorem q862 : (Jvm.Cond.instanceMethod ({ cls := "HomeCompiler$Ram", name := "<init>", desc := "(I)V" } : Jvm.MethodName)) ∈ lw_all := lw_g (lw_at lw_m3 68 rfl) rfl
theorem q863 : (Jvm.Cond.code ({ cls := "HomeCompiler$Ram", name := "<init>", desc := "(I)V" } : Jvm.MethodName) prog_14_method_1_code (2 : Nat) (Option.none : Option Jvm.ClassFile.FieldType)) ∈ lw_all := lw_g (lw_at lw_m3 69 rfl) rfl
theorem q864 : (Jvm.Cond.methodLink "HomeCompiler$Ram" (1 : Nat) ({ cls := "java/lang/Object", name := "<init>", desc := "()V" } : Jvm.MethodName)) ∈ lw_all := lw_g (lw_at lw_m3 70 rfl) rfl
theorem q865 : (Jvm.Cond.fieldLink "HomeCompiler$Ram" (7 : Nat) "HomeCompiler$Ram" "bits" "I") ∈ lw_all := lw_g (lw_at lw_m3 71 rfl) rfl
theorem q866 : (Jvm.Cond.fieldLink "HomeCompiler$Ram" (13 : Nat) "HomeCompiler$Ram" "words" "[I") ∈ lw_all := lw_g (lw_at lw_m3 72 rfl) rfl
theorem q867 : (Jvm.Cond.fieldLink "HomeCompiler$Ram" (17 : Nat) "HomeCompiler$Ram" "kept" "[B") ∈ lw_all := lw_g (lw_at lw_m3 73 rfl) rfl
theorem q868 : (Jvm.Cond.fieldLink "HomeCompiler$Ram" (21 : Nat) "HomeCompiler$Ram" "tables" "[Z") ∈ lw_all := lw_g (lw_at lw_m3 74 rfl) rfl
theorem q869 : (Jvm.Cond.fieldLink "HomeCompiler$Ram" (25 : Nat) "HomeCompiler$Ram" "changes" "I") ∈ lw_all := lw_g (lw_at lw_m3 75 rfl) rfl
theorem q870 : (Jvm.Cond.laysFinal "HomeCompiler$Ram" "HomeCompiler$Ram" "bits" "I") ∈ lw_all := lw_g (lw_at lw_m3 76 rfl) rfl
theorem q871 : (Jvm.Cond.soleField "HomeCompiler$Ram" "bits") ∈ lw_all := lw_g (lw_at lw_m3 77 rfl) rfl
theorem q872 : (Jvm.Cond.laysFinal "HomeCompiler$Ram" "HomeCompiler$Ram" "words" "[I") ∈ lw_all := lw_g (lw_at lw_m3 78 rfl) rfl
theorem q873 : (Jvm.Cond.soleField "HomeCompiler$Ram" "words") ∈ lw_all := lw_g (lw_at lw_m3 79 rfl) rfl
theorem q874 : (Jvm.Cond.laysFinal "HomeCompiler$Ram" "HomeCompiler$Ram" "kept" "[B") ∈ lw_all := lw_g (lw_at lw_m3 80 rfl) rfl
theorem q875 : (Jvm.Cond.soleField "HomeCompiler$Ram" "kept") ∈ lw_all := lw_g (lw_at lw_m3 81 rfl) rfl
theorem q876 : (Jvm.Cond.laysFinal "HomeCompiler$Ram" "HomeCompiler$Ram" "tables" "[Z") ∈ lw_all := lw_g (lw_at lw_m3 82 rfl) rfl
theorem q877 : (Jvm.Cond.soleField "HomeCompiler$Ram" "tables") ∈ lw_all := lw_g (lw_at lw_m3 83 rfl) rfl
theorem q878 : (Jvm.Cond.lays "HomeCompiler$Ram" "HomeCompiler$Ram" "changes" "I") ∈ lw_all := lw_g (lw_at lw_m3 84 rfl) rfl
theorem q879 : (Jvm.Cond.soleField "HomeCompiler$Ram" "changes") ∈ lw_all := lw_g (lw_at lw_m3 85 rfl) rfl
theorem q880 : (Jvm.Cond.superclass "HomeCompiler$Ram" "java/lang/Object") ∈ lw_all := lw_g (lw_at lw_m3 86 rfl) rfl
theorem q2343 : (Jvm.Cond.instanceMethod ({ cls := "HomeCompiler$Ram", name := "write", desc := "(II)V" } : Jvm.MethodName)) ∈ lw_all := lw_g (lw_at lw_m9 109 rfl) rfl
theorem q2344 : (Jvm.Cond.selects "HomeCompiler$Ram" ({ cls := "HomeCompiler$Ram", name := "write", desc := "(II)V" } : Jvm.MethodName) ({ cls := "HomeCompiler$Ram", name := "write", desc := "(II)V" } : Jvm.MethodName)) ∈ lw_all := lw_g (lw_at lw_m9 110 rfl) rfl
theorem q2345 : (Jvm.Cond.code ({ cls := "HomeCompiler$Ram", name := "write", desc := "(II)V" } : Jvm.MethodName) prog_14_method_4_code (3 : Nat) (Option.none : Option Jvm.ClassFile.FieldType)) ∈ lw_all := lw_g (lw_at lw_m9 111 rfl) rfl
theorem q2529 : (Jvm.Cond.instanceMethod ({ cls := "HomeCompiler$Ram", name := "has", desc := "(I)Z" } : Jvm.MethodName)) ∈ lw_all := lw_g (lw_at lw_m10 55 rfl) rfl
theorem q2530 : (Jvm.Cond.selects "HomeCompiler$Ram" ({ cls := "HomeCompiler$Ram", name := "has", desc := "(I)Z" } : Jvm.MethodName) ({ cls := "HomeCompiler$Ram", name := "has", desc := "(I)Z" } : Jvm.MethodName)) ∈ lw_all := lw_g (lw_at lw_m10 56 rfl) rfl
theorem q2531 : (Jvm.Cond.code ({ cls := "HomeCompiler$Ram", name := "has", desc := "(I)Z" } : Jvm.MethodName) prog_14_method_2_code (2 : Nat) (Option.some Jvm.ClassFile.FieldType.boolean)) ∈ lw_all := lw_g (lw_at lw_m10 57 rfl) rfl
theorem q2536 : (Jvm.Cond.instanceMethod ({ cls := "HomeCompiler$Ram", name := "changes", desc := "()I" } : Jvm.MethodName)) ∈ lw_all := lw_g (lw_at lw_m10 62 rfl) rfl
theorem q2537 : (Jvm.Cond.selects "HomeCompiler$Ram" ({ cls := "HomeCompiler$Ram", name := "changes", desc := "()I" } : Jvm.MethodName) ({ cls := "HomeCompiler$Ram", name := "changes", desc := "()I" } : Jvm.MethodName)) ∈ lw_all := lw_g (lw_at lw_m10 63 rfl) rfl
theorem q2538 : (Jvm.Cond.code ({ cls := "HomeCompiler$Ram", name := "changes", desc := "()I" } : Jvm.MethodName) prog_14_method_8_code (1 : Nat) (Option.some Jvm.ClassFile.FieldType.int)) ∈ lw_all := lw_g (lw_at lw_m10 64 rfl) rfl
theorem q2544 : (Jvm.Cond.instanceMethod ({ cls := "HomeCompiler$Ram", name := "forget", desc := "()V" } : Jvm.MethodName)) ∈ lw_all := lw_g (lw_at lw_m10 70 rfl) rfl
theorem q2545 : (Jvm.Cond.selects "HomeCompiler$Ram" ({ cls := "HomeCompiler$Ram", name := "forget", desc := "()V" } : Jvm.MethodName) ({ cls := "HomeCompiler$Ram", name := "forget", desc := "()V" } : Jvm.MethodName)) ∈ lw_all := lw_g (lw_at lw_m10 71 rfl) rfl
theorem q2546 : (Jvm.Cond.code ({ cls := "HomeCompiler$Ram", name := "forget", desc := "()V" } : Jvm.MethodName) prog_14_method_9_code (2 : Nat) (Option.none : Option Jvm.ClassFile.FieldType)) ∈ lw_all := lw_g (lw_at lw_m10 72 rfl) rfl
theorem q2553 : (Jvm.Cond.instanceMethod ({ cls := "HomeCompiler$Ram", name := "watch", desc := "(I)V" } : Jvm.MethodName)) ∈ lw_all := lw_g (lw_at lw_m10 79 rfl) rfl
theorem q2554 : (Jvm.Cond.selects "HomeCompiler$Ram" ({ cls := "HomeCompiler$Ram", name := "watch", desc := "(I)V" } : Jvm.MethodName) ({ cls := "HomeCompiler$Ram", name := "watch", desc := "(I)V" } : Jvm.MethodName)) ∈ lw_all := lw_g (lw_at lw_m10 80 rfl) rfl
theorem q2555 : (Jvm.Cond.code ({ cls := "HomeCompiler$Ram", name := "watch", desc := "(I)V" } : Jvm.MethodName) prog_14_method_7_code (2 : Nat) (Option.none : Option Jvm.ClassFile.FieldType)) ∈ lw_all := lw_g (lw_at lw_m10 81 rfl) rfl
theorem q2557 : (Jvm.Cond.instanceMethod ({ cls := "HomeCompiler$Ram", name := "word", desc := "(I)I" } : Jvm.MethodName)) ∈ lw_all := lw_g (lw_at lw_m10 83 rfl) rfl
theorem q2558 : (Jvm.Cond.selects "HomeCompiler$Ram" ({ cls := "HomeCompiler$Ram", name := "word", desc := "(I)I" } : Jvm.MethodName) ({ cls := "HomeCompiler$Ram", name := "word", desc := "(I)I" } : Jvm.MethodName)) ∈ lw_all := lw_g (lw_at lw_m10 84 rfl) rfl
theorem q2559 : (Jvm.Cond.code ({ cls := "HomeCompiler$Ram", name := "word", desc := "(I)I" } : Jvm.MethodName) prog_14_method_3_code (2 : Nat) (Option.some Jvm.ClassFile.FieldType.int)) ∈ lw_all := lw_g (lw_at lw_m10 85 rfl) rfl
theorem q2568 : (Jvm.Cond.instanceMethod ({ cls := "HomeCompiler$Ram", name := "operation", desc := "(I)I" } : Jvm.MethodName)) ∈ lw_all := lw_g (lw_at lw_m10 94 rfl) rfl
theorem q2569 : (Jvm.Cond.selects "HomeCompiler$Ram" ({ cls := "HomeCompiler$Ram", name := "operation", desc := "(I)I" } : Jvm.MethodName) ({ cls := "HomeCompiler$Ram", name := "operation", desc := "(I)I" } : Jvm.MethodName)) ∈ lw_all := lw_g (lw_at lw_m10 95 rfl) rfl
theorem q2570 : (Jvm.Cond.code ({ cls := "HomeCompiler$Ram", name := "operation", desc := "(I)I" } : Jvm.MethodName) prog_14_method_6_code (3 : Nat) (Option.some Jvm.ClassFile.FieldType.int)) ∈ lw_all := lw_g (lw_at lw_m10 96 rfl) rfl
theorem q2571 : (Jvm.Cond.methodLink "HomeCompiler$Ram" (32 : Nat) ({ cls := "HomeCompiler$Decoder", name := "operation", desc := "(I)I" } : Jvm.MethodName)) ∈ lw_all := lw_g (lw_at lw_m10 97 rfl) rfl
theorem q2632 : (Jvm.Cond.instanceMethod ({ cls := "HomeCompiler$Ram", name := "writePart", desc := "(III)V" } : Jvm.MethodName)) ∈ lw_all := lw_g (lw_at lw_m10 158 rfl) rfl
theorem q2633 : (Jvm.Cond.selects "HomeCompiler$Ram" ({ cls := "HomeCompiler$Ram", name := "writePart", desc := "(III)V" } : Jvm.MethodName) ({ cls := "HomeCompiler$Ram", name := "writePart", desc := "(III)V" } : Jvm.MethodName)) ∈ lw_all := lw_g (lw_at lw_m10 159 rfl) rfl
theorem q2634 : (Jvm.Cond.code ({ cls := "HomeCompiler$Ram", name := "writePart", desc := "(III)V" } : Jvm.MethodName) prog_14_method_5_code (6 : Nat) (Option.none : Option Jvm.ClassFile.FieldType)) ∈ lw_all := lw_g (lw_at lw_m10 160 rfl) rfl
theorem q2635 : (Jvm.Cond.methodLink "HomeCompiler$Ram" (28 : Nat) ({ cls := "HomeCompiler$Ram", name := "write", desc := "(II)V" } : Jvm.MethodName)) ∈ lw_all := lw_g (lw_at lw_m10 161 rfl) rfl
theorem in_X17 : ∀ w ∈ wsX170, w ∈ lw_all := lw_in wsX170 [870, 872, 874, 876, 878] (by decide +kernel) (by decide +kernel)
/-! X18.HomeCompiler_Controls.lean.txt -/
def RX18 : String := "HomeCompiler$Controls"
def TX18 : u_T := fun k => match k with
  | _ => ("HomeCompiler$Controls", "values", "[I", true)
def tyX18 : Nat → FieldType := fun k => match k with
  | _ => .array .int
abbrev wsX180 : List Cond := u_ws RX18 TX18 1
theorem nmX18 : ∀ a, a < 1 → ∀ b, b < 1 → a ≠ b → (TX18 a).2.1 ≠ (TX18 b).2.1 := by decide +kernel
theorem tyX18_ok : ∀ k, k < 1 → parseFieldDescriptor (TX18 k).2.2.1 = some (tyX18 k) := by decide +kernel
abbrev cX18_init : ByteArray := prog_4_method_1_code
def yX18_init : MethodName := ⟨RX18, "<init>", "()V"⟩
abbrev cX18_due : ByteArray := prog_4_method_7_code
def yX18_due : MethodName := ⟨RX18, "due", "()I"⟩
abbrev cX18_trap : ByteArray := prog_4_method_9_code
def yX18_trap : MethodName := ⟨RX18, "trap", "(IIII)I"⟩
abbrev cX18_set : ByteArray := prog_4_method_4_code
def yX18_set : MethodName := ⟨RX18, "set", "(II)V"⟩
abbrev cX18_tables : ByteArray := prog_4_method_5_code
def yX18_tables : MethodName := ⟨RX18, "tables", "()I"⟩
abbrev cX18_sum : ByteArray := prog_4_method_6_code
def yX18_sum : MethodName := ⟨RX18, "sum", "()Z"⟩
abbrev cX18_back : ByteArray := prog_4_method_10_code
def yX18_back : MethodName := ⟨RX18, "back", "()I"⟩
abbrev cX18_returns : ByteArray := prog_4_method_11_code
def yX18_returns : MethodName := ⟨RX18, "returns", "()I"⟩
abbrev cX18_place : ByteArray := prog_4_method_2_code
def yX18_place : MethodName := ⟨RX18, "place", "(I)I"⟩
abbrev cX18_get : ByteArray := prog_4_method_3_code
def yX18_get : MethodName := ⟨RX18, "get", "(I)I"⟩
abbrev cX18_count : ByteArray := prog_4_method_8_code
def yX18_count : MethodName := ⟨RX18, "count", "()V"⟩
theorem q332 : (Jvm.Cond.initialized "HomeCompiler$Controls") ∈ lw_all := lw_g (lw_at lw_m1 18 rfl) rfl
theorem q883 : (Jvm.Cond.instantiable "HomeCompiler$Controls" (1 : Nat)) ∈ lw_all := lw_g (lw_at lw_m3 89 rfl) rfl
theorem q885 : (Jvm.Cond.instanceMethod ({ cls := "HomeCompiler$Controls", name := "<init>", desc := "()V" } : Jvm.MethodName)) ∈ lw_all := lw_g (lw_at lw_m3 91 rfl) rfl
theorem q886 : (Jvm.Cond.code ({ cls := "HomeCompiler$Controls", name := "<init>", desc := "()V" } : Jvm.MethodName) prog_4_method_1_code (1 : Nat) (Option.none : Option Jvm.ClassFile.FieldType)) ∈ lw_all := lw_g (lw_at lw_m3 92 rfl) rfl
theorem q887 : (Jvm.Cond.methodLink "HomeCompiler$Controls" (3 : Nat) ({ cls := "java/lang/Object", name := "<init>", desc := "()V" } : Jvm.MethodName)) ∈ lw_all := lw_g (lw_at lw_m3 93 rfl) rfl
theorem q888 : (Jvm.Cond.fieldLink "HomeCompiler$Controls" (9 : Nat) "HomeCompiler$Controls" "values" "[I") ∈ lw_all := lw_g (lw_at lw_m3 94 rfl) rfl
theorem q889 : (Jvm.Cond.laysFinal "HomeCompiler$Controls" "HomeCompiler$Controls" "values" "[I") ∈ lw_all := lw_g (lw_at lw_m3 95 rfl) rfl
theorem q890 : (Jvm.Cond.soleField "HomeCompiler$Controls" "values") ∈ lw_all := lw_g (lw_at lw_m3 96 rfl) rfl
theorem q891 : (Jvm.Cond.superclass "HomeCompiler$Controls" "java/lang/Object") ∈ lw_all := lw_g (lw_at lw_m3 97 rfl) rfl
theorem q2490 : (Jvm.Cond.instanceMethod ({ cls := "HomeCompiler$Controls", name := "due", desc := "()I" } : Jvm.MethodName)) ∈ lw_all := lw_g (lw_at lw_m10 16 rfl) rfl
theorem q2491 : (Jvm.Cond.selects "HomeCompiler$Controls" ({ cls := "HomeCompiler$Controls", name := "due", desc := "()I" } : Jvm.MethodName) ({ cls := "HomeCompiler$Controls", name := "due", desc := "()I" } : Jvm.MethodName)) ∈ lw_all := lw_g (lw_at lw_m10 17 rfl) rfl
theorem q2492 : (Jvm.Cond.code ({ cls := "HomeCompiler$Controls", name := "due", desc := "()I" } : Jvm.MethodName) prog_4_method_7_code (1 : Nat) (Option.some Jvm.ClassFile.FieldType.int)) ∈ lw_all := lw_g (lw_at lw_m10 18 rfl) rfl
theorem q2498 : (Jvm.Cond.instanceMethod ({ cls := "HomeCompiler$Controls", name := "trap", desc := "(IIII)I" } : Jvm.MethodName)) ∈ lw_all := lw_g (lw_at lw_m10 24 rfl) rfl
theorem q2499 : (Jvm.Cond.selects "HomeCompiler$Controls" ({ cls := "HomeCompiler$Controls", name := "trap", desc := "(IIII)I" } : Jvm.MethodName) ({ cls := "HomeCompiler$Controls", name := "trap", desc := "(IIII)I" } : Jvm.MethodName)) ∈ lw_all := lw_g (lw_at lw_m10 25 rfl) rfl
theorem q2500 : (Jvm.Cond.code ({ cls := "HomeCompiler$Controls", name := "trap", desc := "(IIII)I" } : Jvm.MethodName) prog_4_method_9_code (5 : Nat) (Option.some Jvm.ClassFile.FieldType.int)) ∈ lw_all := lw_g (lw_at lw_m10 26 rfl) rfl
theorem q2501 : (Jvm.Cond.methodLink "HomeCompiler$Controls" (17 : Nat) ({ cls := "HomeCompiler$Controls", name := "set", desc := "(II)V" } : Jvm.MethodName)) ∈ lw_all := lw_g (lw_at lw_m10 27 rfl) rfl
theorem q2502 : (Jvm.Cond.instanceMethod ({ cls := "HomeCompiler$Controls", name := "set", desc := "(II)V" } : Jvm.MethodName)) ∈ lw_all := lw_g (lw_at lw_m10 28 rfl) rfl
theorem q2503 : (Jvm.Cond.selects "HomeCompiler$Controls" ({ cls := "HomeCompiler$Controls", name := "set", desc := "(II)V" } : Jvm.MethodName) ({ cls := "HomeCompiler$Controls", name := "set", desc := "(II)V" } : Jvm.MethodName)) ∈ lw_all := lw_g (lw_at lw_m10 29 rfl) rfl
theorem q2504 : (Jvm.Cond.code ({ cls := "HomeCompiler$Controls", name := "set", desc := "(II)V" } : Jvm.MethodName) prog_4_method_4_code (3 : Nat) (Option.none : Option Jvm.ClassFile.FieldType)) ∈ lw_all := lw_g (lw_at lw_m10 30 rfl) rfl
theorem q2505 : (Jvm.Cond.constant "HomeCompiler$Controls" (15 : Nat) (262400 : Int32)) ∈ lw_all := lw_g (lw_at lw_m10 31 rfl) rfl
theorem q2506 : (Jvm.Cond.constant "HomeCompiler$Controls" (16 : Nat) (262144 : Int32)) ∈ lw_all := lw_g (lw_at lw_m10 32 rfl) rfl
theorem q2517 : (Jvm.Cond.instanceMethod ({ cls := "HomeCompiler$Controls", name := "tables", desc := "()I" } : Jvm.MethodName)) ∈ lw_all := lw_g (lw_at lw_m10 43 rfl) rfl
theorem q2518 : (Jvm.Cond.selects "HomeCompiler$Controls" ({ cls := "HomeCompiler$Controls", name := "tables", desc := "()I" } : Jvm.MethodName) ({ cls := "HomeCompiler$Controls", name := "tables", desc := "()I" } : Jvm.MethodName)) ∈ lw_all := lw_g (lw_at lw_m10 44 rfl) rfl
theorem q2519 : (Jvm.Cond.code ({ cls := "HomeCompiler$Controls", name := "tables", desc := "()I" } : Jvm.MethodName) prog_4_method_5_code (1 : Nat) (Option.some Jvm.ClassFile.FieldType.int)) ∈ lw_all := lw_g (lw_at lw_m10 45 rfl) rfl
theorem q2521 : (Jvm.Cond.instanceMethod ({ cls := "HomeCompiler$Controls", name := "sum", desc := "()Z" } : Jvm.MethodName)) ∈ lw_all := lw_g (lw_at lw_m10 47 rfl) rfl
theorem q2522 : (Jvm.Cond.selects "HomeCompiler$Controls" ({ cls := "HomeCompiler$Controls", name := "sum", desc := "()Z" } : Jvm.MethodName) ({ cls := "HomeCompiler$Controls", name := "sum", desc := "()Z" } : Jvm.MethodName)) ∈ lw_all := lw_g (lw_at lw_m10 48 rfl) rfl
theorem q2523 : (Jvm.Cond.code ({ cls := "HomeCompiler$Controls", name := "sum", desc := "()Z" } : Jvm.MethodName) prog_4_method_6_code (1 : Nat) (Option.some Jvm.ClassFile.FieldType.boolean)) ∈ lw_all := lw_g (lw_at lw_m10 49 rfl) rfl
theorem q2593 : (Jvm.Cond.instanceMethod ({ cls := "HomeCompiler$Controls", name := "back", desc := "()I" } : Jvm.MethodName)) ∈ lw_all := lw_g (lw_at lw_m10 119 rfl) rfl
theorem q2594 : (Jvm.Cond.selects "HomeCompiler$Controls" ({ cls := "HomeCompiler$Controls", name := "back", desc := "()I" } : Jvm.MethodName) ({ cls := "HomeCompiler$Controls", name := "back", desc := "()I" } : Jvm.MethodName)) ∈ lw_all := lw_g (lw_at lw_m10 120 rfl) rfl
theorem q2595 : (Jvm.Cond.code ({ cls := "HomeCompiler$Controls", name := "back", desc := "()I" } : Jvm.MethodName) prog_4_method_10_code (2 : Nat) (Option.some Jvm.ClassFile.FieldType.int)) ∈ lw_all := lw_g (lw_at lw_m10 121 rfl) rfl
theorem q2597 : (Jvm.Cond.instanceMethod ({ cls := "HomeCompiler$Controls", name := "returns", desc := "()I" } : Jvm.MethodName)) ∈ lw_all := lw_g (lw_at lw_m10 123 rfl) rfl
theorem q2598 : (Jvm.Cond.selects "HomeCompiler$Controls" ({ cls := "HomeCompiler$Controls", name := "returns", desc := "()I" } : Jvm.MethodName) ({ cls := "HomeCompiler$Controls", name := "returns", desc := "()I" } : Jvm.MethodName)) ∈ lw_all := lw_g (lw_at lw_m10 124 rfl) rfl
theorem q2599 : (Jvm.Cond.code ({ cls := "HomeCompiler$Controls", name := "returns", desc := "()I" } : Jvm.MethodName) prog_4_method_11_code (1 : Nat) (Option.some Jvm.ClassFile.FieldType.int)) ∈ lw_all := lw_g (lw_at lw_m10 125 rfl) rfl
theorem q2605 : (Jvm.Cond.static ({ cls := "HomeCompiler$Controls", name := "place", desc := "(I)I" } : Jvm.MethodName)) ∈ lw_all := lw_g (lw_at lw_m10 131 rfl) rfl
theorem q2606 : (Jvm.Cond.code ({ cls := "HomeCompiler$Controls", name := "place", desc := "(I)I" } : Jvm.MethodName) prog_4_method_2_code (1 : Nat) (Option.some Jvm.ClassFile.FieldType.int)) ∈ lw_all := lw_g (lw_at lw_m10 132 rfl) rfl
theorem q2608 : (Jvm.Cond.instanceMethod ({ cls := "HomeCompiler$Controls", name := "get", desc := "(I)I" } : Jvm.MethodName)) ∈ lw_all := lw_g (lw_at lw_m10 134 rfl) rfl
theorem q2609 : (Jvm.Cond.selects "HomeCompiler$Controls" ({ cls := "HomeCompiler$Controls", name := "get", desc := "(I)I" } : Jvm.MethodName) ({ cls := "HomeCompiler$Controls", name := "get", desc := "(I)I" } : Jvm.MethodName)) ∈ lw_all := lw_g (lw_at lw_m10 135 rfl) rfl
theorem q2610 : (Jvm.Cond.code ({ cls := "HomeCompiler$Controls", name := "get", desc := "(I)I" } : Jvm.MethodName) prog_4_method_3_code (2 : Nat) (Option.some Jvm.ClassFile.FieldType.int)) ∈ lw_all := lw_g (lw_at lw_m10 136 rfl) rfl
theorem q2655 : (Jvm.Cond.instanceMethod ({ cls := "HomeCompiler$Controls", name := "count", desc := "()V" } : Jvm.MethodName)) ∈ lw_all := lw_g (lw_at lw_m10 181 rfl) rfl
theorem q2656 : (Jvm.Cond.selects "HomeCompiler$Controls" ({ cls := "HomeCompiler$Controls", name := "count", desc := "()V" } : Jvm.MethodName) ({ cls := "HomeCompiler$Controls", name := "count", desc := "()V" } : Jvm.MethodName)) ∈ lw_all := lw_g (lw_at lw_m10 182 rfl) rfl
theorem q2657 : (Jvm.Cond.code ({ cls := "HomeCompiler$Controls", name := "count", desc := "()V" } : Jvm.MethodName) prog_4_method_8_code (1 : Nat) (Option.none : Option Jvm.ClassFile.FieldType)) ∈ lw_all := lw_g (lw_at lw_m10 183 rfl) rfl
theorem in_X18 : ∀ w ∈ wsX180, w ∈ lw_all := lw_in wsX180 [889] (by decide +kernel) (by decide +kernel)
/-! X19.HomeCompiler_Hart.lean.txt -/
def RX19 : String := "HomeCompiler$Hart"
def TX19 : u_T := fun k => match k with
  | 0 => ("HomeCompiler$Hart", "ram", "LHomeCompiler$Ram;", true)
  | 1 => ("HomeCompiler$Hart", "controls", "LHomeCompiler$Controls;", true)
  | 2 => ("HomeCompiler$Hart", "walker", "LHomeCompiler$Walker;", true)
  | 3 => ("HomeCompiler$Hart", "x", "[I", true)
  | 4 => ("HomeCompiler$Hart", "pc", "I", false)
  | 5 => ("HomeCompiler$Hart", "mode", "I", false)
  | _ => ("HomeCompiler$Hart", "next", "I", false)
def tyX19 : Nat → FieldType := fun k => match k with
  | 0 => .object "HomeCompiler$Ram"
  | 1 => .object "HomeCompiler$Controls"
  | 2 => .object "HomeCompiler$Walker"
  | 3 => .array .int
  | 4 => .int
  | 5 => .int
  | _ => .int
abbrev wsX190 : List Cond := u_ws RX19 TX19 7
theorem nmX19 : ∀ a, a < 7 → ∀ b, b < 7 → a ≠ b → (TX19 a).2.1 ≠ (TX19 b).2.1 := by decide +kernel
theorem tyX19_ok : ∀ k, k < 7 → parseFieldDescriptor (TX19 k).2.2.1 = some (tyX19 k) := by decide +kernel
abbrev cX19_init : ByteArray := prog_9_method_1_code
def yX19_init : MethodName := ⟨RX19, "<init>", "(LHomeCompiler$Ram;LHomeCompiler$Controls;)V"⟩
abbrev cX19_step : ByteArray := prog_9_method_5_code
def yX19_step : MethodName := ⟨RX19, "step", "()I"⟩
abbrev cX19_trap : ByteArray := prog_9_method_3_code
def yX19_trap : MethodName := ⟨RX19, "trap", "(II)I"⟩
abbrev cX19_fetch : ByteArray := prog_9_method_6_code
def yX19_fetch : MethodName := ⟨RX19, "fetch", "()I"⟩
abbrev cX19_find : ByteArray := prog_9_method_2_code
def yX19_find : MethodName := ⟨RX19, "find", "(II)I"⟩
abbrev cX19_perform : ByteArray := prog_9_method_7_code
def yX19_perform : MethodName := ⟨RX19, "perform", "(II)I"⟩
abbrev cX19_special : ByteArray := prog_9_method_15_code
def yX19_special : MethodName := ⟨RX19, "special", "(IIII)I"⟩
abbrev cX19_control : ByteArray := prog_9_method_16_code
def yX19_control : MethodName := ⟨RX19, "control", "(IIII)I"⟩
abbrev cX19_set : ByteArray := prog_9_method_4_code
def yX19_set : MethodName := ⟨RX19, "set", "(II)V"⟩
abbrev cX19_multiplied : ByteArray := prog_9_method_12_code
def yX19_multiplied : MethodName := ⟨RX19, "multiplied", "(III)I"⟩
abbrev cX19_reckoned : ByteArray := prog_9_method_10_code
def yX19_reckoned : MethodName := ⟨RX19, "reckoned", "(III)I"⟩
abbrev cX19_byF : ByteArray := prog_9_method_11_code
def yX19_byF : MethodName := ⟨RX19, "byF", "(III)I"⟩
abbrev cX19_store : ByteArray := prog_9_method_14_code
def yX19_store : MethodName := ⟨RX19, "store", "(III)I"⟩
abbrev cX19_load : ByteArray := prog_9_method_13_code
def yX19_load : MethodName := ⟨RX19, "load", "(III)I"⟩
abbrev cX19_isTaken : ByteArray := prog_9_method_9_code
def yX19_isTaken : MethodName := ⟨RX19, "isTaken", "(III)Z"⟩
abbrev cX19_go : ByteArray := prog_9_method_8_code
def yX19_go : MethodName := ⟨RX19, "go", "(II)I"⟩
theorem q333 : (Jvm.Cond.initialized "HomeCompiler$Hart") ∈ lw_all := lw_g (lw_at lw_m1 19 rfl) rfl
theorem q893 : (Jvm.Cond.instantiable "HomeCompiler$Hart" (7 : Nat)) ∈ lw_all := lw_g (lw_at lw_m3 99 rfl) rfl
theorem q895 : (Jvm.Cond.instanceMethod ({ cls := "HomeCompiler$Hart", name := "<init>", desc := "(LHomeCompiler$Ram;LHomeCompiler$Controls;)V" } : Jvm.MethodName)) ∈ lw_all := lw_g (lw_at lw_m3 101 rfl) rfl
theorem q896 : (Jvm.Cond.code ({ cls := "HomeCompiler$Hart", name := "<init>", desc := "(LHomeCompiler$Ram;LHomeCompiler$Controls;)V" } : Jvm.MethodName) prog_9_method_1_code (3 : Nat) (Option.none : Option Jvm.ClassFile.FieldType)) ∈ lw_all := lw_g (lw_at lw_m3 102 rfl) rfl
theorem q897 : (Jvm.Cond.methodLink "HomeCompiler$Hart" (3 : Nat) ({ cls := "java/lang/Object", name := "<init>", desc := "()V" } : Jvm.MethodName)) ∈ lw_all := lw_g (lw_at lw_m3 103 rfl) rfl
theorem q898 : (Jvm.Cond.classLink "HomeCompiler$Hart" (27 : Nat) "HomeCompiler$Walker") ∈ lw_all := lw_g (lw_at lw_m3 104 rfl) rfl
theorem q900 : (Jvm.Cond.methodLink "HomeCompiler$Hart" (29 : Nat) ({ cls := "HomeCompiler$Walker", name := "<init>", desc := "(LHomeCompiler$Ram;)V" } : Jvm.MethodName)) ∈ lw_all := lw_g (lw_at lw_m3 106 rfl) rfl
theorem q920 : (Jvm.Cond.fieldLink "HomeCompiler$Hart" (19 : Nat) "HomeCompiler$Hart" "ram" "LHomeCompiler$Ram;") ∈ lw_all := lw_g (lw_at lw_m3 126 rfl) rfl
theorem q921 : (Jvm.Cond.fieldLink "HomeCompiler$Hart" (23 : Nat) "HomeCompiler$Hart" "controls" "LHomeCompiler$Controls;") ∈ lw_all := lw_g (lw_at lw_m3 127 rfl) rfl
theorem q922 : (Jvm.Cond.fieldLink "HomeCompiler$Hart" (32 : Nat) "HomeCompiler$Hart" "walker" "LHomeCompiler$Walker;") ∈ lw_all := lw_g (lw_at lw_m3 128 rfl) rfl
theorem q923 : (Jvm.Cond.fieldLink "HomeCompiler$Hart" (9 : Nat) "HomeCompiler$Hart" "x" "[I") ∈ lw_all := lw_g (lw_at lw_m3 129 rfl) rfl
theorem q927 : (Jvm.Cond.fieldLink "HomeCompiler$Hart" (50 : Nat) "HomeCompiler$Hart" "pc" "I") ∈ lw_all := lw_g (lw_at lw_m3 133 rfl) rfl
theorem q928 : (Jvm.Cond.fieldLink "HomeCompiler$Hart" (15 : Nat) "HomeCompiler$Hart" "mode" "I") ∈ lw_all := lw_g (lw_at lw_m3 134 rfl) rfl
theorem q930 : (Jvm.Cond.fieldLink "HomeCompiler$Hart" (57 : Nat) "HomeCompiler$Hart" "next" "I") ∈ lw_all := lw_g (lw_at lw_m3 136 rfl) rfl
theorem q931 : (Jvm.Cond.laysFinal "HomeCompiler$Hart" "HomeCompiler$Hart" "ram" "LHomeCompiler$Ram;") ∈ lw_all := lw_g (lw_at lw_m3 137 rfl) rfl
theorem q932 : (Jvm.Cond.soleField "HomeCompiler$Hart" "ram") ∈ lw_all := lw_g (lw_at lw_m3 138 rfl) rfl
theorem q933 : (Jvm.Cond.laysFinal "HomeCompiler$Hart" "HomeCompiler$Hart" "controls" "LHomeCompiler$Controls;") ∈ lw_all := lw_g (lw_at lw_m3 139 rfl) rfl
theorem q934 : (Jvm.Cond.soleField "HomeCompiler$Hart" "controls") ∈ lw_all := lw_g (lw_at lw_m3 140 rfl) rfl
theorem q935 : (Jvm.Cond.laysFinal "HomeCompiler$Hart" "HomeCompiler$Hart" "walker" "LHomeCompiler$Walker;") ∈ lw_all := lw_g (lw_at lw_m3 141 rfl) rfl
theorem q936 : (Jvm.Cond.soleField "HomeCompiler$Hart" "walker") ∈ lw_all := lw_g (lw_at lw_m3 142 rfl) rfl
theorem q937 : (Jvm.Cond.laysFinal "HomeCompiler$Hart" "HomeCompiler$Hart" "x" "[I") ∈ lw_all := lw_g (lw_at lw_m3 143 rfl) rfl
theorem q938 : (Jvm.Cond.soleField "HomeCompiler$Hart" "x") ∈ lw_all := lw_g (lw_at lw_m3 144 rfl) rfl
theorem q939 : (Jvm.Cond.lays "HomeCompiler$Hart" "HomeCompiler$Hart" "pc" "I") ∈ lw_all := lw_g (lw_at lw_m3 145 rfl) rfl
theorem q940 : (Jvm.Cond.soleField "HomeCompiler$Hart" "pc") ∈ lw_all := lw_g (lw_at lw_m3 146 rfl) rfl
theorem q941 : (Jvm.Cond.lays "HomeCompiler$Hart" "HomeCompiler$Hart" "mode" "I") ∈ lw_all := lw_g (lw_at lw_m3 147 rfl) rfl
theorem q942 : (Jvm.Cond.soleField "HomeCompiler$Hart" "mode") ∈ lw_all := lw_g (lw_at lw_m3 148 rfl) rfl
theorem q943 : (Jvm.Cond.lays "HomeCompiler$Hart" "HomeCompiler$Hart" "next" "I") ∈ lw_all := lw_g (lw_at lw_m3 149 rfl) rfl
theorem q944 : (Jvm.Cond.soleField "HomeCompiler$Hart" "next") ∈ lw_all := lw_g (lw_at lw_m3 150 rfl) rfl
theorem q945 : (Jvm.Cond.superclass "HomeCompiler$Hart" "java/lang/Object") ∈ lw_all := lw_g (lw_at lw_m3 151 rfl) rfl
theorem q2486 : (Jvm.Cond.instanceMethod ({ cls := "HomeCompiler$Hart", name := "step", desc := "()I" } : Jvm.MethodName)) ∈ lw_all := lw_g (lw_at lw_m10 12 rfl) rfl
theorem q2487 : (Jvm.Cond.selects "HomeCompiler$Hart" ({ cls := "HomeCompiler$Hart", name := "step", desc := "()I" } : Jvm.MethodName) ({ cls := "HomeCompiler$Hart", name := "step", desc := "()I" } : Jvm.MethodName)) ∈ lw_all := lw_g (lw_at lw_m10 13 rfl) rfl
theorem q2488 : (Jvm.Cond.code ({ cls := "HomeCompiler$Hart", name := "step", desc := "()I" } : Jvm.MethodName) prog_9_method_5_code (4 : Nat) (Option.some Jvm.ClassFile.FieldType.int)) ∈ lw_all := lw_g (lw_at lw_m10 14 rfl) rfl
theorem q2489 : (Jvm.Cond.methodLink "HomeCompiler$Hart" (60 : Nat) ({ cls := "HomeCompiler$Controls", name := "due", desc := "()I" } : Jvm.MethodName)) ∈ lw_all := lw_g (lw_at lw_m10 15 rfl) rfl
theorem q2493 : (Jvm.Cond.methodLink "HomeCompiler$Hart" (63 : Nat) ({ cls := "HomeCompiler$Hart", name := "trap", desc := "(II)I" } : Jvm.MethodName)) ∈ lw_all := lw_g (lw_at lw_m10 19 rfl) rfl
theorem q2494 : (Jvm.Cond.privateMethod ({ cls := "HomeCompiler$Hart", name := "trap", desc := "(II)I" } : Jvm.MethodName)) ∈ lw_tbl := lw_at lw_m10 20 rfl
theorem q2495 : (Jvm.Cond.instanceMethod ({ cls := "HomeCompiler$Hart", name := "trap", desc := "(II)I" } : Jvm.MethodName)) ∈ lw_all := lw_g (lw_at lw_m10 21 rfl) rfl
theorem q2496 : (Jvm.Cond.code ({ cls := "HomeCompiler$Hart", name := "trap", desc := "(II)I" } : Jvm.MethodName) prog_9_method_3_code (3 : Nat) (Option.some Jvm.ClassFile.FieldType.int)) ∈ lw_all := lw_g (lw_at lw_m10 22 rfl) rfl
theorem q2497 : (Jvm.Cond.methodLink "HomeCompiler$Hart" (53 : Nat) ({ cls := "HomeCompiler$Controls", name := "trap", desc := "(IIII)I" } : Jvm.MethodName)) ∈ lw_all := lw_g (lw_at lw_m10 23 rfl) rfl
theorem q2507 : (Jvm.Cond.constant "HomeCompiler$Hart" (66 : Nat) (-2147483643 : Int32)) ∈ lw_all := lw_g (lw_at lw_m10 33 rfl) rfl
theorem q2508 : (Jvm.Cond.methodLink "HomeCompiler$Hart" (67 : Nat) ({ cls := "HomeCompiler$Hart", name := "fetch", desc := "()I" } : Jvm.MethodName)) ∈ lw_all := lw_g (lw_at lw_m10 34 rfl) rfl
theorem q2509 : (Jvm.Cond.privateMethod ({ cls := "HomeCompiler$Hart", name := "fetch", desc := "()I" } : Jvm.MethodName)) ∈ lw_tbl := lw_at lw_m10 35 rfl
theorem q2510 : (Jvm.Cond.instanceMethod ({ cls := "HomeCompiler$Hart", name := "fetch", desc := "()I" } : Jvm.MethodName)) ∈ lw_all := lw_g (lw_at lw_m10 36 rfl) rfl
theorem q2511 : (Jvm.Cond.code ({ cls := "HomeCompiler$Hart", name := "fetch", desc := "()I" } : Jvm.MethodName) prog_9_method_6_code (2 : Nat) (Option.some Jvm.ClassFile.FieldType.int)) ∈ lw_all := lw_g (lw_at lw_m10 37 rfl) rfl
theorem q2512 : (Jvm.Cond.methodLink "HomeCompiler$Hart" (73 : Nat) ({ cls := "HomeCompiler$Hart", name := "find", desc := "(II)I" } : Jvm.MethodName)) ∈ lw_all := lw_g (lw_at lw_m10 38 rfl) rfl
theorem q2513 : (Jvm.Cond.instanceMethod ({ cls := "HomeCompiler$Hart", name := "find", desc := "(II)I" } : Jvm.MethodName)) ∈ lw_all := lw_g (lw_at lw_m10 39 rfl) rfl
theorem q2514 : (Jvm.Cond.selects "HomeCompiler$Hart" ({ cls := "HomeCompiler$Hart", name := "find", desc := "(II)I" } : Jvm.MethodName) ({ cls := "HomeCompiler$Hart", name := "find", desc := "(II)I" } : Jvm.MethodName)) ∈ lw_all := lw_g (lw_at lw_m10 40 rfl) rfl
theorem q2515 : (Jvm.Cond.code ({ cls := "HomeCompiler$Hart", name := "find", desc := "(II)I" } : Jvm.MethodName) prog_9_method_2_code (3 : Nat) (Option.some Jvm.ClassFile.FieldType.int)) ∈ lw_all := lw_g (lw_at lw_m10 41 rfl) rfl
theorem q2516 : (Jvm.Cond.methodLink "HomeCompiler$Hart" (36 : Nat) ({ cls := "HomeCompiler$Controls", name := "tables", desc := "()I" } : Jvm.MethodName)) ∈ lw_all := lw_g (lw_at lw_m10 42 rfl) rfl
theorem q2520 : (Jvm.Cond.methodLink "HomeCompiler$Hart" (42 : Nat) ({ cls := "HomeCompiler$Controls", name := "sum", desc := "()Z" } : Jvm.MethodName)) ∈ lw_all := lw_g (lw_at lw_m10 46 rfl) rfl
theorem q2524 : (Jvm.Cond.methodLink "HomeCompiler$Hart" (46 : Nat) ({ cls := "HomeCompiler$Walker", name := "find", desc := "(IIIIZ)I" } : Jvm.MethodName)) ∈ lw_all := lw_g (lw_at lw_m10 50 rfl) rfl
theorem q2567 : (Jvm.Cond.methodLink "HomeCompiler$Hart" (75 : Nat) ({ cls := "HomeCompiler$Ram", name := "operation", desc := "(I)I" } : Jvm.MethodName)) ∈ lw_all := lw_g (lw_at lw_m10 93 rfl) rfl
theorem q2583 : (Jvm.Cond.methodLink "HomeCompiler$Hart" (81 : Nat) ({ cls := "HomeCompiler$Ram", name := "word", desc := "(I)I" } : Jvm.MethodName)) ∈ lw_all := lw_g (lw_at lw_m10 109 rfl) rfl
theorem q2584 : (Jvm.Cond.methodLink "HomeCompiler$Hart" (84 : Nat) ({ cls := "HomeCompiler$Hart", name := "perform", desc := "(II)I" } : Jvm.MethodName)) ∈ lw_all := lw_g (lw_at lw_m10 110 rfl) rfl
theorem q2585 : (Jvm.Cond.privateMethod ({ cls := "HomeCompiler$Hart", name := "perform", desc := "(II)I" } : Jvm.MethodName)) ∈ lw_tbl := lw_at lw_m10 111 rfl
theorem q2586 : (Jvm.Cond.instanceMethod ({ cls := "HomeCompiler$Hart", name := "perform", desc := "(II)I" } : Jvm.MethodName)) ∈ lw_all := lw_g (lw_at lw_m10 112 rfl) rfl
theorem q2587 : (Jvm.Cond.code ({ cls := "HomeCompiler$Hart", name := "perform", desc := "(II)I" } : Jvm.MethodName) prog_9_method_7_code (6 : Nat) (Option.some Jvm.ClassFile.FieldType.int)) ∈ lw_all := lw_g (lw_at lw_m10 113 rfl) rfl
theorem q2588 : (Jvm.Cond.methodLink "HomeCompiler$Hart" (89 : Nat) ({ cls := "HomeCompiler$Hart", name := "special", desc := "(IIII)I" } : Jvm.MethodName)) ∈ lw_all := lw_g (lw_at lw_m10 114 rfl) rfl
theorem q2589 : (Jvm.Cond.privateMethod ({ cls := "HomeCompiler$Hart", name := "special", desc := "(IIII)I" } : Jvm.MethodName)) ∈ lw_tbl := lw_at lw_m10 115 rfl
theorem q2590 : (Jvm.Cond.instanceMethod ({ cls := "HomeCompiler$Hart", name := "special", desc := "(IIII)I" } : Jvm.MethodName)) ∈ lw_all := lw_g (lw_at lw_m10 116 rfl) rfl
theorem q2591 : (Jvm.Cond.code ({ cls := "HomeCompiler$Hart", name := "special", desc := "(IIII)I" } : Jvm.MethodName) prog_9_method_15_code (5 : Nat) (Option.some Jvm.ClassFile.FieldType.int)) ∈ lw_all := lw_g (lw_at lw_m10 117 rfl) rfl
theorem q2592 : (Jvm.Cond.methodLink "HomeCompiler$Hart" (135 : Nat) ({ cls := "HomeCompiler$Controls", name := "back", desc := "()I" } : Jvm.MethodName)) ∈ lw_all := lw_g (lw_at lw_m10 118 rfl) rfl
theorem q2596 : (Jvm.Cond.methodLink "HomeCompiler$Hart" (138 : Nat) ({ cls := "HomeCompiler$Controls", name := "returns", desc := "()I" } : Jvm.MethodName)) ∈ lw_all := lw_g (lw_at lw_m10 122 rfl) rfl
theorem q2600 : (Jvm.Cond.methodLink "HomeCompiler$Hart" (141 : Nat) ({ cls := "HomeCompiler$Hart", name := "control", desc := "(IIII)I" } : Jvm.MethodName)) ∈ lw_all := lw_g (lw_at lw_m10 126 rfl) rfl
theorem q2601 : (Jvm.Cond.privateMethod ({ cls := "HomeCompiler$Hart", name := "control", desc := "(IIII)I" } : Jvm.MethodName)) ∈ lw_tbl := lw_at lw_m10 127 rfl
theorem q2602 : (Jvm.Cond.instanceMethod ({ cls := "HomeCompiler$Hart", name := "control", desc := "(IIII)I" } : Jvm.MethodName)) ∈ lw_all := lw_g (lw_at lw_m10 128 rfl) rfl
theorem q2603 : (Jvm.Cond.code ({ cls := "HomeCompiler$Hart", name := "control", desc := "(IIII)I" } : Jvm.MethodName) prog_9_method_16_code (9 : Nat) (Option.some Jvm.ClassFile.FieldType.int)) ∈ lw_all := lw_g (lw_at lw_m10 129 rfl) rfl
theorem q2604 : (Jvm.Cond.methodLink "HomeCompiler$Hart" (144 : Nat) ({ cls := "HomeCompiler$Controls", name := "place", desc := "(I)I" } : Jvm.MethodName)) ∈ lw_all := lw_g (lw_at lw_m10 130 rfl) rfl
theorem q2607 : (Jvm.Cond.methodLink "HomeCompiler$Hart" (147 : Nat) ({ cls := "HomeCompiler$Controls", name := "get", desc := "(I)I" } : Jvm.MethodName)) ∈ lw_all := lw_g (lw_at lw_m10 133 rfl) rfl
theorem q2611 : (Jvm.Cond.methodLink "HomeCompiler$Hart" (150 : Nat) ({ cls := "HomeCompiler$Controls", name := "set", desc := "(II)V" } : Jvm.MethodName)) ∈ lw_all := lw_g (lw_at lw_m10 137 rfl) rfl
theorem q2612 : (Jvm.Cond.methodLink "HomeCompiler$Hart" (96 : Nat) ({ cls := "HomeCompiler$Hart", name := "set", desc := "(II)V" } : Jvm.MethodName)) ∈ lw_all := lw_g (lw_at lw_m10 138 rfl) rfl
theorem q2613 : (Jvm.Cond.privateMethod ({ cls := "HomeCompiler$Hart", name := "set", desc := "(II)V" } : Jvm.MethodName)) ∈ lw_tbl := lw_at lw_m10 139 rfl
theorem q2614 : (Jvm.Cond.instanceMethod ({ cls := "HomeCompiler$Hart", name := "set", desc := "(II)V" } : Jvm.MethodName)) ∈ lw_all := lw_g (lw_at lw_m10 140 rfl) rfl
theorem q2615 : (Jvm.Cond.code ({ cls := "HomeCompiler$Hart", name := "set", desc := "(II)V" } : Jvm.MethodName) prog_9_method_4_code (3 : Nat) (Option.none : Option Jvm.ClassFile.FieldType)) ∈ lw_all := lw_g (lw_at lw_m10 141 rfl) rfl
theorem q2616 : (Jvm.Cond.methodLink "HomeCompiler$Hart" (92 : Nat) ({ cls := "HomeCompiler$Hart", name := "multiplied", desc := "(III)I" } : Jvm.MethodName)) ∈ lw_all := lw_g (lw_at lw_m10 142 rfl) rfl
theorem q2617 : (Jvm.Cond.static ({ cls := "HomeCompiler$Hart", name := "multiplied", desc := "(III)I" } : Jvm.MethodName)) ∈ lw_all := lw_g (lw_at lw_m10 143 rfl) rfl
theorem q2618 : (Jvm.Cond.code ({ cls := "HomeCompiler$Hart", name := "multiplied", desc := "(III)I" } : Jvm.MethodName) prog_9_method_12_code (7 : Nat) (Option.some Jvm.ClassFile.FieldType.int)) ∈ lw_all := lw_g (lw_at lw_m10 144 rfl) rfl
theorem q2619 : (Jvm.Cond.constantLong "HomeCompiler$Hart" (128 : Nat) (4294967295 : Int64)) ∈ lw_all := lw_g (lw_at lw_m10 145 rfl) rfl
theorem q2620 : (Jvm.Cond.methodLink "HomeCompiler$Hart" (100 : Nat) ({ cls := "HomeCompiler$Hart", name := "reckoned", desc := "(III)I" } : Jvm.MethodName)) ∈ lw_all := lw_g (lw_at lw_m10 146 rfl) rfl
theorem q2621 : (Jvm.Cond.static ({ cls := "HomeCompiler$Hart", name := "reckoned", desc := "(III)I" } : Jvm.MethodName)) ∈ lw_all := lw_g (lw_at lw_m10 147 rfl) rfl
theorem q2622 : (Jvm.Cond.code ({ cls := "HomeCompiler$Hart", name := "reckoned", desc := "(III)I" } : Jvm.MethodName) prog_9_method_10_code (3 : Nat) (Option.some Jvm.ClassFile.FieldType.int)) ∈ lw_all := lw_g (lw_at lw_m10 148 rfl) rfl
theorem q2623 : (Jvm.Cond.methodLink "HomeCompiler$Hart" (125 : Nat) ({ cls := "HomeCompiler$Hart", name := "byF", desc := "(III)I" } : Jvm.MethodName)) ∈ lw_all := lw_g (lw_at lw_m10 149 rfl) rfl
theorem q2624 : (Jvm.Cond.static ({ cls := "HomeCompiler$Hart", name := "byF", desc := "(III)I" } : Jvm.MethodName)) ∈ lw_all := lw_g (lw_at lw_m10 150 rfl) rfl
theorem q2625 : (Jvm.Cond.code ({ cls := "HomeCompiler$Hart", name := "byF", desc := "(III)I" } : Jvm.MethodName) prog_9_method_11_code (3 : Nat) (Option.some Jvm.ClassFile.FieldType.int)) ∈ lw_all := lw_g (lw_at lw_m10 151 rfl) rfl
theorem q2626 : (Jvm.Cond.constant "HomeCompiler$Hart" (124 : Nat) (-2147483648 : Int32)) ∈ lw_all := lw_g (lw_at lw_m10 152 rfl) rfl
theorem q2627 : (Jvm.Cond.methodLink "HomeCompiler$Hart" (103 : Nat) ({ cls := "HomeCompiler$Hart", name := "store", desc := "(III)I" } : Jvm.MethodName)) ∈ lw_all := lw_g (lw_at lw_m10 153 rfl) rfl
theorem q2628 : (Jvm.Cond.privateMethod ({ cls := "HomeCompiler$Hart", name := "store", desc := "(III)I" } : Jvm.MethodName)) ∈ lw_tbl := lw_at lw_m10 154 rfl
theorem q2629 : (Jvm.Cond.instanceMethod ({ cls := "HomeCompiler$Hart", name := "store", desc := "(III)I" } : Jvm.MethodName)) ∈ lw_all := lw_g (lw_at lw_m10 155 rfl) rfl
theorem q2630 : (Jvm.Cond.code ({ cls := "HomeCompiler$Hart", name := "store", desc := "(III)I" } : Jvm.MethodName) prog_9_method_14_code (6 : Nat) (Option.some Jvm.ClassFile.FieldType.int)) ∈ lw_all := lw_g (lw_at lw_m10 156 rfl) rfl
theorem q2631 : (Jvm.Cond.methodLink "HomeCompiler$Hart" (131 : Nat) ({ cls := "HomeCompiler$Ram", name := "writePart", desc := "(III)V" } : Jvm.MethodName)) ∈ lw_all := lw_g (lw_at lw_m10 157 rfl) rfl
theorem q2636 : (Jvm.Cond.methodLink "HomeCompiler$Hart" (106 : Nat) ({ cls := "HomeCompiler$Hart", name := "load", desc := "(III)I" } : Jvm.MethodName)) ∈ lw_all := lw_g (lw_at lw_m10 162 rfl) rfl
theorem q2637 : (Jvm.Cond.privateMethod ({ cls := "HomeCompiler$Hart", name := "load", desc := "(III)I" } : Jvm.MethodName)) ∈ lw_tbl := lw_at lw_m10 163 rfl
theorem q2638 : (Jvm.Cond.instanceMethod ({ cls := "HomeCompiler$Hart", name := "load", desc := "(III)I" } : Jvm.MethodName)) ∈ lw_all := lw_g (lw_at lw_m10 164 rfl) rfl
theorem q2639 : (Jvm.Cond.code ({ cls := "HomeCompiler$Hart", name := "load", desc := "(III)I" } : Jvm.MethodName) prog_9_method_13_code (7 : Nat) (Option.some Jvm.ClassFile.FieldType.int)) ∈ lw_all := lw_g (lw_at lw_m10 165 rfl) rfl
theorem q2640 : (Jvm.Cond.constant "HomeCompiler$Hart" (130 : Nat) (65535 : Int32)) ∈ lw_all := lw_g (lw_at lw_m10 166 rfl) rfl
theorem q2641 : (Jvm.Cond.methodLink "HomeCompiler$Hart" (109 : Nat) ({ cls := "HomeCompiler$Hart", name := "isTaken", desc := "(III)Z" } : Jvm.MethodName)) ∈ lw_all := lw_g (lw_at lw_m10 167 rfl) rfl
theorem q2642 : (Jvm.Cond.static ({ cls := "HomeCompiler$Hart", name := "isTaken", desc := "(III)Z" } : Jvm.MethodName)) ∈ lw_all := lw_g (lw_at lw_m10 168 rfl) rfl
theorem q2643 : (Jvm.Cond.code ({ cls := "HomeCompiler$Hart", name := "isTaken", desc := "(III)Z" } : Jvm.MethodName) prog_9_method_9_code (4 : Nat) (Option.some Jvm.ClassFile.FieldType.boolean)) ∈ lw_all := lw_g (lw_at lw_m10 169 rfl) rfl
theorem q2644 : (Jvm.Cond.methodLink "HomeCompiler$Hart" (113 : Nat) ({ cls := "HomeCompiler$Decoder", name := "offset", desc := "(I)I" } : Jvm.MethodName)) ∈ lw_all := lw_g (lw_at lw_m10 170 rfl) rfl
theorem q2647 : (Jvm.Cond.methodLink "HomeCompiler$Hart" (116 : Nat) ({ cls := "HomeCompiler$Hart", name := "go", desc := "(II)I" } : Jvm.MethodName)) ∈ lw_all := lw_g (lw_at lw_m10 173 rfl) rfl
theorem q2648 : (Jvm.Cond.privateMethod ({ cls := "HomeCompiler$Hart", name := "go", desc := "(II)I" } : Jvm.MethodName)) ∈ lw_tbl := lw_at lw_m10 174 rfl
theorem q2649 : (Jvm.Cond.instanceMethod ({ cls := "HomeCompiler$Hart", name := "go", desc := "(II)I" } : Jvm.MethodName)) ∈ lw_all := lw_g (lw_at lw_m10 175 rfl) rfl
theorem q2650 : (Jvm.Cond.code ({ cls := "HomeCompiler$Hart", name := "go", desc := "(II)I" } : Jvm.MethodName) prog_9_method_8_code (3 : Nat) (Option.some Jvm.ClassFile.FieldType.int)) ∈ lw_all := lw_g (lw_at lw_m10 176 rfl) rfl
theorem q2651 : (Jvm.Cond.methodLink "HomeCompiler$Hart" (119 : Nat) ({ cls := "HomeCompiler$Decoder", name := "jump", desc := "(I)I" } : Jvm.MethodName)) ∈ lw_all := lw_g (lw_at lw_m10 177 rfl) rfl
theorem q2654 : (Jvm.Cond.methodLink "HomeCompiler$Hart" (70 : Nat) ({ cls := "HomeCompiler$Controls", name := "count", desc := "()V" } : Jvm.MethodName)) ∈ lw_all := lw_g (lw_at lw_m10 180 rfl) rfl
theorem in_X19 : ∀ w ∈ wsX190, w ∈ lw_all := lw_in wsX190 [931, 933, 935, 937, 939, 941, 943] (by decide +kernel) (by decide +kernel)
/-! X2.HomeCompiler_Words.lean.txt -/
def RX2 : String := "HomeCompiler$Words"
def TX2 : u_T := fun k => match k with
  | 0 => ("HomeCompiler$Words", "all", "[Ljava/lang/String;", true)
  | 1 => ("HomeCompiler$Words", "given", "[Ljava/lang/String;", true)
  | _ => ("HomeCompiler$Words", "takes", "[Ljava/lang/String;", true)
def tyX2 : Nat → FieldType := fun k => match k with
  | 0 => .array (.object "java/lang/String")
  | 1 => .array (.object "java/lang/String")
  | _ => .array (.object "java/lang/String")
abbrev wsX20 : List Cond := u_ws RX2 TX2 3
theorem nmX2 : ∀ a, a < 3 → ∀ b, b < 3 → a ≠ b → (TX2 a).2.1 ≠ (TX2 b).2.1 := by decide +kernel
theorem tyX2_ok : ∀ k, k < 3 → parseFieldDescriptor (TX2 k).2.2.1 = some (tyX2 k) := by decide +kernel
abbrev cX2_init : ByteArray := prog_20_method_1_code
def yX2_init : MethodName := ⟨RX2, "<init>", "()V"⟩
abbrev cX2_find : ByteArray := prog_20_method_7_code
def yX2_find : MethodName := ⟨RX2, "find", "(LHomeCompiler$Bytes;II)I"⟩
abbrev cX2_is : ByteArray := prog_20_method_6_code
def yX2_is : MethodName := ⟨RX2, "is", "(LHomeCompiler$Bytes;IILjava/lang/String;)Z"⟩
abbrev cX2_given : ByteArray := prog_20_method_4_code
def yX2_given : MethodName := ⟨RX2, "given", "(I)Ljava/lang/String;"⟩
abbrev cX2_takes : ByteArray := prog_20_method_5_code
def yX2_takes : MethodName := ⟨RX2, "takes", "(I)Ljava/lang/String;"⟩
abbrev cX2_isTold : ByteArray := prog_20_method_2_code
def yX2_isTold : MethodName := ⟨RX2, "isTold", "(I)Z"⟩
theorem q316 : (Jvm.Cond.initialized "HomeCompiler$Words") ∈ lw_all := lw_g (lw_at lw_m1 2 rfl) rfl
theorem q360 : (Jvm.Cond.instantiable "HomeCompiler$Words" (3 : Nat)) ∈ lw_all := lw_g (lw_at lw_m1 46 rfl) rfl
theorem q362 : (Jvm.Cond.instanceMethod ({ cls := "HomeCompiler$Words", name := "<init>", desc := "()V" } : Jvm.MethodName)) ∈ lw_all := lw_g (lw_at lw_m1 48 rfl) rfl
theorem q363 : (Jvm.Cond.code ({ cls := "HomeCompiler$Words", name := "<init>", desc := "()V" } : Jvm.MethodName) prog_20_method_1_code (1 : Nat) (Option.none : Option Jvm.ClassFile.FieldType)) ∈ lw_all := lw_g (lw_at lw_m1 49 rfl) rfl
theorem q364 : (Jvm.Cond.methodLink "HomeCompiler$Words" (3 : Nat) ({ cls := "java/lang/Object", name := "<init>", desc := "()V" } : Jvm.MethodName)) ∈ lw_all := lw_g (lw_at lw_m1 50 rfl) rfl
theorem q365 : (Jvm.Cond.classLink "HomeCompiler$Words" (9 : Nat) "java/lang/String") ∈ lw_all := lw_g (lw_at lw_m1 51 rfl) rfl
theorem q367 : (Jvm.Cond.stringRef "HomeCompiler$Words" (11 : Nat) "int") ∈ lw_tbl := lw_at lw_m1 53 rfl
theorem q368 : (Jvm.Cond.stringRef "HomeCompiler$Words" (13 : Nat) "char") ∈ lw_tbl := lw_at lw_m1 54 rfl
theorem q369 : (Jvm.Cond.stringRef "HomeCompiler$Words" (15 : Nat) "void") ∈ lw_tbl := lw_at lw_m1 55 rfl
theorem q370 : (Jvm.Cond.stringRef "HomeCompiler$Words" (17 : Nat) "enum") ∈ lw_tbl := lw_at lw_m1 56 rfl
theorem q371 : (Jvm.Cond.stringRef "HomeCompiler$Words" (19 : Nat) "if") ∈ lw_tbl := lw_at lw_m1 57 rfl
theorem q372 : (Jvm.Cond.stringRef "HomeCompiler$Words" (21 : Nat) "else") ∈ lw_tbl := lw_at lw_m1 58 rfl
theorem q373 : (Jvm.Cond.stringRef "HomeCompiler$Words" (23 : Nat) "while") ∈ lw_tbl := lw_at lw_m1 59 rfl
theorem q374 : (Jvm.Cond.stringRef "HomeCompiler$Words" (25 : Nat) "do") ∈ lw_tbl := lw_at lw_m1 60 rfl
theorem q375 : (Jvm.Cond.stringRef "HomeCompiler$Words" (27 : Nat) "for") ∈ lw_tbl := lw_at lw_m1 61 rfl
theorem q376 : (Jvm.Cond.stringRef "HomeCompiler$Words" (29 : Nat) "switch") ∈ lw_tbl := lw_at lw_m1 62 rfl
theorem q377 : (Jvm.Cond.stringRef "HomeCompiler$Words" (31 : Nat) "case") ∈ lw_tbl := lw_at lw_m1 63 rfl
theorem q378 : (Jvm.Cond.stringRef "HomeCompiler$Words" (33 : Nat) "default") ∈ lw_tbl := lw_at lw_m1 64 rfl
theorem q379 : (Jvm.Cond.stringRef "HomeCompiler$Words" (35 : Nat) "break") ∈ lw_tbl := lw_at lw_m1 65 rfl
theorem q380 : (Jvm.Cond.stringRef "HomeCompiler$Words" (37 : Nat) "continue") ∈ lw_tbl := lw_at lw_m1 66 rfl
theorem q381 : (Jvm.Cond.stringRef "HomeCompiler$Words" (39 : Nat) "return") ∈ lw_tbl := lw_at lw_m1 67 rfl
theorem q382 : (Jvm.Cond.stringRef "HomeCompiler$Words" (47 : Nat) "len") ∈ lw_tbl := lw_at lw_m1 68 rfl
theorem q383 : (Jvm.Cond.stringRef "HomeCompiler$Words" (49 : Nat) "put") ∈ lw_tbl := lw_at lw_m1 69 rfl
theorem q384 : (Jvm.Cond.stringRef "HomeCompiler$Words" (51 : Nat) "send") ∈ lw_tbl := lw_at lw_m1 70 rfl
theorem q385 : (Jvm.Cond.stringRef "HomeCompiler$Words" (53 : Nat) "recv") ∈ lw_tbl := lw_at lw_m1 71 rfl
theorem q386 : (Jvm.Cond.stringRef "HomeCompiler$Words" (55 : Nat) "more") ∈ lw_tbl := lw_at lw_m1 72 rfl
theorem q387 : (Jvm.Cond.stringRef "HomeCompiler$Words" (57 : Nat) "spawn") ∈ lw_tbl := lw_at lw_m1 73 rfl
theorem q388 : (Jvm.Cond.stringRef "HomeCompiler$Words" (59 : Nat) "wait") ∈ lw_tbl := lw_at lw_m1 74 rfl
theorem q389 : (Jvm.Cond.stringRef "HomeCompiler$Words" (61 : Nat) "get") ∈ lw_tbl := lw_at lw_m1 75 rfl
theorem q390 : (Jvm.Cond.stringRef "HomeCompiler$Words" (63 : Nat) "set") ∈ lw_tbl := lw_at lw_m1 76 rfl
theorem q391 : (Jvm.Cond.stringRef "HomeCompiler$Words" (65 : Nat) "end") ∈ lw_tbl := lw_at lw_m1 77 rfl
theorem q392 : (Jvm.Cond.stringRef "HomeCompiler$Words" (67 : Nat) "load") ∈ lw_tbl := lw_at lw_m1 78 rfl
theorem q393 : (Jvm.Cond.stringRef "HomeCompiler$Words" (69 : Nat) "store") ∈ lw_tbl := lw_at lw_m1 79 rfl
theorem q394 : (Jvm.Cond.stringRef "HomeCompiler$Words" (71 : Nat) "control") ∈ lw_tbl := lw_at lw_m1 80 rfl
theorem q395 : (Jvm.Cond.stringRef "HomeCompiler$Words" (73 : Nat) "setcontrol") ∈ lw_tbl := lw_at lw_m1 81 rfl
theorem q396 : (Jvm.Cond.stringRef "HomeCompiler$Words" (75 : Nat) "host") ∈ lw_tbl := lw_at lw_m1 82 rfl
theorem q397 : (Jvm.Cond.stringRef "HomeCompiler$Words" (80 : Nat) "ib") ∈ lw_tbl := lw_at lw_m1 83 rfl
theorem q398 : (Jvm.Cond.stringRef "HomeCompiler$Words" (82 : Nat) "vi") ∈ lw_tbl := lw_at lw_m1 84 rfl
theorem q399 : (Jvm.Cond.stringRef "HomeCompiler$Words" (84 : Nat) "vii") ∈ lw_tbl := lw_at lw_m1 85 rfl
theorem q400 : (Jvm.Cond.stringRef "HomeCompiler$Words" (86 : Nat) "ii") ∈ lw_tbl := lw_at lw_m1 86 rfl
theorem q401 : (Jvm.Cond.stringRef "HomeCompiler$Words" (88 : Nat) "iii") ∈ lw_tbl := lw_at lw_m1 87 rfl
theorem q402 : (Jvm.Cond.stringRef "HomeCompiler$Words" (90 : Nat) "via") ∈ lw_tbl := lw_at lw_m1 88 rfl
theorem q403 : (Jvm.Cond.stringRef "HomeCompiler$Words" (92 : Nat) "ik") ∈ lw_tbl := lw_at lw_m1 89 rfl
theorem q404 : (Jvm.Cond.stringRef "HomeCompiler$Words" (94 : Nat) "vki") ∈ lw_tbl := lw_at lw_m1 90 rfl
theorem q405 : (Jvm.Cond.stringRef "HomeCompiler$Words" (96 : Nat) "iiii") ∈ lw_tbl := lw_at lw_m1 91 rfl
theorem q406 : (Jvm.Cond.fieldLink "HomeCompiler$Words" (41 : Nat) "HomeCompiler$Words" "all" "[Ljava/lang/String;") ∈ lw_all := lw_g (lw_at lw_m1 92 rfl) rfl
theorem q407 : (Jvm.Cond.fieldLink "HomeCompiler$Words" (77 : Nat) "HomeCompiler$Words" "given" "[Ljava/lang/String;") ∈ lw_all := lw_g (lw_at lw_m1 93 rfl) rfl
theorem q408 : (Jvm.Cond.fieldLink "HomeCompiler$Words" (98 : Nat) "HomeCompiler$Words" "takes" "[Ljava/lang/String;") ∈ lw_all := lw_g (lw_at lw_m1 94 rfl) rfl
theorem q409 : (Jvm.Cond.laysFinal "HomeCompiler$Words" "HomeCompiler$Words" "all" "[Ljava/lang/String;") ∈ lw_all := lw_g (lw_at lw_m1 95 rfl) rfl
theorem q410 : (Jvm.Cond.soleField "HomeCompiler$Words" "all") ∈ lw_all := lw_g (lw_at lw_m1 96 rfl) rfl
theorem q411 : (Jvm.Cond.laysFinal "HomeCompiler$Words" "HomeCompiler$Words" "given" "[Ljava/lang/String;") ∈ lw_all := lw_g (lw_at lw_m1 97 rfl) rfl
theorem q412 : (Jvm.Cond.soleField "HomeCompiler$Words" "given") ∈ lw_all := lw_g (lw_at lw_m1 98 rfl) rfl
theorem q413 : (Jvm.Cond.laysFinal "HomeCompiler$Words" "HomeCompiler$Words" "takes" "[Ljava/lang/String;") ∈ lw_all := lw_g (lw_at lw_m1 99 rfl) rfl
theorem q414 : (Jvm.Cond.soleField "HomeCompiler$Words" "takes") ∈ lw_all := lw_g (lw_at lw_m1 100 rfl) rfl
theorem q415 : (Jvm.Cond.superclass "HomeCompiler$Words" "java/lang/Object") ∈ lw_all := lw_g (lw_at lw_m1 101 rfl) rfl
theorem q1107 : (Jvm.Cond.instanceMethod ({ cls := "HomeCompiler$Words", name := "find", desc := "(LHomeCompiler$Bytes;II)I" } : Jvm.MethodName)) ∈ lw_all := lw_g (lw_at lw_m4 73 rfl) rfl
theorem q1108 : (Jvm.Cond.selects "HomeCompiler$Words" ({ cls := "HomeCompiler$Words", name := "find", desc := "(LHomeCompiler$Bytes;II)I" } : Jvm.MethodName) ({ cls := "HomeCompiler$Words", name := "find", desc := "(LHomeCompiler$Bytes;II)I" } : Jvm.MethodName)) ∈ lw_all := lw_g (lw_at lw_m4 74 rfl) rfl
theorem q1109 : (Jvm.Cond.code ({ cls := "HomeCompiler$Words", name := "find", desc := "(LHomeCompiler$Bytes;II)I" } : Jvm.MethodName) prog_20_method_7_code (6 : Nat) (Option.some Jvm.ClassFile.FieldType.int)) ∈ lw_all := lw_g (lw_at lw_m4 75 rfl) rfl
theorem q1110 : (Jvm.Cond.methodLink "HomeCompiler$Words" (115 : Nat) ({ cls := "HomeCompiler$Words", name := "is", desc := "(LHomeCompiler$Bytes;IILjava/lang/String;)Z" } : Jvm.MethodName)) ∈ lw_all := lw_g (lw_at lw_m4 76 rfl) rfl
theorem q1111 : (Jvm.Cond.static ({ cls := "HomeCompiler$Words", name := "is", desc := "(LHomeCompiler$Bytes;IILjava/lang/String;)Z" } : Jvm.MethodName)) ∈ lw_all := lw_g (lw_at lw_m4 77 rfl) rfl
theorem q1112 : (Jvm.Cond.code ({ cls := "HomeCompiler$Words", name := "is", desc := "(LHomeCompiler$Bytes;IILjava/lang/String;)Z" } : Jvm.MethodName) prog_20_method_6_code (6 : Nat) (Option.some Jvm.ClassFile.FieldType.boolean)) ∈ lw_all := lw_g (lw_at lw_m4 78 rfl) rfl
theorem q1113 : (Jvm.Cond.methodLink "HomeCompiler$Words" (101 : Nat) ({ cls := "java/lang/String", name := "length", desc := "()I" } : Jvm.MethodName)) ∈ lw_all := lw_g (lw_at lw_m4 79 rfl) rfl
theorem q1123 : (Jvm.Cond.methodLink "HomeCompiler$Words" (105 : Nat) ({ cls := "HomeCompiler$Bytes", name := "at", desc := "(I)I" } : Jvm.MethodName)) ∈ lw_all := lw_g (lw_at lw_m4 89 rfl) rfl
theorem q1124 : (Jvm.Cond.methodLink "HomeCompiler$Words" (111 : Nat) ({ cls := "java/lang/String", name := "charAt", desc := "(I)C" } : Jvm.MethodName)) ∈ lw_all := lw_g (lw_at lw_m4 90 rfl) rfl
theorem q1554 : (Jvm.Cond.instanceMethod ({ cls := "HomeCompiler$Words", name := "given", desc := "(I)Ljava/lang/String;" } : Jvm.MethodName)) ∈ lw_all := lw_g (lw_at lw_m6 40 rfl) rfl
theorem q1555 : (Jvm.Cond.selects "HomeCompiler$Words" ({ cls := "HomeCompiler$Words", name := "given", desc := "(I)Ljava/lang/String;" } : Jvm.MethodName) ({ cls := "HomeCompiler$Words", name := "given", desc := "(I)Ljava/lang/String;" } : Jvm.MethodName)) ∈ lw_all := lw_g (lw_at lw_m6 41 rfl) rfl
theorem q1556 : (Jvm.Cond.code ({ cls := "HomeCompiler$Words", name := "given", desc := "(I)Ljava/lang/String;" } : Jvm.MethodName) prog_20_method_4_code (2 : Nat) (Option.some (Jvm.ClassFile.FieldType.object "java/lang/String"))) ∈ lw_all := lw_g (lw_at lw_m6 42 rfl) rfl
theorem q1667 : (Jvm.Cond.instanceMethod ({ cls := "HomeCompiler$Words", name := "takes", desc := "(I)Ljava/lang/String;" } : Jvm.MethodName)) ∈ lw_all := lw_g (lw_at lw_m6 153 rfl) rfl
theorem q1668 : (Jvm.Cond.selects "HomeCompiler$Words" ({ cls := "HomeCompiler$Words", name := "takes", desc := "(I)Ljava/lang/String;" } : Jvm.MethodName) ({ cls := "HomeCompiler$Words", name := "takes", desc := "(I)Ljava/lang/String;" } : Jvm.MethodName)) ∈ lw_all := lw_g (lw_at lw_m6 154 rfl) rfl
theorem q1669 : (Jvm.Cond.code ({ cls := "HomeCompiler$Words", name := "takes", desc := "(I)Ljava/lang/String;" } : Jvm.MethodName) prog_20_method_5_code (2 : Nat) (Option.some (Jvm.ClassFile.FieldType.object "java/lang/String"))) ∈ lw_all := lw_g (lw_at lw_m6 155 rfl) rfl
theorem q1821 : (Jvm.Cond.static ({ cls := "HomeCompiler$Words", name := "isTold", desc := "(I)Z" } : Jvm.MethodName)) ∈ lw_all := lw_g (lw_at lw_m7 67 rfl) rfl
theorem q1822 : (Jvm.Cond.code ({ cls := "HomeCompiler$Words", name := "isTold", desc := "(I)Z" } : Jvm.MethodName) prog_20_method_2_code (1 : Nat) (Option.some Jvm.ClassFile.FieldType.boolean)) ∈ lw_all := lw_g (lw_at lw_m7 68 rfl) rfl
theorem in_X2 : ∀ w ∈ wsX20, w ∈ lw_all := lw_in wsX20 [409, 411, 413] (by decide +kernel) (by decide +kernel)
/-! X20.HomeCompiler_Walker.lean.txt -/
def RX20 : String := "HomeCompiler$Walker"
def TX20 : u_T := fun k => match k with
  | 0 => ("HomeCompiler$Walker", "ram", "LHomeCompiler$Ram;", true)
  | 1 => ("HomeCompiler$Walker", "tags", "[I", true)
  | 2 => ("HomeCompiler$Walker", "bases", "[I", true)
  | 3 => ("HomeCompiler$Walker", "tables", "I", false)
  | _ => ("HomeCompiler$Walker", "changes", "I", false)
def tyX20 : Nat → FieldType := fun k => match k with
  | 0 => .object "HomeCompiler$Ram"
  | 1 => .array .int
  | 2 => .array .int
  | 3 => .int
  | _ => .int
abbrev wsX200 : List Cond := u_ws RX20 TX20 5
theorem nmX20 : ∀ a, a < 5 → ∀ b, b < 5 → a ≠ b → (TX20 a).2.1 ≠ (TX20 b).2.1 := by decide +kernel
theorem tyX20_ok : ∀ k, k < 5 → parseFieldDescriptor (TX20 k).2.2.1 = some (tyX20 k) := by decide +kernel
abbrev cX20_init : ByteArray := prog_19_method_1_code
def yX20_init : MethodName := ⟨RX20, "<init>", "(LHomeCompiler$Ram;)V"⟩
abbrev cX20_find : ByteArray := prog_19_method_5_code
def yX20_find : MethodName := ⟨RX20, "find", "(IIIIZ)I"⟩
abbrev cX20_access : ByteArray := prog_19_method_2_code
def yX20_access : MethodName := ⟨RX20, "access", "(I)I"⟩
abbrev cX20_forget : ByteArray := prog_19_method_4_code
def yX20_forget : MethodName := ⟨RX20, "forget", "()V"⟩
abbrev cX20_walk : ByteArray := prog_19_method_6_code
def yX20_walk : MethodName := ⟨RX20, "walk", "(IIIZ)I"⟩
abbrev cX20_isGood : ByteArray := prog_19_method_7_code
def yX20_isGood : MethodName := ⟨RX20, "isGood", "(IIIZ)Z"⟩
abbrev cX20_page : ByteArray := prog_19_method_3_code
def yX20_page : MethodName := ⟨RX20, "page", "(I)I"⟩
theorem q334 : (Jvm.Cond.initialized "HomeCompiler$Walker") ∈ lw_all := lw_g (lw_at lw_m1 20 rfl) rfl
theorem q899 : (Jvm.Cond.instantiable "HomeCompiler$Walker" (5 : Nat)) ∈ lw_all := lw_g (lw_at lw_m3 105 rfl) rfl
theorem q901 : (Jvm.Cond.instanceMethod ({ cls := "HomeCompiler$Walker", name := "<init>", desc := "(LHomeCompiler$Ram;)V" } : Jvm.MethodName)) ∈ lw_all := lw_g (lw_at lw_m3 107 rfl) rfl
theorem q902 : (Jvm.Cond.code ({ cls := "HomeCompiler$Walker", name := "<init>", desc := "(LHomeCompiler$Ram;)V" } : Jvm.MethodName) prog_19_method_1_code (2 : Nat) (Option.none : Option Jvm.ClassFile.FieldType)) ∈ lw_all := lw_g (lw_at lw_m3 108 rfl) rfl
theorem q903 : (Jvm.Cond.methodLink "HomeCompiler$Walker" (1 : Nat) ({ cls := "java/lang/Object", name := "<init>", desc := "()V" } : Jvm.MethodName)) ∈ lw_all := lw_g (lw_at lw_m3 109 rfl) rfl
theorem q904 : (Jvm.Cond.fieldLink "HomeCompiler$Walker" (16 : Nat) "HomeCompiler$Walker" "ram" "LHomeCompiler$Ram;") ∈ lw_all := lw_g (lw_at lw_m3 110 rfl) rfl
theorem q905 : (Jvm.Cond.fieldLink "HomeCompiler$Walker" (7 : Nat) "HomeCompiler$Walker" "tags" "[I") ∈ lw_all := lw_g (lw_at lw_m3 111 rfl) rfl
theorem q906 : (Jvm.Cond.fieldLink "HomeCompiler$Walker" (13 : Nat) "HomeCompiler$Walker" "bases" "[I") ∈ lw_all := lw_g (lw_at lw_m3 112 rfl) rfl
theorem q907 : (Jvm.Cond.fieldLink "HomeCompiler$Walker" (33 : Nat) "HomeCompiler$Walker" "tables" "I") ∈ lw_all := lw_g (lw_at lw_m3 113 rfl) rfl
theorem q908 : (Jvm.Cond.fieldLink "HomeCompiler$Walker" (37 : Nat) "HomeCompiler$Walker" "changes" "I") ∈ lw_all := lw_g (lw_at lw_m3 114 rfl) rfl
theorem q909 : (Jvm.Cond.laysFinal "HomeCompiler$Walker" "HomeCompiler$Walker" "ram" "LHomeCompiler$Ram;") ∈ lw_all := lw_g (lw_at lw_m3 115 rfl) rfl
theorem q910 : (Jvm.Cond.soleField "HomeCompiler$Walker" "ram") ∈ lw_all := lw_g (lw_at lw_m3 116 rfl) rfl
theorem q911 : (Jvm.Cond.laysFinal "HomeCompiler$Walker" "HomeCompiler$Walker" "tags" "[I") ∈ lw_all := lw_g (lw_at lw_m3 117 rfl) rfl
theorem q912 : (Jvm.Cond.soleField "HomeCompiler$Walker" "tags") ∈ lw_all := lw_g (lw_at lw_m3 118 rfl) rfl
theorem q913 : (Jvm.Cond.laysFinal "HomeCompiler$Walker" "HomeCompiler$Walker" "bases" "[I") ∈ lw_all := lw_g (lw_at lw_m3 119 rfl) rfl
theorem q914 : (Jvm.Cond.soleField "HomeCompiler$Walker" "bases") ∈ lw_all := lw_g (lw_at lw_m3 120 rfl) rfl
theorem q915 : (Jvm.Cond.lays "HomeCompiler$Walker" "HomeCompiler$Walker" "tables" "I") ∈ lw_all := lw_g (lw_at lw_m3 121 rfl) rfl
theorem q916 : (Jvm.Cond.soleField "HomeCompiler$Walker" "tables") ∈ lw_all := lw_g (lw_at lw_m3 122 rfl) rfl
theorem q917 : (Jvm.Cond.lays "HomeCompiler$Walker" "HomeCompiler$Walker" "changes" "I") ∈ lw_all := lw_g (lw_at lw_m3 123 rfl) rfl
theorem q918 : (Jvm.Cond.soleField "HomeCompiler$Walker" "changes") ∈ lw_all := lw_g (lw_at lw_m3 124 rfl) rfl
theorem q919 : (Jvm.Cond.superclass "HomeCompiler$Walker" "java/lang/Object") ∈ lw_all := lw_g (lw_at lw_m3 125 rfl) rfl
theorem q2525 : (Jvm.Cond.instanceMethod ({ cls := "HomeCompiler$Walker", name := "find", desc := "(IIIIZ)I" } : Jvm.MethodName)) ∈ lw_all := lw_g (lw_at lw_m10 51 rfl) rfl
theorem q2526 : (Jvm.Cond.selects "HomeCompiler$Walker" ({ cls := "HomeCompiler$Walker", name := "find", desc := "(IIIIZ)I" } : Jvm.MethodName) ({ cls := "HomeCompiler$Walker", name := "find", desc := "(IIIIZ)I" } : Jvm.MethodName)) ∈ lw_all := lw_g (lw_at lw_m10 52 rfl) rfl
theorem q2527 : (Jvm.Cond.code ({ cls := "HomeCompiler$Walker", name := "find", desc := "(IIIIZ)I" } : Jvm.MethodName) prog_19_method_5_code (10 : Nat) (Option.some Jvm.ClassFile.FieldType.int)) ∈ lw_all := lw_g (lw_at lw_m10 53 rfl) rfl
theorem q2528 : (Jvm.Cond.methodLink "HomeCompiler$Walker" (25 : Nat) ({ cls := "HomeCompiler$Ram", name := "has", desc := "(I)Z" } : Jvm.MethodName)) ∈ lw_all := lw_g (lw_at lw_m10 54 rfl) rfl
theorem q2532 : (Jvm.Cond.methodLink "HomeCompiler$Walker" (29 : Nat) ({ cls := "HomeCompiler$Walker", name := "access", desc := "(I)I" } : Jvm.MethodName)) ∈ lw_all := lw_g (lw_at lw_m10 58 rfl) rfl
theorem q2533 : (Jvm.Cond.static ({ cls := "HomeCompiler$Walker", name := "access", desc := "(I)I" } : Jvm.MethodName)) ∈ lw_all := lw_g (lw_at lw_m10 59 rfl) rfl
theorem q2534 : (Jvm.Cond.code ({ cls := "HomeCompiler$Walker", name := "access", desc := "(I)I" } : Jvm.MethodName) prog_19_method_2_code (1 : Nat) (Option.some Jvm.ClassFile.FieldType.int)) ∈ lw_all := lw_g (lw_at lw_m10 60 rfl) rfl
theorem q2535 : (Jvm.Cond.methodLink "HomeCompiler$Walker" (40 : Nat) ({ cls := "HomeCompiler$Ram", name := "changes", desc := "()I" } : Jvm.MethodName)) ∈ lw_all := lw_g (lw_at lw_m10 61 rfl) rfl
theorem q2539 : (Jvm.Cond.methodLink "HomeCompiler$Walker" (43 : Nat) ({ cls := "HomeCompiler$Walker", name := "forget", desc := "()V" } : Jvm.MethodName)) ∈ lw_all := lw_g (lw_at lw_m10 65 rfl) rfl
theorem q2540 : (Jvm.Cond.privateMethod ({ cls := "HomeCompiler$Walker", name := "forget", desc := "()V" } : Jvm.MethodName)) ∈ lw_tbl := lw_at lw_m10 66 rfl
theorem q2541 : (Jvm.Cond.instanceMethod ({ cls := "HomeCompiler$Walker", name := "forget", desc := "()V" } : Jvm.MethodName)) ∈ lw_all := lw_g (lw_at lw_m10 67 rfl) rfl
theorem q2542 : (Jvm.Cond.code ({ cls := "HomeCompiler$Walker", name := "forget", desc := "()V" } : Jvm.MethodName) prog_19_method_4_code (2 : Nat) (Option.none : Option Jvm.ClassFile.FieldType)) ∈ lw_all := lw_g (lw_at lw_m10 68 rfl) rfl
theorem q2543 : (Jvm.Cond.methodLink "HomeCompiler$Walker" (20 : Nat) ({ cls := "HomeCompiler$Ram", name := "forget", desc := "()V" } : Jvm.MethodName)) ∈ lw_all := lw_g (lw_at lw_m10 69 rfl) rfl
theorem q2547 : (Jvm.Cond.constant "HomeCompiler$Walker" (44 : Nat) (1073741824 : Int32)) ∈ lw_all := lw_g (lw_at lw_m10 73 rfl) rfl
theorem q2548 : (Jvm.Cond.methodLink "HomeCompiler$Walker" (45 : Nat) ({ cls := "HomeCompiler$Walker", name := "walk", desc := "(IIIZ)I" } : Jvm.MethodName)) ∈ lw_all := lw_g (lw_at lw_m10 74 rfl) rfl
theorem q2549 : (Jvm.Cond.privateMethod ({ cls := "HomeCompiler$Walker", name := "walk", desc := "(IIIZ)I" } : Jvm.MethodName)) ∈ lw_tbl := lw_at lw_m10 75 rfl
theorem q2550 : (Jvm.Cond.instanceMethod ({ cls := "HomeCompiler$Walker", name := "walk", desc := "(IIIZ)I" } : Jvm.MethodName)) ∈ lw_all := lw_g (lw_at lw_m10 76 rfl) rfl
theorem q2551 : (Jvm.Cond.code ({ cls := "HomeCompiler$Walker", name := "walk", desc := "(IIIZ)I" } : Jvm.MethodName) prog_19_method_6_code (9 : Nat) (Option.some Jvm.ClassFile.FieldType.int)) ∈ lw_all := lw_g (lw_at lw_m10 77 rfl) rfl
theorem q2552 : (Jvm.Cond.methodLink "HomeCompiler$Walker" (49 : Nat) ({ cls := "HomeCompiler$Ram", name := "watch", desc := "(I)V" } : Jvm.MethodName)) ∈ lw_all := lw_g (lw_at lw_m10 78 rfl) rfl
theorem q2556 : (Jvm.Cond.methodLink "HomeCompiler$Walker" (53 : Nat) ({ cls := "HomeCompiler$Ram", name := "word", desc := "(I)I" } : Jvm.MethodName)) ∈ lw_all := lw_g (lw_at lw_m10 82 rfl) rfl
theorem q2560 : (Jvm.Cond.methodLink "HomeCompiler$Walker" (56 : Nat) ({ cls := "HomeCompiler$Walker", name := "isGood", desc := "(IIIZ)Z" } : Jvm.MethodName)) ∈ lw_all := lw_g (lw_at lw_m10 86 rfl) rfl
theorem q2561 : (Jvm.Cond.static ({ cls := "HomeCompiler$Walker", name := "isGood", desc := "(IIIZ)Z" } : Jvm.MethodName)) ∈ lw_all := lw_g (lw_at lw_m10 87 rfl) rfl
theorem q2562 : (Jvm.Cond.code ({ cls := "HomeCompiler$Walker", name := "isGood", desc := "(IIIZ)Z" } : Jvm.MethodName) prog_19_method_7_code (8 : Nat) (Option.some Jvm.ClassFile.FieldType.boolean)) ∈ lw_all := lw_g (lw_at lw_m10 88 rfl) rfl
theorem q2563 : (Jvm.Cond.methodLink "HomeCompiler$Walker" (60 : Nat) ({ cls := "HomeCompiler$Walker", name := "page", desc := "(I)I" } : Jvm.MethodName)) ∈ lw_all := lw_g (lw_at lw_m10 89 rfl) rfl
theorem q2564 : (Jvm.Cond.static ({ cls := "HomeCompiler$Walker", name := "page", desc := "(I)I" } : Jvm.MethodName)) ∈ lw_all := lw_g (lw_at lw_m10 90 rfl) rfl
theorem q2565 : (Jvm.Cond.code ({ cls := "HomeCompiler$Walker", name := "page", desc := "(I)I" } : Jvm.MethodName) prog_19_method_3_code (1 : Nat) (Option.some Jvm.ClassFile.FieldType.int)) ∈ lw_all := lw_g (lw_at lw_m10 91 rfl) rfl
theorem q2566 : (Jvm.Cond.constant "HomeCompiler$Walker" (63 : Nat) (4190208 : Int32)) ∈ lw_all := lw_g (lw_at lw_m10 92 rfl) rfl
theorem in_X20 : ∀ w ∈ wsX200, w ∈ lw_all := lw_in wsX200 [909, 911, 913, 915, 917] (by decide +kernel) (by decide +kernel)
/-! X21.HomeCompilerModel.lean.txt -/
def RX21 : String := "HomeCompilerModel"
def TX21 : u_T := fun k => match k with
  | 0 => ("HomeCompilerModel", "keywords", "[Ljava/lang/String;", true)
  | 1 => ("HomeCompilerModel", "marks", "[Ljava/lang/String;", true)
  | 2 => ("HomeCompilerModel", "ownNames", "[Ljava/lang/String;", true)
  | 3 => ("HomeCompilerModel", "ownTakes", "[Ljava/lang/String;", true)
  | 4 => ("HomeCompilerModel", "thrown", "I", false)
  | 5 => ("HomeCompilerModel", "tape", "[B", true)
  | 6 => ("HomeCompilerModel", "taped", "I", false)
  | 7 => ("HomeCompilerModel", "text", "[B", true)
  | 8 => ("HomeCompilerModel", "length", "I", false)
  | 9 => ("HomeCompilerModel", "system", "Z", false)
  | 10 => ("HomeCompilerModel", "count", "I", false)
  | 11 => ("HomeCompilerModel", "starts", "[I", true)
  | 12 => ("HomeCompilerModel", "sizes", "[I", true)
  | 13 => ("HomeCompilerModel", "sorts", "[B", true)
  | 14 => ("HomeCompilerModel", "which", "[I", true)
  | 15 => ("HomeCompilerModel", "at", "I", false)
  | 16 => ("HomeCompilerModel", "open", "I", false)
  | 17 => ("HomeCompilerModel", "nodes", "I", false)
  | 18 => ("HomeCompilerModel", "kinds", "[B", true)
  | 19 => ("HomeCompilerModel", "tokens", "[I", true)
  | 20 => ("HomeCompilerModel", "firsts", "[I", true)
  | 21 => ("HomeCompilerModel", "kidA", "[I", true)
  | 22 => ("HomeCompilerModel", "kidB", "[I", true)
  | 23 => ("HomeCompilerModel", "kidC", "[I", true)
  | 24 => ("HomeCompilerModel", "kidD", "[I", true)
  | 25 => ("HomeCompilerModel", "nexts", "[I", true)
  | 26 => ("HomeCompilerModel", "ops", "[I", true)
  | 27 => ("HomeCompilerModel", "depths", "[I", true)
  | 28 => ("HomeCompilerModel", "program", "I", false)
  | 29 => ("HomeCompilerModel", "programEnd", "I", false)
  | 30 => ("HomeCompilerModel", "waiting", "I", false)
  | 31 => ("HomeCompilerModel", "waitRank", "[I", true)
  | 32 => ("HomeCompilerModel", "waitToken", "[I", true)
  | 33 => ("HomeCompilerModel", "waitNode", "[I", true)
  | 34 => ("HomeCompilerModel", "wrong", "I", false)
  | 35 => ("HomeCompilerModel", "wrongToken", "I", false)
  | 36 => ("HomeCompilerModel", "answer", "I", false)
  | 37 => ("HomeCompilerModel", "where", "I", false)
  | 38 => ("HomeCompilerModel", "known", "I", false)
  | 39 => ("HomeCompilerModel", "knownToken", "[I", true)
  | 40 => ("HomeCompilerModel", "knownWhat", "[I", true)
  | 41 => ("HomeCompilerModel", "knownValue", "[I", true)
  | 42 => ("HomeCompilerModel", "scope", "I", false)
  | 43 => ("HomeCompilerModel", "functionCount", "I", false)
  | 44 => ("HomeCompilerModel", "functionNode", "[I", true)
  | 45 => ("HomeCompilerModel", "frames", "[I", true)
  | 46 => ("HomeCompilerModel", "textWords", "I", false)
  | 47 => ("HomeCompilerModel", "frame", "I", false)
  | 48 => ("HomeCompilerModel", "inFunction", "I", false)
  | 49 => ("HomeCompilerModel", "loops", "I", false)
  | 50 => ("HomeCompilerModel", "switches", "I", false)
  | 51 => ("HomeCompilerModel", "badK", "Z", false)
  | 52 => ("HomeCompilerModel", "openK", "Z", false)
  | 53 => ("HomeCompilerModel", "symbols", "I", false)
  | 54 => ("HomeCompilerModel", "symbolSort", "[B", true)
  | 55 => ("HomeCompilerModel", "symbolOfText", "[Z", true)
  | 56 => ("HomeCompilerModel", "symbolAt", "[I", true)
  | 57 => ("HomeCompilerModel", "symbolSize", "[I", true)
  | 58 => ("HomeCompilerModel", "knownSymbol", "[I", true)
  | 59 => ("HomeCompilerModel", "cellsNow", "I", false)
  | 60 => ("HomeCompilerModel", "textCells", "I", false)
  | 61 => ("HomeCompilerModel", "frameCells", "[I", true)
  | 62 => ("HomeCompilerModel", "result", "I", false)
  | 63 => ("HomeCompilerModel", "sizeNow", "I", false)
  | 64 => ("HomeCompilerModel", "tall", "I", false)
  | 65 => ("HomeCompilerModel", "runs", "Z", false)
  | 66 => ("HomeCompilerModel", "cells", "[I", true)
  | 67 => ("HomeCompilerModel", "base", "I", false)
  | 68 => ("HomeCompilerModel", "top", "I", false)
  | 69 => ("HomeCompilerModel", "todo", "I", false)
  | 70 => ("HomeCompilerModel", "todoNode", "[I", true)
  | 71 => ("HomeCompilerModel", "todoState", "[I", true)
  | 72 => ("HomeCompilerModel", "found", "I", false)
  | 73 => ("HomeCompilerModel", "numbers", "[I", true)
  | 74 => ("HomeCompilerModel", "calls", "I", false)
  | 75 => ("HomeCompilerModel", "callBase", "[I", true)
  | 76 => ("HomeCompilerModel", "callTop", "[I", true)
  | 77 => ("HomeCompilerModel", "status", "I", false)
  | 78 => ("HomeCompilerModel", "value", "I", false)
  | 79 => ("HomeCompilerModel", "work", "I", false)
  | 80 => ("HomeCompilerModel", "stack", "I", false)
  | 81 => ("HomeCompilerModel", "written", "I", false)
  | 82 => ("HomeCompilerModel", "papers", "[I", true)
  | 83 => ("HomeCompilerModel", "waitingInputs", "I", false)
  | 84 => ("HomeCompilerModel", "inputs", "[I", true)
  | 85 => ("HomeCompilerModel", "disk", "[I", true)
  | _ => ("HomeCompilerModel", "life", "I", false)
def tyX21 : Nat → FieldType := fun k => match k with
  | 0 => .array (.object "java/lang/String")
  | 1 => .array (.object "java/lang/String")
  | 2 => .array (.object "java/lang/String")
  | 3 => .array (.object "java/lang/String")
  | 4 => .int
  | 5 => .array .byte
  | 6 => .int
  | 7 => .array .byte
  | 8 => .int
  | 9 => .boolean
  | 10 => .int
  | 11 => .array .int
  | 12 => .array .int
  | 13 => .array .byte
  | 14 => .array .int
  | 15 => .int
  | 16 => .int
  | 17 => .int
  | 18 => .array .byte
  | 19 => .array .int
  | 20 => .array .int
  | 21 => .array .int
  | 22 => .array .int
  | 23 => .array .int
  | 24 => .array .int
  | 25 => .array .int
  | 26 => .array .int
  | 27 => .array .int
  | 28 => .int
  | 29 => .int
  | 30 => .int
  | 31 => .array .int
  | 32 => .array .int
  | 33 => .array .int
  | 34 => .int
  | 35 => .int
  | 36 => .int
  | 37 => .int
  | 38 => .int
  | 39 => .array .int
  | 40 => .array .int
  | 41 => .array .int
  | 42 => .int
  | 43 => .int
  | 44 => .array .int
  | 45 => .array .int
  | 46 => .int
  | 47 => .int
  | 48 => .int
  | 49 => .int
  | 50 => .int
  | 51 => .boolean
  | 52 => .boolean
  | 53 => .int
  | 54 => .array .byte
  | 55 => .array .boolean
  | 56 => .array .int
  | 57 => .array .int
  | 58 => .array .int
  | 59 => .int
  | 60 => .int
  | 61 => .array .int
  | 62 => .int
  | 63 => .int
  | 64 => .int
  | 65 => .boolean
  | 66 => .array .int
  | 67 => .int
  | 68 => .int
  | 69 => .int
  | 70 => .array .int
  | 71 => .array .int
  | 72 => .int
  | 73 => .array .int
  | 74 => .int
  | 75 => .array .int
  | 76 => .array .int
  | 77 => .int
  | 78 => .int
  | 79 => .int
  | 80 => .int
  | 81 => .int
  | 82 => .array .int
  | 83 => .int
  | 84 => .array .int
  | 85 => .array .int
  | _ => .int
abbrev wsX210 : List Cond := u_ws RX21 TX21 87
theorem nmX21 : ∀ a, a < 87 → ∀ b, b < 87 → a ≠ b → (TX21 a).2.1 ≠ (TX21 b).2.1 := by decide +kernel
theorem tyX21_ok : ∀ k, k < 87 → parseFieldDescriptor (TX21 k).2.2.1 = some (tyX21 k) := by decide +kernel
abbrev cX21_init : ByteArray := prog_23_method_1_code
def yX21_init : MethodName := ⟨RX21, "<init>", "()V"⟩
abbrev cX21_thrown : ByteArray := prog_23_method_2_code
def yX21_thrown : MethodName := ⟨RX21, "thrown", "()I"⟩
abbrev cX21_feed : ByteArray := prog_23_method_3_code
def yX21_feed : MethodName := ⟨RX21, "feed", "(IIIII)V"⟩
abbrev cX21_end : ByteArray := prog_23_method_4_code
def yX21_end : MethodName := ⟨RX21, "end", "(I)V"⟩
abbrev cX21_load : ByteArray := prog_23_method_109_code
def yX21_load : MethodName := ⟨RX21, "load", "()I"⟩
abbrev cX21_readTokens : ByteArray := prog_23_method_17_code
def yX21_readTokens : MethodName := ⟨RX21, "readTokens", "()V"⟩
abbrev cX21_skip : ByteArray := prog_23_method_9_code
def yX21_skip : MethodName := ⟨RX21, "skip", "(I)I"⟩
abbrev cX21_byteAt : ByteArray := prog_23_method_5_code
def yX21_byteAt : MethodName := ⟨RX21, "byteAt", "(I)I"⟩
abbrev cX21_readToken : ByteArray := prog_23_method_14_code
def yX21_readToken : MethodName := ⟨RX21, "readToken", "(I)Z"⟩
abbrev cX21_isLetter : ByteArray := prog_23_method_7_code
def yX21_isLetter : MethodName := ⟨RX21, "isLetter", "(I)Z"⟩
abbrev cX21_isDigit : ByteArray := prog_23_method_6_code
def yX21_isDigit : MethodName := ⟨RX21, "isDigit", "(I)Z"⟩
abbrev cX21_keyword : ByteArray := prog_23_method_13_code
def yX21_keyword : MethodName := ⟨RX21, "keyword", "(II)I"⟩
abbrev cX21_stands : ByteArray := prog_23_method_12_code
def yX21_stands : MethodName := ⟨RX21, "stands", "(ILjava/lang/String;)Z"⟩
abbrev cX21_token : ByteArray := prog_23_method_11_code
def yX21_token : MethodName := ⟨RX21, "token", "(IIII)V"⟩
abbrev cX21_readNumber : ByteArray := prog_23_method_15_code
def yX21_readNumber : MethodName := ⟨RX21, "readNumber", "(I)Z"⟩
abbrev cX21_figure : ByteArray := prog_23_method_8_code
def yX21_figure : MethodName := ⟨RX21, "figure", "(I)I"⟩
abbrev cX21_character : ByteArray := prog_23_method_10_code
def yX21_character : MethodName := ⟨RX21, "character", "(II)I"⟩
abbrev cX21_readString : ByteArray := prog_23_method_16_code
def yX21_readString : MethodName := ⟨RX21, "readString", "(I)Z"⟩
abbrev cX21_isText : ByteArray := prog_23_method_108_code
def yX21_isText : MethodName := ⟨RX21, "isText", "()Z"⟩
abbrev cX21_whole : ByteArray := prog_23_method_65_code
def yX21_whole : MethodName := ⟨RX21, "whole", "()V"⟩
abbrev cX21_piece : ByteArray := prog_23_method_64_code
def yX21_piece : MethodName := ⟨RX21, "piece", "()V"⟩
abbrev cX21_isKey : ByteArray := prog_23_method_22_code
def yX21_isKey : MethodName := ⟨RX21, "isKey", "(I)Z"⟩
abbrev cX21_enumeration : ByteArray := prog_23_method_61_code
def yX21_enumeration : MethodName := ⟨RX21, "enumeration", "()V"⟩
abbrev cX21_make : ByteArray := prog_23_method_30_code
def yX21_make : MethodName := ⟨RX21, "make", "(II)I"⟩
abbrev cX21_opensMark : ByteArray := prog_23_method_27_code
def yX21_opensMark : MethodName := ⟨RX21, "opensMark", "(Ljava/lang/String;)V"⟩
abbrev cX21_is : ByteArray := prog_23_method_21_code
def yX21_is : MethodName := ⟨RX21, "is", "(Ljava/lang/String;)Z"⟩
abbrev cX21_isAt : ByteArray := prog_23_method_20_code
def yX21_isAt : MethodName := ⟨RX21, "isAt", "(ILjava/lang/String;)Z"⟩
abbrev cX21_need : ByteArray := prog_23_method_18_code
def yX21_need : MethodName := ⟨RX21, "need", "(Z)V"⟩
abbrev cX21_opens : ByteArray := prog_23_method_26_code
def yX21_opens : MethodName := ⟨RX21, "opens", "()V"⟩
abbrev cX21_name : ByteArray := prog_23_method_29_code
def yX21_name : MethodName := ⟨RX21, "name", "()I"⟩
abbrev cX21_takes : ByteArray := prog_23_method_23_code
def yX21_takes : MethodName := ⟨RX21, "takes", "(Ljava/lang/String;)Z"⟩
abbrev cX21_constant : ByteArray := prog_23_method_48_code
def yX21_constant : MethodName := ⟨RX21, "constant", "()I"⟩
abbrev cX21_conditional : ByteArray := prog_23_method_35_code
def yX21_conditional : MethodName := ⟨RX21, "conditional", "()I"⟩
abbrev cX21_binary : ByteArray := prog_23_method_40_code
def yX21_binary : MethodName := ⟨RX21, "binary", "()I"⟩
abbrev cX21_unary : ByteArray := prog_23_method_41_code
def yX21_unary : MethodName := ⟨RX21, "unary", "()I"⟩
abbrev cX21_isPrefix : ByteArray := prog_23_method_33_code
def yX21_isPrefix : MethodName := ⟨RX21, "isPrefix", "()Z"⟩
abbrev cX21_postfix : ByteArray := prog_23_method_42_code
def yX21_postfix : MethodName := ⟨RX21, "postfix", "()I"⟩
abbrev cX21_primary : ByteArray := prog_23_method_43_code
def yX21_primary : MethodName := ⟨RX21, "primary", "()I"⟩
abbrev cX21_expression : ByteArray := prog_23_method_34_code
def yX21_expression : MethodName := ⟨RX21, "expression", "()I"⟩
abbrev cX21_isAssigning : ByteArray := prog_23_method_32_code
def yX21_isAssigning : MethodName := ⟨RX21, "isAssigning", "()Z"⟩
abbrev cX21_stands_2 : ByteArray := prog_23_method_37_code
def yX21_stands_2 : MethodName := ⟨RX21, "stands", "(I)V"⟩
abbrev cX21_deeper : ByteArray := prog_23_method_36_code
def yX21_deeper : MethodName := ⟨RX21, "deeper", "(II)I"⟩
abbrev cX21_closes : ByteArray := prog_23_method_28_code
def yX21_closes : MethodName := ⟨RX21, "closes", "(Ljava/lang/String;)V"⟩
abbrev cX21_take : ByteArray := prog_23_method_24_code
def yX21_take : MethodName := ⟨RX21, "take", "(Ljava/lang/String;)V"⟩
abbrev cX21_call : ByteArray := prog_23_method_44_code
def yX21_call : MethodName := ⟨RX21, "call", "(I)I"⟩
abbrev cX21_isNothing : ByteArray := prog_23_method_38_code
def yX21_isNothing : MethodName := ⟨RX21, "isNothing", "(I)Z"⟩
abbrev cX21_rank : ByteArray := prog_23_method_31_code
def yX21_rank : MethodName := ⟨RX21, "rank", "(I)I"⟩
abbrev cX21_settle : ByteArray := prog_23_method_39_code
def yX21_settle : MethodName := ⟨RX21, "settle", "(I)I"⟩
abbrev cX21_hang : ByteArray := prog_23_method_45_code
def yX21_hang : MethodName := ⟨RX21, "hang", "(III)I"⟩
abbrev cX21_add : ByteArray := prog_23_method_60_code
def yX21_add : MethodName := ⟨RX21, "add", "(I)V"⟩
abbrev cX21_isType : ByteArray := prog_23_method_51_code
def yX21_isType : MethodName := ⟨RX21, "isType", "()Z"⟩
abbrev cX21_functionText : ByteArray := prog_23_method_63_code
def yX21_functionText : MethodName := ⟨RX21, "functionText", "(II)V"⟩
abbrev cX21_parameter : ByteArray := prog_23_method_62_code
def yX21_parameter : MethodName := ⟨RX21, "parameter", "()I"⟩
abbrev cX21_block : ByteArray := prog_23_method_52_code
def yX21_block : MethodName := ⟨RX21, "block", "()I"⟩
abbrev cX21_statement : ByteArray := prog_23_method_54_code
def yX21_statement : MethodName := ⟨RX21, "statement", "()I"⟩
abbrev cX21_declaration : ByteArray := prog_23_method_50_code
def yX21_declaration : MethodName := ⟨RX21, "declaration", "()I"⟩
abbrev cX21_variables : ByteArray := prog_23_method_46_code
def yX21_variables : MethodName := ⟨RX21, "variables", "()I"⟩
abbrev cX21_variable : ByteArray := prog_23_method_47_code
def yX21_variable : MethodName := ⟨RX21, "variable", "()I"⟩
abbrev cX21_arrayValue : ByteArray := prog_23_method_49_code
def yX21_arrayValue : MethodName := ⟨RX21, "arrayValue", "(I)V"⟩
abbrev cX21_byKey : ByteArray := prog_23_method_55_code
def yX21_byKey : MethodName := ⟨RX21, "byKey", "(I)I"⟩
abbrev cX21_conditioned : ByteArray := prog_23_method_56_code
def yX21_conditioned : MethodName := ⟨RX21, "conditioned", "(I)I"⟩
abbrev cX21_inParentheses : ByteArray := prog_23_method_53_code
def yX21_inParentheses : MethodName := ⟨RX21, "inParentheses", "()I"⟩
abbrev cX21_takesKey : ByteArray := prog_23_method_25_code
def yX21_takesKey : MethodName := ⟨RX21, "takesKey", "(I)Z"⟩
abbrev cX21_doing : ByteArray := prog_23_method_57_code
def yX21_doing : MethodName := ⟨RX21, "doing", "()I"⟩
abbrev cX21_forLoop : ByteArray := prog_23_method_58_code
def yX21_forLoop : MethodName := ⟨RX21, "forLoop", "()I"⟩
abbrev cX21_switching : ByteArray := prog_23_method_59_code
def yX21_switching : MethodName := ⟨RX21, "switching", "()I"⟩
abbrev cX21_checkText : ByteArray := prog_23_method_107_code
def yX21_checkText : MethodName := ⟨RX21, "checkText", "()V"⟩
abbrev cX21_checkFunction : ByteArray := prog_23_method_100_code
def yX21_checkFunction : MethodName := ⟨RX21, "checkFunction", "(I)V"⟩
abbrev cX21_findOwn : ByteArray := prog_23_method_71_code
def yX21_findOwn : MethodName := ⟨RX21, "findOwn", "(I)I"⟩
abbrev cX21_isNamed : ByteArray := prog_23_method_68_code
def yX21_isNamed : MethodName := ⟨RX21, "isNamed", "(ILjava/lang/String;)Z"⟩
abbrev cX21_findFunction : ByteArray := prog_23_method_70_code
def yX21_findFunction : MethodName := ⟨RX21, "findFunction", "(I)I"⟩
abbrev cX21_sameName : ByteArray := prog_23_method_67_code
def yX21_sameName : MethodName := ⟨RX21, "sameName", "(II)Z"⟩
abbrev cX21_bad : ByteArray := prog_23_method_66_code
def yX21_bad : MethodName := ⟨RX21, "bad", "(II)V"⟩
abbrev cX21_checkNew : ByteArray := prog_23_method_75_code
def yX21_checkNew : MethodName := ⟨RX21, "checkNew", "(I)V"⟩
abbrev cX21_find : ByteArray := prog_23_method_69_code
def yX21_find : MethodName := ⟨RX21, "find", "(II)I"⟩
abbrev cX21_isFunction : ByteArray := prog_23_method_72_code
def yX21_isFunction : MethodName := ⟨RX21, "isFunction", "(I)Z"⟩
abbrev cX21_lay : ByteArray := prog_23_method_73_code
def yX21_lay : MethodName := ⟨RX21, "lay", "(II)I"⟩
abbrev cX21_know : ByteArray := prog_23_method_74_code
def yX21_know : MethodName := ⟨RX21, "know", "(IIII)V"⟩
abbrev cX21_statements : ByteArray := prog_23_method_91_code
def yX21_statements : MethodName := ⟨RX21, "statements", "(I)V"⟩
abbrev cX21_checkStatement : ByteArray := prog_23_method_94_code
def yX21_checkStatement : MethodName := ⟨RX21, "checkStatement", "(I)V"⟩
abbrev cX21_checkBlock : ByteArray := prog_23_method_93_code
def yX21_checkBlock : MethodName := ⟨RX21, "checkBlock", "(I)V"⟩
abbrev cX21_leave : ByteArray := prog_23_method_92_code
def yX21_leave : MethodName := ⟨RX21, "leave", "(II)V"⟩
abbrev cX21_checkAlone : ByteArray := prog_23_method_95_code
def yX21_checkAlone : MethodName := ⟨RX21, "checkAlone", "(I)V"⟩
abbrev cX21_check : ByteArray := prog_23_method_77_code
def yX21_check : MethodName := ⟨RX21, "check", "(IZ)I"⟩
abbrev cX21_checkName : ByteArray := prog_23_method_78_code
def yX21_checkName : MethodName := ⟨RX21, "checkName", "(I)I"⟩
abbrev cX21_checkCall : ByteArray := prog_23_method_82_code
def yX21_checkCall : MethodName := ⟨RX21, "checkCall", "(I)I"⟩
abbrev cX21_taken : ByteArray := prog_23_method_81_code
def yX21_taken : MethodName := ⟨RX21, "taken", "(III)I"⟩
abbrev cX21_checkArgument : ByteArray := prog_23_method_83_code
def yX21_checkArgument : MethodName := ⟨RX21, "checkArgument", "(II)V"⟩
abbrev cX21_checkConstant : ByteArray := prog_23_method_86_code
def yX21_checkConstant : MethodName := ⟨RX21, "checkConstant", "(I)Z"⟩
abbrev cX21_meet : ByteArray := prog_23_method_84_code
def yX21_meet : MethodName := ⟨RX21, "meet", "(I)V"⟩
abbrev cX21_meetName : ByteArray := prog_23_method_85_code
def yX21_meetName : MethodName := ⟨RX21, "meetName", "(I)V"⟩
abbrev cX21_first : ByteArray := prog_23_method_76_code
def yX21_first : MethodName := ⟨RX21, "first", "(I)I"⟩
abbrev cX21_reckon : ByteArray := prog_23_method_87_code
def yX21_reckon : MethodName := ⟨RX21, "reckon", "(I)I"⟩
abbrev cX21_two : ByteArray := prog_23_method_88_code
def yX21_two : MethodName := ⟨RX21, "two", "(III)I"⟩
abbrev cX21_checkIndex : ByteArray := prog_23_method_80_code
def yX21_checkIndex : MethodName := ⟨RX21, "checkIndex", "(I)V"⟩
abbrev cX21_checkPlace : ByteArray := prog_23_method_79_code
def yX21_checkPlace : MethodName := ⟨RX21, "checkPlace", "(II)V"⟩
abbrev cX21_declare : ByteArray := prog_23_method_89_code
def yX21_declare : MethodName := ⟨RX21, "declare", "(IZ)V"⟩
abbrev cX21_declareArray : ByteArray := prog_23_method_90_code
def yX21_declareArray : MethodName := ⟨RX21, "declareArray", "(IZ)I"⟩
abbrev cX21_checkBody : ByteArray := prog_23_method_96_code
def yX21_checkBody : MethodName := ⟨RX21, "checkBody", "(I)V"⟩
abbrev cX21_checkFor : ByteArray := prog_23_method_97_code
def yX21_checkFor : MethodName := ⟨RX21, "checkFor", "(I)V"⟩
abbrev cX21_checkSwitch : ByteArray := prog_23_method_98_code
def yX21_checkSwitch : MethodName := ⟨RX21, "checkSwitch", "(I)V"⟩
abbrev cX21_checkReturn : ByteArray := prog_23_method_99_code
def yX21_checkReturn : MethodName := ⟨RX21, "checkReturn", "(I)V"⟩
abbrev cX21_measure : ByteArray := prog_23_method_103_code
def yX21_measure : MethodName := ⟨RX21, "measure", "(I)V"⟩
abbrev cX21_measureOne : ByteArray := prog_23_method_104_code
def yX21_measureOne : MethodName := ⟨RX21, "measureOne", "(I)V"⟩
abbrev cX21_raise : ByteArray := prog_23_method_102_code
def yX21_raise : MethodName := ⟨RX21, "raise", "(I)V"⟩
abbrev cX21_height : ByteArray := prog_23_method_101_code
def yX21_height : MethodName := ⟨RX21, "height", "(I)I"⟩
abbrev cX21_checkEnum : ByteArray := prog_23_method_105_code
def yX21_checkEnum : MethodName := ⟨RX21, "checkEnum", "(I)V"⟩
abbrev cX21_hasMain : ByteArray := prog_23_method_106_code
def yX21_hasMain : MethodName := ⟨RX21, "hasMain", "()Z"⟩
abbrev cX21_place : ByteArray := prog_23_method_110_code
def yX21_place : MethodName := ⟨RX21, "place", "()I"⟩
abbrev cX21_run : ByteArray := prog_23_method_152_code
def yX21_run : MethodName := ⟨RX21, "run", "(III)I"⟩
abbrev cX21_setText : ByteArray := prog_23_method_150_code
def yX21_setText : MethodName := ⟨RX21, "setText", "()V"⟩
abbrev cX21_begin : ByteArray := prog_23_method_143_code
def yX21_begin : MethodName := ⟨RX21, "begin", "(I)V"⟩
abbrev cX21_cellOf : ByteArray := prog_23_method_118_code
def yX21_cellOf : MethodName := ⟨RX21, "cellOf", "(I)I"⟩
abbrev cX21_stored : ByteArray := prog_23_method_125_code
def yX21_stored : MethodName := ⟨RX21, "stored", "(II)I"⟩
abbrev cX21_isOfChar : ByteArray := prog_23_method_120_code
def yX21_isOfChar : MethodName := ⟨RX21, "isOfChar", "(I)Z"⟩
abbrev cX21_give : ByteArray := prog_23_method_112_code
def yX21_give : MethodName := ⟨RX21, "give", "(I)V"⟩
abbrev cX21_mainFunction : ByteArray := prog_23_method_151_code
def yX21_mainFunction : MethodName := ⟨RX21, "mainFunction", "()I"⟩
abbrev cX21_enter : ByteArray := prog_23_method_134_code
def yX21_enter : MethodName := ⟨RX21, "enter", "(I)V"⟩
abbrev cX21_takesWork : ByteArray := prog_23_method_117_code
def yX21_takesWork : MethodName := ⟨RX21, "takesWork", "()Z"⟩
abbrev cX21_stop : ByteArray := prog_23_method_116_code
def yX21_stop : MethodName := ⟨RX21, "stop", "(I)V"⟩
abbrev cX21_isGiven : ByteArray := prog_23_method_119_code
def yX21_isGiven : MethodName := ⟨RX21, "isGiven", "(I)Z"⟩
abbrev cX21_push : ByteArray := prog_23_method_111_code
def yX21_push : MethodName := ⟨RX21, "push", "(I)V"⟩
abbrev cX21_step : ByteArray := prog_23_method_126_code
def yX21_step : MethodName := ⟨RX21, "step", "()V"⟩
abbrev cX21_doStatement : ByteArray := prog_23_method_140_code
def yX21_doStatement : MethodName := ⟨RX21, "doStatement", "(II)V"⟩
abbrev cX21_doRow : ByteArray := prog_23_method_141_code
def yX21_doRow : MethodName := ⟨RX21, "doRow", "(I)V"⟩
abbrev cX21_state : ByteArray := prog_23_method_115_code
def yX21_state : MethodName := ⟨RX21, "state", "(I)V"⟩
abbrev cX21_take_2 : ByteArray := prog_23_method_113_code
def yX21_take_2 : MethodName := ⟨RX21, "take", "()I"⟩
abbrev cX21_doDeclare : ByteArray := prog_23_method_142_code
def yX21_doDeclare : MethodName := ⟨RX21, "doDeclare", "(II)V"⟩
abbrev cX21_doDo : ByteArray := prog_23_method_144_code
def yX21_doDo : MethodName := ⟨RX21, "doDo", "(II)V"⟩
abbrev cX21_doFor : ByteArray := prog_23_method_145_code
def yX21_doFor : MethodName := ⟨RX21, "doFor", "(II)V"⟩
abbrev cX21_doSwitch : ByteArray := prog_23_method_146_code
def yX21_doSwitch : MethodName := ⟨RX21, "doSwitch", "(II)V"⟩
abbrev cX21_doBreak : ByteArray := prog_23_method_148_code
def yX21_doBreak : MethodName := ⟨RX21, "doBreak", "()V"⟩
abbrev cX21_isLoop : ByteArray := prog_23_method_147_code
def yX21_isLoop : MethodName := ⟨RX21, "isLoop", "(I)Z"⟩
abbrev cX21_doContinue : ByteArray := prog_23_method_149_code
def yX21_doContinue : MethodName := ⟨RX21, "doContinue", "()V"⟩
abbrev cX21_leaveCall : ByteArray := prog_23_method_135_code
def yX21_leaveCall : MethodName := ⟨RX21, "leaveCall", "(I)V"⟩
abbrev cX21_done : ByteArray := prog_23_method_114_code
def yX21_done : MethodName := ⟨RX21, "done", "(I)V"⟩
abbrev cX21_doCall : ByteArray := prog_23_method_133_code
def yX21_doCall : MethodName := ⟨RX21, "doCall", "(II)V"⟩
abbrev cX21_isArray : ByteArray := prog_23_method_132_code
def yX21_isArray : MethodName := ⟨RX21, "isArray", "(II)Z"⟩
abbrev cX21_arrayAt : ByteArray := prog_23_method_121_code
def yX21_arrayAt : MethodName := ⟨RX21, "arrayAt", "(I)I"⟩
abbrev cX21_arraySize : ByteArray := prog_23_method_122_code
def yX21_arraySize : MethodName := ⟨RX21, "arraySize", "(I)I"⟩
abbrev cX21_doOwn : ByteArray := prog_23_method_137_code
def yX21_doOwn : MethodName := ⟨RX21, "doOwn", "(I)V"⟩
abbrev cX21_write : ByteArray := prog_23_method_136_code
def yX21_write : MethodName := ⟨RX21, "write", "(I)V"⟩
abbrev cX21_nextInput : ByteArray := prog_23_method_138_code
def yX21_nextInput : MethodName := ⟨RX21, "nextInput", "()I"⟩
abbrev cX21_moveBlock : ByteArray := prog_23_method_139_code
def yX21_moveBlock : MethodName := ⟨RX21, "moveBlock", "(ZIII)V"⟩
abbrev cX21_elementAt : ByteArray := prog_23_method_123_code
def yX21_elementAt : MethodName := ⟨RX21, "elementAt", "(II)I"⟩
abbrev cX21_doUnary : ByteArray := prog_23_method_127_code
def yX21_doUnary : MethodName := ⟨RX21, "doUnary", "(II)V"⟩
abbrev cX21_doStep : ByteArray := prog_23_method_128_code
def yX21_doStep : MethodName := ⟨RX21, "doStep", "(IIZ)V"⟩
abbrev cX21_placeOf : ByteArray := prog_23_method_124_code
def yX21_placeOf : MethodName := ⟨RX21, "placeOf", "(I)I"⟩
abbrev cX21_doChain : ByteArray := prog_23_method_129_code
def yX21_doChain : MethodName := ⟨RX21, "doChain", "(II)V"⟩
abbrev cX21_doAssign : ByteArray := prog_23_method_131_code
def yX21_doAssign : MethodName := ⟨RX21, "doAssign", "(II)V"⟩
abbrev cX21_combined : ByteArray := prog_23_method_130_code
def yX21_combined : MethodName := ⟨RX21, "combined", "(III)I"⟩
abbrev cX21_life : ByteArray := prog_23_method_153_code
def yX21_life : MethodName := ⟨RX21, "life", "()I"⟩
abbrev cX21_input : ByteArray := prog_23_method_154_code
def yX21_input : MethodName := ⟨RX21, "input", "(I)V"⟩
abbrev cX21_value : ByteArray := prog_23_method_155_code
def yX21_value : MethodName := ⟨RX21, "value", "()I"⟩
abbrev cX21_left : ByteArray := prog_23_method_156_code
def yX21_left : MethodName := ⟨RX21, "left", "()I"⟩
abbrev cX21_paper : ByteArray := prog_23_method_157_code
def yX21_paper : MethodName := ⟨RX21, "paper", "()I"⟩
abbrev cX21_paperAt : ByteArray := prog_23_method_158_code
def yX21_paperAt : MethodName := ⟨RX21, "paperAt", "(I)I"⟩
abbrev cX21_inputs : ByteArray := prog_23_method_159_code
def yX21_inputs : MethodName := ⟨RX21, "inputs", "()I"⟩
abbrev cX21_disk : ByteArray := prog_23_method_160_code
def yX21_disk : MethodName := ⟨RX21, "disk", "(I)I"⟩
abbrev cX21_setDisk : ByteArray := prog_23_method_161_code
def yX21_setDisk : MethodName := ⟨RX21, "setDisk", "(II)V"⟩
abbrev cX21_variable_2 : ByteArray := prog_23_method_162_code
def yX21_variable_2 : MethodName := ⟨RX21, "variable", "(I)I"⟩
abbrev cX21_wordOf : ByteArray := prog_23_method_163_code
def yX21_wordOf : MethodName := ⟨RX21, "wordOf", "(II)I"⟩
theorem q335 : (Jvm.Cond.initialized "HomeCompilerModel") ∈ lw_all := lw_g (lw_at lw_m1 21 rfl) rfl
theorem q2751 : (Jvm.Cond.instantiable "HomeCompilerModel" (87 : Nat)) ∈ lw_all := lw_g (lw_at lw_m11 37 rfl) rfl
theorem q2753 : (Jvm.Cond.instanceMethod ({ cls := "HomeCompilerModel", name := "<init>", desc := "()V" } : Jvm.MethodName)) ∈ lw_all := lw_g (lw_at lw_m11 39 rfl) rfl
theorem q2754 : (Jvm.Cond.code ({ cls := "HomeCompilerModel", name := "<init>", desc := "()V" } : Jvm.MethodName) prog_23_method_1_code (1 : Nat) (Option.none : Option Jvm.ClassFile.FieldType)) ∈ lw_all := lw_g (lw_at lw_m11 40 rfl) rfl
theorem q2755 : (Jvm.Cond.methodLink "HomeCompilerModel" (1 : Nat) ({ cls := "java/lang/Object", name := "<init>", desc := "()V" } : Jvm.MethodName)) ∈ lw_all := lw_g (lw_at lw_m11 41 rfl) rfl
theorem q2756 : (Jvm.Cond.classLink "HomeCompilerModel" (7 : Nat) "java/lang/String") ∈ lw_all := lw_g (lw_at lw_m11 42 rfl) rfl
theorem q2757 : (Jvm.Cond.stringRef "HomeCompilerModel" (9 : Nat) "int") ∈ lw_tbl := lw_at lw_m11 43 rfl
theorem q2758 : (Jvm.Cond.stringRef "HomeCompilerModel" (11 : Nat) "char") ∈ lw_tbl := lw_at lw_m11 44 rfl
theorem q2759 : (Jvm.Cond.stringRef "HomeCompilerModel" (13 : Nat) "void") ∈ lw_tbl := lw_at lw_m11 45 rfl
theorem q2760 : (Jvm.Cond.stringRef "HomeCompilerModel" (15 : Nat) "enum") ∈ lw_tbl := lw_at lw_m11 46 rfl
theorem q2761 : (Jvm.Cond.stringRef "HomeCompilerModel" (17 : Nat) "if") ∈ lw_tbl := lw_at lw_m11 47 rfl
theorem q2762 : (Jvm.Cond.stringRef "HomeCompilerModel" (19 : Nat) "else") ∈ lw_tbl := lw_at lw_m11 48 rfl
theorem q2763 : (Jvm.Cond.stringRef "HomeCompilerModel" (21 : Nat) "while") ∈ lw_tbl := lw_at lw_m11 49 rfl
theorem q2764 : (Jvm.Cond.stringRef "HomeCompilerModel" (23 : Nat) "do") ∈ lw_tbl := lw_at lw_m11 50 rfl
theorem q2765 : (Jvm.Cond.stringRef "HomeCompilerModel" (25 : Nat) "for") ∈ lw_tbl := lw_at lw_m11 51 rfl
theorem q2766 : (Jvm.Cond.stringRef "HomeCompilerModel" (27 : Nat) "switch") ∈ lw_tbl := lw_at lw_m11 52 rfl
theorem q2767 : (Jvm.Cond.stringRef "HomeCompilerModel" (29 : Nat) "case") ∈ lw_tbl := lw_at lw_m11 53 rfl
theorem q2768 : (Jvm.Cond.stringRef "HomeCompilerModel" (31 : Nat) "default") ∈ lw_tbl := lw_at lw_m11 54 rfl
theorem q2769 : (Jvm.Cond.stringRef "HomeCompilerModel" (33 : Nat) "break") ∈ lw_tbl := lw_at lw_m11 55 rfl
theorem q2770 : (Jvm.Cond.stringRef "HomeCompilerModel" (35 : Nat) "continue") ∈ lw_tbl := lw_at lw_m11 56 rfl
theorem q2771 : (Jvm.Cond.stringRef "HomeCompilerModel" (37 : Nat) "return") ∈ lw_tbl := lw_at lw_m11 57 rfl
theorem q2772 : (Jvm.Cond.stringRef "HomeCompilerModel" (45 : Nat) "<<=") ∈ lw_tbl := lw_at lw_m11 58 rfl
theorem q2773 : (Jvm.Cond.stringRef "HomeCompilerModel" (47 : Nat) ">>=") ∈ lw_tbl := lw_at lw_m11 59 rfl
theorem q2774 : (Jvm.Cond.stringRef "HomeCompilerModel" (49 : Nat) "+=") ∈ lw_tbl := lw_at lw_m11 60 rfl
theorem q2775 : (Jvm.Cond.stringRef "HomeCompilerModel" (51 : Nat) "-=") ∈ lw_tbl := lw_at lw_m11 61 rfl
theorem q2776 : (Jvm.Cond.stringRef "HomeCompilerModel" (53 : Nat) "*=") ∈ lw_tbl := lw_at lw_m11 62 rfl
theorem q2777 : (Jvm.Cond.stringRef "HomeCompilerModel" (55 : Nat) "/=") ∈ lw_tbl := lw_at lw_m11 63 rfl
theorem q2778 : (Jvm.Cond.stringRef "HomeCompilerModel" (57 : Nat) "%=") ∈ lw_tbl := lw_at lw_m11 64 rfl
theorem q2779 : (Jvm.Cond.stringRef "HomeCompilerModel" (59 : Nat) "&=") ∈ lw_tbl := lw_at lw_m11 65 rfl
theorem q2780 : (Jvm.Cond.stringRef "HomeCompilerModel" (61 : Nat) "|=") ∈ lw_tbl := lw_at lw_m11 66 rfl
theorem q2781 : (Jvm.Cond.stringRef "HomeCompilerModel" (63 : Nat) "^=") ∈ lw_tbl := lw_at lw_m11 67 rfl
theorem q2782 : (Jvm.Cond.stringRef "HomeCompilerModel" (65 : Nat) "||") ∈ lw_tbl := lw_at lw_m11 68 rfl
theorem q2783 : (Jvm.Cond.stringRef "HomeCompilerModel" (67 : Nat) "&&") ∈ lw_tbl := lw_at lw_m11 69 rfl
theorem q2784 : (Jvm.Cond.stringRef "HomeCompilerModel" (69 : Nat) "==") ∈ lw_tbl := lw_at lw_m11 70 rfl
theorem q2785 : (Jvm.Cond.stringRef "HomeCompilerModel" (71 : Nat) "!=") ∈ lw_tbl := lw_at lw_m11 71 rfl
theorem q2786 : (Jvm.Cond.stringRef "HomeCompilerModel" (73 : Nat) "<=") ∈ lw_tbl := lw_at lw_m11 72 rfl
theorem q2787 : (Jvm.Cond.stringRef "HomeCompilerModel" (75 : Nat) ">=") ∈ lw_tbl := lw_at lw_m11 73 rfl
theorem q2788 : (Jvm.Cond.stringRef "HomeCompilerModel" (77 : Nat) "<<") ∈ lw_tbl := lw_at lw_m11 74 rfl
theorem q2789 : (Jvm.Cond.stringRef "HomeCompilerModel" (79 : Nat) ">>") ∈ lw_tbl := lw_at lw_m11 75 rfl
theorem q2790 : (Jvm.Cond.stringRef "HomeCompilerModel" (81 : Nat) "++") ∈ lw_tbl := lw_at lw_m11 76 rfl
theorem q2791 : (Jvm.Cond.stringRef "HomeCompilerModel" (83 : Nat) "--") ∈ lw_tbl := lw_at lw_m11 77 rfl
theorem q2792 : (Jvm.Cond.stringRef "HomeCompilerModel" (85 : Nat) "(") ∈ lw_tbl := lw_at lw_m11 78 rfl
theorem q2793 : (Jvm.Cond.stringRef "HomeCompilerModel" (87 : Nat) ")") ∈ lw_tbl := lw_at lw_m11 79 rfl
theorem q2794 : (Jvm.Cond.stringRef "HomeCompilerModel" (89 : Nat) "{") ∈ lw_tbl := lw_at lw_m11 80 rfl
theorem q2795 : (Jvm.Cond.stringRef "HomeCompilerModel" (91 : Nat) "}") ∈ lw_tbl := lw_at lw_m11 81 rfl
theorem q2796 : (Jvm.Cond.stringRef "HomeCompilerModel" (93 : Nat) "[") ∈ lw_tbl := lw_at lw_m11 82 rfl
theorem q2797 : (Jvm.Cond.stringRef "HomeCompilerModel" (95 : Nat) "]") ∈ lw_tbl := lw_at lw_m11 83 rfl
theorem q2798 : (Jvm.Cond.stringRef "HomeCompilerModel" (97 : Nat) ",") ∈ lw_tbl := lw_at lw_m11 84 rfl
theorem q2799 : (Jvm.Cond.stringRef "HomeCompilerModel" (99 : Nat) ";") ∈ lw_tbl := lw_at lw_m11 85 rfl
theorem q2800 : (Jvm.Cond.stringRef "HomeCompilerModel" (101 : Nat) ":") ∈ lw_tbl := lw_at lw_m11 86 rfl
theorem q2801 : (Jvm.Cond.stringRef "HomeCompilerModel" (103 : Nat) "?") ∈ lw_tbl := lw_at lw_m11 87 rfl
theorem q2802 : (Jvm.Cond.stringRef "HomeCompilerModel" (105 : Nat) "=") ∈ lw_tbl := lw_at lw_m11 88 rfl
theorem q2803 : (Jvm.Cond.stringRef "HomeCompilerModel" (107 : Nat) "|") ∈ lw_tbl := lw_at lw_m11 89 rfl
theorem q2804 : (Jvm.Cond.stringRef "HomeCompilerModel" (109 : Nat) "^") ∈ lw_tbl := lw_at lw_m11 90 rfl
theorem q2805 : (Jvm.Cond.stringRef "HomeCompilerModel" (111 : Nat) "&") ∈ lw_tbl := lw_at lw_m11 91 rfl
theorem q2806 : (Jvm.Cond.stringRef "HomeCompilerModel" (113 : Nat) "<") ∈ lw_tbl := lw_at lw_m11 92 rfl
theorem q2807 : (Jvm.Cond.stringRef "HomeCompilerModel" (115 : Nat) ">") ∈ lw_tbl := lw_at lw_m11 93 rfl
theorem q2808 : (Jvm.Cond.stringRef "HomeCompilerModel" (117 : Nat) "+") ∈ lw_tbl := lw_at lw_m11 94 rfl
theorem q2809 : (Jvm.Cond.stringRef "HomeCompilerModel" (119 : Nat) "-") ∈ lw_tbl := lw_at lw_m11 95 rfl
theorem q2810 : (Jvm.Cond.stringRef "HomeCompilerModel" (121 : Nat) "*") ∈ lw_tbl := lw_at lw_m11 96 rfl
theorem q2811 : (Jvm.Cond.stringRef "HomeCompilerModel" (123 : Nat) "/") ∈ lw_tbl := lw_at lw_m11 97 rfl
theorem q2812 : (Jvm.Cond.stringRef "HomeCompilerModel" (125 : Nat) "%") ∈ lw_tbl := lw_at lw_m11 98 rfl
theorem q2813 : (Jvm.Cond.stringRef "HomeCompilerModel" (127 : Nat) "!") ∈ lw_tbl := lw_at lw_m11 99 rfl
theorem q2814 : (Jvm.Cond.stringRef "HomeCompilerModel" (129 : Nat) "~") ∈ lw_tbl := lw_at lw_m11 100 rfl
theorem q2815 : (Jvm.Cond.stringRef "HomeCompilerModel" (134 : Nat) "len") ∈ lw_tbl := lw_at lw_m11 101 rfl
theorem q2816 : (Jvm.Cond.stringRef "HomeCompilerModel" (136 : Nat) "put") ∈ lw_tbl := lw_at lw_m11 102 rfl
theorem q2817 : (Jvm.Cond.stringRef "HomeCompilerModel" (138 : Nat) "send") ∈ lw_tbl := lw_at lw_m11 103 rfl
theorem q2818 : (Jvm.Cond.stringRef "HomeCompilerModel" (140 : Nat) "recv") ∈ lw_tbl := lw_at lw_m11 104 rfl
theorem q2819 : (Jvm.Cond.stringRef "HomeCompilerModel" (142 : Nat) "more") ∈ lw_tbl := lw_at lw_m11 105 rfl
theorem q2820 : (Jvm.Cond.stringRef "HomeCompilerModel" (144 : Nat) "spawn") ∈ lw_tbl := lw_at lw_m11 106 rfl
theorem q2821 : (Jvm.Cond.stringRef "HomeCompilerModel" (146 : Nat) "wait") ∈ lw_tbl := lw_at lw_m11 107 rfl
theorem q2822 : (Jvm.Cond.stringRef "HomeCompilerModel" (148 : Nat) "get") ∈ lw_tbl := lw_at lw_m11 108 rfl
theorem q2823 : (Jvm.Cond.stringRef "HomeCompilerModel" (150 : Nat) "set") ∈ lw_tbl := lw_at lw_m11 109 rfl
theorem q2824 : (Jvm.Cond.stringRef "HomeCompilerModel" (152 : Nat) "end") ∈ lw_tbl := lw_at lw_m11 110 rfl
theorem q2825 : (Jvm.Cond.stringRef "HomeCompilerModel" (154 : Nat) "load") ∈ lw_tbl := lw_at lw_m11 111 rfl
theorem q2826 : (Jvm.Cond.stringRef "HomeCompilerModel" (156 : Nat) "store") ∈ lw_tbl := lw_at lw_m11 112 rfl
theorem q2827 : (Jvm.Cond.stringRef "HomeCompilerModel" (158 : Nat) "control") ∈ lw_tbl := lw_at lw_m11 113 rfl
theorem q2828 : (Jvm.Cond.stringRef "HomeCompilerModel" (160 : Nat) "setcontrol") ∈ lw_tbl := lw_at lw_m11 114 rfl
theorem q2829 : (Jvm.Cond.stringRef "HomeCompilerModel" (162 : Nat) "host") ∈ lw_tbl := lw_at lw_m11 115 rfl
theorem q2830 : (Jvm.Cond.stringRef "HomeCompilerModel" (167 : Nat) "ia") ∈ lw_tbl := lw_at lw_m11 116 rfl
theorem q2831 : (Jvm.Cond.stringRef "HomeCompilerModel" (169 : Nat) "vi") ∈ lw_tbl := lw_at lw_m11 117 rfl
theorem q2832 : (Jvm.Cond.stringRef "HomeCompilerModel" (171 : Nat) "vii") ∈ lw_tbl := lw_at lw_m11 118 rfl
theorem q2833 : (Jvm.Cond.stringRef "HomeCompilerModel" (173 : Nat) "ii") ∈ lw_tbl := lw_at lw_m11 119 rfl
theorem q2834 : (Jvm.Cond.stringRef "HomeCompilerModel" (175 : Nat) "iii") ∈ lw_tbl := lw_at lw_m11 120 rfl
theorem q2835 : (Jvm.Cond.stringRef "HomeCompilerModel" (177 : Nat) "vis") ∈ lw_tbl := lw_at lw_m11 121 rfl
theorem q2836 : (Jvm.Cond.stringRef "HomeCompilerModel" (179 : Nat) "ik") ∈ lw_tbl := lw_at lw_m11 122 rfl
theorem q2837 : (Jvm.Cond.stringRef "HomeCompilerModel" (181 : Nat) "vki") ∈ lw_tbl := lw_at lw_m11 123 rfl
theorem q2838 : (Jvm.Cond.stringRef "HomeCompilerModel" (183 : Nat) "iiii") ∈ lw_tbl := lw_at lw_m11 124 rfl
theorem q2839 : (Jvm.Cond.constant "HomeCompilerModel" (281 : Nat) (37000 : Int32)) ∈ lw_all := lw_g (lw_at lw_m11 125 rfl) rfl
theorem q2840 : (Jvm.Cond.constant "HomeCompilerModel" (285 : Nat) (200000 : Int32)) ∈ lw_all := lw_g (lw_at lw_m11 126 rfl) rfl
theorem q2841 : (Jvm.Cond.constant "HomeCompilerModel" (310 : Nat) (100000 : Int32)) ∈ lw_all := lw_g (lw_at lw_m11 127 rfl) rfl
theorem q2842 : (Jvm.Cond.fieldLink "HomeCompilerModel" (39 : Nat) "HomeCompilerModel" "keywords" "[Ljava/lang/String;") ∈ lw_all := lw_g (lw_at lw_m11 128 rfl) rfl
theorem q2843 : (Jvm.Cond.fieldLink "HomeCompilerModel" (131 : Nat) "HomeCompilerModel" "marks" "[Ljava/lang/String;") ∈ lw_all := lw_g (lw_at lw_m11 129 rfl) rfl
theorem q2844 : (Jvm.Cond.fieldLink "HomeCompilerModel" (164 : Nat) "HomeCompilerModel" "ownNames" "[Ljava/lang/String;") ∈ lw_all := lw_g (lw_at lw_m11 130 rfl) rfl
theorem q2845 : (Jvm.Cond.fieldLink "HomeCompilerModel" (185 : Nat) "HomeCompilerModel" "ownTakes" "[Ljava/lang/String;") ∈ lw_all := lw_g (lw_at lw_m11 131 rfl) rfl
theorem q2846 : (Jvm.Cond.fieldLink "HomeCompilerModel" (318 : Nat) "HomeCompilerModel" "thrown" "I") ∈ lw_all := lw_g (lw_at lw_m11 132 rfl) rfl
theorem q2847 : (Jvm.Cond.fieldLink "HomeCompilerModel" (188 : Nat) "HomeCompilerModel" "tape" "[B") ∈ lw_all := lw_g (lw_at lw_m11 133 rfl) rfl
theorem q2848 : (Jvm.Cond.fieldLink "HomeCompilerModel" (315 : Nat) "HomeCompilerModel" "taped" "I") ∈ lw_all := lw_g (lw_at lw_m11 134 rfl) rfl
theorem q2849 : (Jvm.Cond.fieldLink "HomeCompilerModel" (192 : Nat) "HomeCompilerModel" "text" "[B") ∈ lw_all := lw_g (lw_at lw_m11 135 rfl) rfl
theorem q2850 : (Jvm.Cond.fieldLink "HomeCompilerModel" (321 : Nat) "HomeCompilerModel" "length" "I") ∈ lw_all := lw_g (lw_at lw_m11 136 rfl) rfl
theorem q2851 : (Jvm.Cond.fieldLink "HomeCompilerModel" (566 : Nat) "HomeCompilerModel" "system" "Z") ∈ lw_all := lw_g (lw_at lw_m11 137 rfl) rfl
theorem q2852 : (Jvm.Cond.fieldLink "HomeCompilerModel" (332 : Nat) "HomeCompilerModel" "count" "I") ∈ lw_all := lw_g (lw_at lw_m11 138 rfl) rfl
theorem q2853 : (Jvm.Cond.fieldLink "HomeCompilerModel" (195 : Nat) "HomeCompilerModel" "starts" "[I") ∈ lw_all := lw_g (lw_at lw_m11 139 rfl) rfl
theorem q2854 : (Jvm.Cond.fieldLink "HomeCompilerModel" (199 : Nat) "HomeCompilerModel" "sizes" "[I") ∈ lw_all := lw_g (lw_at lw_m11 140 rfl) rfl
theorem q2855 : (Jvm.Cond.fieldLink "HomeCompilerModel" (202 : Nat) "HomeCompilerModel" "sorts" "[B") ∈ lw_all := lw_g (lw_at lw_m11 141 rfl) rfl
theorem q2856 : (Jvm.Cond.fieldLink "HomeCompilerModel" (205 : Nat) "HomeCompilerModel" "which" "[I") ∈ lw_all := lw_g (lw_at lw_m11 142 rfl) rfl
theorem q2857 : (Jvm.Cond.fieldLink "HomeCompilerModel" (388 : Nat) "HomeCompilerModel" "at" "I") ∈ lw_all := lw_g (lw_at lw_m11 143 rfl) rfl
theorem q2858 : (Jvm.Cond.fieldLink "HomeCompilerModel" (408 : Nat) "HomeCompilerModel" "open" "I") ∈ lw_all := lw_g (lw_at lw_m11 144 rfl) rfl
theorem q2859 : (Jvm.Cond.fieldLink "HomeCompilerModel" (418 : Nat) "HomeCompilerModel" "nodes" "I") ∈ lw_all := lw_g (lw_at lw_m11 145 rfl) rfl
theorem q2860 : (Jvm.Cond.fieldLink "HomeCompilerModel" (208 : Nat) "HomeCompilerModel" "kinds" "[B") ∈ lw_all := lw_g (lw_at lw_m11 146 rfl) rfl
theorem q2861 : (Jvm.Cond.fieldLink "HomeCompilerModel" (211 : Nat) "HomeCompilerModel" "tokens" "[I") ∈ lw_all := lw_g (lw_at lw_m11 147 rfl) rfl
theorem q2862 : (Jvm.Cond.fieldLink "HomeCompilerModel" (214 : Nat) "HomeCompilerModel" "firsts" "[I") ∈ lw_all := lw_g (lw_at lw_m11 148 rfl) rfl
theorem q2863 : (Jvm.Cond.fieldLink "HomeCompilerModel" (217 : Nat) "HomeCompilerModel" "kidA" "[I") ∈ lw_all := lw_g (lw_at lw_m11 149 rfl) rfl
theorem q2864 : (Jvm.Cond.fieldLink "HomeCompilerModel" (220 : Nat) "HomeCompilerModel" "kidB" "[I") ∈ lw_all := lw_g (lw_at lw_m11 150 rfl) rfl
theorem q2865 : (Jvm.Cond.fieldLink "HomeCompilerModel" (223 : Nat) "HomeCompilerModel" "kidC" "[I") ∈ lw_all := lw_g (lw_at lw_m11 151 rfl) rfl
theorem q2866 : (Jvm.Cond.fieldLink "HomeCompilerModel" (226 : Nat) "HomeCompilerModel" "kidD" "[I") ∈ lw_all := lw_g (lw_at lw_m11 152 rfl) rfl
theorem q2867 : (Jvm.Cond.fieldLink "HomeCompilerModel" (229 : Nat) "HomeCompilerModel" "nexts" "[I") ∈ lw_all := lw_g (lw_at lw_m11 153 rfl) rfl
theorem q2868 : (Jvm.Cond.fieldLink "HomeCompilerModel" (232 : Nat) "HomeCompilerModel" "ops" "[I") ∈ lw_all := lw_g (lw_at lw_m11 154 rfl) rfl
theorem q2869 : (Jvm.Cond.fieldLink "HomeCompilerModel" (235 : Nat) "HomeCompilerModel" "depths" "[I") ∈ lw_all := lw_g (lw_at lw_m11 155 rfl) rfl
theorem q2870 : (Jvm.Cond.fieldLink "HomeCompilerModel" (528 : Nat) "HomeCompilerModel" "program" "I") ∈ lw_all := lw_g (lw_at lw_m11 156 rfl) rfl
theorem q2871 : (Jvm.Cond.fieldLink "HomeCompilerModel" (531 : Nat) "HomeCompilerModel" "programEnd" "I") ∈ lw_all := lw_g (lw_at lw_m11 157 rfl) rfl
theorem q2872 : (Jvm.Cond.fieldLink "HomeCompilerModel" (443 : Nat) "HomeCompilerModel" "waiting" "I") ∈ lw_all := lw_g (lw_at lw_m11 158 rfl) rfl
theorem q2873 : (Jvm.Cond.fieldLink "HomeCompilerModel" (238 : Nat) "HomeCompilerModel" "waitRank" "[I") ∈ lw_all := lw_g (lw_at lw_m11 159 rfl) rfl
theorem q2874 : (Jvm.Cond.fieldLink "HomeCompilerModel" (241 : Nat) "HomeCompilerModel" "waitToken" "[I") ∈ lw_all := lw_g (lw_at lw_m11 160 rfl) rfl
theorem q2875 : (Jvm.Cond.fieldLink "HomeCompilerModel" (244 : Nat) "HomeCompilerModel" "waitNode" "[I") ∈ lw_all := lw_g (lw_at lw_m11 161 rfl) rfl
theorem q2876 : (Jvm.Cond.fieldLink "HomeCompilerModel" (550 : Nat) "HomeCompilerModel" "wrong" "I") ∈ lw_all := lw_g (lw_at lw_m11 162 rfl) rfl
theorem q2877 : (Jvm.Cond.fieldLink "HomeCompilerModel" (553 : Nat) "HomeCompilerModel" "wrongToken" "I") ∈ lw_all := lw_g (lw_at lw_m11 163 rfl) rfl
theorem q2878 : (Jvm.Cond.fieldLink "HomeCompilerModel" (742 : Nat) "HomeCompilerModel" "where" "I") ∈ lw_all := lw_g (lw_at lw_m11 164 rfl) rfl
theorem q2879 : (Jvm.Cond.fieldLink "HomeCompilerModel" (556 : Nat) "HomeCompilerModel" "known" "I") ∈ lw_all := lw_g (lw_at lw_m11 165 rfl) rfl
theorem q2880 : (Jvm.Cond.fieldLink "HomeCompilerModel" (247 : Nat) "HomeCompilerModel" "knownToken" "[I") ∈ lw_all := lw_g (lw_at lw_m11 166 rfl) rfl
theorem q2881 : (Jvm.Cond.fieldLink "HomeCompilerModel" (250 : Nat) "HomeCompilerModel" "knownWhat" "[I") ∈ lw_all := lw_g (lw_at lw_m11 167 rfl) rfl
theorem q2882 : (Jvm.Cond.fieldLink "HomeCompilerModel" (253 : Nat) "HomeCompilerModel" "knownValue" "[I") ∈ lw_all := lw_g (lw_at lw_m11 168 rfl) rfl
theorem q2883 : (Jvm.Cond.fieldLink "HomeCompilerModel" (588 : Nat) "HomeCompilerModel" "scope" "I") ∈ lw_all := lw_g (lw_at lw_m11 169 rfl) rfl
theorem q2884 : (Jvm.Cond.fieldLink "HomeCompilerModel" (563 : Nat) "HomeCompilerModel" "functionCount" "I") ∈ lw_all := lw_g (lw_at lw_m11 170 rfl) rfl
theorem q2885 : (Jvm.Cond.fieldLink "HomeCompilerModel" (256 : Nat) "HomeCompilerModel" "functionNode" "[I") ∈ lw_all := lw_g (lw_at lw_m11 171 rfl) rfl
theorem q2886 : (Jvm.Cond.fieldLink "HomeCompilerModel" (259 : Nat) "HomeCompilerModel" "frames" "[I") ∈ lw_all := lw_g (lw_at lw_m11 172 rfl) rfl
theorem q2887 : (Jvm.Cond.fieldLink "HomeCompilerModel" (724 : Nat) "HomeCompilerModel" "textWords" "I") ∈ lw_all := lw_g (lw_at lw_m11 173 rfl) rfl
theorem q2888 : (Jvm.Cond.fieldLink "HomeCompilerModel" (652 : Nat) "HomeCompilerModel" "frame" "I") ∈ lw_all := lw_g (lw_at lw_m11 174 rfl) rfl
theorem q2889 : (Jvm.Cond.fieldLink "HomeCompilerModel" (582 : Nat) "HomeCompilerModel" "inFunction" "I") ∈ lw_all := lw_g (lw_at lw_m11 175 rfl) rfl
theorem q2890 : (Jvm.Cond.fieldLink "HomeCompilerModel" (698 : Nat) "HomeCompilerModel" "loops" "I") ∈ lw_all := lw_g (lw_at lw_m11 176 rfl) rfl
theorem q2891 : (Jvm.Cond.fieldLink "HomeCompilerModel" (701 : Nat) "HomeCompilerModel" "switches" "I") ∈ lw_all := lw_g (lw_at lw_m11 177 rfl) rfl
theorem q2892 : (Jvm.Cond.fieldLink "HomeCompilerModel" (634 : Nat) "HomeCompilerModel" "badK" "Z") ∈ lw_all := lw_g (lw_at lw_m11 178 rfl) rfl
theorem q2893 : (Jvm.Cond.fieldLink "HomeCompilerModel" (637 : Nat) "HomeCompilerModel" "openK" "Z") ∈ lw_all := lw_g (lw_at lw_m11 179 rfl) rfl
theorem q2894 : (Jvm.Cond.fieldLink "HomeCompilerModel" (579 : Nat) "HomeCompilerModel" "symbols" "I") ∈ lw_all := lw_g (lw_at lw_m11 180 rfl) rfl
theorem q2895 : (Jvm.Cond.fieldLink "HomeCompilerModel" (262 : Nat) "HomeCompilerModel" "symbolSort" "[B") ∈ lw_all := lw_g (lw_at lw_m11 181 rfl) rfl
theorem q2896 : (Jvm.Cond.fieldLink "HomeCompilerModel" (265 : Nat) "HomeCompilerModel" "symbolOfText" "[Z") ∈ lw_all := lw_g (lw_at lw_m11 182 rfl) rfl
theorem q2897 : (Jvm.Cond.fieldLink "HomeCompilerModel" (269 : Nat) "HomeCompilerModel" "symbolAt" "[I") ∈ lw_all := lw_g (lw_at lw_m11 183 rfl) rfl
theorem q2898 : (Jvm.Cond.fieldLink "HomeCompilerModel" (272 : Nat) "HomeCompilerModel" "symbolSize" "[I") ∈ lw_all := lw_g (lw_at lw_m11 184 rfl) rfl
theorem q2899 : (Jvm.Cond.fieldLink "HomeCompilerModel" (275 : Nat) "HomeCompilerModel" "knownSymbol" "[I") ∈ lw_all := lw_g (lw_at lw_m11 185 rfl) rfl
theorem q2900 : (Jvm.Cond.fieldLink "HomeCompilerModel" (585 : Nat) "HomeCompilerModel" "cellsNow" "I") ∈ lw_all := lw_g (lw_at lw_m11 186 rfl) rfl
theorem q2901 : (Jvm.Cond.fieldLink "HomeCompilerModel" (721 : Nat) "HomeCompilerModel" "textCells" "I") ∈ lw_all := lw_g (lw_at lw_m11 187 rfl) rfl
theorem q2902 : (Jvm.Cond.fieldLink "HomeCompilerModel" (278 : Nat) "HomeCompilerModel" "frameCells" "[I") ∈ lw_all := lw_g (lw_at lw_m11 188 rfl) rfl
theorem q2903 : (Jvm.Cond.fieldLink "HomeCompilerModel" (643 : Nat) "HomeCompilerModel" "result" "I") ∈ lw_all := lw_g (lw_at lw_m11 189 rfl) rfl
theorem q2904 : (Jvm.Cond.fieldLink "HomeCompilerModel" (658 : Nat) "HomeCompilerModel" "sizeNow" "I") ∈ lw_all := lw_g (lw_at lw_m11 190 rfl) rfl
theorem q2905 : (Jvm.Cond.fieldLink "HomeCompilerModel" (704 : Nat) "HomeCompilerModel" "tall" "I") ∈ lw_all := lw_g (lw_at lw_m11 191 rfl) rfl
theorem q2906 : (Jvm.Cond.fieldLink "HomeCompilerModel" (754 : Nat) "HomeCompilerModel" "runs" "Z") ∈ lw_all := lw_g (lw_at lw_m11 192 rfl) rfl
theorem q2907 : (Jvm.Cond.fieldLink "HomeCompilerModel" (282 : Nat) "HomeCompilerModel" "cells" "[I") ∈ lw_all := lw_g (lw_at lw_m11 193 rfl) rfl
theorem q2908 : (Jvm.Cond.fieldLink "HomeCompilerModel" (778 : Nat) "HomeCompilerModel" "base" "I") ∈ lw_all := lw_g (lw_at lw_m11 194 rfl) rfl
theorem q2909 : (Jvm.Cond.fieldLink "HomeCompilerModel" (856 : Nat) "HomeCompilerModel" "top" "I") ∈ lw_all := lw_g (lw_at lw_m11 195 rfl) rfl
theorem q2910 : (Jvm.Cond.fieldLink "HomeCompilerModel" (763 : Nat) "HomeCompilerModel" "todo" "I") ∈ lw_all := lw_g (lw_at lw_m11 196 rfl) rfl
theorem q2911 : (Jvm.Cond.fieldLink "HomeCompilerModel" (286 : Nat) "HomeCompilerModel" "todoNode" "[I") ∈ lw_all := lw_g (lw_at lw_m11 197 rfl) rfl
theorem q2912 : (Jvm.Cond.fieldLink "HomeCompilerModel" (289 : Nat) "HomeCompilerModel" "todoState" "[I") ∈ lw_all := lw_g (lw_at lw_m11 198 rfl) rfl
theorem q2913 : (Jvm.Cond.fieldLink "HomeCompilerModel" (766 : Nat) "HomeCompilerModel" "found" "I") ∈ lw_all := lw_g (lw_at lw_m11 199 rfl) rfl
theorem q2914 : (Jvm.Cond.fieldLink "HomeCompilerModel" (292 : Nat) "HomeCompilerModel" "numbers" "[I") ∈ lw_all := lw_g (lw_at lw_m11 200 rfl) rfl
theorem q2915 : (Jvm.Cond.fieldLink "HomeCompilerModel" (853 : Nat) "HomeCompilerModel" "calls" "I") ∈ lw_all := lw_g (lw_at lw_m11 201 rfl) rfl
theorem q2916 : (Jvm.Cond.fieldLink "HomeCompilerModel" (295 : Nat) "HomeCompilerModel" "callBase" "[I") ∈ lw_all := lw_g (lw_at lw_m11 202 rfl) rfl
theorem q2917 : (Jvm.Cond.fieldLink "HomeCompilerModel" (298 : Nat) "HomeCompilerModel" "callTop" "[I") ∈ lw_all := lw_g (lw_at lw_m11 203 rfl) rfl
theorem q2918 : (Jvm.Cond.fieldLink "HomeCompilerModel" (772 : Nat) "HomeCompilerModel" "status" "I") ∈ lw_all := lw_g (lw_at lw_m11 204 rfl) rfl
theorem q2919 : (Jvm.Cond.fieldLink "HomeCompilerModel" (748 : Nat) "HomeCompilerModel" "value" "I") ∈ lw_all := lw_g (lw_at lw_m11 205 rfl) rfl
theorem q2920 : (Jvm.Cond.fieldLink "HomeCompilerModel" (751 : Nat) "HomeCompilerModel" "work" "I") ∈ lw_all := lw_g (lw_at lw_m11 206 rfl) rfl
theorem q2921 : (Jvm.Cond.fieldLink "HomeCompilerModel" (850 : Nat) "HomeCompilerModel" "stack" "I") ∈ lw_all := lw_g (lw_at lw_m11 207 rfl) rfl
theorem q2922 : (Jvm.Cond.fieldLink "HomeCompilerModel" (745 : Nat) "HomeCompilerModel" "written" "I") ∈ lw_all := lw_g (lw_at lw_m11 208 rfl) rfl
theorem q2923 : (Jvm.Cond.fieldLink "HomeCompilerModel" (301 : Nat) "HomeCompilerModel" "papers" "[I") ∈ lw_all := lw_g (lw_at lw_m11 209 rfl) rfl
theorem q2924 : (Jvm.Cond.fieldLink "HomeCompilerModel" (862 : Nat) "HomeCompilerModel" "waitingInputs" "I") ∈ lw_all := lw_g (lw_at lw_m11 210 rfl) rfl
theorem q2925 : (Jvm.Cond.fieldLink "HomeCompilerModel" (304 : Nat) "HomeCompilerModel" "inputs" "[I") ∈ lw_all := lw_g (lw_at lw_m11 211 rfl) rfl
theorem q2926 : (Jvm.Cond.fieldLink "HomeCompilerModel" (307 : Nat) "HomeCompilerModel" "disk" "[I") ∈ lw_all := lw_g (lw_at lw_m11 212 rfl) rfl
theorem q2927 : (Jvm.Cond.fieldLink "HomeCompilerModel" (311 : Nat) "HomeCompilerModel" "life" "I") ∈ lw_all := lw_g (lw_at lw_m11 213 rfl) rfl
theorem q2928 : (Jvm.Cond.laysFinal "HomeCompilerModel" "HomeCompilerModel" "keywords" "[Ljava/lang/String;") ∈ lw_all := lw_g (lw_at lw_m11 214 rfl) rfl
theorem q2929 : (Jvm.Cond.soleField "HomeCompilerModel" "keywords") ∈ lw_all := lw_g (lw_at lw_m11 215 rfl) rfl
theorem q2930 : (Jvm.Cond.laysFinal "HomeCompilerModel" "HomeCompilerModel" "marks" "[Ljava/lang/String;") ∈ lw_all := lw_g (lw_at lw_m11 216 rfl) rfl
theorem q2931 : (Jvm.Cond.soleField "HomeCompilerModel" "marks") ∈ lw_all := lw_g (lw_at lw_m11 217 rfl) rfl
theorem q2932 : (Jvm.Cond.laysFinal "HomeCompilerModel" "HomeCompilerModel" "ownNames" "[Ljava/lang/String;") ∈ lw_all := lw_g (lw_at lw_m11 218 rfl) rfl
theorem q2933 : (Jvm.Cond.soleField "HomeCompilerModel" "ownNames") ∈ lw_all := lw_g (lw_at lw_m11 219 rfl) rfl
theorem q2934 : (Jvm.Cond.laysFinal "HomeCompilerModel" "HomeCompilerModel" "ownTakes" "[Ljava/lang/String;") ∈ lw_all := lw_g (lw_at lw_m11 220 rfl) rfl
theorem q2935 : (Jvm.Cond.soleField "HomeCompilerModel" "ownTakes") ∈ lw_all := lw_g (lw_at lw_m11 221 rfl) rfl
theorem q2936 : (Jvm.Cond.lays "HomeCompilerModel" "HomeCompilerModel" "thrown" "I") ∈ lw_all := lw_g (lw_at lw_m11 222 rfl) rfl
theorem q2937 : (Jvm.Cond.soleField "HomeCompilerModel" "thrown") ∈ lw_all := lw_g (lw_at lw_m11 223 rfl) rfl
theorem q2938 : (Jvm.Cond.laysFinal "HomeCompilerModel" "HomeCompilerModel" "tape" "[B") ∈ lw_all := lw_g (lw_at lw_m11 224 rfl) rfl
theorem q2939 : (Jvm.Cond.soleField "HomeCompilerModel" "tape") ∈ lw_all := lw_g (lw_at lw_m11 225 rfl) rfl
theorem q2940 : (Jvm.Cond.lays "HomeCompilerModel" "HomeCompilerModel" "taped" "I") ∈ lw_all := lw_g (lw_at lw_m11 226 rfl) rfl
theorem q2941 : (Jvm.Cond.soleField "HomeCompilerModel" "taped") ∈ lw_all := lw_g (lw_at lw_m11 227 rfl) rfl
theorem q2942 : (Jvm.Cond.laysFinal "HomeCompilerModel" "HomeCompilerModel" "text" "[B") ∈ lw_all := lw_g (lw_at lw_m11 228 rfl) rfl
theorem q2943 : (Jvm.Cond.soleField "HomeCompilerModel" "text") ∈ lw_all := lw_g (lw_at lw_m11 229 rfl) rfl
theorem q2944 : (Jvm.Cond.lays "HomeCompilerModel" "HomeCompilerModel" "length" "I") ∈ lw_all := lw_g (lw_at lw_m11 230 rfl) rfl
theorem q2945 : (Jvm.Cond.soleField "HomeCompilerModel" "length") ∈ lw_all := lw_g (lw_at lw_m11 231 rfl) rfl
theorem q2946 : (Jvm.Cond.lays "HomeCompilerModel" "HomeCompilerModel" "system" "Z") ∈ lw_all := lw_g (lw_at lw_m11 232 rfl) rfl
theorem q2947 : (Jvm.Cond.soleField "HomeCompilerModel" "system") ∈ lw_all := lw_g (lw_at lw_m11 233 rfl) rfl
theorem q2948 : (Jvm.Cond.lays "HomeCompilerModel" "HomeCompilerModel" "count" "I") ∈ lw_all := lw_g (lw_at lw_m11 234 rfl) rfl
theorem q2949 : (Jvm.Cond.soleField "HomeCompilerModel" "count") ∈ lw_all := lw_g (lw_at lw_m11 235 rfl) rfl
theorem q2950 : (Jvm.Cond.laysFinal "HomeCompilerModel" "HomeCompilerModel" "starts" "[I") ∈ lw_all := lw_g (lw_at lw_m11 236 rfl) rfl
theorem q2951 : (Jvm.Cond.soleField "HomeCompilerModel" "starts") ∈ lw_all := lw_g (lw_at lw_m11 237 rfl) rfl
theorem q2952 : (Jvm.Cond.laysFinal "HomeCompilerModel" "HomeCompilerModel" "sizes" "[I") ∈ lw_all := lw_g (lw_at lw_m11 238 rfl) rfl
theorem q2953 : (Jvm.Cond.soleField "HomeCompilerModel" "sizes") ∈ lw_all := lw_g (lw_at lw_m11 239 rfl) rfl
theorem q2954 : (Jvm.Cond.laysFinal "HomeCompilerModel" "HomeCompilerModel" "sorts" "[B") ∈ lw_all := lw_g (lw_at lw_m12 0 rfl) rfl
theorem q2955 : (Jvm.Cond.soleField "HomeCompilerModel" "sorts") ∈ lw_all := lw_g (lw_at lw_m12 1 rfl) rfl
theorem q2956 : (Jvm.Cond.laysFinal "HomeCompilerModel" "HomeCompilerModel" "which" "[I") ∈ lw_all := lw_g (lw_at lw_m12 2 rfl) rfl
theorem q2957 : (Jvm.Cond.soleField "HomeCompilerModel" "which") ∈ lw_all := lw_g (lw_at lw_m12 3 rfl) rfl
theorem q2958 : (Jvm.Cond.lays "HomeCompilerModel" "HomeCompilerModel" "at" "I") ∈ lw_all := lw_g (lw_at lw_m12 4 rfl) rfl
theorem q2959 : (Jvm.Cond.soleField "HomeCompilerModel" "at") ∈ lw_all := lw_g (lw_at lw_m12 5 rfl) rfl
theorem q2960 : (Jvm.Cond.lays "HomeCompilerModel" "HomeCompilerModel" "open" "I") ∈ lw_all := lw_g (lw_at lw_m12 6 rfl) rfl
theorem q2961 : (Jvm.Cond.soleField "HomeCompilerModel" "open") ∈ lw_all := lw_g (lw_at lw_m12 7 rfl) rfl
theorem q2962 : (Jvm.Cond.lays "HomeCompilerModel" "HomeCompilerModel" "nodes" "I") ∈ lw_all := lw_g (lw_at lw_m12 8 rfl) rfl
theorem q2963 : (Jvm.Cond.soleField "HomeCompilerModel" "nodes") ∈ lw_all := lw_g (lw_at lw_m12 9 rfl) rfl
theorem q2964 : (Jvm.Cond.laysFinal "HomeCompilerModel" "HomeCompilerModel" "kinds" "[B") ∈ lw_all := lw_g (lw_at lw_m12 10 rfl) rfl
theorem q2965 : (Jvm.Cond.soleField "HomeCompilerModel" "kinds") ∈ lw_all := lw_g (lw_at lw_m12 11 rfl) rfl
theorem q2966 : (Jvm.Cond.laysFinal "HomeCompilerModel" "HomeCompilerModel" "tokens" "[I") ∈ lw_all := lw_g (lw_at lw_m12 12 rfl) rfl
theorem q2967 : (Jvm.Cond.soleField "HomeCompilerModel" "tokens") ∈ lw_all := lw_g (lw_at lw_m12 13 rfl) rfl
theorem q2968 : (Jvm.Cond.laysFinal "HomeCompilerModel" "HomeCompilerModel" "firsts" "[I") ∈ lw_all := lw_g (lw_at lw_m12 14 rfl) rfl
theorem q2969 : (Jvm.Cond.soleField "HomeCompilerModel" "firsts") ∈ lw_all := lw_g (lw_at lw_m12 15 rfl) rfl
theorem q2970 : (Jvm.Cond.laysFinal "HomeCompilerModel" "HomeCompilerModel" "kidA" "[I") ∈ lw_all := lw_g (lw_at lw_m12 16 rfl) rfl
theorem q2971 : (Jvm.Cond.soleField "HomeCompilerModel" "kidA") ∈ lw_all := lw_g (lw_at lw_m12 17 rfl) rfl
theorem q2972 : (Jvm.Cond.laysFinal "HomeCompilerModel" "HomeCompilerModel" "kidB" "[I") ∈ lw_all := lw_g (lw_at lw_m12 18 rfl) rfl
theorem q2973 : (Jvm.Cond.soleField "HomeCompilerModel" "kidB") ∈ lw_all := lw_g (lw_at lw_m12 19 rfl) rfl
theorem q2974 : (Jvm.Cond.laysFinal "HomeCompilerModel" "HomeCompilerModel" "kidC" "[I") ∈ lw_all := lw_g (lw_at lw_m12 20 rfl) rfl
theorem q2975 : (Jvm.Cond.soleField "HomeCompilerModel" "kidC") ∈ lw_all := lw_g (lw_at lw_m12 21 rfl) rfl
theorem q2976 : (Jvm.Cond.laysFinal "HomeCompilerModel" "HomeCompilerModel" "kidD" "[I") ∈ lw_all := lw_g (lw_at lw_m12 22 rfl) rfl
theorem q2977 : (Jvm.Cond.soleField "HomeCompilerModel" "kidD") ∈ lw_all := lw_g (lw_at lw_m12 23 rfl) rfl
theorem q2978 : (Jvm.Cond.laysFinal "HomeCompilerModel" "HomeCompilerModel" "nexts" "[I") ∈ lw_all := lw_g (lw_at lw_m12 24 rfl) rfl
theorem q2979 : (Jvm.Cond.soleField "HomeCompilerModel" "nexts") ∈ lw_all := lw_g (lw_at lw_m12 25 rfl) rfl
theorem q2980 : (Jvm.Cond.laysFinal "HomeCompilerModel" "HomeCompilerModel" "ops" "[I") ∈ lw_all := lw_g (lw_at lw_m12 26 rfl) rfl
theorem q2981 : (Jvm.Cond.soleField "HomeCompilerModel" "ops") ∈ lw_all := lw_g (lw_at lw_m12 27 rfl) rfl
theorem q2982 : (Jvm.Cond.laysFinal "HomeCompilerModel" "HomeCompilerModel" "depths" "[I") ∈ lw_all := lw_g (lw_at lw_m12 28 rfl) rfl
theorem q2983 : (Jvm.Cond.soleField "HomeCompilerModel" "depths") ∈ lw_all := lw_g (lw_at lw_m12 29 rfl) rfl
theorem q2984 : (Jvm.Cond.lays "HomeCompilerModel" "HomeCompilerModel" "program" "I") ∈ lw_all := lw_g (lw_at lw_m12 30 rfl) rfl
theorem q2985 : (Jvm.Cond.soleField "HomeCompilerModel" "program") ∈ lw_all := lw_g (lw_at lw_m12 31 rfl) rfl
theorem q2986 : (Jvm.Cond.lays "HomeCompilerModel" "HomeCompilerModel" "programEnd" "I") ∈ lw_all := lw_g (lw_at lw_m12 32 rfl) rfl
theorem q2987 : (Jvm.Cond.soleField "HomeCompilerModel" "programEnd") ∈ lw_all := lw_g (lw_at lw_m12 33 rfl) rfl
theorem q2988 : (Jvm.Cond.lays "HomeCompilerModel" "HomeCompilerModel" "waiting" "I") ∈ lw_all := lw_g (lw_at lw_m12 34 rfl) rfl
theorem q2989 : (Jvm.Cond.soleField "HomeCompilerModel" "waiting") ∈ lw_all := lw_g (lw_at lw_m12 35 rfl) rfl
theorem q2990 : (Jvm.Cond.laysFinal "HomeCompilerModel" "HomeCompilerModel" "waitRank" "[I") ∈ lw_all := lw_g (lw_at lw_m12 36 rfl) rfl
theorem q2991 : (Jvm.Cond.soleField "HomeCompilerModel" "waitRank") ∈ lw_all := lw_g (lw_at lw_m12 37 rfl) rfl
theorem q2992 : (Jvm.Cond.laysFinal "HomeCompilerModel" "HomeCompilerModel" "waitToken" "[I") ∈ lw_all := lw_g (lw_at lw_m12 38 rfl) rfl
theorem q2993 : (Jvm.Cond.soleField "HomeCompilerModel" "waitToken") ∈ lw_all := lw_g (lw_at lw_m12 39 rfl) rfl
theorem q2994 : (Jvm.Cond.laysFinal "HomeCompilerModel" "HomeCompilerModel" "waitNode" "[I") ∈ lw_all := lw_g (lw_at lw_m12 40 rfl) rfl
theorem q2995 : (Jvm.Cond.soleField "HomeCompilerModel" "waitNode") ∈ lw_all := lw_g (lw_at lw_m12 41 rfl) rfl
theorem q2996 : (Jvm.Cond.lays "HomeCompilerModel" "HomeCompilerModel" "wrong" "I") ∈ lw_all := lw_g (lw_at lw_m12 42 rfl) rfl
theorem q2997 : (Jvm.Cond.soleField "HomeCompilerModel" "wrong") ∈ lw_all := lw_g (lw_at lw_m12 43 rfl) rfl
theorem q2998 : (Jvm.Cond.lays "HomeCompilerModel" "HomeCompilerModel" "wrongToken" "I") ∈ lw_all := lw_g (lw_at lw_m12 44 rfl) rfl
theorem q2999 : (Jvm.Cond.soleField "HomeCompilerModel" "wrongToken") ∈ lw_all := lw_g (lw_at lw_m12 45 rfl) rfl
theorem q3000 : (Jvm.Cond.lays "HomeCompilerModel" "HomeCompilerModel" "answer" "I") ∈ lw_all := lw_g (lw_at lw_m12 46 rfl) rfl
theorem q3001 : (Jvm.Cond.soleField "HomeCompilerModel" "answer") ∈ lw_all := lw_g (lw_at lw_m12 47 rfl) rfl
theorem q3002 : (Jvm.Cond.lays "HomeCompilerModel" "HomeCompilerModel" "where" "I") ∈ lw_all := lw_g (lw_at lw_m12 48 rfl) rfl
theorem q3003 : (Jvm.Cond.soleField "HomeCompilerModel" "where") ∈ lw_all := lw_g (lw_at lw_m12 49 rfl) rfl
theorem q3004 : (Jvm.Cond.lays "HomeCompilerModel" "HomeCompilerModel" "known" "I") ∈ lw_all := lw_g (lw_at lw_m12 50 rfl) rfl
theorem q3005 : (Jvm.Cond.soleField "HomeCompilerModel" "known") ∈ lw_all := lw_g (lw_at lw_m12 51 rfl) rfl
theorem q3006 : (Jvm.Cond.laysFinal "HomeCompilerModel" "HomeCompilerModel" "knownToken" "[I") ∈ lw_all := lw_g (lw_at lw_m12 52 rfl) rfl
theorem q3007 : (Jvm.Cond.soleField "HomeCompilerModel" "knownToken") ∈ lw_all := lw_g (lw_at lw_m12 53 rfl) rfl
theorem q3008 : (Jvm.Cond.laysFinal "HomeCompilerModel" "HomeCompilerModel" "knownWhat" "[I") ∈ lw_all := lw_g (lw_at lw_m12 54 rfl) rfl
theorem q3009 : (Jvm.Cond.soleField "HomeCompilerModel" "knownWhat") ∈ lw_all := lw_g (lw_at lw_m12 55 rfl) rfl
theorem q3010 : (Jvm.Cond.laysFinal "HomeCompilerModel" "HomeCompilerModel" "knownValue" "[I") ∈ lw_all := lw_g (lw_at lw_m12 56 rfl) rfl
theorem q3011 : (Jvm.Cond.soleField "HomeCompilerModel" "knownValue") ∈ lw_all := lw_g (lw_at lw_m12 57 rfl) rfl
theorem q3012 : (Jvm.Cond.lays "HomeCompilerModel" "HomeCompilerModel" "scope" "I") ∈ lw_all := lw_g (lw_at lw_m12 58 rfl) rfl
theorem q3013 : (Jvm.Cond.soleField "HomeCompilerModel" "scope") ∈ lw_all := lw_g (lw_at lw_m12 59 rfl) rfl
theorem q3014 : (Jvm.Cond.lays "HomeCompilerModel" "HomeCompilerModel" "functionCount" "I") ∈ lw_all := lw_g (lw_at lw_m12 60 rfl) rfl
theorem q3015 : (Jvm.Cond.soleField "HomeCompilerModel" "functionCount") ∈ lw_all := lw_g (lw_at lw_m12 61 rfl) rfl
theorem q3016 : (Jvm.Cond.laysFinal "HomeCompilerModel" "HomeCompilerModel" "functionNode" "[I") ∈ lw_all := lw_g (lw_at lw_m12 62 rfl) rfl
theorem q3017 : (Jvm.Cond.soleField "HomeCompilerModel" "functionNode") ∈ lw_all := lw_g (lw_at lw_m12 63 rfl) rfl
theorem q3018 : (Jvm.Cond.laysFinal "HomeCompilerModel" "HomeCompilerModel" "frames" "[I") ∈ lw_all := lw_g (lw_at lw_m12 64 rfl) rfl
theorem q3019 : (Jvm.Cond.soleField "HomeCompilerModel" "frames") ∈ lw_all := lw_g (lw_at lw_m12 65 rfl) rfl
theorem q3020 : (Jvm.Cond.lays "HomeCompilerModel" "HomeCompilerModel" "textWords" "I") ∈ lw_all := lw_g (lw_at lw_m12 66 rfl) rfl
theorem q3021 : (Jvm.Cond.soleField "HomeCompilerModel" "textWords") ∈ lw_all := lw_g (lw_at lw_m12 67 rfl) rfl
theorem q3022 : (Jvm.Cond.lays "HomeCompilerModel" "HomeCompilerModel" "frame" "I") ∈ lw_all := lw_g (lw_at lw_m12 68 rfl) rfl
theorem q3023 : (Jvm.Cond.soleField "HomeCompilerModel" "frame") ∈ lw_all := lw_g (lw_at lw_m12 69 rfl) rfl
theorem q3024 : (Jvm.Cond.lays "HomeCompilerModel" "HomeCompilerModel" "inFunction" "I") ∈ lw_all := lw_g (lw_at lw_m12 70 rfl) rfl
theorem q3025 : (Jvm.Cond.soleField "HomeCompilerModel" "inFunction") ∈ lw_all := lw_g (lw_at lw_m12 71 rfl) rfl
theorem q3026 : (Jvm.Cond.lays "HomeCompilerModel" "HomeCompilerModel" "loops" "I") ∈ lw_all := lw_g (lw_at lw_m12 72 rfl) rfl
theorem q3027 : (Jvm.Cond.soleField "HomeCompilerModel" "loops") ∈ lw_all := lw_g (lw_at lw_m12 73 rfl) rfl
theorem q3028 : (Jvm.Cond.lays "HomeCompilerModel" "HomeCompilerModel" "switches" "I") ∈ lw_all := lw_g (lw_at lw_m12 74 rfl) rfl
theorem q3029 : (Jvm.Cond.soleField "HomeCompilerModel" "switches") ∈ lw_all := lw_g (lw_at lw_m12 75 rfl) rfl
theorem q3030 : (Jvm.Cond.lays "HomeCompilerModel" "HomeCompilerModel" "badK" "Z") ∈ lw_all := lw_g (lw_at lw_m12 76 rfl) rfl
theorem q3031 : (Jvm.Cond.soleField "HomeCompilerModel" "badK") ∈ lw_all := lw_g (lw_at lw_m12 77 rfl) rfl
theorem q3032 : (Jvm.Cond.lays "HomeCompilerModel" "HomeCompilerModel" "openK" "Z") ∈ lw_all := lw_g (lw_at lw_m12 78 rfl) rfl
theorem q3033 : (Jvm.Cond.soleField "HomeCompilerModel" "openK") ∈ lw_all := lw_g (lw_at lw_m12 79 rfl) rfl
theorem q3034 : (Jvm.Cond.lays "HomeCompilerModel" "HomeCompilerModel" "symbols" "I") ∈ lw_all := lw_g (lw_at lw_m12 80 rfl) rfl
theorem q3035 : (Jvm.Cond.soleField "HomeCompilerModel" "symbols") ∈ lw_all := lw_g (lw_at lw_m12 81 rfl) rfl
theorem q3036 : (Jvm.Cond.laysFinal "HomeCompilerModel" "HomeCompilerModel" "symbolSort" "[B") ∈ lw_all := lw_g (lw_at lw_m12 82 rfl) rfl
theorem q3037 : (Jvm.Cond.soleField "HomeCompilerModel" "symbolSort") ∈ lw_all := lw_g (lw_at lw_m12 83 rfl) rfl
theorem q3038 : (Jvm.Cond.laysFinal "HomeCompilerModel" "HomeCompilerModel" "symbolOfText" "[Z") ∈ lw_all := lw_g (lw_at lw_m12 84 rfl) rfl
theorem q3039 : (Jvm.Cond.soleField "HomeCompilerModel" "symbolOfText") ∈ lw_all := lw_g (lw_at lw_m12 85 rfl) rfl
theorem q3040 : (Jvm.Cond.laysFinal "HomeCompilerModel" "HomeCompilerModel" "symbolAt" "[I") ∈ lw_all := lw_g (lw_at lw_m12 86 rfl) rfl
theorem q3041 : (Jvm.Cond.soleField "HomeCompilerModel" "symbolAt") ∈ lw_all := lw_g (lw_at lw_m12 87 rfl) rfl
theorem q3042 : (Jvm.Cond.laysFinal "HomeCompilerModel" "HomeCompilerModel" "symbolSize" "[I") ∈ lw_all := lw_g (lw_at lw_m12 88 rfl) rfl
theorem q3043 : (Jvm.Cond.soleField "HomeCompilerModel" "symbolSize") ∈ lw_all := lw_g (lw_at lw_m12 89 rfl) rfl
theorem q3044 : (Jvm.Cond.laysFinal "HomeCompilerModel" "HomeCompilerModel" "knownSymbol" "[I") ∈ lw_all := lw_g (lw_at lw_m12 90 rfl) rfl
theorem q3045 : (Jvm.Cond.soleField "HomeCompilerModel" "knownSymbol") ∈ lw_all := lw_g (lw_at lw_m12 91 rfl) rfl
theorem q3046 : (Jvm.Cond.lays "HomeCompilerModel" "HomeCompilerModel" "cellsNow" "I") ∈ lw_all := lw_g (lw_at lw_m12 92 rfl) rfl
theorem q3047 : (Jvm.Cond.soleField "HomeCompilerModel" "cellsNow") ∈ lw_all := lw_g (lw_at lw_m12 93 rfl) rfl
theorem q3048 : (Jvm.Cond.lays "HomeCompilerModel" "HomeCompilerModel" "textCells" "I") ∈ lw_all := lw_g (lw_at lw_m12 94 rfl) rfl
theorem q3049 : (Jvm.Cond.soleField "HomeCompilerModel" "textCells") ∈ lw_all := lw_g (lw_at lw_m12 95 rfl) rfl
theorem q3050 : (Jvm.Cond.laysFinal "HomeCompilerModel" "HomeCompilerModel" "frameCells" "[I") ∈ lw_all := lw_g (lw_at lw_m12 96 rfl) rfl
theorem q3051 : (Jvm.Cond.soleField "HomeCompilerModel" "frameCells") ∈ lw_all := lw_g (lw_at lw_m12 97 rfl) rfl
theorem q3052 : (Jvm.Cond.lays "HomeCompilerModel" "HomeCompilerModel" "result" "I") ∈ lw_all := lw_g (lw_at lw_m12 98 rfl) rfl
theorem q3053 : (Jvm.Cond.soleField "HomeCompilerModel" "result") ∈ lw_all := lw_g (lw_at lw_m12 99 rfl) rfl
theorem q3054 : (Jvm.Cond.lays "HomeCompilerModel" "HomeCompilerModel" "sizeNow" "I") ∈ lw_all := lw_g (lw_at lw_m12 100 rfl) rfl
theorem q3055 : (Jvm.Cond.soleField "HomeCompilerModel" "sizeNow") ∈ lw_all := lw_g (lw_at lw_m12 101 rfl) rfl
theorem q3056 : (Jvm.Cond.lays "HomeCompilerModel" "HomeCompilerModel" "tall" "I") ∈ lw_all := lw_g (lw_at lw_m12 102 rfl) rfl
theorem q3057 : (Jvm.Cond.soleField "HomeCompilerModel" "tall") ∈ lw_all := lw_g (lw_at lw_m12 103 rfl) rfl
theorem q3058 : (Jvm.Cond.lays "HomeCompilerModel" "HomeCompilerModel" "runs" "Z") ∈ lw_all := lw_g (lw_at lw_m12 104 rfl) rfl
theorem q3059 : (Jvm.Cond.soleField "HomeCompilerModel" "runs") ∈ lw_all := lw_g (lw_at lw_m12 105 rfl) rfl
theorem q3060 : (Jvm.Cond.laysFinal "HomeCompilerModel" "HomeCompilerModel" "cells" "[I") ∈ lw_all := lw_g (lw_at lw_m12 106 rfl) rfl
theorem q3061 : (Jvm.Cond.soleField "HomeCompilerModel" "cells") ∈ lw_all := lw_g (lw_at lw_m12 107 rfl) rfl
theorem q3062 : (Jvm.Cond.lays "HomeCompilerModel" "HomeCompilerModel" "base" "I") ∈ lw_all := lw_g (lw_at lw_m12 108 rfl) rfl
theorem q3063 : (Jvm.Cond.soleField "HomeCompilerModel" "base") ∈ lw_all := lw_g (lw_at lw_m12 109 rfl) rfl
theorem q3064 : (Jvm.Cond.lays "HomeCompilerModel" "HomeCompilerModel" "top" "I") ∈ lw_all := lw_g (lw_at lw_m12 110 rfl) rfl
theorem q3065 : (Jvm.Cond.soleField "HomeCompilerModel" "top") ∈ lw_all := lw_g (lw_at lw_m12 111 rfl) rfl
theorem q3066 : (Jvm.Cond.lays "HomeCompilerModel" "HomeCompilerModel" "todo" "I") ∈ lw_all := lw_g (lw_at lw_m12 112 rfl) rfl
theorem q3067 : (Jvm.Cond.soleField "HomeCompilerModel" "todo") ∈ lw_all := lw_g (lw_at lw_m12 113 rfl) rfl
theorem q3068 : (Jvm.Cond.laysFinal "HomeCompilerModel" "HomeCompilerModel" "todoNode" "[I") ∈ lw_all := lw_g (lw_at lw_m12 114 rfl) rfl
theorem q3069 : (Jvm.Cond.soleField "HomeCompilerModel" "todoNode") ∈ lw_all := lw_g (lw_at lw_m12 115 rfl) rfl
theorem q3070 : (Jvm.Cond.laysFinal "HomeCompilerModel" "HomeCompilerModel" "todoState" "[I") ∈ lw_all := lw_g (lw_at lw_m12 116 rfl) rfl
theorem q3071 : (Jvm.Cond.soleField "HomeCompilerModel" "todoState") ∈ lw_all := lw_g (lw_at lw_m12 117 rfl) rfl
theorem q3072 : (Jvm.Cond.lays "HomeCompilerModel" "HomeCompilerModel" "found" "I") ∈ lw_all := lw_g (lw_at lw_m12 118 rfl) rfl
theorem q3073 : (Jvm.Cond.soleField "HomeCompilerModel" "found") ∈ lw_all := lw_g (lw_at lw_m12 119 rfl) rfl
theorem q3074 : (Jvm.Cond.laysFinal "HomeCompilerModel" "HomeCompilerModel" "numbers" "[I") ∈ lw_all := lw_g (lw_at lw_m12 120 rfl) rfl
theorem q3075 : (Jvm.Cond.soleField "HomeCompilerModel" "numbers") ∈ lw_all := lw_g (lw_at lw_m12 121 rfl) rfl
theorem q3076 : (Jvm.Cond.lays "HomeCompilerModel" "HomeCompilerModel" "calls" "I") ∈ lw_all := lw_g (lw_at lw_m12 122 rfl) rfl
theorem q3077 : (Jvm.Cond.soleField "HomeCompilerModel" "calls") ∈ lw_all := lw_g (lw_at lw_m12 123 rfl) rfl
theorem q3078 : (Jvm.Cond.laysFinal "HomeCompilerModel" "HomeCompilerModel" "callBase" "[I") ∈ lw_all := lw_g (lw_at lw_m12 124 rfl) rfl
theorem q3079 : (Jvm.Cond.soleField "HomeCompilerModel" "callBase") ∈ lw_all := lw_g (lw_at lw_m12 125 rfl) rfl
theorem q3080 : (Jvm.Cond.laysFinal "HomeCompilerModel" "HomeCompilerModel" "callTop" "[I") ∈ lw_all := lw_g (lw_at lw_m12 126 rfl) rfl
theorem q3081 : (Jvm.Cond.soleField "HomeCompilerModel" "callTop") ∈ lw_all := lw_g (lw_at lw_m12 127 rfl) rfl
theorem q3082 : (Jvm.Cond.lays "HomeCompilerModel" "HomeCompilerModel" "status" "I") ∈ lw_all := lw_g (lw_at lw_m12 128 rfl) rfl
theorem q3083 : (Jvm.Cond.soleField "HomeCompilerModel" "status") ∈ lw_all := lw_g (lw_at lw_m12 129 rfl) rfl
theorem q3084 : (Jvm.Cond.lays "HomeCompilerModel" "HomeCompilerModel" "value" "I") ∈ lw_all := lw_g (lw_at lw_m12 130 rfl) rfl
theorem q3085 : (Jvm.Cond.soleField "HomeCompilerModel" "value") ∈ lw_all := lw_g (lw_at lw_m12 131 rfl) rfl
theorem q3086 : (Jvm.Cond.lays "HomeCompilerModel" "HomeCompilerModel" "work" "I") ∈ lw_all := lw_g (lw_at lw_m12 132 rfl) rfl
theorem q3087 : (Jvm.Cond.soleField "HomeCompilerModel" "work") ∈ lw_all := lw_g (lw_at lw_m12 133 rfl) rfl
theorem q3088 : (Jvm.Cond.lays "HomeCompilerModel" "HomeCompilerModel" "stack" "I") ∈ lw_all := lw_g (lw_at lw_m12 134 rfl) rfl
theorem q3089 : (Jvm.Cond.soleField "HomeCompilerModel" "stack") ∈ lw_all := lw_g (lw_at lw_m12 135 rfl) rfl
theorem q3090 : (Jvm.Cond.lays "HomeCompilerModel" "HomeCompilerModel" "written" "I") ∈ lw_all := lw_g (lw_at lw_m12 136 rfl) rfl
theorem q3091 : (Jvm.Cond.soleField "HomeCompilerModel" "written") ∈ lw_all := lw_g (lw_at lw_m12 137 rfl) rfl
theorem q3092 : (Jvm.Cond.laysFinal "HomeCompilerModel" "HomeCompilerModel" "papers" "[I") ∈ lw_all := lw_g (lw_at lw_m12 138 rfl) rfl
theorem q3093 : (Jvm.Cond.soleField "HomeCompilerModel" "papers") ∈ lw_all := lw_g (lw_at lw_m12 139 rfl) rfl
theorem q3094 : (Jvm.Cond.lays "HomeCompilerModel" "HomeCompilerModel" "waitingInputs" "I") ∈ lw_all := lw_g (lw_at lw_m12 140 rfl) rfl
theorem q3095 : (Jvm.Cond.soleField "HomeCompilerModel" "waitingInputs") ∈ lw_all := lw_g (lw_at lw_m12 141 rfl) rfl
theorem q3096 : (Jvm.Cond.laysFinal "HomeCompilerModel" "HomeCompilerModel" "inputs" "[I") ∈ lw_all := lw_g (lw_at lw_m12 142 rfl) rfl
theorem q3097 : (Jvm.Cond.soleField "HomeCompilerModel" "inputs") ∈ lw_all := lw_g (lw_at lw_m12 143 rfl) rfl
theorem q3098 : (Jvm.Cond.laysFinal "HomeCompilerModel" "HomeCompilerModel" "disk" "[I") ∈ lw_all := lw_g (lw_at lw_m12 144 rfl) rfl
theorem q3099 : (Jvm.Cond.soleField "HomeCompilerModel" "disk") ∈ lw_all := lw_g (lw_at lw_m12 145 rfl) rfl
theorem q3100 : (Jvm.Cond.lays "HomeCompilerModel" "HomeCompilerModel" "life" "I") ∈ lw_all := lw_g (lw_at lw_m12 146 rfl) rfl
theorem q3101 : (Jvm.Cond.soleField "HomeCompilerModel" "life") ∈ lw_all := lw_g (lw_at lw_m12 147 rfl) rfl
theorem q3102 : (Jvm.Cond.superclass "HomeCompilerModel" "java/lang/Object") ∈ lw_all := lw_g (lw_at lw_m12 148 rfl) rfl
theorem q3104 : (Jvm.Cond.instanceMethod ({ cls := "HomeCompilerModel", name := "thrown", desc := "()I" } : Jvm.MethodName)) ∈ lw_all := lw_g (lw_at lw_m12 150 rfl) rfl
theorem q3105 : (Jvm.Cond.selects "HomeCompilerModel" ({ cls := "HomeCompilerModel", name := "thrown", desc := "()I" } : Jvm.MethodName) ({ cls := "HomeCompilerModel", name := "thrown", desc := "()I" } : Jvm.MethodName)) ∈ lw_all := lw_g (lw_at lw_m12 151 rfl) rfl
theorem q3106 : (Jvm.Cond.code ({ cls := "HomeCompilerModel", name := "thrown", desc := "()I" } : Jvm.MethodName) prog_23_method_2_code (1 : Nat) (Option.some Jvm.ClassFile.FieldType.int)) ∈ lw_all := lw_g (lw_at lw_m12 152 rfl) rfl
theorem q3108 : (Jvm.Cond.instanceMethod ({ cls := "HomeCompilerModel", name := "feed", desc := "(IIIII)V" } : Jvm.MethodName)) ∈ lw_all := lw_g (lw_at lw_m12 154 rfl) rfl
theorem q3109 : (Jvm.Cond.selects "HomeCompilerModel" ({ cls := "HomeCompilerModel", name := "feed", desc := "(IIIII)V" } : Jvm.MethodName) ({ cls := "HomeCompilerModel", name := "feed", desc := "(IIIII)V" } : Jvm.MethodName)) ∈ lw_all := lw_g (lw_at lw_m12 155 rfl) rfl
theorem q3110 : (Jvm.Cond.code ({ cls := "HomeCompilerModel", name := "feed", desc := "(IIIII)V" } : Jvm.MethodName) prog_23_method_3_code (8 : Nat) (Option.none : Option Jvm.ClassFile.FieldType)) ∈ lw_all := lw_g (lw_at lw_m12 156 rfl) rfl
theorem q3112 : (Jvm.Cond.instanceMethod ({ cls := "HomeCompilerModel", name := "end", desc := "(I)V" } : Jvm.MethodName)) ∈ lw_all := lw_g (lw_at lw_m12 158 rfl) rfl
theorem q3113 : (Jvm.Cond.selects "HomeCompilerModel" ({ cls := "HomeCompilerModel", name := "end", desc := "(I)V" } : Jvm.MethodName) ({ cls := "HomeCompilerModel", name := "end", desc := "(I)V" } : Jvm.MethodName)) ∈ lw_all := lw_g (lw_at lw_m12 159 rfl) rfl
theorem q3114 : (Jvm.Cond.code ({ cls := "HomeCompilerModel", name := "end", desc := "(I)V" } : Jvm.MethodName) prog_23_method_4_code (2 : Nat) (Option.none : Option Jvm.ClassFile.FieldType)) ∈ lw_all := lw_g (lw_at lw_m12 160 rfl) rfl
theorem q3116 : (Jvm.Cond.instanceMethod ({ cls := "HomeCompilerModel", name := "load", desc := "()I" } : Jvm.MethodName)) ∈ lw_all := lw_g (lw_at lw_m12 162 rfl) rfl
theorem q3117 : (Jvm.Cond.selects "HomeCompilerModel" ({ cls := "HomeCompilerModel", name := "load", desc := "()I" } : Jvm.MethodName) ({ cls := "HomeCompilerModel", name := "load", desc := "()I" } : Jvm.MethodName)) ∈ lw_all := lw_g (lw_at lw_m12 163 rfl) rfl
theorem q3118 : (Jvm.Cond.code ({ cls := "HomeCompilerModel", name := "load", desc := "()I" } : Jvm.MethodName) prog_23_method_109_code (2 : Nat) (Option.some Jvm.ClassFile.FieldType.int)) ∈ lw_all := lw_g (lw_at lw_m12 164 rfl) rfl
theorem q3119 : (Jvm.Cond.methodLink "HomeCompilerModel" (739 : Nat) ({ cls := "HomeCompilerModel", name := "readTokens", desc := "()V" } : Jvm.MethodName)) ∈ lw_all := lw_g (lw_at lw_m12 165 rfl) rfl
theorem q3120 : (Jvm.Cond.privateMethod ({ cls := "HomeCompilerModel", name := "readTokens", desc := "()V" } : Jvm.MethodName)) ∈ lw_tbl := lw_at lw_m12 166 rfl
theorem q3121 : (Jvm.Cond.instanceMethod ({ cls := "HomeCompilerModel", name := "readTokens", desc := "()V" } : Jvm.MethodName)) ∈ lw_all := lw_g (lw_at lw_m12 167 rfl) rfl
theorem q3122 : (Jvm.Cond.code ({ cls := "HomeCompilerModel", name := "readTokens", desc := "()V" } : Jvm.MethodName) prog_23_method_17_code (4 : Nat) (Option.none : Option Jvm.ClassFile.FieldType)) ∈ lw_all := lw_g (lw_at lw_m12 168 rfl) rfl
theorem q3123 : (Jvm.Cond.methodLink "HomeCompilerModel" (375 : Nat) ({ cls := "HomeCompilerModel", name := "skip", desc := "(I)I" } : Jvm.MethodName)) ∈ lw_all := lw_g (lw_at lw_m12 169 rfl) rfl
theorem q3124 : (Jvm.Cond.privateMethod ({ cls := "HomeCompilerModel", name := "skip", desc := "(I)I" } : Jvm.MethodName)) ∈ lw_tbl := lw_at lw_m12 170 rfl
theorem q3125 : (Jvm.Cond.instanceMethod ({ cls := "HomeCompilerModel", name := "skip", desc := "(I)I" } : Jvm.MethodName)) ∈ lw_all := lw_g (lw_at lw_m12 171 rfl) rfl
theorem q3126 : (Jvm.Cond.code ({ cls := "HomeCompilerModel", name := "skip", desc := "(I)I" } : Jvm.MethodName) prog_23_method_9_code (6 : Nat) (Option.some Jvm.ClassFile.FieldType.int)) ∈ lw_all := lw_g (lw_at lw_m12 172 rfl) rfl
theorem q3127 : (Jvm.Cond.methodLink "HomeCompilerModel" (328 : Nat) ({ cls := "HomeCompilerModel", name := "byteAt", desc := "(I)I" } : Jvm.MethodName)) ∈ lw_all := lw_g (lw_at lw_m12 173 rfl) rfl
theorem q3128 : (Jvm.Cond.privateMethod ({ cls := "HomeCompilerModel", name := "byteAt", desc := "(I)I" } : Jvm.MethodName)) ∈ lw_tbl := lw_at lw_m12 174 rfl
theorem q3129 : (Jvm.Cond.instanceMethod ({ cls := "HomeCompilerModel", name := "byteAt", desc := "(I)I" } : Jvm.MethodName)) ∈ lw_all := lw_g (lw_at lw_m12 175 rfl) rfl
theorem q3130 : (Jvm.Cond.code ({ cls := "HomeCompilerModel", name := "byteAt", desc := "(I)I" } : Jvm.MethodName) prog_23_method_5_code (2 : Nat) (Option.some Jvm.ClassFile.FieldType.int)) ∈ lw_all := lw_g (lw_at lw_m12 176 rfl) rfl
theorem q3131 : (Jvm.Cond.methodLink "HomeCompilerModel" (378 : Nat) ({ cls := "HomeCompilerModel", name := "readToken", desc := "(I)Z" } : Jvm.MethodName)) ∈ lw_all := lw_g (lw_at lw_m12 177 rfl) rfl
theorem q3132 : (Jvm.Cond.privateMethod ({ cls := "HomeCompilerModel", name := "readToken", desc := "(I)Z" } : Jvm.MethodName)) ∈ lw_tbl := lw_at lw_m12 178 rfl
theorem q3133 : (Jvm.Cond.instanceMethod ({ cls := "HomeCompilerModel", name := "readToken", desc := "(I)Z" } : Jvm.MethodName)) ∈ lw_all := lw_g (lw_at lw_m12 179 rfl) rfl
theorem q3134 : (Jvm.Cond.code ({ cls := "HomeCompilerModel", name := "readToken", desc := "(I)Z" } : Jvm.MethodName) prog_23_method_14_code (5 : Nat) (Option.some Jvm.ClassFile.FieldType.boolean)) ∈ lw_all := lw_g (lw_at lw_m12 180 rfl) rfl
theorem q3135 : (Jvm.Cond.methodLink "HomeCompilerModel" (346 : Nat) ({ cls := "HomeCompilerModel", name := "isLetter", desc := "(I)Z" } : Jvm.MethodName)) ∈ lw_all := lw_g (lw_at lw_m12 181 rfl) rfl
theorem q3136 : (Jvm.Cond.static ({ cls := "HomeCompilerModel", name := "isLetter", desc := "(I)Z" } : Jvm.MethodName)) ∈ lw_all := lw_g (lw_at lw_m12 182 rfl) rfl
theorem q3137 : (Jvm.Cond.code ({ cls := "HomeCompilerModel", name := "isLetter", desc := "(I)Z" } : Jvm.MethodName) prog_23_method_7_code (1 : Nat) (Option.some Jvm.ClassFile.FieldType.boolean)) ∈ lw_all := lw_g (lw_at lw_m12 183 rfl) rfl
theorem q3138 : (Jvm.Cond.methodLink "HomeCompilerModel" (324 : Nat) ({ cls := "HomeCompilerModel", name := "isDigit", desc := "(I)Z" } : Jvm.MethodName)) ∈ lw_all := lw_g (lw_at lw_m12 184 rfl) rfl
theorem q3139 : (Jvm.Cond.static ({ cls := "HomeCompilerModel", name := "isDigit", desc := "(I)Z" } : Jvm.MethodName)) ∈ lw_all := lw_g (lw_at lw_m12 185 rfl) rfl
theorem q3140 : (Jvm.Cond.code ({ cls := "HomeCompilerModel", name := "isDigit", desc := "(I)Z" } : Jvm.MethodName) prog_23_method_6_code (1 : Nat) (Option.some Jvm.ClassFile.FieldType.boolean)) ∈ lw_all := lw_g (lw_at lw_m12 186 rfl) rfl
theorem q3141 : (Jvm.Cond.methodLink "HomeCompilerModel" (349 : Nat) ({ cls := "HomeCompilerModel", name := "keyword", desc := "(II)I" } : Jvm.MethodName)) ∈ lw_all := lw_g (lw_at lw_m12 187 rfl) rfl
theorem q3142 : (Jvm.Cond.privateMethod ({ cls := "HomeCompilerModel", name := "keyword", desc := "(II)I" } : Jvm.MethodName)) ∈ lw_tbl := lw_at lw_m12 188 rfl
theorem q3143 : (Jvm.Cond.instanceMethod ({ cls := "HomeCompilerModel", name := "keyword", desc := "(II)I" } : Jvm.MethodName)) ∈ lw_all := lw_g (lw_at lw_m12 189 rfl) rfl
theorem q3144 : (Jvm.Cond.code ({ cls := "HomeCompilerModel", name := "keyword", desc := "(II)I" } : Jvm.MethodName) prog_23_method_13_code (4 : Nat) (Option.some Jvm.ClassFile.FieldType.int)) ∈ lw_all := lw_g (lw_at lw_m12 190 rfl) rfl
theorem q3145 : (Jvm.Cond.methodLink "HomeCompilerModel" (335 : Nat) ({ cls := "java/lang/String", name := "length", desc := "()I" } : Jvm.MethodName)) ∈ lw_all := lw_g (lw_at lw_m12 191 rfl) rfl
theorem q3146 : (Jvm.Cond.methodLink "HomeCompilerModel" (342 : Nat) ({ cls := "HomeCompilerModel", name := "stands", desc := "(ILjava/lang/String;)Z" } : Jvm.MethodName)) ∈ lw_all := lw_g (lw_at lw_m12 192 rfl) rfl
theorem q3147 : (Jvm.Cond.privateMethod ({ cls := "HomeCompilerModel", name := "stands", desc := "(ILjava/lang/String;)Z" } : Jvm.MethodName)) ∈ lw_tbl := lw_at lw_m12 193 rfl
theorem q3148 : (Jvm.Cond.instanceMethod ({ cls := "HomeCompilerModel", name := "stands", desc := "(ILjava/lang/String;)Z" } : Jvm.MethodName)) ∈ lw_all := lw_g (lw_at lw_m12 194 rfl) rfl
theorem q3149 : (Jvm.Cond.code ({ cls := "HomeCompilerModel", name := "stands", desc := "(ILjava/lang/String;)Z" } : Jvm.MethodName) prog_23_method_12_code (5 : Nat) (Option.some Jvm.ClassFile.FieldType.boolean)) ∈ lw_all := lw_g (lw_at lw_m12 195 rfl) rfl
theorem q3150 : (Jvm.Cond.methodLink "HomeCompilerModel" (338 : Nat) ({ cls := "java/lang/String", name := "charAt", desc := "(I)C" } : Jvm.MethodName)) ∈ lw_all := lw_g (lw_at lw_m12 196 rfl) rfl
theorem q3151 : (Jvm.Cond.methodLink "HomeCompilerModel" (353 : Nat) ({ cls := "HomeCompilerModel", name := "token", desc := "(IIII)V" } : Jvm.MethodName)) ∈ lw_all := lw_g (lw_at lw_m12 197 rfl) rfl
theorem q3152 : (Jvm.Cond.privateMethod ({ cls := "HomeCompilerModel", name := "token", desc := "(IIII)V" } : Jvm.MethodName)) ∈ lw_tbl := lw_at lw_m12 198 rfl
theorem q3153 : (Jvm.Cond.instanceMethod ({ cls := "HomeCompilerModel", name := "token", desc := "(IIII)V" } : Jvm.MethodName)) ∈ lw_all := lw_g (lw_at lw_m12 199 rfl) rfl
theorem q3154 : (Jvm.Cond.code ({ cls := "HomeCompilerModel", name := "token", desc := "(IIII)V" } : Jvm.MethodName) prog_23_method_11_code (5 : Nat) (Option.none : Option Jvm.ClassFile.FieldType)) ∈ lw_all := lw_g (lw_at lw_m12 200 rfl) rfl
theorem q3155 : (Jvm.Cond.methodLink "HomeCompilerModel" (357 : Nat) ({ cls := "HomeCompilerModel", name := "readNumber", desc := "(I)Z" } : Jvm.MethodName)) ∈ lw_all := lw_g (lw_at lw_m12 201 rfl) rfl
theorem q3156 : (Jvm.Cond.privateMethod ({ cls := "HomeCompilerModel", name := "readNumber", desc := "(I)Z" } : Jvm.MethodName)) ∈ lw_tbl := lw_at lw_m12 202 rfl
theorem q3157 : (Jvm.Cond.instanceMethod ({ cls := "HomeCompilerModel", name := "readNumber", desc := "(I)Z" } : Jvm.MethodName)) ∈ lw_all := lw_g (lw_at lw_m12 203 rfl) rfl
theorem q3158 : (Jvm.Cond.code ({ cls := "HomeCompilerModel", name := "readNumber", desc := "(I)Z" } : Jvm.MethodName) prog_23_method_15_code (7 : Nat) (Option.some Jvm.ClassFile.FieldType.boolean)) ∈ lw_all := lw_g (lw_at lw_m12 204 rfl) rfl
theorem q3159 : (Jvm.Cond.methodLink "HomeCompilerModel" (366 : Nat) ({ cls := "HomeCompilerModel", name := "figure", desc := "(I)I" } : Jvm.MethodName)) ∈ lw_all := lw_g (lw_at lw_m12 205 rfl) rfl
theorem q3160 : (Jvm.Cond.static ({ cls := "HomeCompilerModel", name := "figure", desc := "(I)I" } : Jvm.MethodName)) ∈ lw_all := lw_g (lw_at lw_m12 206 rfl) rfl
theorem q3161 : (Jvm.Cond.code ({ cls := "HomeCompilerModel", name := "figure", desc := "(I)I" } : Jvm.MethodName) prog_23_method_8_code (1 : Nat) (Option.some Jvm.ClassFile.FieldType.int)) ∈ lw_all := lw_g (lw_at lw_m12 207 rfl) rfl
theorem q3162 : (Jvm.Cond.constantLong "HomeCompilerModel" (369 : Nat) (16 : Int64)) ∈ lw_all := lw_g (lw_at lw_m12 208 rfl) rfl
theorem q3163 : (Jvm.Cond.constantLong "HomeCompilerModel" (371 : Nat) (10 : Int64)) ∈ lw_all := lw_g (lw_at lw_m12 209 rfl) rfl
theorem q3164 : (Jvm.Cond.constantLong "HomeCompilerModel" (373 : Nat) (4294967296 : Int64)) ∈ lw_all := lw_g (lw_at lw_m12 210 rfl) rfl
theorem q3165 : (Jvm.Cond.methodLink "HomeCompilerModel" (360 : Nat) ({ cls := "HomeCompilerModel", name := "character", desc := "(II)I" } : Jvm.MethodName)) ∈ lw_all := lw_g (lw_at lw_m12 211 rfl) rfl
theorem q3166 : (Jvm.Cond.privateMethod ({ cls := "HomeCompilerModel", name := "character", desc := "(II)I" } : Jvm.MethodName)) ∈ lw_tbl := lw_at lw_m12 212 rfl
theorem q3167 : (Jvm.Cond.instanceMethod ({ cls := "HomeCompilerModel", name := "character", desc := "(II)I" } : Jvm.MethodName)) ∈ lw_all := lw_g (lw_at lw_m12 213 rfl) rfl
theorem q3168 : (Jvm.Cond.code ({ cls := "HomeCompilerModel", name := "character", desc := "(II)I" } : Jvm.MethodName) prog_23_method_10_code (6 : Nat) (Option.some Jvm.ClassFile.FieldType.int)) ∈ lw_all := lw_g (lw_at lw_m12 214 rfl) rfl
theorem q3169 : (Jvm.Cond.methodLink "HomeCompilerModel" (363 : Nat) ({ cls := "HomeCompilerModel", name := "readString", desc := "(I)Z" } : Jvm.MethodName)) ∈ lw_all := lw_g (lw_at lw_m12 215 rfl) rfl
theorem q3170 : (Jvm.Cond.privateMethod ({ cls := "HomeCompilerModel", name := "readString", desc := "(I)Z" } : Jvm.MethodName)) ∈ lw_tbl := lw_at lw_m12 216 rfl
theorem q3171 : (Jvm.Cond.instanceMethod ({ cls := "HomeCompilerModel", name := "readString", desc := "(I)Z" } : Jvm.MethodName)) ∈ lw_all := lw_g (lw_at lw_m12 217 rfl) rfl
theorem q3172 : (Jvm.Cond.code ({ cls := "HomeCompilerModel", name := "readString", desc := "(I)Z" } : Jvm.MethodName) prog_23_method_16_code (5 : Nat) (Option.some Jvm.ClassFile.FieldType.boolean)) ∈ lw_all := lw_g (lw_at lw_m12 218 rfl) rfl
theorem q3173 : (Jvm.Cond.methodLink "HomeCompilerModel" (757 : Nat) ({ cls := "HomeCompilerModel", name := "isText", desc := "()Z" } : Jvm.MethodName)) ∈ lw_all := lw_g (lw_at lw_m12 219 rfl) rfl
theorem q3174 : (Jvm.Cond.privateMethod ({ cls := "HomeCompilerModel", name := "isText", desc := "()Z" } : Jvm.MethodName)) ∈ lw_tbl := lw_at lw_m12 220 rfl
theorem q3175 : (Jvm.Cond.instanceMethod ({ cls := "HomeCompilerModel", name := "isText", desc := "()Z" } : Jvm.MethodName)) ∈ lw_all := lw_g (lw_at lw_m12 221 rfl) rfl
theorem q3176 : (Jvm.Cond.codeWith ({ cls := "HomeCompilerModel", name := "isText", desc := "()Z" } : Jvm.MethodName) prog_23_method_108_code (3 : Nat) (Option.some Jvm.ClassFile.FieldType.boolean) [((2 : Nat), (6 : Nat), (9 : Nat), (381 : Nat))]) ∈ lw_all := lw_g (lw_at lw_m12 222 rfl) rfl
theorem q3177 : (Jvm.Cond.classLink "HomeCompilerModel" (381 : Nat) "java/lang/IllegalArgumentException") ∈ lw_all := lw_g (lw_at lw_m12 223 rfl) rfl
theorem q3178 : (Jvm.Cond.methodLink "HomeCompilerModel" (736 : Nat) ({ cls := "HomeCompilerModel", name := "whole", desc := "()V" } : Jvm.MethodName)) ∈ lw_all := lw_g (lw_at lw_m12 224 rfl) rfl
theorem q3179 : (Jvm.Cond.privateMethod ({ cls := "HomeCompilerModel", name := "whole", desc := "()V" } : Jvm.MethodName)) ∈ lw_tbl := lw_at lw_m12 225 rfl
theorem q3180 : (Jvm.Cond.instanceMethod ({ cls := "HomeCompilerModel", name := "whole", desc := "()V" } : Jvm.MethodName)) ∈ lw_all := lw_g (lw_at lw_m12 226 rfl) rfl
theorem q3181 : (Jvm.Cond.code ({ cls := "HomeCompilerModel", name := "whole", desc := "()V" } : Jvm.MethodName) prog_23_method_65_code (1 : Nat) (Option.none : Option Jvm.ClassFile.FieldType)) ∈ lw_all := lw_g (lw_at lw_m12 227 rfl) rfl
theorem q3182 : (Jvm.Cond.methodLink "HomeCompilerModel" (547 : Nat) ({ cls := "HomeCompilerModel", name := "piece", desc := "()V" } : Jvm.MethodName)) ∈ lw_all := lw_g (lw_at lw_m12 228 rfl) rfl
theorem q3183 : (Jvm.Cond.privateMethod ({ cls := "HomeCompilerModel", name := "piece", desc := "()V" } : Jvm.MethodName)) ∈ lw_tbl := lw_at lw_m12 229 rfl
theorem q3184 : (Jvm.Cond.instanceMethod ({ cls := "HomeCompilerModel", name := "piece", desc := "()V" } : Jvm.MethodName)) ∈ lw_all := lw_g (lw_at lw_m12 230 rfl) rfl
theorem q3185 : (Jvm.Cond.code ({ cls := "HomeCompilerModel", name := "piece", desc := "()V" } : Jvm.MethodName) prog_23_method_64_code (4 : Nat) (Option.none : Option Jvm.ClassFile.FieldType)) ∈ lw_all := lw_g (lw_at lw_m12 231 rfl) rfl
theorem q3186 : (Jvm.Cond.methodLink "HomeCompilerModel" (405 : Nat) ({ cls := "HomeCompilerModel", name := "isKey", desc := "(I)Z" } : Jvm.MethodName)) ∈ lw_all := lw_g (lw_at lw_m12 232 rfl) rfl
theorem q3187 : (Jvm.Cond.privateMethod ({ cls := "HomeCompilerModel", name := "isKey", desc := "(I)Z" } : Jvm.MethodName)) ∈ lw_tbl := lw_at lw_m12 233 rfl
theorem q3188 : (Jvm.Cond.instanceMethod ({ cls := "HomeCompilerModel", name := "isKey", desc := "(I)Z" } : Jvm.MethodName)) ∈ lw_all := lw_g (lw_at lw_m12 234 rfl) rfl
theorem q3189 : (Jvm.Cond.code ({ cls := "HomeCompilerModel", name := "isKey", desc := "(I)Z" } : Jvm.MethodName) prog_23_method_22_code (2 : Nat) (Option.some Jvm.ClassFile.FieldType.boolean)) ∈ lw_all := lw_g (lw_at lw_m12 235 rfl) rfl
theorem q3190 : (Jvm.Cond.methodLink "HomeCompilerModel" (540 : Nat) ({ cls := "HomeCompilerModel", name := "enumeration", desc := "()V" } : Jvm.MethodName)) ∈ lw_all := lw_g (lw_at lw_m12 236 rfl) rfl
theorem q3191 : (Jvm.Cond.privateMethod ({ cls := "HomeCompilerModel", name := "enumeration", desc := "()V" } : Jvm.MethodName)) ∈ lw_tbl := lw_at lw_m12 237 rfl
theorem q3192 : (Jvm.Cond.instanceMethod ({ cls := "HomeCompilerModel", name := "enumeration", desc := "()V" } : Jvm.MethodName)) ∈ lw_all := lw_g (lw_at lw_m12 238 rfl) rfl
theorem q3193 : (Jvm.Cond.code ({ cls := "HomeCompilerModel", name := "enumeration", desc := "()V" } : Jvm.MethodName) prog_23_method_61_code (5 : Nat) (Option.none : Option Jvm.ClassFile.FieldType)) ∈ lw_all := lw_g (lw_at lw_m12 239 rfl) rfl
theorem q3194 : (Jvm.Cond.methodLink "HomeCompilerModel" (434 : Nat) ({ cls := "HomeCompilerModel", name := "make", desc := "(II)I" } : Jvm.MethodName)) ∈ lw_all := lw_g (lw_at lw_m13 0 rfl) rfl
theorem q3195 : (Jvm.Cond.privateMethod ({ cls := "HomeCompilerModel", name := "make", desc := "(II)I" } : Jvm.MethodName)) ∈ lw_tbl := lw_at lw_m13 1 rfl
theorem q3196 : (Jvm.Cond.instanceMethod ({ cls := "HomeCompilerModel", name := "make", desc := "(II)I" } : Jvm.MethodName)) ∈ lw_all := lw_g (lw_at lw_m13 2 rfl) rfl
theorem q3197 : (Jvm.Cond.code ({ cls := "HomeCompilerModel", name := "make", desc := "(II)I" } : Jvm.MethodName) prog_23_method_30_code (3 : Nat) (Option.some Jvm.ClassFile.FieldType.int)) ∈ lw_all := lw_g (lw_at lw_m13 3 rfl) rfl
theorem q3198 : (Jvm.Cond.methodLink "HomeCompilerModel" (485 : Nat) ({ cls := "HomeCompilerModel", name := "opensMark", desc := "(Ljava/lang/String;)V" } : Jvm.MethodName)) ∈ lw_all := lw_g (lw_at lw_m13 4 rfl) rfl
theorem q3199 : (Jvm.Cond.privateMethod ({ cls := "HomeCompilerModel", name := "opensMark", desc := "(Ljava/lang/String;)V" } : Jvm.MethodName)) ∈ lw_tbl := lw_at lw_m13 5 rfl
theorem q3200 : (Jvm.Cond.instanceMethod ({ cls := "HomeCompilerModel", name := "opensMark", desc := "(Ljava/lang/String;)V" } : Jvm.MethodName)) ∈ lw_all := lw_g (lw_at lw_m13 6 rfl) rfl
theorem q3201 : (Jvm.Cond.code ({ cls := "HomeCompilerModel", name := "opensMark", desc := "(Ljava/lang/String;)V" } : Jvm.MethodName) prog_23_method_27_code (2 : Nat) (Option.none : Option Jvm.ClassFile.FieldType)) ∈ lw_all := lw_g (lw_at lw_m13 7 rfl) rfl
theorem q3202 : (Jvm.Cond.methodLink "HomeCompilerModel" (394 : Nat) ({ cls := "HomeCompilerModel", name := "is", desc := "(Ljava/lang/String;)Z" } : Jvm.MethodName)) ∈ lw_all := lw_g (lw_at lw_m13 8 rfl) rfl
theorem q3203 : (Jvm.Cond.privateMethod ({ cls := "HomeCompilerModel", name := "is", desc := "(Ljava/lang/String;)Z" } : Jvm.MethodName)) ∈ lw_tbl := lw_at lw_m13 9 rfl
theorem q3204 : (Jvm.Cond.instanceMethod ({ cls := "HomeCompilerModel", name := "is", desc := "(Ljava/lang/String;)Z" } : Jvm.MethodName)) ∈ lw_all := lw_g (lw_at lw_m13 10 rfl) rfl
theorem q3205 : (Jvm.Cond.code ({ cls := "HomeCompilerModel", name := "is", desc := "(Ljava/lang/String;)Z" } : Jvm.MethodName) prog_23_method_21_code (2 : Nat) (Option.some Jvm.ClassFile.FieldType.boolean)) ∈ lw_all := lw_g (lw_at lw_m13 11 rfl) rfl
theorem q3206 : (Jvm.Cond.methodLink "HomeCompilerModel" (391 : Nat) ({ cls := "HomeCompilerModel", name := "isAt", desc := "(ILjava/lang/String;)Z" } : Jvm.MethodName)) ∈ lw_all := lw_g (lw_at lw_m13 12 rfl) rfl
theorem q3207 : (Jvm.Cond.privateMethod ({ cls := "HomeCompilerModel", name := "isAt", desc := "(ILjava/lang/String;)Z" } : Jvm.MethodName)) ∈ lw_tbl := lw_at lw_m13 13 rfl
theorem q3208 : (Jvm.Cond.instanceMethod ({ cls := "HomeCompilerModel", name := "isAt", desc := "(ILjava/lang/String;)Z" } : Jvm.MethodName)) ∈ lw_all := lw_g (lw_at lw_m13 14 rfl) rfl
theorem q3209 : (Jvm.Cond.code ({ cls := "HomeCompilerModel", name := "isAt", desc := "(ILjava/lang/String;)Z" } : Jvm.MethodName) prog_23_method_20_code (3 : Nat) (Option.some Jvm.ClassFile.FieldType.boolean)) ∈ lw_all := lw_g (lw_at lw_m13 15 rfl) rfl
theorem q3210 : (Jvm.Cond.methodLink "HomeCompilerModel" (384 : Nat) ({ cls := "java/lang/String", name := "equals", desc := "(Ljava/lang/Object;)Z" } : Jvm.MethodName)) ∈ lw_all := lw_g (lw_at lw_m13 16 rfl) rfl
theorem q3218 : (Jvm.Cond.methodLink "HomeCompilerModel" (401 : Nat) ({ cls := "HomeCompilerModel", name := "need", desc := "(Z)V" } : Jvm.MethodName)) ∈ lw_all := lw_g (lw_at lw_m13 24 rfl) rfl
theorem q3219 : (Jvm.Cond.privateMethod ({ cls := "HomeCompilerModel", name := "need", desc := "(Z)V" } : Jvm.MethodName)) ∈ lw_tbl := lw_at lw_m13 25 rfl
theorem q3220 : (Jvm.Cond.instanceMethod ({ cls := "HomeCompilerModel", name := "need", desc := "(Z)V" } : Jvm.MethodName)) ∈ lw_all := lw_g (lw_at lw_m13 26 rfl) rfl
theorem q3221 : (Jvm.Cond.code ({ cls := "HomeCompilerModel", name := "need", desc := "(Z)V" } : Jvm.MethodName) prog_23_method_18_code (2 : Nat) (Option.none : Option Jvm.ClassFile.FieldType)) ∈ lw_all := lw_g (lw_at lw_m13 27 rfl) rfl
theorem q3222 : (Jvm.Cond.methodLink "HomeCompilerModel" (383 : Nat) ({ cls := "java/lang/IllegalArgumentException", name := "<init>", desc := "()V" } : Jvm.MethodName)) ∈ lw_all := lw_g (lw_at lw_m13 28 rfl) rfl
theorem q3223 : (Jvm.Cond.methodLink "HomeCompilerModel" (411 : Nat) ({ cls := "HomeCompilerModel", name := "opens", desc := "()V" } : Jvm.MethodName)) ∈ lw_all := lw_g (lw_at lw_m13 29 rfl) rfl
theorem q3224 : (Jvm.Cond.privateMethod ({ cls := "HomeCompilerModel", name := "opens", desc := "()V" } : Jvm.MethodName)) ∈ lw_tbl := lw_at lw_m13 30 rfl
theorem q3225 : (Jvm.Cond.instanceMethod ({ cls := "HomeCompilerModel", name := "opens", desc := "()V" } : Jvm.MethodName)) ∈ lw_all := lw_g (lw_at lw_m13 31 rfl) rfl
theorem q3226 : (Jvm.Cond.code ({ cls := "HomeCompilerModel", name := "opens", desc := "()V" } : Jvm.MethodName) prog_23_method_26_code (1 : Nat) (Option.none : Option Jvm.ClassFile.FieldType)) ∈ lw_all := lw_g (lw_at lw_m13 32 rfl) rfl
theorem q3227 : (Jvm.Cond.methodLink "HomeCompilerModel" (470 : Nat) ({ cls := "HomeCompilerModel", name := "name", desc := "()I" } : Jvm.MethodName)) ∈ lw_all := lw_g (lw_at lw_m13 33 rfl) rfl
theorem q3228 : (Jvm.Cond.privateMethod ({ cls := "HomeCompilerModel", name := "name", desc := "()I" } : Jvm.MethodName)) ∈ lw_tbl := lw_at lw_m13 34 rfl
theorem q3229 : (Jvm.Cond.instanceMethod ({ cls := "HomeCompilerModel", name := "name", desc := "()I" } : Jvm.MethodName)) ∈ lw_all := lw_g (lw_at lw_m13 35 rfl) rfl
theorem q3230 : (Jvm.Cond.code ({ cls := "HomeCompilerModel", name := "name", desc := "()I" } : Jvm.MethodName) prog_23_method_29_code (1 : Nat) (Option.some Jvm.ClassFile.FieldType.int)) ∈ lw_all := lw_g (lw_at lw_m13 36 rfl) rfl
theorem q3231 : (Jvm.Cond.methodLink "HomeCompilerModel" (398 : Nat) ({ cls := "HomeCompilerModel", name := "takes", desc := "(Ljava/lang/String;)Z" } : Jvm.MethodName)) ∈ lw_all := lw_g (lw_at lw_m13 37 rfl) rfl
theorem q3232 : (Jvm.Cond.privateMethod ({ cls := "HomeCompilerModel", name := "takes", desc := "(Ljava/lang/String;)Z" } : Jvm.MethodName)) ∈ lw_tbl := lw_at lw_m13 38 rfl
theorem q3233 : (Jvm.Cond.instanceMethod ({ cls := "HomeCompilerModel", name := "takes", desc := "(Ljava/lang/String;)Z" } : Jvm.MethodName)) ∈ lw_all := lw_g (lw_at lw_m13 39 rfl) rfl
theorem q3234 : (Jvm.Cond.code ({ cls := "HomeCompilerModel", name := "takes", desc := "(Ljava/lang/String;)Z" } : Jvm.MethodName) prog_23_method_23_code (3 : Nat) (Option.some Jvm.ClassFile.FieldType.boolean)) ∈ lw_all := lw_g (lw_at lw_m13 40 rfl) rfl
theorem q3235 : (Jvm.Cond.methodLink "HomeCompilerModel" (479 : Nat) ({ cls := "HomeCompilerModel", name := "constant", desc := "()I" } : Jvm.MethodName)) ∈ lw_all := lw_g (lw_at lw_m13 41 rfl) rfl
theorem q3236 : (Jvm.Cond.privateMethod ({ cls := "HomeCompilerModel", name := "constant", desc := "()I" } : Jvm.MethodName)) ∈ lw_tbl := lw_at lw_m13 42 rfl
theorem q3237 : (Jvm.Cond.instanceMethod ({ cls := "HomeCompilerModel", name := "constant", desc := "()I" } : Jvm.MethodName)) ∈ lw_all := lw_g (lw_at lw_m13 43 rfl) rfl
theorem q3238 : (Jvm.Cond.code ({ cls := "HomeCompilerModel", name := "constant", desc := "()I" } : Jvm.MethodName) prog_23_method_48_code (2 : Nat) (Option.some Jvm.ClassFile.FieldType.int)) ∈ lw_all := lw_g (lw_at lw_m13 44 rfl) rfl
theorem q3239 : (Jvm.Cond.methodLink "HomeCompilerModel" (421 : Nat) ({ cls := "HomeCompilerModel", name := "conditional", desc := "()I" } : Jvm.MethodName)) ∈ lw_all := lw_g (lw_at lw_m13 45 rfl) rfl
theorem q3240 : (Jvm.Cond.privateMethod ({ cls := "HomeCompilerModel", name := "conditional", desc := "()I" } : Jvm.MethodName)) ∈ lw_tbl := lw_at lw_m13 46 rfl
theorem q3241 : (Jvm.Cond.instanceMethod ({ cls := "HomeCompilerModel", name := "conditional", desc := "()I" } : Jvm.MethodName)) ∈ lw_all := lw_g (lw_at lw_m13 47 rfl) rfl
theorem q3242 : (Jvm.Cond.code ({ cls := "HomeCompilerModel", name := "conditional", desc := "()I" } : Jvm.MethodName) prog_23_method_35_code (7 : Nat) (Option.some Jvm.ClassFile.FieldType.int)) ∈ lw_all := lw_g (lw_at lw_m13 48 rfl) rfl
theorem q3243 : (Jvm.Cond.methodLink "HomeCompilerModel" (440 : Nat) ({ cls := "HomeCompilerModel", name := "binary", desc := "()I" } : Jvm.MethodName)) ∈ lw_all := lw_g (lw_at lw_m13 49 rfl) rfl
theorem q3244 : (Jvm.Cond.privateMethod ({ cls := "HomeCompilerModel", name := "binary", desc := "()I" } : Jvm.MethodName)) ∈ lw_tbl := lw_at lw_m13 50 rfl
theorem q3245 : (Jvm.Cond.instanceMethod ({ cls := "HomeCompilerModel", name := "binary", desc := "()I" } : Jvm.MethodName)) ∈ lw_all := lw_g (lw_at lw_m13 51 rfl) rfl
theorem q3246 : (Jvm.Cond.code ({ cls := "HomeCompilerModel", name := "binary", desc := "()I" } : Jvm.MethodName) prog_23_method_40_code (5 : Nat) (Option.some Jvm.ClassFile.FieldType.int)) ∈ lw_all := lw_g (lw_at lw_m13 52 rfl) rfl
theorem q3247 : (Jvm.Cond.methodLink "HomeCompilerModel" (449 : Nat) ({ cls := "HomeCompilerModel", name := "unary", desc := "()I" } : Jvm.MethodName)) ∈ lw_all := lw_g (lw_at lw_m13 53 rfl) rfl
theorem q3248 : (Jvm.Cond.privateMethod ({ cls := "HomeCompilerModel", name := "unary", desc := "()I" } : Jvm.MethodName)) ∈ lw_tbl := lw_at lw_m13 54 rfl
theorem q3249 : (Jvm.Cond.instanceMethod ({ cls := "HomeCompilerModel", name := "unary", desc := "()I" } : Jvm.MethodName)) ∈ lw_all := lw_g (lw_at lw_m13 55 rfl) rfl
theorem q3250 : (Jvm.Cond.code ({ cls := "HomeCompilerModel", name := "unary", desc := "()I" } : Jvm.MethodName) prog_23_method_41_code (6 : Nat) (Option.some Jvm.ClassFile.FieldType.int)) ∈ lw_all := lw_g (lw_at lw_m13 56 rfl) rfl
theorem q3251 : (Jvm.Cond.methodLink "HomeCompilerModel" (458 : Nat) ({ cls := "HomeCompilerModel", name := "isPrefix", desc := "()Z" } : Jvm.MethodName)) ∈ lw_all := lw_g (lw_at lw_m13 57 rfl) rfl
theorem q3252 : (Jvm.Cond.privateMethod ({ cls := "HomeCompilerModel", name := "isPrefix", desc := "()Z" } : Jvm.MethodName)) ∈ lw_tbl := lw_at lw_m13 58 rfl
theorem q3253 : (Jvm.Cond.instanceMethod ({ cls := "HomeCompilerModel", name := "isPrefix", desc := "()Z" } : Jvm.MethodName)) ∈ lw_all := lw_g (lw_at lw_m13 59 rfl) rfl
theorem q3254 : (Jvm.Cond.code ({ cls := "HomeCompilerModel", name := "isPrefix", desc := "()Z" } : Jvm.MethodName) prog_23_method_33_code (1 : Nat) (Option.some Jvm.ClassFile.FieldType.boolean)) ∈ lw_all := lw_g (lw_at lw_m13 60 rfl) rfl
theorem q3255 : (Jvm.Cond.methodLink "HomeCompilerModel" (461 : Nat) ({ cls := "HomeCompilerModel", name := "postfix", desc := "()I" } : Jvm.MethodName)) ∈ lw_all := lw_g (lw_at lw_m13 61 rfl) rfl
theorem q3256 : (Jvm.Cond.privateMethod ({ cls := "HomeCompilerModel", name := "postfix", desc := "()I" } : Jvm.MethodName)) ∈ lw_tbl := lw_at lw_m13 62 rfl
theorem q3257 : (Jvm.Cond.instanceMethod ({ cls := "HomeCompilerModel", name := "postfix", desc := "()I" } : Jvm.MethodName)) ∈ lw_all := lw_g (lw_at lw_m13 63 rfl) rfl
theorem q3258 : (Jvm.Cond.code ({ cls := "HomeCompilerModel", name := "postfix", desc := "()I" } : Jvm.MethodName) prog_23_method_42_code (3 : Nat) (Option.some Jvm.ClassFile.FieldType.int)) ∈ lw_all := lw_g (lw_at lw_m13 64 rfl) rfl
theorem q3259 : (Jvm.Cond.methodLink "HomeCompilerModel" (464 : Nat) ({ cls := "HomeCompilerModel", name := "primary", desc := "()I" } : Jvm.MethodName)) ∈ lw_all := lw_g (lw_at lw_m13 65 rfl) rfl
theorem q3260 : (Jvm.Cond.privateMethod ({ cls := "HomeCompilerModel", name := "primary", desc := "()I" } : Jvm.MethodName)) ∈ lw_tbl := lw_at lw_m13 66 rfl
theorem q3261 : (Jvm.Cond.instanceMethod ({ cls := "HomeCompilerModel", name := "primary", desc := "()I" } : Jvm.MethodName)) ∈ lw_all := lw_g (lw_at lw_m13 67 rfl) rfl
theorem q3262 : (Jvm.Cond.code ({ cls := "HomeCompilerModel", name := "primary", desc := "()I" } : Jvm.MethodName) prog_23_method_43_code (3 : Nat) (Option.some Jvm.ClassFile.FieldType.int)) ∈ lw_all := lw_g (lw_at lw_m13 68 rfl) rfl
theorem q3263 : (Jvm.Cond.methodLink "HomeCompilerModel" (431 : Nat) ({ cls := "HomeCompilerModel", name := "expression", desc := "()I" } : Jvm.MethodName)) ∈ lw_all := lw_g (lw_at lw_m13 69 rfl) rfl
theorem q3264 : (Jvm.Cond.privateMethod ({ cls := "HomeCompilerModel", name := "expression", desc := "()I" } : Jvm.MethodName)) ∈ lw_tbl := lw_at lw_m13 70 rfl
theorem q3265 : (Jvm.Cond.instanceMethod ({ cls := "HomeCompilerModel", name := "expression", desc := "()I" } : Jvm.MethodName)) ∈ lw_all := lw_g (lw_at lw_m13 71 rfl) rfl
theorem q3266 : (Jvm.Cond.code ({ cls := "HomeCompilerModel", name := "expression", desc := "()I" } : Jvm.MethodName) prog_23_method_34_code (7 : Nat) (Option.some Jvm.ClassFile.FieldType.int)) ∈ lw_all := lw_g (lw_at lw_m13 72 rfl) rfl
theorem q3267 : (Jvm.Cond.methodLink "HomeCompilerModel" (424 : Nat) ({ cls := "HomeCompilerModel", name := "isAssigning", desc := "()Z" } : Jvm.MethodName)) ∈ lw_all := lw_g (lw_at lw_m13 73 rfl) rfl
theorem q3268 : (Jvm.Cond.privateMethod ({ cls := "HomeCompilerModel", name := "isAssigning", desc := "()Z" } : Jvm.MethodName)) ∈ lw_tbl := lw_at lw_m13 74 rfl
theorem q3269 : (Jvm.Cond.instanceMethod ({ cls := "HomeCompilerModel", name := "isAssigning", desc := "()Z" } : Jvm.MethodName)) ∈ lw_all := lw_g (lw_at lw_m13 75 rfl) rfl
theorem q3270 : (Jvm.Cond.code ({ cls := "HomeCompilerModel", name := "isAssigning", desc := "()Z" } : Jvm.MethodName) prog_23_method_32_code (2 : Nat) (Option.some Jvm.ClassFile.FieldType.boolean)) ∈ lw_all := lw_g (lw_at lw_m13 76 rfl) rfl
theorem q3271 : (Jvm.Cond.methodLink "HomeCompilerModel" (428 : Nat) ({ cls := "HomeCompilerModel", name := "stands", desc := "(I)V" } : Jvm.MethodName)) ∈ lw_all := lw_g (lw_at lw_m13 77 rfl) rfl
theorem q3272 : (Jvm.Cond.privateMethod ({ cls := "HomeCompilerModel", name := "stands", desc := "(I)V" } : Jvm.MethodName)) ∈ lw_tbl := lw_at lw_m13 78 rfl
theorem q3273 : (Jvm.Cond.instanceMethod ({ cls := "HomeCompilerModel", name := "stands", desc := "(I)V" } : Jvm.MethodName)) ∈ lw_all := lw_g (lw_at lw_m13 79 rfl) rfl
theorem q3274 : (Jvm.Cond.code ({ cls := "HomeCompilerModel", name := "stands", desc := "(I)V" } : Jvm.MethodName) prog_23_method_37_code (2 : Nat) (Option.none : Option Jvm.ClassFile.FieldType)) ∈ lw_all := lw_g (lw_at lw_m13 80 rfl) rfl
theorem q3275 : (Jvm.Cond.methodLink "HomeCompilerModel" (437 : Nat) ({ cls := "HomeCompilerModel", name := "deeper", desc := "(II)I" } : Jvm.MethodName)) ∈ lw_all := lw_g (lw_at lw_m13 81 rfl) rfl
theorem q3276 : (Jvm.Cond.static ({ cls := "HomeCompilerModel", name := "deeper", desc := "(II)I" } : Jvm.MethodName)) ∈ lw_all := lw_g (lw_at lw_m13 82 rfl) rfl
theorem q3277 : (Jvm.Cond.code ({ cls := "HomeCompilerModel", name := "deeper", desc := "(II)I" } : Jvm.MethodName) prog_23_method_36_code (2 : Nat) (Option.some Jvm.ClassFile.FieldType.int)) ∈ lw_all := lw_g (lw_at lw_m13 83 rfl) rfl
theorem q3278 : (Jvm.Cond.methodLink "HomeCompilerModel" (467 : Nat) ({ cls := "HomeCompilerModel", name := "closes", desc := "(Ljava/lang/String;)V" } : Jvm.MethodName)) ∈ lw_all := lw_g (lw_at lw_m13 84 rfl) rfl
theorem q3279 : (Jvm.Cond.privateMethod ({ cls := "HomeCompilerModel", name := "closes", desc := "(Ljava/lang/String;)V" } : Jvm.MethodName)) ∈ lw_tbl := lw_at lw_m13 85 rfl
theorem q3280 : (Jvm.Cond.instanceMethod ({ cls := "HomeCompilerModel", name := "closes", desc := "(Ljava/lang/String;)V" } : Jvm.MethodName)) ∈ lw_all := lw_g (lw_at lw_m13 86 rfl) rfl
theorem q3281 : (Jvm.Cond.code ({ cls := "HomeCompilerModel", name := "closes", desc := "(Ljava/lang/String;)V" } : Jvm.MethodName) prog_23_method_28_code (2 : Nat) (Option.none : Option Jvm.ClassFile.FieldType)) ∈ lw_all := lw_g (lw_at lw_m13 87 rfl) rfl
theorem q3282 : (Jvm.Cond.methodLink "HomeCompilerModel" (414 : Nat) ({ cls := "HomeCompilerModel", name := "take", desc := "(Ljava/lang/String;)V" } : Jvm.MethodName)) ∈ lw_all := lw_g (lw_at lw_m13 88 rfl) rfl
theorem q3283 : (Jvm.Cond.privateMethod ({ cls := "HomeCompilerModel", name := "take", desc := "(Ljava/lang/String;)V" } : Jvm.MethodName)) ∈ lw_tbl := lw_at lw_m13 89 rfl
theorem q3284 : (Jvm.Cond.instanceMethod ({ cls := "HomeCompilerModel", name := "take", desc := "(Ljava/lang/String;)V" } : Jvm.MethodName)) ∈ lw_all := lw_g (lw_at lw_m13 90 rfl) rfl
theorem q3285 : (Jvm.Cond.code ({ cls := "HomeCompilerModel", name := "take", desc := "(Ljava/lang/String;)V" } : Jvm.MethodName) prog_23_method_24_code (2 : Nat) (Option.none : Option Jvm.ClassFile.FieldType)) ∈ lw_all := lw_g (lw_at lw_m13 91 rfl) rfl
theorem q3286 : (Jvm.Cond.methodLink "HomeCompilerModel" (473 : Nat) ({ cls := "HomeCompilerModel", name := "call", desc := "(I)I" } : Jvm.MethodName)) ∈ lw_all := lw_g (lw_at lw_m13 92 rfl) rfl
theorem q3287 : (Jvm.Cond.privateMethod ({ cls := "HomeCompilerModel", name := "call", desc := "(I)I" } : Jvm.MethodName)) ∈ lw_tbl := lw_at lw_m13 93 rfl
theorem q3288 : (Jvm.Cond.instanceMethod ({ cls := "HomeCompilerModel", name := "call", desc := "(I)I" } : Jvm.MethodName)) ∈ lw_all := lw_g (lw_at lw_m13 94 rfl) rfl
theorem q3289 : (Jvm.Cond.code ({ cls := "HomeCompilerModel", name := "call", desc := "(I)I" } : Jvm.MethodName) prog_23_method_44_code (5 : Nat) (Option.some Jvm.ClassFile.FieldType.int)) ∈ lw_all := lw_g (lw_at lw_m13 95 rfl) rfl
theorem q3290 : (Jvm.Cond.methodLink "HomeCompilerModel" (446 : Nat) ({ cls := "HomeCompilerModel", name := "isNothing", desc := "(I)Z" } : Jvm.MethodName)) ∈ lw_all := lw_g (lw_at lw_m13 96 rfl) rfl
theorem q3291 : (Jvm.Cond.privateMethod ({ cls := "HomeCompilerModel", name := "isNothing", desc := "(I)Z" } : Jvm.MethodName)) ∈ lw_tbl := lw_at lw_m13 97 rfl
theorem q3292 : (Jvm.Cond.instanceMethod ({ cls := "HomeCompilerModel", name := "isNothing", desc := "(I)Z" } : Jvm.MethodName)) ∈ lw_all := lw_g (lw_at lw_m13 98 rfl) rfl
theorem q3293 : (Jvm.Cond.code ({ cls := "HomeCompilerModel", name := "isNothing", desc := "(I)Z" } : Jvm.MethodName) prog_23_method_38_code (2 : Nat) (Option.some Jvm.ClassFile.FieldType.boolean)) ∈ lw_all := lw_g (lw_at lw_m13 99 rfl) rfl
theorem q3294 : (Jvm.Cond.methodLink "HomeCompilerModel" (452 : Nat) ({ cls := "HomeCompilerModel", name := "rank", desc := "(I)I" } : Jvm.MethodName)) ∈ lw_all := lw_g (lw_at lw_m13 100 rfl) rfl
theorem q3295 : (Jvm.Cond.privateMethod ({ cls := "HomeCompilerModel", name := "rank", desc := "(I)I" } : Jvm.MethodName)) ∈ lw_tbl := lw_at lw_m13 101 rfl
theorem q3296 : (Jvm.Cond.instanceMethod ({ cls := "HomeCompilerModel", name := "rank", desc := "(I)I" } : Jvm.MethodName)) ∈ lw_all := lw_g (lw_at lw_m13 102 rfl) rfl
theorem q3297 : (Jvm.Cond.code ({ cls := "HomeCompilerModel", name := "rank", desc := "(I)I" } : Jvm.MethodName) prog_23_method_31_code (4 : Nat) (Option.some Jvm.ClassFile.FieldType.int)) ∈ lw_all := lw_g (lw_at lw_m13 103 rfl) rfl
theorem q3298 : (Jvm.Cond.methodLink "HomeCompilerModel" (455 : Nat) ({ cls := "HomeCompilerModel", name := "settle", desc := "(I)I" } : Jvm.MethodName)) ∈ lw_all := lw_g (lw_at lw_m13 104 rfl) rfl
theorem q3299 : (Jvm.Cond.privateMethod ({ cls := "HomeCompilerModel", name := "settle", desc := "(I)I" } : Jvm.MethodName)) ∈ lw_tbl := lw_at lw_m13 105 rfl
theorem q3300 : (Jvm.Cond.instanceMethod ({ cls := "HomeCompilerModel", name := "settle", desc := "(I)I" } : Jvm.MethodName)) ∈ lw_all := lw_g (lw_at lw_m13 106 rfl) rfl
theorem q3301 : (Jvm.Cond.code ({ cls := "HomeCompilerModel", name := "settle", desc := "(I)I" } : Jvm.MethodName) prog_23_method_39_code (5 : Nat) (Option.some Jvm.ClassFile.FieldType.int)) ∈ lw_all := lw_g (lw_at lw_m13 107 rfl) rfl
theorem q3302 : (Jvm.Cond.methodLink "HomeCompilerModel" (494 : Nat) ({ cls := "HomeCompilerModel", name := "hang", desc := "(III)I" } : Jvm.MethodName)) ∈ lw_all := lw_g (lw_at lw_m13 108 rfl) rfl
theorem q3303 : (Jvm.Cond.privateMethod ({ cls := "HomeCompilerModel", name := "hang", desc := "(III)I" } : Jvm.MethodName)) ∈ lw_tbl := lw_at lw_m13 109 rfl
theorem q3304 : (Jvm.Cond.instanceMethod ({ cls := "HomeCompilerModel", name := "hang", desc := "(III)I" } : Jvm.MethodName)) ∈ lw_all := lw_g (lw_at lw_m13 110 rfl) rfl
theorem q3305 : (Jvm.Cond.code ({ cls := "HomeCompilerModel", name := "hang", desc := "(III)I" } : Jvm.MethodName) prog_23_method_45_code (4 : Nat) (Option.some Jvm.ClassFile.FieldType.int)) ∈ lw_all := lw_g (lw_at lw_m13 111 rfl) rfl
theorem q3306 : (Jvm.Cond.methodLink "HomeCompilerModel" (534 : Nat) ({ cls := "HomeCompilerModel", name := "add", desc := "(I)V" } : Jvm.MethodName)) ∈ lw_all := lw_g (lw_at lw_m13 112 rfl) rfl
theorem q3307 : (Jvm.Cond.privateMethod ({ cls := "HomeCompilerModel", name := "add", desc := "(I)V" } : Jvm.MethodName)) ∈ lw_tbl := lw_at lw_m13 113 rfl
theorem q3308 : (Jvm.Cond.instanceMethod ({ cls := "HomeCompilerModel", name := "add", desc := "(I)V" } : Jvm.MethodName)) ∈ lw_all := lw_g (lw_at lw_m13 114 rfl) rfl
theorem q3309 : (Jvm.Cond.code ({ cls := "HomeCompilerModel", name := "add", desc := "(I)V" } : Jvm.MethodName) prog_23_method_60_code (2 : Nat) (Option.none : Option Jvm.ClassFile.FieldType)) ∈ lw_all := lw_g (lw_at lw_m13 115 rfl) rfl
theorem q3310 : (Jvm.Cond.methodLink "HomeCompilerModel" (501 : Nat) ({ cls := "HomeCompilerModel", name := "isType", desc := "()Z" } : Jvm.MethodName)) ∈ lw_all := lw_g (lw_at lw_m13 116 rfl) rfl
theorem q3311 : (Jvm.Cond.privateMethod ({ cls := "HomeCompilerModel", name := "isType", desc := "()Z" } : Jvm.MethodName)) ∈ lw_tbl := lw_at lw_m13 117 rfl
theorem q3312 : (Jvm.Cond.instanceMethod ({ cls := "HomeCompilerModel", name := "isType", desc := "()Z" } : Jvm.MethodName)) ∈ lw_all := lw_g (lw_at lw_m13 118 rfl) rfl
theorem q3313 : (Jvm.Cond.code ({ cls := "HomeCompilerModel", name := "isType", desc := "()Z" } : Jvm.MethodName) prog_23_method_51_code (1 : Nat) (Option.some Jvm.ClassFile.FieldType.boolean)) ∈ lw_all := lw_g (lw_at lw_m13 119 rfl) rfl
theorem q3314 : (Jvm.Cond.methodLink "HomeCompilerModel" (543 : Nat) ({ cls := "HomeCompilerModel", name := "functionText", desc := "(II)V" } : Jvm.MethodName)) ∈ lw_all := lw_g (lw_at lw_m13 120 rfl) rfl
theorem q3315 : (Jvm.Cond.privateMethod ({ cls := "HomeCompilerModel", name := "functionText", desc := "(II)V" } : Jvm.MethodName)) ∈ lw_tbl := lw_at lw_m13 121 rfl
theorem q3316 : (Jvm.Cond.instanceMethod ({ cls := "HomeCompilerModel", name := "functionText", desc := "(II)V" } : Jvm.MethodName)) ∈ lw_all := lw_g (lw_at lw_m13 122 rfl) rfl
theorem q3317 : (Jvm.Cond.code ({ cls := "HomeCompilerModel", name := "functionText", desc := "(II)V" } : Jvm.MethodName) prog_23_method_63_code (6 : Nat) (Option.none : Option Jvm.ClassFile.FieldType)) ∈ lw_all := lw_g (lw_at lw_m13 123 rfl) rfl
theorem q3318 : (Jvm.Cond.methodLink "HomeCompilerModel" (537 : Nat) ({ cls := "HomeCompilerModel", name := "parameter", desc := "()I" } : Jvm.MethodName)) ∈ lw_all := lw_g (lw_at lw_m13 124 rfl) rfl
theorem q3319 : (Jvm.Cond.privateMethod ({ cls := "HomeCompilerModel", name := "parameter", desc := "()I" } : Jvm.MethodName)) ∈ lw_tbl := lw_at lw_m13 125 rfl
theorem q3320 : (Jvm.Cond.instanceMethod ({ cls := "HomeCompilerModel", name := "parameter", desc := "()I" } : Jvm.MethodName)) ∈ lw_all := lw_g (lw_at lw_m13 126 rfl) rfl
theorem q3321 : (Jvm.Cond.code ({ cls := "HomeCompilerModel", name := "parameter", desc := "()I" } : Jvm.MethodName) prog_23_method_62_code (3 : Nat) (Option.some Jvm.ClassFile.FieldType.int)) ∈ lw_all := lw_g (lw_at lw_m13 127 rfl) rfl
theorem q3322 : (Jvm.Cond.methodLink "HomeCompilerModel" (498 : Nat) ({ cls := "HomeCompilerModel", name := "block", desc := "()I" } : Jvm.MethodName)) ∈ lw_all := lw_g (lw_at lw_m13 128 rfl) rfl
theorem q3323 : (Jvm.Cond.privateMethod ({ cls := "HomeCompilerModel", name := "block", desc := "()I" } : Jvm.MethodName)) ∈ lw_tbl := lw_at lw_m13 129 rfl
theorem q3324 : (Jvm.Cond.instanceMethod ({ cls := "HomeCompilerModel", name := "block", desc := "()I" } : Jvm.MethodName)) ∈ lw_all := lw_g (lw_at lw_m13 130 rfl) rfl
theorem q3325 : (Jvm.Cond.code ({ cls := "HomeCompilerModel", name := "block", desc := "()I" } : Jvm.MethodName) prog_23_method_52_code (4 : Nat) (Option.some Jvm.ClassFile.FieldType.int)) ∈ lw_all := lw_g (lw_at lw_m13 131 rfl) rfl
theorem q3326 : (Jvm.Cond.methodLink "HomeCompilerModel" (491 : Nat) ({ cls := "HomeCompilerModel", name := "statement", desc := "()I" } : Jvm.MethodName)) ∈ lw_all := lw_g (lw_at lw_m13 132 rfl) rfl
theorem q3327 : (Jvm.Cond.privateMethod ({ cls := "HomeCompilerModel", name := "statement", desc := "()I" } : Jvm.MethodName)) ∈ lw_tbl := lw_at lw_m13 133 rfl
theorem q3328 : (Jvm.Cond.instanceMethod ({ cls := "HomeCompilerModel", name := "statement", desc := "()I" } : Jvm.MethodName)) ∈ lw_all := lw_g (lw_at lw_m13 134 rfl) rfl
theorem q3329 : (Jvm.Cond.code ({ cls := "HomeCompilerModel", name := "statement", desc := "()I" } : Jvm.MethodName) prog_23_method_54_code (2 : Nat) (Option.some Jvm.ClassFile.FieldType.int)) ∈ lw_all := lw_g (lw_at lw_m13 135 rfl) rfl
theorem q3330 : (Jvm.Cond.methodLink "HomeCompilerModel" (504 : Nat) ({ cls := "HomeCompilerModel", name := "declaration", desc := "()I" } : Jvm.MethodName)) ∈ lw_all := lw_g (lw_at lw_m13 136 rfl) rfl
theorem q3331 : (Jvm.Cond.privateMethod ({ cls := "HomeCompilerModel", name := "declaration", desc := "()I" } : Jvm.MethodName)) ∈ lw_tbl := lw_at lw_m13 137 rfl
theorem q3332 : (Jvm.Cond.instanceMethod ({ cls := "HomeCompilerModel", name := "declaration", desc := "()I" } : Jvm.MethodName)) ∈ lw_all := lw_g (lw_at lw_m13 138 rfl) rfl
theorem q3333 : (Jvm.Cond.code ({ cls := "HomeCompilerModel", name := "declaration", desc := "()I" } : Jvm.MethodName) prog_23_method_50_code (2 : Nat) (Option.some Jvm.ClassFile.FieldType.int)) ∈ lw_all := lw_g (lw_at lw_m13 139 rfl) rfl
theorem q3334 : (Jvm.Cond.methodLink "HomeCompilerModel" (488 : Nat) ({ cls := "HomeCompilerModel", name := "variables", desc := "()I" } : Jvm.MethodName)) ∈ lw_all := lw_g (lw_at lw_m13 140 rfl) rfl
theorem q3335 : (Jvm.Cond.privateMethod ({ cls := "HomeCompilerModel", name := "variables", desc := "()I" } : Jvm.MethodName)) ∈ lw_tbl := lw_at lw_m13 141 rfl
theorem q3336 : (Jvm.Cond.instanceMethod ({ cls := "HomeCompilerModel", name := "variables", desc := "()I" } : Jvm.MethodName)) ∈ lw_all := lw_g (lw_at lw_m13 142 rfl) rfl
theorem q3337 : (Jvm.Cond.code ({ cls := "HomeCompilerModel", name := "variables", desc := "()I" } : Jvm.MethodName) prog_23_method_46_code (4 : Nat) (Option.some Jvm.ClassFile.FieldType.int)) ∈ lw_all := lw_g (lw_at lw_m13 143 rfl) rfl
theorem q3338 : (Jvm.Cond.methodLink "HomeCompilerModel" (476 : Nat) ({ cls := "HomeCompilerModel", name := "variable", desc := "()I" } : Jvm.MethodName)) ∈ lw_all := lw_g (lw_at lw_m13 144 rfl) rfl
theorem q3339 : (Jvm.Cond.privateMethod ({ cls := "HomeCompilerModel", name := "variable", desc := "()I" } : Jvm.MethodName)) ∈ lw_tbl := lw_at lw_m13 145 rfl
theorem q3340 : (Jvm.Cond.instanceMethod ({ cls := "HomeCompilerModel", name := "variable", desc := "()I" } : Jvm.MethodName)) ∈ lw_all := lw_g (lw_at lw_m13 146 rfl) rfl
theorem q3341 : (Jvm.Cond.code ({ cls := "HomeCompilerModel", name := "variable", desc := "()I" } : Jvm.MethodName) prog_23_method_47_code (2 : Nat) (Option.some Jvm.ClassFile.FieldType.int)) ∈ lw_all := lw_g (lw_at lw_m13 147 rfl) rfl
theorem q3342 : (Jvm.Cond.methodLink "HomeCompilerModel" (482 : Nat) ({ cls := "HomeCompilerModel", name := "arrayValue", desc := "(I)V" } : Jvm.MethodName)) ∈ lw_all := lw_g (lw_at lw_m13 148 rfl) rfl
theorem q3343 : (Jvm.Cond.privateMethod ({ cls := "HomeCompilerModel", name := "arrayValue", desc := "(I)V" } : Jvm.MethodName)) ∈ lw_tbl := lw_at lw_m13 149 rfl
theorem q3344 : (Jvm.Cond.instanceMethod ({ cls := "HomeCompilerModel", name := "arrayValue", desc := "(I)V" } : Jvm.MethodName)) ∈ lw_all := lw_g (lw_at lw_m13 150 rfl) rfl
theorem q3345 : (Jvm.Cond.code ({ cls := "HomeCompilerModel", name := "arrayValue", desc := "(I)V" } : Jvm.MethodName) prog_23_method_49_code (4 : Nat) (Option.none : Option Jvm.ClassFile.FieldType)) ∈ lw_all := lw_g (lw_at lw_m13 151 rfl) rfl
theorem q3346 : (Jvm.Cond.methodLink "HomeCompilerModel" (507 : Nat) ({ cls := "HomeCompilerModel", name := "byKey", desc := "(I)I" } : Jvm.MethodName)) ∈ lw_all := lw_g (lw_at lw_m13 152 rfl) rfl
theorem q3347 : (Jvm.Cond.privateMethod ({ cls := "HomeCompilerModel", name := "byKey", desc := "(I)I" } : Jvm.MethodName)) ∈ lw_tbl := lw_at lw_m13 153 rfl
theorem q3348 : (Jvm.Cond.instanceMethod ({ cls := "HomeCompilerModel", name := "byKey", desc := "(I)I" } : Jvm.MethodName)) ∈ lw_all := lw_g (lw_at lw_m13 154 rfl) rfl
theorem q3349 : (Jvm.Cond.code ({ cls := "HomeCompilerModel", name := "byKey", desc := "(I)I" } : Jvm.MethodName) prog_23_method_55_code (3 : Nat) (Option.some Jvm.ClassFile.FieldType.int)) ∈ lw_all := lw_g (lw_at lw_m13 155 rfl) rfl
theorem q3350 : (Jvm.Cond.methodLink "HomeCompilerModel" (510 : Nat) ({ cls := "HomeCompilerModel", name := "conditioned", desc := "(I)I" } : Jvm.MethodName)) ∈ lw_all := lw_g (lw_at lw_m13 156 rfl) rfl
theorem q3351 : (Jvm.Cond.privateMethod ({ cls := "HomeCompilerModel", name := "conditioned", desc := "(I)I" } : Jvm.MethodName)) ∈ lw_tbl := lw_at lw_m13 157 rfl
theorem q3352 : (Jvm.Cond.instanceMethod ({ cls := "HomeCompilerModel", name := "conditioned", desc := "(I)I" } : Jvm.MethodName)) ∈ lw_all := lw_g (lw_at lw_m13 158 rfl) rfl
theorem q3353 : (Jvm.Cond.code ({ cls := "HomeCompilerModel", name := "conditioned", desc := "(I)I" } : Jvm.MethodName) prog_23_method_56_code (3 : Nat) (Option.some Jvm.ClassFile.FieldType.int)) ∈ lw_all := lw_g (lw_at lw_m13 159 rfl) rfl
theorem q3354 : (Jvm.Cond.methodLink "HomeCompilerModel" (522 : Nat) ({ cls := "HomeCompilerModel", name := "inParentheses", desc := "()I" } : Jvm.MethodName)) ∈ lw_all := lw_g (lw_at lw_m13 160 rfl) rfl
theorem q3355 : (Jvm.Cond.privateMethod ({ cls := "HomeCompilerModel", name := "inParentheses", desc := "()I" } : Jvm.MethodName)) ∈ lw_tbl := lw_at lw_m13 161 rfl
theorem q3356 : (Jvm.Cond.instanceMethod ({ cls := "HomeCompilerModel", name := "inParentheses", desc := "()I" } : Jvm.MethodName)) ∈ lw_all := lw_g (lw_at lw_m13 162 rfl) rfl
theorem q3357 : (Jvm.Cond.code ({ cls := "HomeCompilerModel", name := "inParentheses", desc := "()I" } : Jvm.MethodName) prog_23_method_53_code (2 : Nat) (Option.some Jvm.ClassFile.FieldType.int)) ∈ lw_all := lw_g (lw_at lw_m13 163 rfl) rfl
theorem q3358 : (Jvm.Cond.methodLink "HomeCompilerModel" (525 : Nat) ({ cls := "HomeCompilerModel", name := "takesKey", desc := "(I)Z" } : Jvm.MethodName)) ∈ lw_all := lw_g (lw_at lw_m13 164 rfl) rfl
theorem q3359 : (Jvm.Cond.privateMethod ({ cls := "HomeCompilerModel", name := "takesKey", desc := "(I)Z" } : Jvm.MethodName)) ∈ lw_tbl := lw_at lw_m13 165 rfl
theorem q3360 : (Jvm.Cond.instanceMethod ({ cls := "HomeCompilerModel", name := "takesKey", desc := "(I)Z" } : Jvm.MethodName)) ∈ lw_all := lw_g (lw_at lw_m13 166 rfl) rfl
theorem q3361 : (Jvm.Cond.code ({ cls := "HomeCompilerModel", name := "takesKey", desc := "(I)Z" } : Jvm.MethodName) prog_23_method_25_code (3 : Nat) (Option.some Jvm.ClassFile.FieldType.boolean)) ∈ lw_all := lw_g (lw_at lw_m13 167 rfl) rfl
theorem q3362 : (Jvm.Cond.methodLink "HomeCompilerModel" (513 : Nat) ({ cls := "HomeCompilerModel", name := "doing", desc := "()I" } : Jvm.MethodName)) ∈ lw_all := lw_g (lw_at lw_m13 168 rfl) rfl
theorem q3363 : (Jvm.Cond.privateMethod ({ cls := "HomeCompilerModel", name := "doing", desc := "()I" } : Jvm.MethodName)) ∈ lw_tbl := lw_at lw_m13 169 rfl
theorem q3364 : (Jvm.Cond.instanceMethod ({ cls := "HomeCompilerModel", name := "doing", desc := "()I" } : Jvm.MethodName)) ∈ lw_all := lw_g (lw_at lw_m13 170 rfl) rfl
theorem q3365 : (Jvm.Cond.code ({ cls := "HomeCompilerModel", name := "doing", desc := "()I" } : Jvm.MethodName) prog_23_method_57_code (2 : Nat) (Option.some Jvm.ClassFile.FieldType.int)) ∈ lw_all := lw_g (lw_at lw_m13 171 rfl) rfl
theorem q3366 : (Jvm.Cond.methodLink "HomeCompilerModel" (516 : Nat) ({ cls := "HomeCompilerModel", name := "forLoop", desc := "()I" } : Jvm.MethodName)) ∈ lw_all := lw_g (lw_at lw_m13 172 rfl) rfl
theorem q3367 : (Jvm.Cond.privateMethod ({ cls := "HomeCompilerModel", name := "forLoop", desc := "()I" } : Jvm.MethodName)) ∈ lw_tbl := lw_at lw_m13 173 rfl
theorem q3368 : (Jvm.Cond.instanceMethod ({ cls := "HomeCompilerModel", name := "forLoop", desc := "()I" } : Jvm.MethodName)) ∈ lw_all := lw_g (lw_at lw_m13 174 rfl) rfl
theorem q3369 : (Jvm.Cond.code ({ cls := "HomeCompilerModel", name := "forLoop", desc := "()I" } : Jvm.MethodName) prog_23_method_58_code (3 : Nat) (Option.some Jvm.ClassFile.FieldType.int)) ∈ lw_all := lw_g (lw_at lw_m13 175 rfl) rfl
theorem q3370 : (Jvm.Cond.methodLink "HomeCompilerModel" (519 : Nat) ({ cls := "HomeCompilerModel", name := "switching", desc := "()I" } : Jvm.MethodName)) ∈ lw_all := lw_g (lw_at lw_m13 176 rfl) rfl
theorem q3371 : (Jvm.Cond.privateMethod ({ cls := "HomeCompilerModel", name := "switching", desc := "()I" } : Jvm.MethodName)) ∈ lw_tbl := lw_at lw_m13 177 rfl
theorem q3372 : (Jvm.Cond.instanceMethod ({ cls := "HomeCompilerModel", name := "switching", desc := "()I" } : Jvm.MethodName)) ∈ lw_all := lw_g (lw_at lw_m13 178 rfl) rfl
theorem q3373 : (Jvm.Cond.code ({ cls := "HomeCompilerModel", name := "switching", desc := "()I" } : Jvm.MethodName) prog_23_method_59_code (4 : Nat) (Option.some Jvm.ClassFile.FieldType.int)) ∈ lw_all := lw_g (lw_at lw_m13 179 rfl) rfl
theorem q3374 : (Jvm.Cond.methodLink "HomeCompilerModel" (760 : Nat) ({ cls := "HomeCompilerModel", name := "checkText", desc := "()V" } : Jvm.MethodName)) ∈ lw_all := lw_g (lw_at lw_m13 180 rfl) rfl
theorem q3375 : (Jvm.Cond.privateMethod ({ cls := "HomeCompilerModel", name := "checkText", desc := "()V" } : Jvm.MethodName)) ∈ lw_tbl := lw_at lw_m13 181 rfl
theorem q3376 : (Jvm.Cond.instanceMethod ({ cls := "HomeCompilerModel", name := "checkText", desc := "()V" } : Jvm.MethodName)) ∈ lw_all := lw_g (lw_at lw_m13 182 rfl) rfl
theorem q3377 : (Jvm.Cond.code ({ cls := "HomeCompilerModel", name := "checkText", desc := "()V" } : Jvm.MethodName) prog_23_method_107_code (3 : Nat) (Option.none : Option Jvm.ClassFile.FieldType)) ∈ lw_all := lw_g (lw_at lw_m13 183 rfl) rfl
theorem q3378 : (Jvm.Cond.methodLink "HomeCompilerModel" (727 : Nat) ({ cls := "HomeCompilerModel", name := "checkFunction", desc := "(I)V" } : Jvm.MethodName)) ∈ lw_all := lw_g (lw_at lw_m13 184 rfl) rfl
theorem q3379 : (Jvm.Cond.privateMethod ({ cls := "HomeCompilerModel", name := "checkFunction", desc := "(I)V" } : Jvm.MethodName)) ∈ lw_tbl := lw_at lw_m13 185 rfl
theorem q3380 : (Jvm.Cond.instanceMethod ({ cls := "HomeCompilerModel", name := "checkFunction", desc := "(I)V" } : Jvm.MethodName)) ∈ lw_all := lw_g (lw_at lw_m13 186 rfl) rfl
theorem q3381 : (Jvm.Cond.code ({ cls := "HomeCompilerModel", name := "checkFunction", desc := "(I)V" } : Jvm.MethodName) prog_23_method_100_code (9 : Nat) (Option.none : Option Jvm.ClassFile.FieldType)) ∈ lw_all := lw_g (lw_at lw_m13 187 rfl) rfl
theorem q3382 : (Jvm.Cond.methodLink "HomeCompilerModel" (576 : Nat) ({ cls := "HomeCompilerModel", name := "findOwn", desc := "(I)I" } : Jvm.MethodName)) ∈ lw_all := lw_g (lw_at lw_m13 188 rfl) rfl
theorem q3383 : (Jvm.Cond.privateMethod ({ cls := "HomeCompilerModel", name := "findOwn", desc := "(I)I" } : Jvm.MethodName)) ∈ lw_tbl := lw_at lw_m13 189 rfl
theorem q3384 : (Jvm.Cond.instanceMethod ({ cls := "HomeCompilerModel", name := "findOwn", desc := "(I)I" } : Jvm.MethodName)) ∈ lw_all := lw_g (lw_at lw_m13 190 rfl) rfl
theorem q3385 : (Jvm.Cond.code ({ cls := "HomeCompilerModel", name := "findOwn", desc := "(I)I" } : Jvm.MethodName) prog_23_method_71_code (3 : Nat) (Option.some Jvm.ClassFile.FieldType.int)) ∈ lw_all := lw_g (lw_at lw_m13 191 rfl) rfl
theorem q3386 : (Jvm.Cond.methodLink "HomeCompilerModel" (570 : Nat) ({ cls := "HomeCompilerModel", name := "isNamed", desc := "(ILjava/lang/String;)Z" } : Jvm.MethodName)) ∈ lw_all := lw_g (lw_at lw_m13 192 rfl) rfl
theorem q3387 : (Jvm.Cond.privateMethod ({ cls := "HomeCompilerModel", name := "isNamed", desc := "(ILjava/lang/String;)Z" } : Jvm.MethodName)) ∈ lw_tbl := lw_at lw_m13 193 rfl
theorem q3388 : (Jvm.Cond.instanceMethod ({ cls := "HomeCompilerModel", name := "isNamed", desc := "(ILjava/lang/String;)Z" } : Jvm.MethodName)) ∈ lw_all := lw_g (lw_at lw_m13 194 rfl) rfl
theorem q3389 : (Jvm.Cond.code ({ cls := "HomeCompilerModel", name := "isNamed", desc := "(ILjava/lang/String;)Z" } : Jvm.MethodName) prog_23_method_68_code (3 : Nat) (Option.some Jvm.ClassFile.FieldType.boolean)) ∈ lw_all := lw_g (lw_at lw_m13 195 rfl) rfl
theorem q3390 : (Jvm.Cond.methodLink "HomeCompilerModel" (573 : Nat) ({ cls := "HomeCompilerModel", name := "findFunction", desc := "(I)I" } : Jvm.MethodName)) ∈ lw_all := lw_g (lw_at lw_m13 196 rfl) rfl
theorem q3391 : (Jvm.Cond.privateMethod ({ cls := "HomeCompilerModel", name := "findFunction", desc := "(I)I" } : Jvm.MethodName)) ∈ lw_tbl := lw_at lw_m13 197 rfl
theorem q3392 : (Jvm.Cond.instanceMethod ({ cls := "HomeCompilerModel", name := "findFunction", desc := "(I)I" } : Jvm.MethodName)) ∈ lw_all := lw_g (lw_at lw_m13 198 rfl) rfl
theorem q3393 : (Jvm.Cond.code ({ cls := "HomeCompilerModel", name := "findFunction", desc := "(I)I" } : Jvm.MethodName) prog_23_method_70_code (3 : Nat) (Option.some Jvm.ClassFile.FieldType.int)) ∈ lw_all := lw_g (lw_at lw_m13 199 rfl) rfl
theorem q3394 : (Jvm.Cond.methodLink "HomeCompilerModel" (559 : Nat) ({ cls := "HomeCompilerModel", name := "sameName", desc := "(II)Z" } : Jvm.MethodName)) ∈ lw_all := lw_g (lw_at lw_m13 200 rfl) rfl
theorem q3395 : (Jvm.Cond.privateMethod ({ cls := "HomeCompilerModel", name := "sameName", desc := "(II)Z" } : Jvm.MethodName)) ∈ lw_tbl := lw_at lw_m13 201 rfl
theorem q3396 : (Jvm.Cond.instanceMethod ({ cls := "HomeCompilerModel", name := "sameName", desc := "(II)Z" } : Jvm.MethodName)) ∈ lw_all := lw_g (lw_at lw_m13 202 rfl) rfl
theorem q3397 : (Jvm.Cond.code ({ cls := "HomeCompilerModel", name := "sameName", desc := "(II)Z" } : Jvm.MethodName) prog_23_method_67_code (5 : Nat) (Option.some Jvm.ClassFile.FieldType.boolean)) ∈ lw_all := lw_g (lw_at lw_m13 203 rfl) rfl
theorem q3398 : (Jvm.Cond.methodLink "HomeCompilerModel" (597 : Nat) ({ cls := "HomeCompilerModel", name := "bad", desc := "(II)V" } : Jvm.MethodName)) ∈ lw_all := lw_g (lw_at lw_m13 204 rfl) rfl
theorem q3399 : (Jvm.Cond.privateMethod ({ cls := "HomeCompilerModel", name := "bad", desc := "(II)V" } : Jvm.MethodName)) ∈ lw_tbl := lw_at lw_m13 205 rfl
theorem q3400 : (Jvm.Cond.instanceMethod ({ cls := "HomeCompilerModel", name := "bad", desc := "(II)V" } : Jvm.MethodName)) ∈ lw_all := lw_g (lw_at lw_m13 206 rfl) rfl
theorem q3401 : (Jvm.Cond.code ({ cls := "HomeCompilerModel", name := "bad", desc := "(II)V" } : Jvm.MethodName) prog_23_method_66_code (3 : Nat) (Option.none : Option Jvm.ClassFile.FieldType)) ∈ lw_all := lw_g (lw_at lw_m13 207 rfl) rfl
theorem q3402 : (Jvm.Cond.methodLink "HomeCompilerModel" (649 : Nat) ({ cls := "HomeCompilerModel", name := "checkNew", desc := "(I)V" } : Jvm.MethodName)) ∈ lw_all := lw_g (lw_at lw_m13 208 rfl) rfl
theorem q3403 : (Jvm.Cond.privateMethod ({ cls := "HomeCompilerModel", name := "checkNew", desc := "(I)V" } : Jvm.MethodName)) ∈ lw_tbl := lw_at lw_m13 209 rfl
theorem q3404 : (Jvm.Cond.instanceMethod ({ cls := "HomeCompilerModel", name := "checkNew", desc := "(I)V" } : Jvm.MethodName)) ∈ lw_all := lw_g (lw_at lw_m13 210 rfl) rfl
theorem q3405 : (Jvm.Cond.code ({ cls := "HomeCompilerModel", name := "checkNew", desc := "(I)V" } : Jvm.MethodName) prog_23_method_75_code (3 : Nat) (Option.none : Option Jvm.ClassFile.FieldType)) ∈ lw_all := lw_g (lw_at lw_m13 211 rfl) rfl
theorem q3406 : (Jvm.Cond.methodLink "HomeCompilerModel" (591 : Nat) ({ cls := "HomeCompilerModel", name := "find", desc := "(II)I" } : Jvm.MethodName)) ∈ lw_all := lw_g (lw_at lw_m13 212 rfl) rfl
theorem q3407 : (Jvm.Cond.privateMethod ({ cls := "HomeCompilerModel", name := "find", desc := "(II)I" } : Jvm.MethodName)) ∈ lw_tbl := lw_at lw_m13 213 rfl
theorem q3408 : (Jvm.Cond.instanceMethod ({ cls := "HomeCompilerModel", name := "find", desc := "(II)I" } : Jvm.MethodName)) ∈ lw_all := lw_g (lw_at lw_m13 214 rfl) rfl
theorem q3409 : (Jvm.Cond.code ({ cls := "HomeCompilerModel", name := "find", desc := "(II)I" } : Jvm.MethodName) prog_23_method_69_code (4 : Nat) (Option.some Jvm.ClassFile.FieldType.int)) ∈ lw_all := lw_g (lw_at lw_m13 215 rfl) rfl
theorem q3410 : (Jvm.Cond.methodLink "HomeCompilerModel" (594 : Nat) ({ cls := "HomeCompilerModel", name := "isFunction", desc := "(I)Z" } : Jvm.MethodName)) ∈ lw_all := lw_g (lw_at lw_m13 216 rfl) rfl
theorem q3411 : (Jvm.Cond.privateMethod ({ cls := "HomeCompilerModel", name := "isFunction", desc := "(I)Z" } : Jvm.MethodName)) ∈ lw_tbl := lw_at lw_m13 217 rfl
theorem q3412 : (Jvm.Cond.instanceMethod ({ cls := "HomeCompilerModel", name := "isFunction", desc := "(I)Z" } : Jvm.MethodName)) ∈ lw_all := lw_g (lw_at lw_m13 218 rfl) rfl
theorem q3413 : (Jvm.Cond.code ({ cls := "HomeCompilerModel", name := "isFunction", desc := "(I)Z" } : Jvm.MethodName) prog_23_method_72_code (2 : Nat) (Option.some Jvm.ClassFile.FieldType.boolean)) ∈ lw_all := lw_g (lw_at lw_m13 219 rfl) rfl
theorem q3414 : (Jvm.Cond.methodLink "HomeCompilerModel" (661 : Nat) ({ cls := "HomeCompilerModel", name := "lay", desc := "(II)I" } : Jvm.MethodName)) ∈ lw_all := lw_g (lw_at lw_m13 220 rfl) rfl
theorem q3415 : (Jvm.Cond.privateMethod ({ cls := "HomeCompilerModel", name := "lay", desc := "(II)I" } : Jvm.MethodName)) ∈ lw_tbl := lw_at lw_m13 221 rfl
theorem q3416 : (Jvm.Cond.instanceMethod ({ cls := "HomeCompilerModel", name := "lay", desc := "(II)I" } : Jvm.MethodName)) ∈ lw_all := lw_g (lw_at lw_m13 222 rfl) rfl
theorem q3417 : (Jvm.Cond.code ({ cls := "HomeCompilerModel", name := "lay", desc := "(II)I" } : Jvm.MethodName) prog_23_method_73_code (3 : Nat) (Option.some Jvm.ClassFile.FieldType.int)) ∈ lw_all := lw_g (lw_at lw_m13 223 rfl) rfl
theorem q3418 : (Jvm.Cond.methodLink "HomeCompilerModel" (664 : Nat) ({ cls := "HomeCompilerModel", name := "know", desc := "(IIII)V" } : Jvm.MethodName)) ∈ lw_all := lw_g (lw_at lw_m13 224 rfl) rfl
theorem q3419 : (Jvm.Cond.privateMethod ({ cls := "HomeCompilerModel", name := "know", desc := "(IIII)V" } : Jvm.MethodName)) ∈ lw_tbl := lw_at lw_m13 225 rfl
theorem q3420 : (Jvm.Cond.instanceMethod ({ cls := "HomeCompilerModel", name := "know", desc := "(IIII)V" } : Jvm.MethodName)) ∈ lw_all := lw_g (lw_at lw_m13 226 rfl) rfl
theorem q3421 : (Jvm.Cond.code ({ cls := "HomeCompilerModel", name := "know", desc := "(IIII)V" } : Jvm.MethodName) prog_23_method_74_code (5 : Nat) (Option.none : Option Jvm.ClassFile.FieldType)) ∈ lw_all := lw_g (lw_at lw_m13 227 rfl) rfl
theorem q3422 : (Jvm.Cond.methodLink "HomeCompilerModel" (670 : Nat) ({ cls := "HomeCompilerModel", name := "statements", desc := "(I)V" } : Jvm.MethodName)) ∈ lw_all := lw_g (lw_at lw_m13 228 rfl) rfl
theorem q3423 : (Jvm.Cond.privateMethod ({ cls := "HomeCompilerModel", name := "statements", desc := "(I)V" } : Jvm.MethodName)) ∈ lw_tbl := lw_at lw_m13 229 rfl
theorem q3424 : (Jvm.Cond.instanceMethod ({ cls := "HomeCompilerModel", name := "statements", desc := "(I)V" } : Jvm.MethodName)) ∈ lw_all := lw_g (lw_at lw_m13 230 rfl) rfl
theorem q3425 : (Jvm.Cond.code ({ cls := "HomeCompilerModel", name := "statements", desc := "(I)V" } : Jvm.MethodName) prog_23_method_91_code (3 : Nat) (Option.none : Option Jvm.ClassFile.FieldType)) ∈ lw_all := lw_g (lw_at lw_m13 231 rfl) rfl
theorem q3426 : (Jvm.Cond.methodLink "HomeCompilerModel" (667 : Nat) ({ cls := "HomeCompilerModel", name := "checkStatement", desc := "(I)V" } : Jvm.MethodName)) ∈ lw_all := lw_g (lw_at lw_m13 232 rfl) rfl
theorem q3427 : (Jvm.Cond.privateMethod ({ cls := "HomeCompilerModel", name := "checkStatement", desc := "(I)V" } : Jvm.MethodName)) ∈ lw_tbl := lw_at lw_m13 233 rfl
theorem q3428 : (Jvm.Cond.instanceMethod ({ cls := "HomeCompilerModel", name := "checkStatement", desc := "(I)V" } : Jvm.MethodName)) ∈ lw_all := lw_g (lw_at lw_m13 234 rfl) rfl
theorem q3429 : (Jvm.Cond.code ({ cls := "HomeCompilerModel", name := "checkStatement", desc := "(I)V" } : Jvm.MethodName) prog_23_method_94_code (3 : Nat) (Option.none : Option Jvm.ClassFile.FieldType)) ∈ lw_all := lw_g (lw_at lw_m13 235 rfl) rfl
theorem q3430 : (Jvm.Cond.methodLink "HomeCompilerModel" (676 : Nat) ({ cls := "HomeCompilerModel", name := "checkBlock", desc := "(I)V" } : Jvm.MethodName)) ∈ lw_all := lw_g (lw_at lw_m13 236 rfl) rfl
theorem q3431 : (Jvm.Cond.privateMethod ({ cls := "HomeCompilerModel", name := "checkBlock", desc := "(I)V" } : Jvm.MethodName)) ∈ lw_tbl := lw_at lw_m13 237 rfl
theorem q3432 : (Jvm.Cond.instanceMethod ({ cls := "HomeCompilerModel", name := "checkBlock", desc := "(I)V" } : Jvm.MethodName)) ∈ lw_all := lw_g (lw_at lw_m13 238 rfl) rfl
theorem q3433 : (Jvm.Cond.code ({ cls := "HomeCompilerModel", name := "checkBlock", desc := "(I)V" } : Jvm.MethodName) prog_23_method_93_code (4 : Nat) (Option.none : Option Jvm.ClassFile.FieldType)) ∈ lw_all := lw_g (lw_at lw_m13 239 rfl) rfl
theorem q3434 : (Jvm.Cond.methodLink "HomeCompilerModel" (673 : Nat) ({ cls := "HomeCompilerModel", name := "leave", desc := "(II)V" } : Jvm.MethodName)) ∈ lw_all := lw_g (lw_at lw_m14 0 rfl) rfl
theorem q3435 : (Jvm.Cond.privateMethod ({ cls := "HomeCompilerModel", name := "leave", desc := "(II)V" } : Jvm.MethodName)) ∈ lw_tbl := lw_at lw_m14 1 rfl
theorem q3436 : (Jvm.Cond.instanceMethod ({ cls := "HomeCompilerModel", name := "leave", desc := "(II)V" } : Jvm.MethodName)) ∈ lw_all := lw_g (lw_at lw_m14 2 rfl) rfl
theorem q3437 : (Jvm.Cond.code ({ cls := "HomeCompilerModel", name := "leave", desc := "(II)V" } : Jvm.MethodName) prog_23_method_92_code (3 : Nat) (Option.none : Option Jvm.ClassFile.FieldType)) ∈ lw_all := lw_g (lw_at lw_m14 3 rfl) rfl
theorem q3438 : (Jvm.Cond.methodLink "HomeCompilerModel" (679 : Nat) ({ cls := "HomeCompilerModel", name := "checkAlone", desc := "(I)V" } : Jvm.MethodName)) ∈ lw_all := lw_g (lw_at lw_m14 4 rfl) rfl
theorem q3439 : (Jvm.Cond.privateMethod ({ cls := "HomeCompilerModel", name := "checkAlone", desc := "(I)V" } : Jvm.MethodName)) ∈ lw_tbl := lw_at lw_m14 5 rfl
theorem q3440 : (Jvm.Cond.instanceMethod ({ cls := "HomeCompilerModel", name := "checkAlone", desc := "(I)V" } : Jvm.MethodName)) ∈ lw_all := lw_g (lw_at lw_m14 6 rfl) rfl
theorem q3441 : (Jvm.Cond.code ({ cls := "HomeCompilerModel", name := "checkAlone", desc := "(I)V" } : Jvm.MethodName) prog_23_method_95_code (3 : Nat) (Option.none : Option Jvm.ClassFile.FieldType)) ∈ lw_all := lw_g (lw_at lw_m14 7 rfl) rfl
theorem q3442 : (Jvm.Cond.methodLink "HomeCompilerModel" (609 : Nat) ({ cls := "HomeCompilerModel", name := "check", desc := "(IZ)I" } : Jvm.MethodName)) ∈ lw_all := lw_g (lw_at lw_m14 8 rfl) rfl
theorem q3443 : (Jvm.Cond.privateMethod ({ cls := "HomeCompilerModel", name := "check", desc := "(IZ)I" } : Jvm.MethodName)) ∈ lw_tbl := lw_at lw_m14 9 rfl
theorem q3444 : (Jvm.Cond.instanceMethod ({ cls := "HomeCompilerModel", name := "check", desc := "(IZ)I" } : Jvm.MethodName)) ∈ lw_all := lw_g (lw_at lw_m14 10 rfl) rfl
theorem q3445 : (Jvm.Cond.code ({ cls := "HomeCompilerModel", name := "check", desc := "(IZ)I" } : Jvm.MethodName) prog_23_method_77_code (8 : Nat) (Option.some Jvm.ClassFile.FieldType.int)) ∈ lw_all := lw_g (lw_at lw_m14 11 rfl) rfl
theorem q3446 : (Jvm.Cond.methodLink "HomeCompilerModel" (600 : Nat) ({ cls := "HomeCompilerModel", name := "checkName", desc := "(I)I" } : Jvm.MethodName)) ∈ lw_all := lw_g (lw_at lw_m14 12 rfl) rfl
theorem q3447 : (Jvm.Cond.privateMethod ({ cls := "HomeCompilerModel", name := "checkName", desc := "(I)I" } : Jvm.MethodName)) ∈ lw_tbl := lw_at lw_m14 13 rfl
theorem q3448 : (Jvm.Cond.instanceMethod ({ cls := "HomeCompilerModel", name := "checkName", desc := "(I)I" } : Jvm.MethodName)) ∈ lw_all := lw_g (lw_at lw_m14 14 rfl) rfl
theorem q3449 : (Jvm.Cond.code ({ cls := "HomeCompilerModel", name := "checkName", desc := "(I)I" } : Jvm.MethodName) prog_23_method_78_code (4 : Nat) (Option.some Jvm.ClassFile.FieldType.int)) ∈ lw_all := lw_g (lw_at lw_m14 15 rfl) rfl
theorem q3450 : (Jvm.Cond.methodLink "HomeCompilerModel" (603 : Nat) ({ cls := "HomeCompilerModel", name := "checkCall", desc := "(I)I" } : Jvm.MethodName)) ∈ lw_all := lw_g (lw_at lw_m14 16 rfl) rfl
theorem q3451 : (Jvm.Cond.privateMethod ({ cls := "HomeCompilerModel", name := "checkCall", desc := "(I)I" } : Jvm.MethodName)) ∈ lw_tbl := lw_at lw_m14 17 rfl
theorem q3452 : (Jvm.Cond.instanceMethod ({ cls := "HomeCompilerModel", name := "checkCall", desc := "(I)I" } : Jvm.MethodName)) ∈ lw_all := lw_g (lw_at lw_m14 18 rfl) rfl
theorem q3453 : (Jvm.Cond.code ({ cls := "HomeCompilerModel", name := "checkCall", desc := "(I)I" } : Jvm.MethodName) prog_23_method_82_code (9 : Nat) (Option.some Jvm.ClassFile.FieldType.int)) ∈ lw_all := lw_g (lw_at lw_m14 19 rfl) rfl
theorem q3454 : (Jvm.Cond.methodLink "HomeCompilerModel" (619 : Nat) ({ cls := "HomeCompilerModel", name := "taken", desc := "(III)I" } : Jvm.MethodName)) ∈ lw_all := lw_g (lw_at lw_m14 20 rfl) rfl
theorem q3455 : (Jvm.Cond.privateMethod ({ cls := "HomeCompilerModel", name := "taken", desc := "(III)I" } : Jvm.MethodName)) ∈ lw_tbl := lw_at lw_m14 21 rfl
theorem q3456 : (Jvm.Cond.instanceMethod ({ cls := "HomeCompilerModel", name := "taken", desc := "(III)I" } : Jvm.MethodName)) ∈ lw_all := lw_g (lw_at lw_m14 22 rfl) rfl
theorem q3457 : (Jvm.Cond.code ({ cls := "HomeCompilerModel", name := "taken", desc := "(III)I" } : Jvm.MethodName) prog_23_method_81_code (6 : Nat) (Option.some Jvm.ClassFile.FieldType.int)) ∈ lw_all := lw_g (lw_at lw_m14 23 rfl) rfl
theorem q3458 : (Jvm.Cond.methodLink "HomeCompilerModel" (622 : Nat) ({ cls := "HomeCompilerModel", name := "checkArgument", desc := "(II)V" } : Jvm.MethodName)) ∈ lw_all := lw_g (lw_at lw_m14 24 rfl) rfl
theorem q3459 : (Jvm.Cond.privateMethod ({ cls := "HomeCompilerModel", name := "checkArgument", desc := "(II)V" } : Jvm.MethodName)) ∈ lw_tbl := lw_at lw_m14 25 rfl
theorem q3460 : (Jvm.Cond.instanceMethod ({ cls := "HomeCompilerModel", name := "checkArgument", desc := "(II)V" } : Jvm.MethodName)) ∈ lw_all := lw_g (lw_at lw_m14 26 rfl) rfl
theorem q3461 : (Jvm.Cond.code ({ cls := "HomeCompilerModel", name := "checkArgument", desc := "(II)V" } : Jvm.MethodName) prog_23_method_83_code (5 : Nat) (Option.none : Option Jvm.ClassFile.FieldType)) ∈ lw_all := lw_g (lw_at lw_m14 27 rfl) rfl
theorem q3462 : (Jvm.Cond.methodLink "HomeCompilerModel" (625 : Nat) ({ cls := "HomeCompilerModel", name := "checkConstant", desc := "(I)Z" } : Jvm.MethodName)) ∈ lw_all := lw_g (lw_at lw_m14 28 rfl) rfl
theorem q3463 : (Jvm.Cond.privateMethod ({ cls := "HomeCompilerModel", name := "checkConstant", desc := "(I)Z" } : Jvm.MethodName)) ∈ lw_tbl := lw_at lw_m14 29 rfl
theorem q3464 : (Jvm.Cond.instanceMethod ({ cls := "HomeCompilerModel", name := "checkConstant", desc := "(I)Z" } : Jvm.MethodName)) ∈ lw_all := lw_g (lw_at lw_m14 30 rfl) rfl
theorem q3465 : (Jvm.Cond.code ({ cls := "HomeCompilerModel", name := "checkConstant", desc := "(I)Z" } : Jvm.MethodName) prog_23_method_86_code (5 : Nat) (Option.some Jvm.ClassFile.FieldType.boolean)) ∈ lw_all := lw_g (lw_at lw_m14 31 rfl) rfl
theorem q3466 : (Jvm.Cond.methodLink "HomeCompilerModel" (631 : Nat) ({ cls := "HomeCompilerModel", name := "meet", desc := "(I)V" } : Jvm.MethodName)) ∈ lw_all := lw_g (lw_at lw_m14 32 rfl) rfl
theorem q3467 : (Jvm.Cond.privateMethod ({ cls := "HomeCompilerModel", name := "meet", desc := "(I)V" } : Jvm.MethodName)) ∈ lw_tbl := lw_at lw_m14 33 rfl
theorem q3468 : (Jvm.Cond.instanceMethod ({ cls := "HomeCompilerModel", name := "meet", desc := "(I)V" } : Jvm.MethodName)) ∈ lw_all := lw_g (lw_at lw_m14 34 rfl) rfl
theorem q3469 : (Jvm.Cond.code ({ cls := "HomeCompilerModel", name := "meet", desc := "(I)V" } : Jvm.MethodName) prog_23_method_84_code (3 : Nat) (Option.none : Option Jvm.ClassFile.FieldType)) ∈ lw_all := lw_g (lw_at lw_m14 35 rfl) rfl
theorem q3470 : (Jvm.Cond.methodLink "HomeCompilerModel" (628 : Nat) ({ cls := "HomeCompilerModel", name := "meetName", desc := "(I)V" } : Jvm.MethodName)) ∈ lw_all := lw_g (lw_at lw_m14 36 rfl) rfl
theorem q3471 : (Jvm.Cond.privateMethod ({ cls := "HomeCompilerModel", name := "meetName", desc := "(I)V" } : Jvm.MethodName)) ∈ lw_tbl := lw_at lw_m14 37 rfl
theorem q3472 : (Jvm.Cond.instanceMethod ({ cls := "HomeCompilerModel", name := "meetName", desc := "(I)V" } : Jvm.MethodName)) ∈ lw_all := lw_g (lw_at lw_m14 38 rfl) rfl
theorem q3473 : (Jvm.Cond.code ({ cls := "HomeCompilerModel", name := "meetName", desc := "(I)V" } : Jvm.MethodName) prog_23_method_85_code (3 : Nat) (Option.none : Option Jvm.ClassFile.FieldType)) ∈ lw_all := lw_g (lw_at lw_m14 39 rfl) rfl
theorem q3474 : (Jvm.Cond.methodLink "HomeCompilerModel" (616 : Nat) ({ cls := "HomeCompilerModel", name := "first", desc := "(I)I" } : Jvm.MethodName)) ∈ lw_all := lw_g (lw_at lw_m14 40 rfl) rfl
theorem q3475 : (Jvm.Cond.privateMethod ({ cls := "HomeCompilerModel", name := "first", desc := "(I)I" } : Jvm.MethodName)) ∈ lw_tbl := lw_at lw_m14 41 rfl
theorem q3476 : (Jvm.Cond.instanceMethod ({ cls := "HomeCompilerModel", name := "first", desc := "(I)I" } : Jvm.MethodName)) ∈ lw_all := lw_g (lw_at lw_m14 42 rfl) rfl
theorem q3477 : (Jvm.Cond.code ({ cls := "HomeCompilerModel", name := "first", desc := "(I)I" } : Jvm.MethodName) prog_23_method_76_code (2 : Nat) (Option.some Jvm.ClassFile.FieldType.int)) ∈ lw_all := lw_g (lw_at lw_m14 43 rfl) rfl
theorem q3478 : (Jvm.Cond.methodLink "HomeCompilerModel" (640 : Nat) ({ cls := "HomeCompilerModel", name := "reckon", desc := "(I)I" } : Jvm.MethodName)) ∈ lw_all := lw_g (lw_at lw_m14 44 rfl) rfl
theorem q3479 : (Jvm.Cond.privateMethod ({ cls := "HomeCompilerModel", name := "reckon", desc := "(I)I" } : Jvm.MethodName)) ∈ lw_tbl := lw_at lw_m14 45 rfl
theorem q3480 : (Jvm.Cond.instanceMethod ({ cls := "HomeCompilerModel", name := "reckon", desc := "(I)I" } : Jvm.MethodName)) ∈ lw_all := lw_g (lw_at lw_m14 46 rfl) rfl
theorem q3481 : (Jvm.Cond.code ({ cls := "HomeCompilerModel", name := "reckon", desc := "(I)I" } : Jvm.MethodName) prog_23_method_87_code (7 : Nat) (Option.some Jvm.ClassFile.FieldType.int)) ∈ lw_all := lw_g (lw_at lw_m14 47 rfl) rfl
theorem q3482 : (Jvm.Cond.methodLink "HomeCompilerModel" (646 : Nat) ({ cls := "HomeCompilerModel", name := "two", desc := "(III)I" } : Jvm.MethodName)) ∈ lw_all := lw_g (lw_at lw_m14 48 rfl) rfl
theorem q3483 : (Jvm.Cond.privateMethod ({ cls := "HomeCompilerModel", name := "two", desc := "(III)I" } : Jvm.MethodName)) ∈ lw_tbl := lw_at lw_m14 49 rfl
theorem q3484 : (Jvm.Cond.instanceMethod ({ cls := "HomeCompilerModel", name := "two", desc := "(III)I" } : Jvm.MethodName)) ∈ lw_all := lw_g (lw_at lw_m14 50 rfl) rfl
theorem q3485 : (Jvm.Cond.code ({ cls := "HomeCompilerModel", name := "two", desc := "(III)I" } : Jvm.MethodName) prog_23_method_88_code (6 : Nat) (Option.some Jvm.ClassFile.FieldType.int)) ∈ lw_all := lw_g (lw_at lw_m14 51 rfl) rfl
theorem q3486 : (Jvm.Cond.methodLink "HomeCompilerModel" (606 : Nat) ({ cls := "HomeCompilerModel", name := "checkIndex", desc := "(I)V" } : Jvm.MethodName)) ∈ lw_all := lw_g (lw_at lw_m14 52 rfl) rfl
theorem q3487 : (Jvm.Cond.privateMethod ({ cls := "HomeCompilerModel", name := "checkIndex", desc := "(I)V" } : Jvm.MethodName)) ∈ lw_tbl := lw_at lw_m14 53 rfl
theorem q3488 : (Jvm.Cond.instanceMethod ({ cls := "HomeCompilerModel", name := "checkIndex", desc := "(I)V" } : Jvm.MethodName)) ∈ lw_all := lw_g (lw_at lw_m14 54 rfl) rfl
theorem q3489 : (Jvm.Cond.code ({ cls := "HomeCompilerModel", name := "checkIndex", desc := "(I)V" } : Jvm.MethodName) prog_23_method_80_code (4 : Nat) (Option.none : Option Jvm.ClassFile.FieldType)) ∈ lw_all := lw_g (lw_at lw_m14 55 rfl) rfl
theorem q3490 : (Jvm.Cond.methodLink "HomeCompilerModel" (613 : Nat) ({ cls := "HomeCompilerModel", name := "checkPlace", desc := "(II)V" } : Jvm.MethodName)) ∈ lw_all := lw_g (lw_at lw_m14 56 rfl) rfl
theorem q3491 : (Jvm.Cond.privateMethod ({ cls := "HomeCompilerModel", name := "checkPlace", desc := "(II)V" } : Jvm.MethodName)) ∈ lw_tbl := lw_at lw_m14 57 rfl
theorem q3492 : (Jvm.Cond.instanceMethod ({ cls := "HomeCompilerModel", name := "checkPlace", desc := "(II)V" } : Jvm.MethodName)) ∈ lw_all := lw_g (lw_at lw_m14 58 rfl) rfl
theorem q3493 : (Jvm.Cond.code ({ cls := "HomeCompilerModel", name := "checkPlace", desc := "(II)V" } : Jvm.MethodName) prog_23_method_79_code (4 : Nat) (Option.none : Option Jvm.ClassFile.FieldType)) ∈ lw_all := lw_g (lw_at lw_m14 59 rfl) rfl
theorem q3494 : (Jvm.Cond.methodLink "HomeCompilerModel" (682 : Nat) ({ cls := "HomeCompilerModel", name := "declare", desc := "(IZ)V" } : Jvm.MethodName)) ∈ lw_all := lw_g (lw_at lw_m14 60 rfl) rfl
theorem q3495 : (Jvm.Cond.privateMethod ({ cls := "HomeCompilerModel", name := "declare", desc := "(IZ)V" } : Jvm.MethodName)) ∈ lw_tbl := lw_at lw_m14 61 rfl
theorem q3496 : (Jvm.Cond.instanceMethod ({ cls := "HomeCompilerModel", name := "declare", desc := "(IZ)V" } : Jvm.MethodName)) ∈ lw_all := lw_g (lw_at lw_m14 62 rfl) rfl
theorem q3497 : (Jvm.Cond.code ({ cls := "HomeCompilerModel", name := "declare", desc := "(IZ)V" } : Jvm.MethodName) prog_23_method_89_code (5 : Nat) (Option.none : Option Jvm.ClassFile.FieldType)) ∈ lw_all := lw_g (lw_at lw_m14 63 rfl) rfl
theorem q3498 : (Jvm.Cond.methodLink "HomeCompilerModel" (655 : Nat) ({ cls := "HomeCompilerModel", name := "declareArray", desc := "(IZ)I" } : Jvm.MethodName)) ∈ lw_all := lw_g (lw_at lw_m14 64 rfl) rfl
theorem q3499 : (Jvm.Cond.privateMethod ({ cls := "HomeCompilerModel", name := "declareArray", desc := "(IZ)I" } : Jvm.MethodName)) ∈ lw_tbl := lw_at lw_m14 65 rfl
theorem q3500 : (Jvm.Cond.instanceMethod ({ cls := "HomeCompilerModel", name := "declareArray", desc := "(IZ)I" } : Jvm.MethodName)) ∈ lw_all := lw_g (lw_at lw_m14 66 rfl) rfl
theorem q3501 : (Jvm.Cond.code ({ cls := "HomeCompilerModel", name := "declareArray", desc := "(IZ)I" } : Jvm.MethodName) prog_23_method_90_code (6 : Nat) (Option.some Jvm.ClassFile.FieldType.int)) ∈ lw_all := lw_g (lw_at lw_m14 67 rfl) rfl
theorem q3502 : (Jvm.Cond.methodLink "HomeCompilerModel" (686 : Nat) ({ cls := "HomeCompilerModel", name := "checkBody", desc := "(I)V" } : Jvm.MethodName)) ∈ lw_all := lw_g (lw_at lw_m14 68 rfl) rfl
theorem q3503 : (Jvm.Cond.privateMethod ({ cls := "HomeCompilerModel", name := "checkBody", desc := "(I)V" } : Jvm.MethodName)) ∈ lw_tbl := lw_at lw_m14 69 rfl
theorem q3504 : (Jvm.Cond.instanceMethod ({ cls := "HomeCompilerModel", name := "checkBody", desc := "(I)V" } : Jvm.MethodName)) ∈ lw_all := lw_g (lw_at lw_m14 70 rfl) rfl
theorem q3505 : (Jvm.Cond.code ({ cls := "HomeCompilerModel", name := "checkBody", desc := "(I)V" } : Jvm.MethodName) prog_23_method_96_code (2 : Nat) (Option.none : Option Jvm.ClassFile.FieldType)) ∈ lw_all := lw_g (lw_at lw_m14 71 rfl) rfl
theorem q3506 : (Jvm.Cond.methodLink "HomeCompilerModel" (689 : Nat) ({ cls := "HomeCompilerModel", name := "checkFor", desc := "(I)V" } : Jvm.MethodName)) ∈ lw_all := lw_g (lw_at lw_m14 72 rfl) rfl
theorem q3507 : (Jvm.Cond.privateMethod ({ cls := "HomeCompilerModel", name := "checkFor", desc := "(I)V" } : Jvm.MethodName)) ∈ lw_tbl := lw_at lw_m14 73 rfl
theorem q3508 : (Jvm.Cond.instanceMethod ({ cls := "HomeCompilerModel", name := "checkFor", desc := "(I)V" } : Jvm.MethodName)) ∈ lw_all := lw_g (lw_at lw_m14 74 rfl) rfl
theorem q3509 : (Jvm.Cond.code ({ cls := "HomeCompilerModel", name := "checkFor", desc := "(I)V" } : Jvm.MethodName) prog_23_method_97_code (4 : Nat) (Option.none : Option Jvm.ClassFile.FieldType)) ∈ lw_all := lw_g (lw_at lw_m14 75 rfl) rfl
theorem q3510 : (Jvm.Cond.methodLink "HomeCompilerModel" (692 : Nat) ({ cls := "HomeCompilerModel", name := "checkSwitch", desc := "(I)V" } : Jvm.MethodName)) ∈ lw_all := lw_g (lw_at lw_m14 76 rfl) rfl
theorem q3511 : (Jvm.Cond.privateMethod ({ cls := "HomeCompilerModel", name := "checkSwitch", desc := "(I)V" } : Jvm.MethodName)) ∈ lw_tbl := lw_at lw_m14 77 rfl
theorem q3512 : (Jvm.Cond.instanceMethod ({ cls := "HomeCompilerModel", name := "checkSwitch", desc := "(I)V" } : Jvm.MethodName)) ∈ lw_all := lw_g (lw_at lw_m14 78 rfl) rfl
theorem q3513 : (Jvm.Cond.code ({ cls := "HomeCompilerModel", name := "checkSwitch", desc := "(I)V" } : Jvm.MethodName) prog_23_method_98_code (7 : Nat) (Option.none : Option Jvm.ClassFile.FieldType)) ∈ lw_all := lw_g (lw_at lw_m14 79 rfl) rfl
theorem q3514 : (Jvm.Cond.methodLink "HomeCompilerModel" (695 : Nat) ({ cls := "HomeCompilerModel", name := "checkReturn", desc := "(I)V" } : Jvm.MethodName)) ∈ lw_all := lw_g (lw_at lw_m14 80 rfl) rfl
theorem q3515 : (Jvm.Cond.privateMethod ({ cls := "HomeCompilerModel", name := "checkReturn", desc := "(I)V" } : Jvm.MethodName)) ∈ lw_tbl := lw_at lw_m14 81 rfl
theorem q3516 : (Jvm.Cond.instanceMethod ({ cls := "HomeCompilerModel", name := "checkReturn", desc := "(I)V" } : Jvm.MethodName)) ∈ lw_all := lw_g (lw_at lw_m14 82 rfl) rfl
theorem q3517 : (Jvm.Cond.code ({ cls := "HomeCompilerModel", name := "checkReturn", desc := "(I)V" } : Jvm.MethodName) prog_23_method_99_code (3 : Nat) (Option.none : Option Jvm.ClassFile.FieldType)) ∈ lw_all := lw_g (lw_at lw_m14 83 rfl) rfl
theorem q3518 : (Jvm.Cond.methodLink "HomeCompilerModel" (707 : Nat) ({ cls := "HomeCompilerModel", name := "measure", desc := "(I)V" } : Jvm.MethodName)) ∈ lw_all := lw_g (lw_at lw_m14 84 rfl) rfl
theorem q3519 : (Jvm.Cond.privateMethod ({ cls := "HomeCompilerModel", name := "measure", desc := "(I)V" } : Jvm.MethodName)) ∈ lw_tbl := lw_at lw_m14 85 rfl
theorem q3520 : (Jvm.Cond.instanceMethod ({ cls := "HomeCompilerModel", name := "measure", desc := "(I)V" } : Jvm.MethodName)) ∈ lw_all := lw_g (lw_at lw_m14 86 rfl) rfl
theorem q3521 : (Jvm.Cond.code ({ cls := "HomeCompilerModel", name := "measure", desc := "(I)V" } : Jvm.MethodName) prog_23_method_103_code (3 : Nat) (Option.none : Option Jvm.ClassFile.FieldType)) ∈ lw_all := lw_g (lw_at lw_m14 87 rfl) rfl
theorem q3522 : (Jvm.Cond.methodLink "HomeCompilerModel" (713 : Nat) ({ cls := "HomeCompilerModel", name := "measureOne", desc := "(I)V" } : Jvm.MethodName)) ∈ lw_all := lw_g (lw_at lw_m14 88 rfl) rfl
theorem q3523 : (Jvm.Cond.privateMethod ({ cls := "HomeCompilerModel", name := "measureOne", desc := "(I)V" } : Jvm.MethodName)) ∈ lw_tbl := lw_at lw_m14 89 rfl
theorem q3524 : (Jvm.Cond.instanceMethod ({ cls := "HomeCompilerModel", name := "measureOne", desc := "(I)V" } : Jvm.MethodName)) ∈ lw_all := lw_g (lw_at lw_m14 90 rfl) rfl
theorem q3525 : (Jvm.Cond.code ({ cls := "HomeCompilerModel", name := "measureOne", desc := "(I)V" } : Jvm.MethodName) prog_23_method_104_code (3 : Nat) (Option.none : Option Jvm.ClassFile.FieldType)) ∈ lw_all := lw_g (lw_at lw_m14 91 rfl) rfl
theorem q3526 : (Jvm.Cond.methodLink "HomeCompilerModel" (716 : Nat) ({ cls := "HomeCompilerModel", name := "raise", desc := "(I)V" } : Jvm.MethodName)) ∈ lw_all := lw_g (lw_at lw_m14 92 rfl) rfl
theorem q3527 : (Jvm.Cond.privateMethod ({ cls := "HomeCompilerModel", name := "raise", desc := "(I)V" } : Jvm.MethodName)) ∈ lw_tbl := lw_at lw_m14 93 rfl
theorem q3528 : (Jvm.Cond.instanceMethod ({ cls := "HomeCompilerModel", name := "raise", desc := "(I)V" } : Jvm.MethodName)) ∈ lw_all := lw_g (lw_at lw_m14 94 rfl) rfl
theorem q3529 : (Jvm.Cond.code ({ cls := "HomeCompilerModel", name := "raise", desc := "(I)V" } : Jvm.MethodName) prog_23_method_102_code (3 : Nat) (Option.none : Option Jvm.ClassFile.FieldType)) ∈ lw_all := lw_g (lw_at lw_m14 95 rfl) rfl
theorem q3530 : (Jvm.Cond.methodLink "HomeCompilerModel" (710 : Nat) ({ cls := "HomeCompilerModel", name := "height", desc := "(I)I" } : Jvm.MethodName)) ∈ lw_all := lw_g (lw_at lw_m14 96 rfl) rfl
theorem q3531 : (Jvm.Cond.privateMethod ({ cls := "HomeCompilerModel", name := "height", desc := "(I)I" } : Jvm.MethodName)) ∈ lw_tbl := lw_at lw_m14 97 rfl
theorem q3532 : (Jvm.Cond.instanceMethod ({ cls := "HomeCompilerModel", name := "height", desc := "(I)I" } : Jvm.MethodName)) ∈ lw_all := lw_g (lw_at lw_m14 98 rfl) rfl
theorem q3533 : (Jvm.Cond.code ({ cls := "HomeCompilerModel", name := "height", desc := "(I)I" } : Jvm.MethodName) prog_23_method_101_code (12 : Nat) (Option.some Jvm.ClassFile.FieldType.int)) ∈ lw_all := lw_g (lw_at lw_m14 99 rfl) rfl
theorem q3534 : (Jvm.Cond.methodLink "HomeCompilerModel" (730 : Nat) ({ cls := "HomeCompilerModel", name := "checkEnum", desc := "(I)V" } : Jvm.MethodName)) ∈ lw_all := lw_g (lw_at lw_m14 100 rfl) rfl
theorem q3535 : (Jvm.Cond.privateMethod ({ cls := "HomeCompilerModel", name := "checkEnum", desc := "(I)V" } : Jvm.MethodName)) ∈ lw_tbl := lw_at lw_m14 101 rfl
theorem q3536 : (Jvm.Cond.instanceMethod ({ cls := "HomeCompilerModel", name := "checkEnum", desc := "(I)V" } : Jvm.MethodName)) ∈ lw_all := lw_g (lw_at lw_m14 102 rfl) rfl
theorem q3537 : (Jvm.Cond.code ({ cls := "HomeCompilerModel", name := "checkEnum", desc := "(I)V" } : Jvm.MethodName) prog_23_method_105_code (4 : Nat) (Option.none : Option Jvm.ClassFile.FieldType)) ∈ lw_all := lw_g (lw_at lw_m14 103 rfl) rfl
theorem q3538 : (Jvm.Cond.methodLink "HomeCompilerModel" (733 : Nat) ({ cls := "HomeCompilerModel", name := "hasMain", desc := "()Z" } : Jvm.MethodName)) ∈ lw_all := lw_g (lw_at lw_m14 104 rfl) rfl
theorem q3539 : (Jvm.Cond.privateMethod ({ cls := "HomeCompilerModel", name := "hasMain", desc := "()Z" } : Jvm.MethodName)) ∈ lw_tbl := lw_at lw_m14 105 rfl
theorem q3540 : (Jvm.Cond.instanceMethod ({ cls := "HomeCompilerModel", name := "hasMain", desc := "()Z" } : Jvm.MethodName)) ∈ lw_all := lw_g (lw_at lw_m14 106 rfl) rfl
theorem q3541 : (Jvm.Cond.code ({ cls := "HomeCompilerModel", name := "hasMain", desc := "()Z" } : Jvm.MethodName) prog_23_method_106_code (4 : Nat) (Option.some Jvm.ClassFile.FieldType.boolean)) ∈ lw_all := lw_g (lw_at lw_m14 107 rfl) rfl
theorem q3542 : (Jvm.Cond.stringRef "HomeCompilerModel" (719 : Nat) "main") ∈ lw_tbl := lw_at lw_m14 108 rfl
theorem q3544 : (Jvm.Cond.instanceMethod ({ cls := "HomeCompilerModel", name := "place", desc := "()I" } : Jvm.MethodName)) ∈ lw_all := lw_g (lw_at lw_m14 110 rfl) rfl
theorem q3545 : (Jvm.Cond.selects "HomeCompilerModel" ({ cls := "HomeCompilerModel", name := "place", desc := "()I" } : Jvm.MethodName) ({ cls := "HomeCompilerModel", name := "place", desc := "()I" } : Jvm.MethodName)) ∈ lw_all := lw_g (lw_at lw_m14 111 rfl) rfl
theorem q3546 : (Jvm.Cond.code ({ cls := "HomeCompilerModel", name := "place", desc := "()I" } : Jvm.MethodName) prog_23_method_110_code (1 : Nat) (Option.some Jvm.ClassFile.FieldType.int)) ∈ lw_all := lw_g (lw_at lw_m14 112 rfl) rfl
theorem q3548 : (Jvm.Cond.instanceMethod ({ cls := "HomeCompilerModel", name := "run", desc := "(III)I" } : Jvm.MethodName)) ∈ lw_all := lw_g (lw_at lw_m14 114 rfl) rfl
theorem q3549 : (Jvm.Cond.selects "HomeCompilerModel" ({ cls := "HomeCompilerModel", name := "run", desc := "(III)I" } : Jvm.MethodName) ({ cls := "HomeCompilerModel", name := "run", desc := "(III)I" } : Jvm.MethodName)) ∈ lw_all := lw_g (lw_at lw_m14 115 rfl) rfl
theorem q3550 : (Jvm.Cond.code ({ cls := "HomeCompilerModel", name := "run", desc := "(III)I" } : Jvm.MethodName) prog_23_method_152_code (5 : Nat) (Option.some Jvm.ClassFile.FieldType.int)) ∈ lw_all := lw_g (lw_at lw_m14 116 rfl) rfl
theorem q3551 : (Jvm.Cond.methodLink "HomeCompilerModel" (902 : Nat) ({ cls := "HomeCompilerModel", name := "setText", desc := "()V" } : Jvm.MethodName)) ∈ lw_all := lw_g (lw_at lw_m14 117 rfl) rfl
theorem q3552 : (Jvm.Cond.privateMethod ({ cls := "HomeCompilerModel", name := "setText", desc := "()V" } : Jvm.MethodName)) ∈ lw_tbl := lw_at lw_m14 118 rfl
theorem q3553 : (Jvm.Cond.instanceMethod ({ cls := "HomeCompilerModel", name := "setText", desc := "()V" } : Jvm.MethodName)) ∈ lw_all := lw_g (lw_at lw_m14 119 rfl) rfl
theorem q3554 : (Jvm.Cond.code ({ cls := "HomeCompilerModel", name := "setText", desc := "()V" } : Jvm.MethodName) prog_23_method_150_code (3 : Nat) (Option.none : Option Jvm.ClassFile.FieldType)) ∈ lw_all := lw_g (lw_at lw_m14 120 rfl) rfl
theorem q3555 : (Jvm.Cond.methodLink "HomeCompilerModel" (896 : Nat) ({ cls := "HomeCompilerModel", name := "begin", desc := "(I)V" } : Jvm.MethodName)) ∈ lw_all := lw_g (lw_at lw_m14 121 rfl) rfl
theorem q3556 : (Jvm.Cond.privateMethod ({ cls := "HomeCompilerModel", name := "begin", desc := "(I)V" } : Jvm.MethodName)) ∈ lw_tbl := lw_at lw_m14 122 rfl
theorem q3557 : (Jvm.Cond.instanceMethod ({ cls := "HomeCompilerModel", name := "begin", desc := "(I)V" } : Jvm.MethodName)) ∈ lw_all := lw_g (lw_at lw_m14 123 rfl) rfl
theorem q3558 : (Jvm.Cond.code ({ cls := "HomeCompilerModel", name := "begin", desc := "(I)V" } : Jvm.MethodName) prog_23_method_143_code (7 : Nat) (Option.none : Option Jvm.ClassFile.FieldType)) ∈ lw_all := lw_g (lw_at lw_m14 124 rfl) rfl
theorem q3559 : (Jvm.Cond.methodLink "HomeCompilerModel" (784 : Nat) ({ cls := "HomeCompilerModel", name := "cellOf", desc := "(I)I" } : Jvm.MethodName)) ∈ lw_all := lw_g (lw_at lw_m14 125 rfl) rfl
theorem q3560 : (Jvm.Cond.privateMethod ({ cls := "HomeCompilerModel", name := "cellOf", desc := "(I)I" } : Jvm.MethodName)) ∈ lw_tbl := lw_at lw_m14 126 rfl
theorem q3561 : (Jvm.Cond.instanceMethod ({ cls := "HomeCompilerModel", name := "cellOf", desc := "(I)I" } : Jvm.MethodName)) ∈ lw_all := lw_g (lw_at lw_m14 127 rfl) rfl
theorem q3562 : (Jvm.Cond.code ({ cls := "HomeCompilerModel", name := "cellOf", desc := "(I)I" } : Jvm.MethodName) prog_23_method_118_code (2 : Nat) (Option.some Jvm.ClassFile.FieldType.int)) ∈ lw_all := lw_g (lw_at lw_m14 128 rfl) rfl
theorem q3563 : (Jvm.Cond.methodLink "HomeCompilerModel" (832 : Nat) ({ cls := "HomeCompilerModel", name := "stored", desc := "(II)I" } : Jvm.MethodName)) ∈ lw_all := lw_g (lw_at lw_m14 129 rfl) rfl
theorem q3564 : (Jvm.Cond.privateMethod ({ cls := "HomeCompilerModel", name := "stored", desc := "(II)I" } : Jvm.MethodName)) ∈ lw_tbl := lw_at lw_m14 130 rfl
theorem q3565 : (Jvm.Cond.instanceMethod ({ cls := "HomeCompilerModel", name := "stored", desc := "(II)I" } : Jvm.MethodName)) ∈ lw_all := lw_g (lw_at lw_m14 131 rfl) rfl
theorem q3566 : (Jvm.Cond.code ({ cls := "HomeCompilerModel", name := "stored", desc := "(II)I" } : Jvm.MethodName) prog_23_method_125_code (3 : Nat) (Option.some Jvm.ClassFile.FieldType.int)) ∈ lw_all := lw_g (lw_at lw_m14 132 rfl) rfl
theorem q3567 : (Jvm.Cond.methodLink "HomeCompilerModel" (798 : Nat) ({ cls := "HomeCompilerModel", name := "isOfChar", desc := "(I)Z" } : Jvm.MethodName)) ∈ lw_all := lw_g (lw_at lw_m14 133 rfl) rfl
theorem q3568 : (Jvm.Cond.privateMethod ({ cls := "HomeCompilerModel", name := "isOfChar", desc := "(I)Z" } : Jvm.MethodName)) ∈ lw_tbl := lw_at lw_m14 134 rfl
theorem q3569 : (Jvm.Cond.instanceMethod ({ cls := "HomeCompilerModel", name := "isOfChar", desc := "(I)Z" } : Jvm.MethodName)) ∈ lw_all := lw_g (lw_at lw_m14 135 rfl) rfl
theorem q3570 : (Jvm.Cond.code ({ cls := "HomeCompilerModel", name := "isOfChar", desc := "(I)Z" } : Jvm.MethodName) prog_23_method_120_code (3 : Nat) (Option.some Jvm.ClassFile.FieldType.boolean)) ∈ lw_all := lw_g (lw_at lw_m14 136 rfl) rfl
theorem q3571 : (Jvm.Cond.methodLink "HomeCompilerModel" (769 : Nat) ({ cls := "HomeCompilerModel", name := "give", desc := "(I)V" } : Jvm.MethodName)) ∈ lw_all := lw_g (lw_at lw_m14 137 rfl) rfl
theorem q3572 : (Jvm.Cond.privateMethod ({ cls := "HomeCompilerModel", name := "give", desc := "(I)V" } : Jvm.MethodName)) ∈ lw_tbl := lw_at lw_m14 138 rfl
theorem q3573 : (Jvm.Cond.instanceMethod ({ cls := "HomeCompilerModel", name := "give", desc := "(I)V" } : Jvm.MethodName)) ∈ lw_all := lw_g (lw_at lw_m14 139 rfl) rfl
theorem q3574 : (Jvm.Cond.code ({ cls := "HomeCompilerModel", name := "give", desc := "(I)V" } : Jvm.MethodName) prog_23_method_112_code (2 : Nat) (Option.none : Option Jvm.ClassFile.FieldType)) ∈ lw_all := lw_g (lw_at lw_m14 140 rfl) rfl
theorem q3575 : (Jvm.Cond.methodLink "HomeCompilerModel" (905 : Nat) ({ cls := "HomeCompilerModel", name := "mainFunction", desc := "()I" } : Jvm.MethodName)) ∈ lw_all := lw_g (lw_at lw_m14 141 rfl) rfl
theorem q3576 : (Jvm.Cond.privateMethod ({ cls := "HomeCompilerModel", name := "mainFunction", desc := "()I" } : Jvm.MethodName)) ∈ lw_tbl := lw_at lw_m14 142 rfl
theorem q3577 : (Jvm.Cond.instanceMethod ({ cls := "HomeCompilerModel", name := "mainFunction", desc := "()I" } : Jvm.MethodName)) ∈ lw_all := lw_g (lw_at lw_m14 143 rfl) rfl
theorem q3578 : (Jvm.Cond.code ({ cls := "HomeCompilerModel", name := "mainFunction", desc := "()I" } : Jvm.MethodName) prog_23_method_151_code (3 : Nat) (Option.some Jvm.ClassFile.FieldType.int)) ∈ lw_all := lw_g (lw_at lw_m14 144 rfl) rfl
theorem q3579 : (Jvm.Cond.methodLink "HomeCompilerModel" (841 : Nat) ({ cls := "HomeCompilerModel", name := "enter", desc := "(I)V" } : Jvm.MethodName)) ∈ lw_all := lw_g (lw_at lw_m14 145 rfl) rfl
theorem q3580 : (Jvm.Cond.privateMethod ({ cls := "HomeCompilerModel", name := "enter", desc := "(I)V" } : Jvm.MethodName)) ∈ lw_tbl := lw_at lw_m14 146 rfl
theorem q3581 : (Jvm.Cond.instanceMethod ({ cls := "HomeCompilerModel", name := "enter", desc := "(I)V" } : Jvm.MethodName)) ∈ lw_all := lw_g (lw_at lw_m14 147 rfl) rfl
theorem q3582 : (Jvm.Cond.code ({ cls := "HomeCompilerModel", name := "enter", desc := "(I)V" } : Jvm.MethodName) prog_23_method_134_code (7 : Nat) (Option.none : Option Jvm.ClassFile.FieldType)) ∈ lw_all := lw_g (lw_at lw_m14 148 rfl) rfl
theorem q3583 : (Jvm.Cond.methodLink "HomeCompilerModel" (847 : Nat) ({ cls := "HomeCompilerModel", name := "takesWork", desc := "()Z" } : Jvm.MethodName)) ∈ lw_all := lw_g (lw_at lw_m14 149 rfl) rfl
theorem q3584 : (Jvm.Cond.privateMethod ({ cls := "HomeCompilerModel", name := "takesWork", desc := "()Z" } : Jvm.MethodName)) ∈ lw_tbl := lw_at lw_m14 150 rfl
theorem q3585 : (Jvm.Cond.instanceMethod ({ cls := "HomeCompilerModel", name := "takesWork", desc := "()Z" } : Jvm.MethodName)) ∈ lw_all := lw_g (lw_at lw_m14 151 rfl) rfl
theorem q3586 : (Jvm.Cond.code ({ cls := "HomeCompilerModel", name := "takesWork", desc := "()Z" } : Jvm.MethodName) prog_23_method_117_code (1 : Nat) (Option.some Jvm.ClassFile.FieldType.boolean)) ∈ lw_all := lw_g (lw_at lw_m14 152 rfl) rfl
theorem q3587 : (Jvm.Cond.methodLink "HomeCompilerModel" (775 : Nat) ({ cls := "HomeCompilerModel", name := "stop", desc := "(I)V" } : Jvm.MethodName)) ∈ lw_all := lw_g (lw_at lw_m14 153 rfl) rfl
theorem q3588 : (Jvm.Cond.privateMethod ({ cls := "HomeCompilerModel", name := "stop", desc := "(I)V" } : Jvm.MethodName)) ∈ lw_tbl := lw_at lw_m14 154 rfl
theorem q3589 : (Jvm.Cond.instanceMethod ({ cls := "HomeCompilerModel", name := "stop", desc := "(I)V" } : Jvm.MethodName)) ∈ lw_all := lw_g (lw_at lw_m14 155 rfl) rfl
theorem q3590 : (Jvm.Cond.code ({ cls := "HomeCompilerModel", name := "stop", desc := "(I)V" } : Jvm.MethodName) prog_23_method_116_code (2 : Nat) (Option.none : Option Jvm.ClassFile.FieldType)) ∈ lw_all := lw_g (lw_at lw_m14 156 rfl) rfl
theorem q3591 : (Jvm.Cond.methodLink "HomeCompilerModel" (781 : Nat) ({ cls := "HomeCompilerModel", name := "isGiven", desc := "(I)Z" } : Jvm.MethodName)) ∈ lw_all := lw_g (lw_at lw_m14 157 rfl) rfl
theorem q3592 : (Jvm.Cond.privateMethod ({ cls := "HomeCompilerModel", name := "isGiven", desc := "(I)Z" } : Jvm.MethodName)) ∈ lw_tbl := lw_at lw_m14 158 rfl
theorem q3593 : (Jvm.Cond.instanceMethod ({ cls := "HomeCompilerModel", name := "isGiven", desc := "(I)Z" } : Jvm.MethodName)) ∈ lw_all := lw_g (lw_at lw_m14 159 rfl) rfl
theorem q3594 : (Jvm.Cond.code ({ cls := "HomeCompilerModel", name := "isGiven", desc := "(I)Z" } : Jvm.MethodName) prog_23_method_119_code (2 : Nat) (Option.some Jvm.ClassFile.FieldType.boolean)) ∈ lw_all := lw_g (lw_at lw_m14 160 rfl) rfl
theorem q3595 : (Jvm.Cond.methodLink "HomeCompilerModel" (813 : Nat) ({ cls := "HomeCompilerModel", name := "push", desc := "(I)V" } : Jvm.MethodName)) ∈ lw_all := lw_g (lw_at lw_m14 161 rfl) rfl
theorem q3596 : (Jvm.Cond.privateMethod ({ cls := "HomeCompilerModel", name := "push", desc := "(I)V" } : Jvm.MethodName)) ∈ lw_tbl := lw_at lw_m14 162 rfl
theorem q3597 : (Jvm.Cond.instanceMethod ({ cls := "HomeCompilerModel", name := "push", desc := "(I)V" } : Jvm.MethodName)) ∈ lw_all := lw_g (lw_at lw_m14 163 rfl) rfl
theorem q3598 : (Jvm.Cond.code ({ cls := "HomeCompilerModel", name := "push", desc := "(I)V" } : Jvm.MethodName) prog_23_method_111_code (2 : Nat) (Option.none : Option Jvm.ClassFile.FieldType)) ∈ lw_all := lw_g (lw_at lw_m14 164 rfl) rfl
theorem q3599 : (Jvm.Cond.methodLink "HomeCompilerModel" (908 : Nat) ({ cls := "HomeCompilerModel", name := "step", desc := "()V" } : Jvm.MethodName)) ∈ lw_all := lw_g (lw_at lw_m14 165 rfl) rfl
theorem q3600 : (Jvm.Cond.privateMethod ({ cls := "HomeCompilerModel", name := "step", desc := "()V" } : Jvm.MethodName)) ∈ lw_tbl := lw_at lw_m14 166 rfl
theorem q3601 : (Jvm.Cond.instanceMethod ({ cls := "HomeCompilerModel", name := "step", desc := "()V" } : Jvm.MethodName)) ∈ lw_all := lw_g (lw_at lw_m14 167 rfl) rfl
theorem q3602 : (Jvm.Cond.code ({ cls := "HomeCompilerModel", name := "step", desc := "()V" } : Jvm.MethodName) prog_23_method_126_code (4 : Nat) (Option.none : Option Jvm.ClassFile.FieldType)) ∈ lw_all := lw_g (lw_at lw_m14 168 rfl) rfl
theorem q3603 : (Jvm.Cond.methodLink "HomeCompilerModel" (801 : Nat) ({ cls := "HomeCompilerModel", name := "doStatement", desc := "(II)V" } : Jvm.MethodName)) ∈ lw_all := lw_g (lw_at lw_m14 169 rfl) rfl
theorem q3604 : (Jvm.Cond.privateMethod ({ cls := "HomeCompilerModel", name := "doStatement", desc := "(II)V" } : Jvm.MethodName)) ∈ lw_tbl := lw_at lw_m14 170 rfl
theorem q3605 : (Jvm.Cond.instanceMethod ({ cls := "HomeCompilerModel", name := "doStatement", desc := "(II)V" } : Jvm.MethodName)) ∈ lw_all := lw_g (lw_at lw_m14 171 rfl) rfl
theorem q3606 : (Jvm.Cond.code ({ cls := "HomeCompilerModel", name := "doStatement", desc := "(II)V" } : Jvm.MethodName) prog_23_method_140_code (4 : Nat) (Option.none : Option Jvm.ClassFile.FieldType)) ∈ lw_all := lw_g (lw_at lw_m14 172 rfl) rfl
theorem q3607 : (Jvm.Cond.methodLink "HomeCompilerModel" (872 : Nat) ({ cls := "HomeCompilerModel", name := "doRow", desc := "(I)V" } : Jvm.MethodName)) ∈ lw_all := lw_g (lw_at lw_m14 173 rfl) rfl
theorem q3608 : (Jvm.Cond.privateMethod ({ cls := "HomeCompilerModel", name := "doRow", desc := "(I)V" } : Jvm.MethodName)) ∈ lw_tbl := lw_at lw_m14 174 rfl
theorem q3609 : (Jvm.Cond.instanceMethod ({ cls := "HomeCompilerModel", name := "doRow", desc := "(I)V" } : Jvm.MethodName)) ∈ lw_all := lw_g (lw_at lw_m14 175 rfl) rfl
theorem q3610 : (Jvm.Cond.code ({ cls := "HomeCompilerModel", name := "doRow", desc := "(I)V" } : Jvm.MethodName) prog_23_method_141_code (2 : Nat) (Option.none : Option Jvm.ClassFile.FieldType)) ∈ lw_all := lw_g (lw_at lw_m14 176 rfl) rfl
theorem q3611 : (Jvm.Cond.methodLink "HomeCompilerModel" (810 : Nat) ({ cls := "HomeCompilerModel", name := "state", desc := "(I)V" } : Jvm.MethodName)) ∈ lw_all := lw_g (lw_at lw_m14 177 rfl) rfl
theorem q3612 : (Jvm.Cond.privateMethod ({ cls := "HomeCompilerModel", name := "state", desc := "(I)V" } : Jvm.MethodName)) ∈ lw_tbl := lw_at lw_m14 178 rfl
theorem q3613 : (Jvm.Cond.instanceMethod ({ cls := "HomeCompilerModel", name := "state", desc := "(I)V" } : Jvm.MethodName)) ∈ lw_all := lw_g (lw_at lw_m14 179 rfl) rfl
theorem q3614 : (Jvm.Cond.code ({ cls := "HomeCompilerModel", name := "state", desc := "(I)V" } : Jvm.MethodName) prog_23_method_115_code (2 : Nat) (Option.none : Option Jvm.ClassFile.FieldType)) ∈ lw_all := lw_g (lw_at lw_m14 180 rfl) rfl
theorem q3615 : (Jvm.Cond.methodLink "HomeCompilerModel" (793 : Nat) ({ cls := "HomeCompilerModel", name := "take", desc := "()I" } : Jvm.MethodName)) ∈ lw_all := lw_g (lw_at lw_m14 181 rfl) rfl
theorem q3616 : (Jvm.Cond.privateMethod ({ cls := "HomeCompilerModel", name := "take", desc := "()I" } : Jvm.MethodName)) ∈ lw_tbl := lw_at lw_m14 182 rfl
theorem q3617 : (Jvm.Cond.instanceMethod ({ cls := "HomeCompilerModel", name := "take", desc := "()I" } : Jvm.MethodName)) ∈ lw_all := lw_g (lw_at lw_m14 183 rfl) rfl
theorem q3618 : (Jvm.Cond.code ({ cls := "HomeCompilerModel", name := "take", desc := "()I" } : Jvm.MethodName) prog_23_method_113_code (1 : Nat) (Option.some Jvm.ClassFile.FieldType.int)) ∈ lw_all := lw_g (lw_at lw_m14 184 rfl) rfl
theorem q3619 : (Jvm.Cond.methodLink "HomeCompilerModel" (875 : Nat) ({ cls := "HomeCompilerModel", name := "doDeclare", desc := "(II)V" } : Jvm.MethodName)) ∈ lw_all := lw_g (lw_at lw_m14 185 rfl) rfl
theorem q3620 : (Jvm.Cond.privateMethod ({ cls := "HomeCompilerModel", name := "doDeclare", desc := "(II)V" } : Jvm.MethodName)) ∈ lw_tbl := lw_at lw_m14 186 rfl
theorem q3621 : (Jvm.Cond.instanceMethod ({ cls := "HomeCompilerModel", name := "doDeclare", desc := "(II)V" } : Jvm.MethodName)) ∈ lw_all := lw_g (lw_at lw_m14 187 rfl) rfl
theorem q3622 : (Jvm.Cond.code ({ cls := "HomeCompilerModel", name := "doDeclare", desc := "(II)V" } : Jvm.MethodName) prog_23_method_142_code (5 : Nat) (Option.none : Option Jvm.ClassFile.FieldType)) ∈ lw_all := lw_g (lw_at lw_m14 188 rfl) rfl
theorem q3623 : (Jvm.Cond.methodLink "HomeCompilerModel" (878 : Nat) ({ cls := "HomeCompilerModel", name := "doDo", desc := "(II)V" } : Jvm.MethodName)) ∈ lw_all := lw_g (lw_at lw_m14 189 rfl) rfl
theorem q3624 : (Jvm.Cond.privateMethod ({ cls := "HomeCompilerModel", name := "doDo", desc := "(II)V" } : Jvm.MethodName)) ∈ lw_tbl := lw_at lw_m14 190 rfl
theorem q3625 : (Jvm.Cond.instanceMethod ({ cls := "HomeCompilerModel", name := "doDo", desc := "(II)V" } : Jvm.MethodName)) ∈ lw_all := lw_g (lw_at lw_m14 191 rfl) rfl
theorem q3626 : (Jvm.Cond.code ({ cls := "HomeCompilerModel", name := "doDo", desc := "(II)V" } : Jvm.MethodName) prog_23_method_144_code (3 : Nat) (Option.none : Option Jvm.ClassFile.FieldType)) ∈ lw_all := lw_g (lw_at lw_m14 192 rfl) rfl
theorem q3627 : (Jvm.Cond.methodLink "HomeCompilerModel" (881 : Nat) ({ cls := "HomeCompilerModel", name := "doFor", desc := "(II)V" } : Jvm.MethodName)) ∈ lw_all := lw_g (lw_at lw_m14 193 rfl) rfl
theorem q3628 : (Jvm.Cond.privateMethod ({ cls := "HomeCompilerModel", name := "doFor", desc := "(II)V" } : Jvm.MethodName)) ∈ lw_tbl := lw_at lw_m14 194 rfl
theorem q3629 : (Jvm.Cond.instanceMethod ({ cls := "HomeCompilerModel", name := "doFor", desc := "(II)V" } : Jvm.MethodName)) ∈ lw_all := lw_g (lw_at lw_m14 195 rfl) rfl
theorem q3630 : (Jvm.Cond.code ({ cls := "HomeCompilerModel", name := "doFor", desc := "(II)V" } : Jvm.MethodName) prog_23_method_145_code (3 : Nat) (Option.none : Option Jvm.ClassFile.FieldType)) ∈ lw_all := lw_g (lw_at lw_m14 196 rfl) rfl
theorem q3631 : (Jvm.Cond.methodLink "HomeCompilerModel" (884 : Nat) ({ cls := "HomeCompilerModel", name := "doSwitch", desc := "(II)V" } : Jvm.MethodName)) ∈ lw_all := lw_g (lw_at lw_m14 197 rfl) rfl
theorem q3632 : (Jvm.Cond.privateMethod ({ cls := "HomeCompilerModel", name := "doSwitch", desc := "(II)V" } : Jvm.MethodName)) ∈ lw_tbl := lw_at lw_m14 198 rfl
theorem q3633 : (Jvm.Cond.instanceMethod ({ cls := "HomeCompilerModel", name := "doSwitch", desc := "(II)V" } : Jvm.MethodName)) ∈ lw_all := lw_g (lw_at lw_m14 199 rfl) rfl
theorem q3634 : (Jvm.Cond.code ({ cls := "HomeCompilerModel", name := "doSwitch", desc := "(II)V" } : Jvm.MethodName) prog_23_method_146_code (7 : Nat) (Option.none : Option Jvm.ClassFile.FieldType)) ∈ lw_all := lw_g (lw_at lw_m14 200 rfl) rfl
theorem q3635 : (Jvm.Cond.methodLink "HomeCompilerModel" (887 : Nat) ({ cls := "HomeCompilerModel", name := "doBreak", desc := "()V" } : Jvm.MethodName)) ∈ lw_all := lw_g (lw_at lw_m14 201 rfl) rfl
theorem q3636 : (Jvm.Cond.privateMethod ({ cls := "HomeCompilerModel", name := "doBreak", desc := "()V" } : Jvm.MethodName)) ∈ lw_tbl := lw_at lw_m14 202 rfl
theorem q3637 : (Jvm.Cond.instanceMethod ({ cls := "HomeCompilerModel", name := "doBreak", desc := "()V" } : Jvm.MethodName)) ∈ lw_all := lw_g (lw_at lw_m14 203 rfl) rfl
theorem q3638 : (Jvm.Cond.code ({ cls := "HomeCompilerModel", name := "doBreak", desc := "()V" } : Jvm.MethodName) prog_23_method_148_code (1 : Nat) (Option.none : Option Jvm.ClassFile.FieldType)) ∈ lw_all := lw_g (lw_at lw_m14 204 rfl) rfl
theorem q3639 : (Jvm.Cond.methodLink "HomeCompilerModel" (899 : Nat) ({ cls := "HomeCompilerModel", name := "isLoop", desc := "(I)Z" } : Jvm.MethodName)) ∈ lw_all := lw_g (lw_at lw_m14 205 rfl) rfl
theorem q3640 : (Jvm.Cond.privateMethod ({ cls := "HomeCompilerModel", name := "isLoop", desc := "(I)Z" } : Jvm.MethodName)) ∈ lw_tbl := lw_at lw_m14 206 rfl
theorem q3641 : (Jvm.Cond.instanceMethod ({ cls := "HomeCompilerModel", name := "isLoop", desc := "(I)Z" } : Jvm.MethodName)) ∈ lw_all := lw_g (lw_at lw_m14 207 rfl) rfl
theorem q3642 : (Jvm.Cond.code ({ cls := "HomeCompilerModel", name := "isLoop", desc := "(I)Z" } : Jvm.MethodName) prog_23_method_147_code (2 : Nat) (Option.some Jvm.ClassFile.FieldType.boolean)) ∈ lw_all := lw_g (lw_at lw_m14 208 rfl) rfl
theorem q3643 : (Jvm.Cond.methodLink "HomeCompilerModel" (890 : Nat) ({ cls := "HomeCompilerModel", name := "doContinue", desc := "()V" } : Jvm.MethodName)) ∈ lw_all := lw_g (lw_at lw_m14 209 rfl) rfl
theorem q3644 : (Jvm.Cond.privateMethod ({ cls := "HomeCompilerModel", name := "doContinue", desc := "()V" } : Jvm.MethodName)) ∈ lw_tbl := lw_at lw_m14 210 rfl
theorem q3645 : (Jvm.Cond.instanceMethod ({ cls := "HomeCompilerModel", name := "doContinue", desc := "()V" } : Jvm.MethodName)) ∈ lw_all := lw_g (lw_at lw_m14 211 rfl) rfl
theorem q3646 : (Jvm.Cond.code ({ cls := "HomeCompilerModel", name := "doContinue", desc := "()V" } : Jvm.MethodName) prog_23_method_149_code (2 : Nat) (Option.none : Option Jvm.ClassFile.FieldType)) ∈ lw_all := lw_g (lw_at lw_m14 212 rfl) rfl
theorem q3647 : (Jvm.Cond.methodLink "HomeCompilerModel" (893 : Nat) ({ cls := "HomeCompilerModel", name := "leaveCall", desc := "(I)V" } : Jvm.MethodName)) ∈ lw_all := lw_g (lw_at lw_m14 213 rfl) rfl
theorem q3648 : (Jvm.Cond.privateMethod ({ cls := "HomeCompilerModel", name := "leaveCall", desc := "(I)V" } : Jvm.MethodName)) ∈ lw_tbl := lw_at lw_m14 214 rfl
theorem q3649 : (Jvm.Cond.instanceMethod ({ cls := "HomeCompilerModel", name := "leaveCall", desc := "(I)V" } : Jvm.MethodName)) ∈ lw_all := lw_g (lw_at lw_m14 215 rfl) rfl
theorem q3650 : (Jvm.Cond.code ({ cls := "HomeCompilerModel", name := "leaveCall", desc := "(I)V" } : Jvm.MethodName) prog_23_method_135_code (4 : Nat) (Option.none : Option Jvm.ClassFile.FieldType)) ∈ lw_all := lw_g (lw_at lw_m14 216 rfl) rfl
theorem q3651 : (Jvm.Cond.methodLink "HomeCompilerModel" (804 : Nat) ({ cls := "HomeCompilerModel", name := "done", desc := "(I)V" } : Jvm.MethodName)) ∈ lw_all := lw_g (lw_at lw_m14 217 rfl) rfl
theorem q3652 : (Jvm.Cond.privateMethod ({ cls := "HomeCompilerModel", name := "done", desc := "(I)V" } : Jvm.MethodName)) ∈ lw_tbl := lw_at lw_m14 218 rfl
theorem q3653 : (Jvm.Cond.instanceMethod ({ cls := "HomeCompilerModel", name := "done", desc := "(I)V" } : Jvm.MethodName)) ∈ lw_all := lw_g (lw_at lw_m14 219 rfl) rfl
theorem q3654 : (Jvm.Cond.code ({ cls := "HomeCompilerModel", name := "done", desc := "(I)V" } : Jvm.MethodName) prog_23_method_114_code (2 : Nat) (Option.none : Option Jvm.ClassFile.FieldType)) ∈ lw_all := lw_g (lw_at lw_m14 220 rfl) rfl
theorem q3655 : (Jvm.Cond.methodLink "HomeCompilerModel" (807 : Nat) ({ cls := "HomeCompilerModel", name := "doCall", desc := "(II)V" } : Jvm.MethodName)) ∈ lw_all := lw_g (lw_at lw_m14 221 rfl) rfl
theorem q3656 : (Jvm.Cond.privateMethod ({ cls := "HomeCompilerModel", name := "doCall", desc := "(II)V" } : Jvm.MethodName)) ∈ lw_tbl := lw_at lw_m14 222 rfl
theorem q3657 : (Jvm.Cond.instanceMethod ({ cls := "HomeCompilerModel", name := "doCall", desc := "(II)V" } : Jvm.MethodName)) ∈ lw_all := lw_g (lw_at lw_m14 223 rfl) rfl
theorem q3658 : (Jvm.Cond.code ({ cls := "HomeCompilerModel", name := "doCall", desc := "(II)V" } : Jvm.MethodName) prog_23_method_133_code (5 : Nat) (Option.none : Option Jvm.ClassFile.FieldType)) ∈ lw_all := lw_g (lw_at lw_m14 224 rfl) rfl
theorem q3659 : (Jvm.Cond.methodLink "HomeCompilerModel" (838 : Nat) ({ cls := "HomeCompilerModel", name := "isArray", desc := "(II)Z" } : Jvm.MethodName)) ∈ lw_all := lw_g (lw_at lw_m14 225 rfl) rfl
theorem q3660 : (Jvm.Cond.privateMethod ({ cls := "HomeCompilerModel", name := "isArray", desc := "(II)Z" } : Jvm.MethodName)) ∈ lw_tbl := lw_at lw_m14 226 rfl
theorem q3661 : (Jvm.Cond.instanceMethod ({ cls := "HomeCompilerModel", name := "isArray", desc := "(II)Z" } : Jvm.MethodName)) ∈ lw_all := lw_g (lw_at lw_m14 227 rfl) rfl
theorem q3662 : (Jvm.Cond.code ({ cls := "HomeCompilerModel", name := "isArray", desc := "(II)Z" } : Jvm.MethodName) prog_23_method_132_code (4 : Nat) (Option.some Jvm.ClassFile.FieldType.boolean)) ∈ lw_all := lw_g (lw_at lw_m14 228 rfl) rfl
theorem q3663 : (Jvm.Cond.methodLink "HomeCompilerModel" (790 : Nat) ({ cls := "HomeCompilerModel", name := "arrayAt", desc := "(I)I" } : Jvm.MethodName)) ∈ lw_all := lw_g (lw_at lw_m14 229 rfl) rfl
theorem q3664 : (Jvm.Cond.privateMethod ({ cls := "HomeCompilerModel", name := "arrayAt", desc := "(I)I" } : Jvm.MethodName)) ∈ lw_tbl := lw_at lw_m14 230 rfl
theorem q3665 : (Jvm.Cond.instanceMethod ({ cls := "HomeCompilerModel", name := "arrayAt", desc := "(I)I" } : Jvm.MethodName)) ∈ lw_all := lw_g (lw_at lw_m14 231 rfl) rfl
theorem q3666 : (Jvm.Cond.code ({ cls := "HomeCompilerModel", name := "arrayAt", desc := "(I)I" } : Jvm.MethodName) prog_23_method_121_code (2 : Nat) (Option.some Jvm.ClassFile.FieldType.int)) ∈ lw_all := lw_g (lw_at lw_m14 232 rfl) rfl
theorem q3667 : (Jvm.Cond.methodLink "HomeCompilerModel" (787 : Nat) ({ cls := "HomeCompilerModel", name := "arraySize", desc := "(I)I" } : Jvm.MethodName)) ∈ lw_all := lw_g (lw_at lw_m14 233 rfl) rfl
theorem q3668 : (Jvm.Cond.privateMethod ({ cls := "HomeCompilerModel", name := "arraySize", desc := "(I)I" } : Jvm.MethodName)) ∈ lw_tbl := lw_at lw_m14 234 rfl
theorem q3669 : (Jvm.Cond.instanceMethod ({ cls := "HomeCompilerModel", name := "arraySize", desc := "(I)I" } : Jvm.MethodName)) ∈ lw_all := lw_g (lw_at lw_m14 235 rfl) rfl
theorem q3670 : (Jvm.Cond.code ({ cls := "HomeCompilerModel", name := "arraySize", desc := "(I)I" } : Jvm.MethodName) prog_23_method_122_code (2 : Nat) (Option.some Jvm.ClassFile.FieldType.int)) ∈ lw_all := lw_g (lw_at lw_m14 236 rfl) rfl
theorem q3671 : (Jvm.Cond.methodLink "HomeCompilerModel" (844 : Nat) ({ cls := "HomeCompilerModel", name := "doOwn", desc := "(I)V" } : Jvm.MethodName)) ∈ lw_all := lw_g (lw_at lw_m14 237 rfl) rfl
theorem q3672 : (Jvm.Cond.privateMethod ({ cls := "HomeCompilerModel", name := "doOwn", desc := "(I)V" } : Jvm.MethodName)) ∈ lw_tbl := lw_at lw_m14 238 rfl
theorem q3673 : (Jvm.Cond.instanceMethod ({ cls := "HomeCompilerModel", name := "doOwn", desc := "(I)V" } : Jvm.MethodName)) ∈ lw_all := lw_g (lw_at lw_m14 239 rfl) rfl
theorem q3674 : (Jvm.Cond.code ({ cls := "HomeCompilerModel", name := "doOwn", desc := "(I)V" } : Jvm.MethodName) prog_23_method_137_code (7 : Nat) (Option.none : Option Jvm.ClassFile.FieldType)) ∈ lw_all := lw_g (lw_at lw_m15 0 rfl) rfl
theorem q3675 : (Jvm.Cond.methodLink "HomeCompilerModel" (859 : Nat) ({ cls := "HomeCompilerModel", name := "write", desc := "(I)V" } : Jvm.MethodName)) ∈ lw_all := lw_g (lw_at lw_m15 1 rfl) rfl
theorem q3676 : (Jvm.Cond.privateMethod ({ cls := "HomeCompilerModel", name := "write", desc := "(I)V" } : Jvm.MethodName)) ∈ lw_tbl := lw_at lw_m15 2 rfl
theorem q3677 : (Jvm.Cond.instanceMethod ({ cls := "HomeCompilerModel", name := "write", desc := "(I)V" } : Jvm.MethodName)) ∈ lw_all := lw_g (lw_at lw_m15 3 rfl) rfl
theorem q3678 : (Jvm.Cond.code ({ cls := "HomeCompilerModel", name := "write", desc := "(I)V" } : Jvm.MethodName) prog_23_method_136_code (2 : Nat) (Option.none : Option Jvm.ClassFile.FieldType)) ∈ lw_all := lw_g (lw_at lw_m15 4 rfl) rfl
theorem q3679 : (Jvm.Cond.methodLink "HomeCompilerModel" (865 : Nat) ({ cls := "HomeCompilerModel", name := "nextInput", desc := "()I" } : Jvm.MethodName)) ∈ lw_all := lw_g (lw_at lw_m15 5 rfl) rfl
theorem q3680 : (Jvm.Cond.privateMethod ({ cls := "HomeCompilerModel", name := "nextInput", desc := "()I" } : Jvm.MethodName)) ∈ lw_tbl := lw_at lw_m15 6 rfl
theorem q3681 : (Jvm.Cond.instanceMethod ({ cls := "HomeCompilerModel", name := "nextInput", desc := "()I" } : Jvm.MethodName)) ∈ lw_all := lw_g (lw_at lw_m15 7 rfl) rfl
theorem q3682 : (Jvm.Cond.code ({ cls := "HomeCompilerModel", name := "nextInput", desc := "()I" } : Jvm.MethodName) prog_23_method_138_code (3 : Nat) (Option.some Jvm.ClassFile.FieldType.int)) ∈ lw_all := lw_g (lw_at lw_m15 8 rfl) rfl
theorem q3683 : (Jvm.Cond.methodLink "HomeCompilerModel" (868 : Nat) ({ cls := "HomeCompilerModel", name := "moveBlock", desc := "(ZIII)V" } : Jvm.MethodName)) ∈ lw_all := lw_g (lw_at lw_m15 9 rfl) rfl
theorem q3684 : (Jvm.Cond.privateMethod ({ cls := "HomeCompilerModel", name := "moveBlock", desc := "(ZIII)V" } : Jvm.MethodName)) ∈ lw_tbl := lw_at lw_m15 10 rfl
theorem q3685 : (Jvm.Cond.instanceMethod ({ cls := "HomeCompilerModel", name := "moveBlock", desc := "(ZIII)V" } : Jvm.MethodName)) ∈ lw_all := lw_g (lw_at lw_m15 11 rfl) rfl
theorem q3686 : (Jvm.Cond.code ({ cls := "HomeCompilerModel", name := "moveBlock", desc := "(ZIII)V" } : Jvm.MethodName) prog_23_method_139_code (6 : Nat) (Option.none : Option Jvm.ClassFile.FieldType)) ∈ lw_all := lw_g (lw_at lw_m15 12 rfl) rfl
theorem q3687 : (Jvm.Cond.methodLink "HomeCompilerModel" (795 : Nat) ({ cls := "HomeCompilerModel", name := "elementAt", desc := "(II)I" } : Jvm.MethodName)) ∈ lw_all := lw_g (lw_at lw_m15 13 rfl) rfl
theorem q3688 : (Jvm.Cond.privateMethod ({ cls := "HomeCompilerModel", name := "elementAt", desc := "(II)I" } : Jvm.MethodName)) ∈ lw_tbl := lw_at lw_m15 14 rfl
theorem q3689 : (Jvm.Cond.instanceMethod ({ cls := "HomeCompilerModel", name := "elementAt", desc := "(II)I" } : Jvm.MethodName)) ∈ lw_all := lw_g (lw_at lw_m15 15 rfl) rfl
theorem q3690 : (Jvm.Cond.code ({ cls := "HomeCompilerModel", name := "elementAt", desc := "(II)I" } : Jvm.MethodName) prog_23_method_123_code (3 : Nat) (Option.some Jvm.ClassFile.FieldType.int)) ∈ lw_all := lw_g (lw_at lw_m15 16 rfl) rfl
theorem q3691 : (Jvm.Cond.methodLink "HomeCompilerModel" (816 : Nat) ({ cls := "HomeCompilerModel", name := "doUnary", desc := "(II)V" } : Jvm.MethodName)) ∈ lw_all := lw_g (lw_at lw_m15 17 rfl) rfl
theorem q3692 : (Jvm.Cond.privateMethod ({ cls := "HomeCompilerModel", name := "doUnary", desc := "(II)V" } : Jvm.MethodName)) ∈ lw_tbl := lw_at lw_m15 18 rfl
theorem q3693 : (Jvm.Cond.instanceMethod ({ cls := "HomeCompilerModel", name := "doUnary", desc := "(II)V" } : Jvm.MethodName)) ∈ lw_all := lw_g (lw_at lw_m15 19 rfl) rfl
theorem q3694 : (Jvm.Cond.code ({ cls := "HomeCompilerModel", name := "doUnary", desc := "(II)V" } : Jvm.MethodName) prog_23_method_127_code (5 : Nat) (Option.none : Option Jvm.ClassFile.FieldType)) ∈ lw_all := lw_g (lw_at lw_m15 20 rfl) rfl
theorem q3695 : (Jvm.Cond.methodLink "HomeCompilerModel" (819 : Nat) ({ cls := "HomeCompilerModel", name := "doStep", desc := "(IIZ)V" } : Jvm.MethodName)) ∈ lw_all := lw_g (lw_at lw_m15 21 rfl) rfl
theorem q3696 : (Jvm.Cond.privateMethod ({ cls := "HomeCompilerModel", name := "doStep", desc := "(IIZ)V" } : Jvm.MethodName)) ∈ lw_tbl := lw_at lw_m15 22 rfl
theorem q3697 : (Jvm.Cond.instanceMethod ({ cls := "HomeCompilerModel", name := "doStep", desc := "(IIZ)V" } : Jvm.MethodName)) ∈ lw_all := lw_g (lw_at lw_m15 23 rfl) rfl
theorem q3698 : (Jvm.Cond.code ({ cls := "HomeCompilerModel", name := "doStep", desc := "(IIZ)V" } : Jvm.MethodName) prog_23_method_128_code (8 : Nat) (Option.none : Option Jvm.ClassFile.FieldType)) ∈ lw_all := lw_g (lw_at lw_m15 24 rfl) rfl
theorem q3699 : (Jvm.Cond.methodLink "HomeCompilerModel" (829 : Nat) ({ cls := "HomeCompilerModel", name := "placeOf", desc := "(I)I" } : Jvm.MethodName)) ∈ lw_all := lw_g (lw_at lw_m15 25 rfl) rfl
theorem q3700 : (Jvm.Cond.privateMethod ({ cls := "HomeCompilerModel", name := "placeOf", desc := "(I)I" } : Jvm.MethodName)) ∈ lw_tbl := lw_at lw_m15 26 rfl
theorem q3701 : (Jvm.Cond.instanceMethod ({ cls := "HomeCompilerModel", name := "placeOf", desc := "(I)I" } : Jvm.MethodName)) ∈ lw_all := lw_g (lw_at lw_m15 27 rfl) rfl
theorem q3702 : (Jvm.Cond.code ({ cls := "HomeCompilerModel", name := "placeOf", desc := "(I)I" } : Jvm.MethodName) prog_23_method_124_code (2 : Nat) (Option.some Jvm.ClassFile.FieldType.int)) ∈ lw_all := lw_g (lw_at lw_m15 28 rfl) rfl
theorem q3703 : (Jvm.Cond.methodLink "HomeCompilerModel" (823 : Nat) ({ cls := "HomeCompilerModel", name := "doChain", desc := "(II)V" } : Jvm.MethodName)) ∈ lw_all := lw_g (lw_at lw_m15 29 rfl) rfl
theorem q3704 : (Jvm.Cond.privateMethod ({ cls := "HomeCompilerModel", name := "doChain", desc := "(II)V" } : Jvm.MethodName)) ∈ lw_tbl := lw_at lw_m15 30 rfl
theorem q3705 : (Jvm.Cond.instanceMethod ({ cls := "HomeCompilerModel", name := "doChain", desc := "(II)V" } : Jvm.MethodName)) ∈ lw_all := lw_g (lw_at lw_m15 31 rfl) rfl
theorem q3706 : (Jvm.Cond.code ({ cls := "HomeCompilerModel", name := "doChain", desc := "(II)V" } : Jvm.MethodName) prog_23_method_129_code (9 : Nat) (Option.none : Option Jvm.ClassFile.FieldType)) ∈ lw_all := lw_g (lw_at lw_m15 32 rfl) rfl
theorem q3707 : (Jvm.Cond.methodLink "HomeCompilerModel" (826 : Nat) ({ cls := "HomeCompilerModel", name := "doAssign", desc := "(II)V" } : Jvm.MethodName)) ∈ lw_all := lw_g (lw_at lw_m15 33 rfl) rfl
theorem q3708 : (Jvm.Cond.privateMethod ({ cls := "HomeCompilerModel", name := "doAssign", desc := "(II)V" } : Jvm.MethodName)) ∈ lw_tbl := lw_at lw_m15 34 rfl
theorem q3709 : (Jvm.Cond.instanceMethod ({ cls := "HomeCompilerModel", name := "doAssign", desc := "(II)V" } : Jvm.MethodName)) ∈ lw_all := lw_g (lw_at lw_m15 35 rfl) rfl
theorem q3710 : (Jvm.Cond.code ({ cls := "HomeCompilerModel", name := "doAssign", desc := "(II)V" } : Jvm.MethodName) prog_23_method_131_code (7 : Nat) (Option.none : Option Jvm.ClassFile.FieldType)) ∈ lw_all := lw_g (lw_at lw_m15 36 rfl) rfl
theorem q3711 : (Jvm.Cond.methodLink "HomeCompilerModel" (835 : Nat) ({ cls := "HomeCompilerModel", name := "combined", desc := "(III)I" } : Jvm.MethodName)) ∈ lw_all := lw_g (lw_at lw_m15 37 rfl) rfl
theorem q3712 : (Jvm.Cond.privateMethod ({ cls := "HomeCompilerModel", name := "combined", desc := "(III)I" } : Jvm.MethodName)) ∈ lw_tbl := lw_at lw_m15 38 rfl
theorem q3713 : (Jvm.Cond.instanceMethod ({ cls := "HomeCompilerModel", name := "combined", desc := "(III)I" } : Jvm.MethodName)) ∈ lw_all := lw_g (lw_at lw_m15 39 rfl) rfl
theorem q3714 : (Jvm.Cond.code ({ cls := "HomeCompilerModel", name := "combined", desc := "(III)I" } : Jvm.MethodName) prog_23_method_130_code (6 : Nat) (Option.some Jvm.ClassFile.FieldType.int)) ∈ lw_all := lw_g (lw_at lw_m15 40 rfl) rfl
theorem q3716 : (Jvm.Cond.instanceMethod ({ cls := "HomeCompilerModel", name := "life", desc := "()I" } : Jvm.MethodName)) ∈ lw_all := lw_g (lw_at lw_m15 42 rfl) rfl
theorem q3717 : (Jvm.Cond.selects "HomeCompilerModel" ({ cls := "HomeCompilerModel", name := "life", desc := "()I" } : Jvm.MethodName) ({ cls := "HomeCompilerModel", name := "life", desc := "()I" } : Jvm.MethodName)) ∈ lw_all := lw_g (lw_at lw_m15 43 rfl) rfl
theorem q3718 : (Jvm.Cond.code ({ cls := "HomeCompilerModel", name := "life", desc := "()I" } : Jvm.MethodName) prog_23_method_153_code (1 : Nat) (Option.some Jvm.ClassFile.FieldType.int)) ∈ lw_all := lw_g (lw_at lw_m15 44 rfl) rfl
theorem q3720 : (Jvm.Cond.instanceMethod ({ cls := "HomeCompilerModel", name := "input", desc := "(I)V" } : Jvm.MethodName)) ∈ lw_all := lw_g (lw_at lw_m15 46 rfl) rfl
theorem q3721 : (Jvm.Cond.selects "HomeCompilerModel" ({ cls := "HomeCompilerModel", name := "input", desc := "(I)V" } : Jvm.MethodName) ({ cls := "HomeCompilerModel", name := "input", desc := "(I)V" } : Jvm.MethodName)) ∈ lw_all := lw_g (lw_at lw_m15 47 rfl) rfl
theorem q3722 : (Jvm.Cond.code ({ cls := "HomeCompilerModel", name := "input", desc := "(I)V" } : Jvm.MethodName) prog_23_method_154_code (2 : Nat) (Option.none : Option Jvm.ClassFile.FieldType)) ∈ lw_all := lw_g (lw_at lw_m15 48 rfl) rfl
theorem q3724 : (Jvm.Cond.instanceMethod ({ cls := "HomeCompilerModel", name := "value", desc := "()I" } : Jvm.MethodName)) ∈ lw_all := lw_g (lw_at lw_m15 50 rfl) rfl
theorem q3725 : (Jvm.Cond.selects "HomeCompilerModel" ({ cls := "HomeCompilerModel", name := "value", desc := "()I" } : Jvm.MethodName) ({ cls := "HomeCompilerModel", name := "value", desc := "()I" } : Jvm.MethodName)) ∈ lw_all := lw_g (lw_at lw_m15 51 rfl) rfl
theorem q3726 : (Jvm.Cond.code ({ cls := "HomeCompilerModel", name := "value", desc := "()I" } : Jvm.MethodName) prog_23_method_155_code (1 : Nat) (Option.some Jvm.ClassFile.FieldType.int)) ∈ lw_all := lw_g (lw_at lw_m15 52 rfl) rfl
theorem q3728 : (Jvm.Cond.instanceMethod ({ cls := "HomeCompilerModel", name := "left", desc := "()I" } : Jvm.MethodName)) ∈ lw_all := lw_g (lw_at lw_m15 54 rfl) rfl
theorem q3729 : (Jvm.Cond.selects "HomeCompilerModel" ({ cls := "HomeCompilerModel", name := "left", desc := "()I" } : Jvm.MethodName) ({ cls := "HomeCompilerModel", name := "left", desc := "()I" } : Jvm.MethodName)) ∈ lw_all := lw_g (lw_at lw_m15 55 rfl) rfl
theorem q3730 : (Jvm.Cond.code ({ cls := "HomeCompilerModel", name := "left", desc := "()I" } : Jvm.MethodName) prog_23_method_156_code (1 : Nat) (Option.some Jvm.ClassFile.FieldType.int)) ∈ lw_all := lw_g (lw_at lw_m15 56 rfl) rfl
theorem q3732 : (Jvm.Cond.instanceMethod ({ cls := "HomeCompilerModel", name := "paper", desc := "()I" } : Jvm.MethodName)) ∈ lw_all := lw_g (lw_at lw_m15 58 rfl) rfl
theorem q3733 : (Jvm.Cond.selects "HomeCompilerModel" ({ cls := "HomeCompilerModel", name := "paper", desc := "()I" } : Jvm.MethodName) ({ cls := "HomeCompilerModel", name := "paper", desc := "()I" } : Jvm.MethodName)) ∈ lw_all := lw_g (lw_at lw_m15 59 rfl) rfl
theorem q3734 : (Jvm.Cond.code ({ cls := "HomeCompilerModel", name := "paper", desc := "()I" } : Jvm.MethodName) prog_23_method_157_code (1 : Nat) (Option.some Jvm.ClassFile.FieldType.int)) ∈ lw_all := lw_g (lw_at lw_m15 60 rfl) rfl
theorem q3736 : (Jvm.Cond.instanceMethod ({ cls := "HomeCompilerModel", name := "paperAt", desc := "(I)I" } : Jvm.MethodName)) ∈ lw_all := lw_g (lw_at lw_m15 62 rfl) rfl
theorem q3737 : (Jvm.Cond.selects "HomeCompilerModel" ({ cls := "HomeCompilerModel", name := "paperAt", desc := "(I)I" } : Jvm.MethodName) ({ cls := "HomeCompilerModel", name := "paperAt", desc := "(I)I" } : Jvm.MethodName)) ∈ lw_all := lw_g (lw_at lw_m15 63 rfl) rfl
theorem q3738 : (Jvm.Cond.code ({ cls := "HomeCompilerModel", name := "paperAt", desc := "(I)I" } : Jvm.MethodName) prog_23_method_158_code (2 : Nat) (Option.some Jvm.ClassFile.FieldType.int)) ∈ lw_all := lw_g (lw_at lw_m15 64 rfl) rfl
theorem q3740 : (Jvm.Cond.instanceMethod ({ cls := "HomeCompilerModel", name := "inputs", desc := "()I" } : Jvm.MethodName)) ∈ lw_all := lw_g (lw_at lw_m15 66 rfl) rfl
theorem q3741 : (Jvm.Cond.selects "HomeCompilerModel" ({ cls := "HomeCompilerModel", name := "inputs", desc := "()I" } : Jvm.MethodName) ({ cls := "HomeCompilerModel", name := "inputs", desc := "()I" } : Jvm.MethodName)) ∈ lw_all := lw_g (lw_at lw_m15 67 rfl) rfl
theorem q3742 : (Jvm.Cond.code ({ cls := "HomeCompilerModel", name := "inputs", desc := "()I" } : Jvm.MethodName) prog_23_method_159_code (1 : Nat) (Option.some Jvm.ClassFile.FieldType.int)) ∈ lw_all := lw_g (lw_at lw_m15 68 rfl) rfl
theorem q3744 : (Jvm.Cond.instanceMethod ({ cls := "HomeCompilerModel", name := "disk", desc := "(I)I" } : Jvm.MethodName)) ∈ lw_all := lw_g (lw_at lw_m15 70 rfl) rfl
theorem q3745 : (Jvm.Cond.selects "HomeCompilerModel" ({ cls := "HomeCompilerModel", name := "disk", desc := "(I)I" } : Jvm.MethodName) ({ cls := "HomeCompilerModel", name := "disk", desc := "(I)I" } : Jvm.MethodName)) ∈ lw_all := lw_g (lw_at lw_m15 71 rfl) rfl
theorem q3746 : (Jvm.Cond.code ({ cls := "HomeCompilerModel", name := "disk", desc := "(I)I" } : Jvm.MethodName) prog_23_method_160_code (2 : Nat) (Option.some Jvm.ClassFile.FieldType.int)) ∈ lw_all := lw_g (lw_at lw_m15 72 rfl) rfl
theorem q3748 : (Jvm.Cond.instanceMethod ({ cls := "HomeCompilerModel", name := "setDisk", desc := "(II)V" } : Jvm.MethodName)) ∈ lw_all := lw_g (lw_at lw_m15 74 rfl) rfl
theorem q3749 : (Jvm.Cond.selects "HomeCompilerModel" ({ cls := "HomeCompilerModel", name := "setDisk", desc := "(II)V" } : Jvm.MethodName) ({ cls := "HomeCompilerModel", name := "setDisk", desc := "(II)V" } : Jvm.MethodName)) ∈ lw_all := lw_g (lw_at lw_m15 75 rfl) rfl
theorem q3750 : (Jvm.Cond.code ({ cls := "HomeCompilerModel", name := "setDisk", desc := "(II)V" } : Jvm.MethodName) prog_23_method_161_code (3 : Nat) (Option.none : Option Jvm.ClassFile.FieldType)) ∈ lw_all := lw_g (lw_at lw_m15 76 rfl) rfl
theorem q3752 : (Jvm.Cond.instanceMethod ({ cls := "HomeCompilerModel", name := "variable", desc := "(I)I" } : Jvm.MethodName)) ∈ lw_all := lw_g (lw_at lw_m15 78 rfl) rfl
theorem q3753 : (Jvm.Cond.selects "HomeCompilerModel" ({ cls := "HomeCompilerModel", name := "variable", desc := "(I)I" } : Jvm.MethodName) ({ cls := "HomeCompilerModel", name := "variable", desc := "(I)I" } : Jvm.MethodName)) ∈ lw_all := lw_g (lw_at lw_m15 79 rfl) rfl
theorem q3754 : (Jvm.Cond.code ({ cls := "HomeCompilerModel", name := "variable", desc := "(I)I" } : Jvm.MethodName) prog_23_method_162_code (6 : Nat) (Option.some Jvm.ClassFile.FieldType.int)) ∈ lw_all := lw_g (lw_at lw_m15 80 rfl) rfl
theorem q3755 : (Jvm.Cond.methodLink "HomeCompilerModel" (911 : Nat) ({ cls := "HomeCompilerModel", name := "wordOf", desc := "(II)I" } : Jvm.MethodName)) ∈ lw_all := lw_g (lw_at lw_m15 81 rfl) rfl
theorem q3756 : (Jvm.Cond.privateMethod ({ cls := "HomeCompilerModel", name := "wordOf", desc := "(II)I" } : Jvm.MethodName)) ∈ lw_tbl := lw_at lw_m15 82 rfl
theorem q3757 : (Jvm.Cond.instanceMethod ({ cls := "HomeCompilerModel", name := "wordOf", desc := "(II)I" } : Jvm.MethodName)) ∈ lw_all := lw_g (lw_at lw_m15 83 rfl) rfl
theorem q3758 : (Jvm.Cond.code ({ cls := "HomeCompilerModel", name := "wordOf", desc := "(II)I" } : Jvm.MethodName) prog_23_method_163_code (6 : Nat) (Option.some Jvm.ClassFile.FieldType.int)) ∈ lw_all := lw_g (lw_at lw_m15 84 rfl) rfl
theorem in_X21 : ∀ w ∈ wsX210, w ∈ lw_all := lw_in wsX210 [2928, 2930, 2932, 2934, 2936, 2938, 2940, 2942, 2944, 2946, 2948, 2950, 2952, 2954, 2956, 2958, 2960, 2962, 2964, 2966, 2968, 2970, 2972, 2974, 2976, 2978, 2980, 2982, 2984, 2986, 2988, 2990, 2992, 2994, 2996, 2998, 3000, 3002, 3004, 3006, 3008, 3010, 3012, 3014, 3016, 3018, 3020, 3022, 3024, 3026, 3028, 3030, 3032, 3034, 3036, 3038, 3040, 3042, 3044, 3046, 3048, 3050, 3052, 3054, 3056, 3058, 3060, 3062, 3064, 3066, 3068, 3070, 3072, 3074, 3076, 3078, 3080, 3082, 3084, 3086, 3088, 3090, 3092, 3094, 3096, 3098, 3100] (by decide +kernel) (by decide +kernel)
/-! X22.HomeCompiler_Decoder.lean.txt -/
def RX22 : String := "HomeCompiler$Decoder"
abbrev cX22_operation : ByteArray := prog_5_method_2_code
def yX22_operation : MethodName := ⟨RX22, "operation", "(I)I"⟩
abbrev cX22_system : ByteArray := prog_5_method_4_code
def yX22_system : MethodName := ⟨RX22, "system", "(II)I"⟩
abbrev cX22_reckoning : ByteArray := prog_5_method_3_code
def yX22_reckoning : MethodName := ⟨RX22, "reckoning", "(II)I"⟩
abbrev cX22_offset : ByteArray := prog_5_method_5_code
def yX22_offset : MethodName := ⟨RX22, "offset", "(I)I"⟩
abbrev cX22_jump : ByteArray := prog_5_method_6_code
def yX22_jump : MethodName := ⟨RX22, "jump", "(I)I"⟩
theorem q348 : (Jvm.Cond.initialized "HomeCompiler$Decoder") ∈ lw_all := lw_g (lw_at lw_m1 34 rfl) rfl
theorem q2572 : (Jvm.Cond.static ({ cls := "HomeCompiler$Decoder", name := "operation", desc := "(I)I" } : Jvm.MethodName)) ∈ lw_all := lw_g (lw_at lw_m10 98 rfl) rfl
theorem q2573 : (Jvm.Cond.code ({ cls := "HomeCompiler$Decoder", name := "operation", desc := "(I)I" } : Jvm.MethodName) prog_5_method_2_code (2 : Nat) (Option.some Jvm.ClassFile.FieldType.int)) ∈ lw_all := lw_g (lw_at lw_m10 99 rfl) rfl
theorem q2574 : (Jvm.Cond.methodLink "HomeCompiler$Decoder" (9 : Nat) ({ cls := "HomeCompiler$Decoder", name := "system", desc := "(II)I" } : Jvm.MethodName)) ∈ lw_all := lw_g (lw_at lw_m10 100 rfl) rfl
theorem q2575 : (Jvm.Cond.static ({ cls := "HomeCompiler$Decoder", name := "system", desc := "(II)I" } : Jvm.MethodName)) ∈ lw_all := lw_g (lw_at lw_m10 101 rfl) rfl
theorem q2576 : (Jvm.Cond.code ({ cls := "HomeCompiler$Decoder", name := "system", desc := "(II)I" } : Jvm.MethodName) prog_5_method_4_code (3 : Nat) (Option.some Jvm.ClassFile.FieldType.int)) ∈ lw_all := lw_g (lw_at lw_m10 102 rfl) rfl
theorem q2577 : (Jvm.Cond.constant "HomeCompiler$Decoder" (16 : Nat) (1048691 : Int32)) ∈ lw_all := lw_g (lw_at lw_m10 103 rfl) rfl
theorem q2578 : (Jvm.Cond.constant "HomeCompiler$Decoder" (17 : Nat) (270532723 : Int32)) ∈ lw_all := lw_g (lw_at lw_m10 104 rfl) rfl
theorem q2579 : (Jvm.Cond.constant "HomeCompiler$Decoder" (18 : Nat) (273678451 : Int32)) ∈ lw_all := lw_g (lw_at lw_m10 105 rfl) rfl
theorem q2580 : (Jvm.Cond.methodLink "HomeCompiler$Decoder" (13 : Nat) ({ cls := "HomeCompiler$Decoder", name := "reckoning", desc := "(II)I" } : Jvm.MethodName)) ∈ lw_all := lw_g (lw_at lw_m10 106 rfl) rfl
theorem q2581 : (Jvm.Cond.static ({ cls := "HomeCompiler$Decoder", name := "reckoning", desc := "(II)I" } : Jvm.MethodName)) ∈ lw_all := lw_g (lw_at lw_m10 107 rfl) rfl
theorem q2582 : (Jvm.Cond.code ({ cls := "HomeCompiler$Decoder", name := "reckoning", desc := "(II)I" } : Jvm.MethodName) prog_5_method_3_code (4 : Nat) (Option.some Jvm.ClassFile.FieldType.int)) ∈ lw_all := lw_g (lw_at lw_m10 108 rfl) rfl
theorem q2645 : (Jvm.Cond.static ({ cls := "HomeCompiler$Decoder", name := "offset", desc := "(I)I" } : Jvm.MethodName)) ∈ lw_all := lw_g (lw_at lw_m10 171 rfl) rfl
theorem q2646 : (Jvm.Cond.code ({ cls := "HomeCompiler$Decoder", name := "offset", desc := "(I)I" } : Jvm.MethodName) prog_5_method_5_code (1 : Nat) (Option.some Jvm.ClassFile.FieldType.int)) ∈ lw_all := lw_g (lw_at lw_m10 172 rfl) rfl
theorem q2652 : (Jvm.Cond.static ({ cls := "HomeCompiler$Decoder", name := "jump", desc := "(I)I" } : Jvm.MethodName)) ∈ lw_all := lw_g (lw_at lw_m10 178 rfl) rfl
theorem q2653 : (Jvm.Cond.code ({ cls := "HomeCompiler$Decoder", name := "jump", desc := "(I)I" } : Jvm.MethodName) prog_5_method_6_code (1 : Nat) (Option.some Jvm.ClassFile.FieldType.int)) ∈ lw_all := lw_g (lw_at lw_m10 179 rfl) rfl
/-! X3.HomeCompiler_Names.lean.txt -/
def RX3 : String := "HomeCompiler$Names"
def TX3 : u_T := fun k => match k with
  | 0 => ("HomeCompiler$Names", "letters", "LHomeCompiler$Bytes;", true)
  | 1 => ("HomeCompiler$Names", "from", "[I", false)
  | 2 => ("HomeCompiler$Names", "next", "[I", false)
  | 3 => ("HomeCompiler$Names", "hashes", "[I", false)
  | 4 => ("HomeCompiler$Names", "count", "I", false)
  | _ => ("HomeCompiler$Names", "heads", "[I", true)
def tyX3 : Nat → FieldType := fun k => match k with
  | 0 => .object "HomeCompiler$Bytes"
  | 1 => .array .int
  | 2 => .array .int
  | 3 => .array .int
  | 4 => .int
  | _ => .array .int
abbrev wsX30 : List Cond := u_ws RX3 TX3 6
theorem nmX3 : ∀ a, a < 6 → ∀ b, b < 6 → a ≠ b → (TX3 a).2.1 ≠ (TX3 b).2.1 := by decide +kernel
theorem tyX3_ok : ∀ k, k < 6 → parseFieldDescriptor (TX3 k).2.2.1 = some (tyX3 k) := by decide +kernel
abbrev cX3_init : ByteArray := prog_12_method_1_code
def yX3_init : MethodName := ⟨RX3, "<init>", "()V"⟩
abbrev cX3_clear : ByteArray := prog_12_method_2_code
def yX3_clear : MethodName := ⟨RX3, "clear", "()V"⟩
abbrev cX3_of : ByteArray := prog_12_method_8_code
def yX3_of : MethodName := ⟨RX3, "of", "(LHomeCompiler$Bytes;II)I"⟩
abbrev cX3_is : ByteArray := prog_12_method_7_code
def yX3_is : MethodName := ⟨RX3, "is", "(ILHomeCompiler$Bytes;II)Z"⟩
abbrev cX3_length : ByteArray := prog_12_method_4_code
def yX3_length : MethodName := ⟨RX3, "length", "(I)I"⟩
abbrev cX3_letter : ByteArray := prog_12_method_5_code
def yX3_letter : MethodName := ⟨RX3, "letter", "(II)I"⟩
abbrev cX3_longer : ByteArray := prog_12_method_6_code
def yX3_longer : MethodName := ⟨RX3, "longer", "([I)[I"⟩
abbrev cX3_count : ByteArray := prog_12_method_3_code
def yX3_count : MethodName := ⟨RX3, "count", "()I"⟩
theorem q317 : (Jvm.Cond.initialized "HomeCompiler$Names") ∈ lw_all := lw_g (lw_at lw_m1 3 rfl) rfl
theorem q418 : (Jvm.Cond.instantiable "HomeCompiler$Names" (6 : Nat)) ∈ lw_all := lw_g (lw_at lw_m1 104 rfl) rfl
theorem q420 : (Jvm.Cond.instanceMethod ({ cls := "HomeCompiler$Names", name := "<init>", desc := "()V" } : Jvm.MethodName)) ∈ lw_all := lw_g (lw_at lw_m1 106 rfl) rfl
theorem q421 : (Jvm.Cond.code ({ cls := "HomeCompiler$Names", name := "<init>", desc := "()V" } : Jvm.MethodName) prog_12_method_1_code (1 : Nat) (Option.none : Option Jvm.ClassFile.FieldType)) ∈ lw_all := lw_g (lw_at lw_m1 107 rfl) rfl
theorem q422 : (Jvm.Cond.methodLink "HomeCompiler$Names" (3 : Nat) ({ cls := "java/lang/Object", name := "<init>", desc := "()V" } : Jvm.MethodName)) ∈ lw_all := lw_g (lw_at lw_m1 108 rfl) rfl
theorem q423 : (Jvm.Cond.classLink "HomeCompiler$Names" (9 : Nat) "HomeCompiler$Bytes") ∈ lw_all := lw_g (lw_at lw_m1 109 rfl) rfl
theorem q425 : (Jvm.Cond.methodLinkNest "HomeCompiler$Names" (11 : Nat) ({ cls := "HomeCompiler$Bytes", name := "<init>", desc := "()V" } : Jvm.MethodName) "HomeCompiler") ∈ lw_tbl := lw_at lw_m1 111 rfl
theorem q436 : (Jvm.Cond.fieldLink "HomeCompiler$Names" (12 : Nat) "HomeCompiler$Names" "letters" "LHomeCompiler$Bytes;") ∈ lw_all := lw_g (lw_at lw_m1 122 rfl) rfl
theorem q437 : (Jvm.Cond.fieldLink "HomeCompiler$Names" (18 : Nat) "HomeCompiler$Names" "from" "[I") ∈ lw_all := lw_g (lw_at lw_m1 123 rfl) rfl
theorem q438 : (Jvm.Cond.fieldLink "HomeCompiler$Names" (22 : Nat) "HomeCompiler$Names" "next" "[I") ∈ lw_all := lw_g (lw_at lw_m1 124 rfl) rfl
theorem q439 : (Jvm.Cond.fieldLink "HomeCompiler$Names" (25 : Nat) "HomeCompiler$Names" "hashes" "[I") ∈ lw_all := lw_g (lw_at lw_m1 125 rfl) rfl
theorem q440 : (Jvm.Cond.fieldLink "HomeCompiler$Names" (35 : Nat) "HomeCompiler$Names" "count" "I") ∈ lw_all := lw_g (lw_at lw_m1 126 rfl) rfl
theorem q441 : (Jvm.Cond.fieldLink "HomeCompiler$Names" (28 : Nat) "HomeCompiler$Names" "heads" "[I") ∈ lw_all := lw_g (lw_at lw_m1 127 rfl) rfl
theorem q442 : (Jvm.Cond.laysFinal "HomeCompiler$Names" "HomeCompiler$Names" "letters" "LHomeCompiler$Bytes;") ∈ lw_all := lw_g (lw_at lw_m1 128 rfl) rfl
theorem q443 : (Jvm.Cond.soleField "HomeCompiler$Names" "letters") ∈ lw_all := lw_g (lw_at lw_m1 129 rfl) rfl
theorem q444 : (Jvm.Cond.lays "HomeCompiler$Names" "HomeCompiler$Names" "from" "[I") ∈ lw_all := lw_g (lw_at lw_m1 130 rfl) rfl
theorem q445 : (Jvm.Cond.soleField "HomeCompiler$Names" "from") ∈ lw_all := lw_g (lw_at lw_m1 131 rfl) rfl
theorem q446 : (Jvm.Cond.lays "HomeCompiler$Names" "HomeCompiler$Names" "next" "[I") ∈ lw_all := lw_g (lw_at lw_m1 132 rfl) rfl
theorem q447 : (Jvm.Cond.soleField "HomeCompiler$Names" "next") ∈ lw_all := lw_g (lw_at lw_m1 133 rfl) rfl
theorem q448 : (Jvm.Cond.lays "HomeCompiler$Names" "HomeCompiler$Names" "hashes" "[I") ∈ lw_all := lw_g (lw_at lw_m1 134 rfl) rfl
theorem q449 : (Jvm.Cond.soleField "HomeCompiler$Names" "hashes") ∈ lw_all := lw_g (lw_at lw_m1 135 rfl) rfl
theorem q450 : (Jvm.Cond.lays "HomeCompiler$Names" "HomeCompiler$Names" "count" "I") ∈ lw_all := lw_g (lw_at lw_m1 136 rfl) rfl
theorem q451 : (Jvm.Cond.soleField "HomeCompiler$Names" "count") ∈ lw_all := lw_g (lw_at lw_m1 137 rfl) rfl
theorem q452 : (Jvm.Cond.laysFinal "HomeCompiler$Names" "HomeCompiler$Names" "heads" "[I") ∈ lw_all := lw_g (lw_at lw_m1 138 rfl) rfl
theorem q453 : (Jvm.Cond.soleField "HomeCompiler$Names" "heads") ∈ lw_all := lw_g (lw_at lw_m1 139 rfl) rfl
theorem q454 : (Jvm.Cond.superclass "HomeCompiler$Names" "java/lang/Object") ∈ lw_all := lw_g (lw_at lw_m1 140 rfl) rfl
theorem q984 : (Jvm.Cond.instanceMethod ({ cls := "HomeCompiler$Names", name := "clear", desc := "()V" } : Jvm.MethodName)) ∈ lw_all := lw_g (lw_at lw_m3 190 rfl) rfl
theorem q985 : (Jvm.Cond.selects "HomeCompiler$Names" ({ cls := "HomeCompiler$Names", name := "clear", desc := "()V" } : Jvm.MethodName) ({ cls := "HomeCompiler$Names", name := "clear", desc := "()V" } : Jvm.MethodName)) ∈ lw_all := lw_g (lw_at lw_m3 191 rfl) rfl
theorem q986 : (Jvm.Cond.code ({ cls := "HomeCompiler$Names", name := "clear", desc := "()V" } : Jvm.MethodName) prog_12_method_2_code (2 : Nat) (Option.none : Option Jvm.ClassFile.FieldType)) ∈ lw_all := lw_g (lw_at lw_m3 192 rfl) rfl
theorem q987 : (Jvm.Cond.methodLink "HomeCompiler$Names" (31 : Nat) ({ cls := "HomeCompiler$Bytes", name := "cut", desc := "(I)V" } : Jvm.MethodName)) ∈ lw_all := lw_g (lw_at lw_m3 193 rfl) rfl
theorem q1163 : (Jvm.Cond.instanceMethod ({ cls := "HomeCompiler$Names", name := "of", desc := "(LHomeCompiler$Bytes;II)I" } : Jvm.MethodName)) ∈ lw_all := lw_g (lw_at lw_m4 129 rfl) rfl
theorem q1164 : (Jvm.Cond.selects "HomeCompiler$Names" ({ cls := "HomeCompiler$Names", name := "of", desc := "(LHomeCompiler$Bytes;II)I" } : Jvm.MethodName) ({ cls := "HomeCompiler$Names", name := "of", desc := "(LHomeCompiler$Bytes;II)I" } : Jvm.MethodName)) ∈ lw_all := lw_g (lw_at lw_m4 130 rfl) rfl
theorem q1165 : (Jvm.Cond.code ({ cls := "HomeCompiler$Names", name := "of", desc := "(LHomeCompiler$Bytes;II)I" } : Jvm.MethodName) prog_12_method_8_code (7 : Nat) (Option.some Jvm.ClassFile.FieldType.int)) ∈ lw_all := lw_g (lw_at lw_m4 131 rfl) rfl
theorem q1166 : (Jvm.Cond.methodLink "HomeCompiler$Names" (43 : Nat) ({ cls := "HomeCompiler$Bytes", name := "at", desc := "(I)I" } : Jvm.MethodName)) ∈ lw_all := lw_g (lw_at lw_m4 132 rfl) rfl
theorem q1167 : (Jvm.Cond.methodLink "HomeCompiler$Names" (60 : Nat) ({ cls := "HomeCompiler$Names", name := "is", desc := "(ILHomeCompiler$Bytes;II)Z" } : Jvm.MethodName)) ∈ lw_all := lw_g (lw_at lw_m4 133 rfl) rfl
theorem q1168 : (Jvm.Cond.privateMethod ({ cls := "HomeCompiler$Names", name := "is", desc := "(ILHomeCompiler$Bytes;II)Z" } : Jvm.MethodName)) ∈ lw_tbl := lw_at lw_m4 134 rfl
theorem q1169 : (Jvm.Cond.instanceMethod ({ cls := "HomeCompiler$Names", name := "is", desc := "(ILHomeCompiler$Bytes;II)Z" } : Jvm.MethodName)) ∈ lw_all := lw_g (lw_at lw_m4 135 rfl) rfl
theorem q1170 : (Jvm.Cond.code ({ cls := "HomeCompiler$Names", name := "is", desc := "(ILHomeCompiler$Bytes;II)Z" } : Jvm.MethodName) prog_12_method_7_code (7 : Nat) (Option.some Jvm.ClassFile.FieldType.boolean)) ∈ lw_all := lw_g (lw_at lw_m4 136 rfl) rfl
theorem q1171 : (Jvm.Cond.methodLink "HomeCompiler$Names" (53 : Nat) ({ cls := "HomeCompiler$Names", name := "length", desc := "(I)I" } : Jvm.MethodName)) ∈ lw_all := lw_g (lw_at lw_m4 137 rfl) rfl
theorem q1172 : (Jvm.Cond.instanceMethod ({ cls := "HomeCompiler$Names", name := "length", desc := "(I)I" } : Jvm.MethodName)) ∈ lw_all := lw_g (lw_at lw_m4 138 rfl) rfl
theorem q1173 : (Jvm.Cond.selects "HomeCompiler$Names" ({ cls := "HomeCompiler$Names", name := "length", desc := "(I)I" } : Jvm.MethodName) ({ cls := "HomeCompiler$Names", name := "length", desc := "(I)I" } : Jvm.MethodName)) ∈ lw_all := lw_g (lw_at lw_m4 139 rfl) rfl
theorem q1174 : (Jvm.Cond.code ({ cls := "HomeCompiler$Names", name := "length", desc := "(I)I" } : Jvm.MethodName) prog_12_method_4_code (2 : Nat) (Option.some Jvm.ClassFile.FieldType.int)) ∈ lw_all := lw_g (lw_at lw_m4 140 rfl) rfl
theorem q1175 : (Jvm.Cond.methodLink "HomeCompiler$Names" (39 : Nat) ({ cls := "HomeCompiler$Bytes", name := "size", desc := "()I" } : Jvm.MethodName)) ∈ lw_all := lw_g (lw_at lw_m4 141 rfl) rfl
theorem q1176 : (Jvm.Cond.methodLink "HomeCompiler$Names" (56 : Nat) ({ cls := "HomeCompiler$Names", name := "letter", desc := "(II)I" } : Jvm.MethodName)) ∈ lw_all := lw_g (lw_at lw_m4 142 rfl) rfl
theorem q1177 : (Jvm.Cond.instanceMethod ({ cls := "HomeCompiler$Names", name := "letter", desc := "(II)I" } : Jvm.MethodName)) ∈ lw_all := lw_g (lw_at lw_m4 143 rfl) rfl
theorem q1178 : (Jvm.Cond.selects "HomeCompiler$Names" ({ cls := "HomeCompiler$Names", name := "letter", desc := "(II)I" } : Jvm.MethodName) ({ cls := "HomeCompiler$Names", name := "letter", desc := "(II)I" } : Jvm.MethodName)) ∈ lw_all := lw_g (lw_at lw_m4 144 rfl) rfl
theorem q1179 : (Jvm.Cond.code ({ cls := "HomeCompiler$Names", name := "letter", desc := "(II)I" } : Jvm.MethodName) prog_12_method_5_code (3 : Nat) (Option.some Jvm.ClassFile.FieldType.int)) ∈ lw_all := lw_g (lw_at lw_m4 145 rfl) rfl
theorem q1180 : (Jvm.Cond.methodLink "HomeCompiler$Names" (64 : Nat) ({ cls := "HomeCompiler$Names", name := "longer", desc := "([I)[I" } : Jvm.MethodName)) ∈ lw_all := lw_g (lw_at lw_m4 146 rfl) rfl
theorem q1181 : (Jvm.Cond.static ({ cls := "HomeCompiler$Names", name := "longer", desc := "([I)[I" } : Jvm.MethodName)) ∈ lw_all := lw_g (lw_at lw_m4 147 rfl) rfl
theorem q1182 : (Jvm.Cond.code ({ cls := "HomeCompiler$Names", name := "longer", desc := "([I)[I" } : Jvm.MethodName) prog_12_method_6_code (2 : Nat) (Option.some (Jvm.ClassFile.FieldType.array Jvm.ClassFile.FieldType.int))) ∈ lw_all := lw_g (lw_at lw_m4 148 rfl) rfl
theorem q1183 : (Jvm.Cond.methodLink "HomeCompiler$Names" (47 : Nat) ({ cls := "java/lang/System", name := "arraycopy", desc := "(Ljava/lang/Object;ILjava/lang/Object;II)V" } : Jvm.MethodName)) ∈ lw_all := lw_g (lw_at lw_m4 149 rfl) rfl
theorem q1186 : (Jvm.Cond.methodLink "HomeCompiler$Names" (68 : Nat) ({ cls := "HomeCompiler$Bytes", name := "add", desc := "(I)V" } : Jvm.MethodName)) ∈ lw_all := lw_g (lw_at lw_m4 152 rfl) rfl
theorem q1546 : (Jvm.Cond.instanceMethod ({ cls := "HomeCompiler$Names", name := "count", desc := "()I" } : Jvm.MethodName)) ∈ lw_all := lw_g (lw_at lw_m6 32 rfl) rfl
theorem q1547 : (Jvm.Cond.selects "HomeCompiler$Names" ({ cls := "HomeCompiler$Names", name := "count", desc := "()I" } : Jvm.MethodName) ({ cls := "HomeCompiler$Names", name := "count", desc := "()I" } : Jvm.MethodName)) ∈ lw_all := lw_g (lw_at lw_m6 33 rfl) rfl
theorem q1548 : (Jvm.Cond.code ({ cls := "HomeCompiler$Names", name := "count", desc := "()I" } : Jvm.MethodName) prog_12_method_3_code (1 : Nat) (Option.some Jvm.ClassFile.FieldType.int)) ∈ lw_all := lw_g (lw_at lw_m6 34 rfl) rfl
theorem in_X3 : ∀ w ∈ wsX30, w ∈ lw_all := lw_in wsX30 [442, 444, 446, 448, 450, 452] (by decide +kernel) (by decide +kernel)
/-! X4.HomeCompiler_Bytes.lean.txt -/
def RX4 : String := "HomeCompiler$Bytes"
def TX4 : u_T := fun k => match k with
  | 0 => ("HomeCompiler$Bytes", "row", "[B", false)
  | _ => ("HomeCompiler$Bytes", "size", "I", false)
def tyX4 : Nat → FieldType := fun k => match k with
  | 0 => .array .byte
  | _ => .int
abbrev wsX40 : List Cond := u_ws RX4 TX4 2
theorem nmX4 : ∀ a, a < 2 → ∀ b, b < 2 → a ≠ b → (TX4 a).2.1 ≠ (TX4 b).2.1 := by decide +kernel
theorem tyX4_ok : ∀ k, k < 2 → parseFieldDescriptor (TX4 k).2.2.1 = some (tyX4 k) := by decide +kernel
abbrev cX4_init : ByteArray := prog_2_method_1_code
def yX4_init : MethodName := ⟨RX4, "<init>", "()V"⟩
abbrev cX4_cut : ByteArray := prog_2_method_5_code
def yX4_cut : MethodName := ⟨RX4, "cut", "(I)V"⟩
abbrev cX4_size : ByteArray := prog_2_method_2_code
def yX4_size : MethodName := ⟨RX4, "size", "()I"⟩
abbrev cX4_at : ByteArray := prog_2_method_3_code
def yX4_at : MethodName := ⟨RX4, "at", "(I)I"⟩
abbrev cX4_add : ByteArray := prog_2_method_4_code
def yX4_add : MethodName := ⟨RX4, "add", "(I)V"⟩
theorem q318 : (Jvm.Cond.initialized "HomeCompiler$Bytes") ∈ lw_all := lw_g (lw_at lw_m1 4 rfl) rfl
theorem q424 : (Jvm.Cond.instantiable "HomeCompiler$Bytes" (2 : Nat)) ∈ lw_all := lw_g (lw_at lw_m1 110 rfl) rfl
theorem q426 : (Jvm.Cond.instanceMethod ({ cls := "HomeCompiler$Bytes", name := "<init>", desc := "()V" } : Jvm.MethodName)) ∈ lw_all := lw_g (lw_at lw_m1 112 rfl) rfl
theorem q427 : (Jvm.Cond.code ({ cls := "HomeCompiler$Bytes", name := "<init>", desc := "()V" } : Jvm.MethodName) prog_2_method_1_code (1 : Nat) (Option.none : Option Jvm.ClassFile.FieldType)) ∈ lw_all := lw_g (lw_at lw_m1 113 rfl) rfl
theorem q428 : (Jvm.Cond.methodLink "HomeCompiler$Bytes" (1 : Nat) ({ cls := "java/lang/Object", name := "<init>", desc := "()V" } : Jvm.MethodName)) ∈ lw_all := lw_g (lw_at lw_m1 114 rfl) rfl
theorem q429 : (Jvm.Cond.fieldLink "HomeCompiler$Bytes" (7 : Nat) "HomeCompiler$Bytes" "row" "[B") ∈ lw_all := lw_g (lw_at lw_m1 115 rfl) rfl
theorem q430 : (Jvm.Cond.fieldLink "HomeCompiler$Bytes" (13 : Nat) "HomeCompiler$Bytes" "size" "I") ∈ lw_all := lw_g (lw_at lw_m1 116 rfl) rfl
theorem q431 : (Jvm.Cond.lays "HomeCompiler$Bytes" "HomeCompiler$Bytes" "row" "[B") ∈ lw_all := lw_g (lw_at lw_m1 117 rfl) rfl
theorem q432 : (Jvm.Cond.soleField "HomeCompiler$Bytes" "row") ∈ lw_all := lw_g (lw_at lw_m1 118 rfl) rfl
theorem q433 : (Jvm.Cond.lays "HomeCompiler$Bytes" "HomeCompiler$Bytes" "size" "I") ∈ lw_all := lw_g (lw_at lw_m1 119 rfl) rfl
theorem q434 : (Jvm.Cond.soleField "HomeCompiler$Bytes" "size") ∈ lw_all := lw_g (lw_at lw_m1 120 rfl) rfl
theorem q435 : (Jvm.Cond.superclass "HomeCompiler$Bytes" "java/lang/Object") ∈ lw_all := lw_g (lw_at lw_m1 121 rfl) rfl
theorem q988 : (Jvm.Cond.instanceMethod ({ cls := "HomeCompiler$Bytes", name := "cut", desc := "(I)V" } : Jvm.MethodName)) ∈ lw_all := lw_g (lw_at lw_m3 194 rfl) rfl
theorem q989 : (Jvm.Cond.selects "HomeCompiler$Bytes" ({ cls := "HomeCompiler$Bytes", name := "cut", desc := "(I)V" } : Jvm.MethodName) ({ cls := "HomeCompiler$Bytes", name := "cut", desc := "(I)V" } : Jvm.MethodName)) ∈ lw_all := lw_g (lw_at lw_m3 195 rfl) rfl
theorem q990 : (Jvm.Cond.code ({ cls := "HomeCompiler$Bytes", name := "cut", desc := "(I)V" } : Jvm.MethodName) prog_2_method_5_code (2 : Nat) (Option.none : Option Jvm.ClassFile.FieldType)) ∈ lw_all := lw_g (lw_at lw_m3 196 rfl) rfl
theorem q1068 : (Jvm.Cond.instanceMethod ({ cls := "HomeCompiler$Bytes", name := "size", desc := "()I" } : Jvm.MethodName)) ∈ lw_all := lw_g (lw_at lw_m4 34 rfl) rfl
theorem q1069 : (Jvm.Cond.selects "HomeCompiler$Bytes" ({ cls := "HomeCompiler$Bytes", name := "size", desc := "()I" } : Jvm.MethodName) ({ cls := "HomeCompiler$Bytes", name := "size", desc := "()I" } : Jvm.MethodName)) ∈ lw_all := lw_g (lw_at lw_m4 35 rfl) rfl
theorem q1070 : (Jvm.Cond.code ({ cls := "HomeCompiler$Bytes", name := "size", desc := "()I" } : Jvm.MethodName) prog_2_method_2_code (1 : Nat) (Option.some Jvm.ClassFile.FieldType.int)) ∈ lw_all := lw_g (lw_at lw_m4 36 rfl) rfl
theorem q1089 : (Jvm.Cond.instanceMethod ({ cls := "HomeCompiler$Bytes", name := "at", desc := "(I)I" } : Jvm.MethodName)) ∈ lw_all := lw_g (lw_at lw_m4 55 rfl) rfl
theorem q1090 : (Jvm.Cond.selects "HomeCompiler$Bytes" ({ cls := "HomeCompiler$Bytes", name := "at", desc := "(I)I" } : Jvm.MethodName) ({ cls := "HomeCompiler$Bytes", name := "at", desc := "(I)I" } : Jvm.MethodName)) ∈ lw_all := lw_g (lw_at lw_m4 56 rfl) rfl
theorem q1091 : (Jvm.Cond.code ({ cls := "HomeCompiler$Bytes", name := "at", desc := "(I)I" } : Jvm.MethodName) prog_2_method_3_code (2 : Nat) (Option.some Jvm.ClassFile.FieldType.int)) ∈ lw_all := lw_g (lw_at lw_m4 57 rfl) rfl
theorem q1187 : (Jvm.Cond.instanceMethod ({ cls := "HomeCompiler$Bytes", name := "add", desc := "(I)V" } : Jvm.MethodName)) ∈ lw_all := lw_g (lw_at lw_m4 153 rfl) rfl
theorem q1188 : (Jvm.Cond.selects "HomeCompiler$Bytes" ({ cls := "HomeCompiler$Bytes", name := "add", desc := "(I)V" } : Jvm.MethodName) ({ cls := "HomeCompiler$Bytes", name := "add", desc := "(I)V" } : Jvm.MethodName)) ∈ lw_all := lw_g (lw_at lw_m4 154 rfl) rfl
theorem q1189 : (Jvm.Cond.code ({ cls := "HomeCompiler$Bytes", name := "add", desc := "(I)V" } : Jvm.MethodName) prog_2_method_4_code (3 : Nat) (Option.none : Option Jvm.ClassFile.FieldType)) ∈ lw_all := lw_g (lw_at lw_m4 155 rfl) rfl
theorem q1190 : (Jvm.Cond.methodLink "HomeCompiler$Bytes" (17 : Nat) ({ cls := "java/lang/System", name := "arraycopy", desc := "(Ljava/lang/Object;ILjava/lang/Object;II)V" } : Jvm.MethodName)) ∈ lw_all := lw_g (lw_at lw_m4 156 rfl) rfl
theorem in_X4 : ∀ w ∈ wsX40, w ∈ lw_all := lw_in wsX40 [431, 433] (by decide +kernel) (by decide +kernel)
/-! X5.HomeCompiler_Scanner.lean.txt -/
def RX5 : String := "HomeCompiler$Scanner"
def TX5 : u_T := fun k => match k with
  | 0 => ("HomeCompiler$Scanner", "words", "LHomeCompiler$Words;", true)
  | 1 => ("HomeCompiler$Scanner", "names", "LHomeCompiler$Names;", true)
  | 2 => ("HomeCompiler$Scanner", "strings", "LHomeCompiler$Bytes;", true)
  | 3 => ("HomeCompiler$Scanner", "marks", "[Ljava/lang/String;", true)
  | 4 => ("HomeCompiler$Scanner", "text", "LHomeCompiler$Bytes;", false)
  | 5 => ("HomeCompiler$Scanner", "at", "I", false)
  | 6 => ("HomeCompiler$Scanner", "token", "I", false)
  | 7 => ("HomeCompiler$Scanner", "start", "I", false)
  | 8 => ("HomeCompiler$Scanner", "number", "I", false)
  | 9 => ("HomeCompiler$Scanner", "name", "I", false)
  | _ => ("HomeCompiler$Scanner", "string", "I", false)
def tyX5 : Nat → FieldType := fun k => match k with
  | 0 => .object "HomeCompiler$Words"
  | 1 => .object "HomeCompiler$Names"
  | 2 => .object "HomeCompiler$Bytes"
  | 3 => .array (.object "java/lang/String")
  | 4 => .object "HomeCompiler$Bytes"
  | 5 => .int
  | 6 => .int
  | 7 => .int
  | 8 => .int
  | 9 => .int
  | _ => .int
abbrev wsX50 : List Cond := u_ws RX5 TX5 11
theorem nmX5 : ∀ a, a < 11 → ∀ b, b < 11 → a ≠ b → (TX5 a).2.1 ≠ (TX5 b).2.1 := by decide +kernel
theorem tyX5_ok : ∀ k, k < 11 → parseFieldDescriptor (TX5 k).2.2.1 = some (tyX5 k) := by decide +kernel
abbrev cX5_init : ByteArray := prog_16_method_1_code
def yX5_init : MethodName := ⟨RX5, "<init>", "(LHomeCompiler$Words;LHomeCompiler$Names;LHomeCompiler$Bytes;)V"⟩
abbrev cX5_begin : ByteArray := prog_16_method_2_code
def yX5_begin : MethodName := ⟨RX5, "begin", "(LHomeCompiler$Bytes;)V"⟩
abbrev cX5_next : ByteArray := prog_16_method_15_code
def yX5_next : MethodName := ⟨RX5, "next", "()V"⟩
abbrev cX5_skip : ByteArray := prog_16_method_13_code
def yX5_skip : MethodName := ⟨RX5, "skip", "()Z"⟩
abbrev cX5_look : ByteArray := prog_16_method_10_code
def yX5_look : MethodName := ⟨RX5, "look", "(I)I"⟩
abbrev cX5_passComment : ByteArray := prog_16_method_14_code
def yX5_passComment : MethodName := ⟨RX5, "passComment", "()Z"⟩
abbrev cX5_isLetter : ByteArray := prog_16_method_11_code
def yX5_isLetter : MethodName := ⟨RX5, "isLetter", "(I)Z"⟩
abbrev cX5_word : ByteArray := prog_16_method_16_code
def yX5_word : MethodName := ⟨RX5, "word", "()V"⟩
abbrev cX5_isDigit : ByteArray := prog_16_method_12_code
def yX5_isDigit : MethodName := ⟨RX5, "isDigit", "(I)Z"⟩
abbrev cX5_digits : ByteArray := prog_16_method_18_code
def yX5_digits : MethodName := ⟨RX5, "digits", "()V"⟩
abbrev cX5_figure : ByteArray := prog_16_method_17_code
def yX5_figure : MethodName := ⟨RX5, "figure", "(I)I"⟩
abbrev cX5_character : ByteArray := prog_16_method_19_code
def yX5_character : MethodName := ⟨RX5, "character", "()V"⟩
abbrev cX5_quoted : ByteArray := prog_16_method_20_code
def yX5_quoted : MethodName := ⟨RX5, "quoted", "()V"⟩
abbrev cX5_stringLength : ByteArray := prog_16_method_8_code
def yX5_stringLength : MethodName := ⟨RX5, "stringLength", "()I"⟩
abbrev cX5_mark : ByteArray := prog_16_method_22_code
def yX5_mark : MethodName := ⟨RX5, "mark", "()V"⟩
abbrev cX5_isHere : ByteArray := prog_16_method_21_code
def yX5_isHere : MethodName := ⟨RX5, "isHere", "(Ljava/lang/String;)Z"⟩
abbrev cX5_token : ByteArray := prog_16_method_3_code
def yX5_token : MethodName := ⟨RX5, "token", "()I"⟩
abbrev cX5_start : ByteArray := prog_16_method_4_code
def yX5_start : MethodName := ⟨RX5, "start", "()I"⟩
abbrev cX5_name : ByteArray := prog_16_method_6_code
def yX5_name : MethodName := ⟨RX5, "name", "()I"⟩
abbrev cX5_number : ByteArray := prog_16_method_5_code
def yX5_number : MethodName := ⟨RX5, "number", "()I"⟩
abbrev cX5_string : ByteArray := prog_16_method_7_code
def yX5_string : MethodName := ⟨RX5, "string", "()I"⟩
theorem q319 : (Jvm.Cond.initialized "HomeCompiler$Scanner") ∈ lw_all := lw_g (lw_at lw_m1 5 rfl) rfl
theorem q459 : (Jvm.Cond.instantiable "HomeCompiler$Scanner" (11 : Nat)) ∈ lw_all := lw_g (lw_at lw_m1 145 rfl) rfl
theorem q461 : (Jvm.Cond.instanceMethod ({ cls := "HomeCompiler$Scanner", name := "<init>", desc := "(LHomeCompiler$Words;LHomeCompiler$Names;LHomeCompiler$Bytes;)V" } : Jvm.MethodName)) ∈ lw_all := lw_g (lw_at lw_m1 147 rfl) rfl
theorem q462 : (Jvm.Cond.code ({ cls := "HomeCompiler$Scanner", name := "<init>", desc := "(LHomeCompiler$Words;LHomeCompiler$Names;LHomeCompiler$Bytes;)V" } : Jvm.MethodName) prog_16_method_1_code (4 : Nat) (Option.none : Option Jvm.ClassFile.FieldType)) ∈ lw_all := lw_g (lw_at lw_m1 148 rfl) rfl
theorem q463 : (Jvm.Cond.methodLink "HomeCompiler$Scanner" (3 : Nat) ({ cls := "java/lang/Object", name := "<init>", desc := "()V" } : Jvm.MethodName)) ∈ lw_all := lw_g (lw_at lw_m1 149 rfl) rfl
theorem q464 : (Jvm.Cond.classLink "HomeCompiler$Scanner" (9 : Nat) "java/lang/String") ∈ lw_all := lw_g (lw_at lw_m1 150 rfl) rfl
theorem q465 : (Jvm.Cond.stringRef "HomeCompiler$Scanner" (11 : Nat) "||") ∈ lw_tbl := lw_at lw_m1 151 rfl
theorem q466 : (Jvm.Cond.stringRef "HomeCompiler$Scanner" (13 : Nat) "&&") ∈ lw_tbl := lw_at lw_m1 152 rfl
theorem q467 : (Jvm.Cond.stringRef "HomeCompiler$Scanner" (15 : Nat) "==") ∈ lw_tbl := lw_at lw_m1 153 rfl
theorem q468 : (Jvm.Cond.stringRef "HomeCompiler$Scanner" (17 : Nat) "!=") ∈ lw_tbl := lw_at lw_m1 154 rfl
theorem q469 : (Jvm.Cond.stringRef "HomeCompiler$Scanner" (19 : Nat) "<=") ∈ lw_tbl := lw_at lw_m1 155 rfl
theorem q470 : (Jvm.Cond.stringRef "HomeCompiler$Scanner" (21 : Nat) ">=") ∈ lw_tbl := lw_at lw_m1 156 rfl
theorem q471 : (Jvm.Cond.stringRef "HomeCompiler$Scanner" (23 : Nat) "<<") ∈ lw_tbl := lw_at lw_m1 157 rfl
theorem q472 : (Jvm.Cond.stringRef "HomeCompiler$Scanner" (25 : Nat) ">>") ∈ lw_tbl := lw_at lw_m1 158 rfl
theorem q473 : (Jvm.Cond.stringRef "HomeCompiler$Scanner" (27 : Nat) "++") ∈ lw_tbl := lw_at lw_m1 159 rfl
theorem q474 : (Jvm.Cond.stringRef "HomeCompiler$Scanner" (29 : Nat) "--") ∈ lw_tbl := lw_at lw_m1 160 rfl
theorem q475 : (Jvm.Cond.stringRef "HomeCompiler$Scanner" (31 : Nat) "+=") ∈ lw_tbl := lw_at lw_m1 161 rfl
theorem q476 : (Jvm.Cond.stringRef "HomeCompiler$Scanner" (33 : Nat) "-=") ∈ lw_tbl := lw_at lw_m1 162 rfl
theorem q477 : (Jvm.Cond.stringRef "HomeCompiler$Scanner" (35 : Nat) "*=") ∈ lw_tbl := lw_at lw_m1 163 rfl
theorem q478 : (Jvm.Cond.stringRef "HomeCompiler$Scanner" (37 : Nat) "/=") ∈ lw_tbl := lw_at lw_m1 164 rfl
theorem q479 : (Jvm.Cond.stringRef "HomeCompiler$Scanner" (39 : Nat) "%=") ∈ lw_tbl := lw_at lw_m1 165 rfl
theorem q480 : (Jvm.Cond.stringRef "HomeCompiler$Scanner" (41 : Nat) "<<=") ∈ lw_tbl := lw_at lw_m1 166 rfl
theorem q481 : (Jvm.Cond.stringRef "HomeCompiler$Scanner" (43 : Nat) ">>=") ∈ lw_tbl := lw_at lw_m1 167 rfl
theorem q482 : (Jvm.Cond.stringRef "HomeCompiler$Scanner" (45 : Nat) "&=") ∈ lw_tbl := lw_at lw_m1 168 rfl
theorem q483 : (Jvm.Cond.stringRef "HomeCompiler$Scanner" (47 : Nat) "|=") ∈ lw_tbl := lw_at lw_m1 169 rfl
theorem q484 : (Jvm.Cond.stringRef "HomeCompiler$Scanner" (49 : Nat) "^=") ∈ lw_tbl := lw_at lw_m1 170 rfl
theorem q485 : (Jvm.Cond.fieldLink "HomeCompiler$Scanner" (57 : Nat) "HomeCompiler$Scanner" "words" "LHomeCompiler$Words;") ∈ lw_all := lw_g (lw_at lw_m1 171 rfl) rfl
theorem q486 : (Jvm.Cond.fieldLink "HomeCompiler$Scanner" (61 : Nat) "HomeCompiler$Scanner" "names" "LHomeCompiler$Names;") ∈ lw_all := lw_g (lw_at lw_m1 172 rfl) rfl
theorem q487 : (Jvm.Cond.fieldLink "HomeCompiler$Scanner" (65 : Nat) "HomeCompiler$Scanner" "strings" "LHomeCompiler$Bytes;") ∈ lw_all := lw_g (lw_at lw_m1 173 rfl) rfl
theorem q488 : (Jvm.Cond.fieldLink "HomeCompiler$Scanner" (51 : Nat) "HomeCompiler$Scanner" "marks" "[Ljava/lang/String;") ∈ lw_all := lw_g (lw_at lw_m1 174 rfl) rfl
theorem q489 : (Jvm.Cond.fieldLink "HomeCompiler$Scanner" (69 : Nat) "HomeCompiler$Scanner" "text" "LHomeCompiler$Bytes;") ∈ lw_all := lw_g (lw_at lw_m1 175 rfl) rfl
theorem q490 : (Jvm.Cond.fieldLink "HomeCompiler$Scanner" (72 : Nat) "HomeCompiler$Scanner" "at" "I") ∈ lw_all := lw_g (lw_at lw_m1 176 rfl) rfl
theorem q491 : (Jvm.Cond.fieldLink "HomeCompiler$Scanner" (79 : Nat) "HomeCompiler$Scanner" "token" "I") ∈ lw_all := lw_g (lw_at lw_m1 177 rfl) rfl
theorem q492 : (Jvm.Cond.fieldLink "HomeCompiler$Scanner" (82 : Nat) "HomeCompiler$Scanner" "start" "I") ∈ lw_all := lw_g (lw_at lw_m1 178 rfl) rfl
theorem q493 : (Jvm.Cond.fieldLink "HomeCompiler$Scanner" (85 : Nat) "HomeCompiler$Scanner" "number" "I") ∈ lw_all := lw_g (lw_at lw_m1 179 rfl) rfl
theorem q494 : (Jvm.Cond.fieldLink "HomeCompiler$Scanner" (88 : Nat) "HomeCompiler$Scanner" "name" "I") ∈ lw_all := lw_g (lw_at lw_m1 180 rfl) rfl
theorem q495 : (Jvm.Cond.fieldLink "HomeCompiler$Scanner" (91 : Nat) "HomeCompiler$Scanner" "string" "I") ∈ lw_all := lw_g (lw_at lw_m1 181 rfl) rfl
theorem q496 : (Jvm.Cond.laysFinal "HomeCompiler$Scanner" "HomeCompiler$Scanner" "words" "LHomeCompiler$Words;") ∈ lw_all := lw_g (lw_at lw_m1 182 rfl) rfl
theorem q497 : (Jvm.Cond.soleField "HomeCompiler$Scanner" "words") ∈ lw_all := lw_g (lw_at lw_m1 183 rfl) rfl
theorem q498 : (Jvm.Cond.laysFinal "HomeCompiler$Scanner" "HomeCompiler$Scanner" "names" "LHomeCompiler$Names;") ∈ lw_all := lw_g (lw_at lw_m1 184 rfl) rfl
theorem q499 : (Jvm.Cond.soleField "HomeCompiler$Scanner" "names") ∈ lw_all := lw_g (lw_at lw_m1 185 rfl) rfl
theorem q500 : (Jvm.Cond.laysFinal "HomeCompiler$Scanner" "HomeCompiler$Scanner" "strings" "LHomeCompiler$Bytes;") ∈ lw_all := lw_g (lw_at lw_m1 186 rfl) rfl
theorem q501 : (Jvm.Cond.soleField "HomeCompiler$Scanner" "strings") ∈ lw_all := lw_g (lw_at lw_m1 187 rfl) rfl
theorem q502 : (Jvm.Cond.laysFinal "HomeCompiler$Scanner" "HomeCompiler$Scanner" "marks" "[Ljava/lang/String;") ∈ lw_all := lw_g (lw_at lw_m1 188 rfl) rfl
theorem q503 : (Jvm.Cond.soleField "HomeCompiler$Scanner" "marks") ∈ lw_all := lw_g (lw_at lw_m1 189 rfl) rfl
theorem q504 : (Jvm.Cond.lays "HomeCompiler$Scanner" "HomeCompiler$Scanner" "text" "LHomeCompiler$Bytes;") ∈ lw_all := lw_g (lw_at lw_m1 190 rfl) rfl
theorem q505 : (Jvm.Cond.soleField "HomeCompiler$Scanner" "text") ∈ lw_all := lw_g (lw_at lw_m1 191 rfl) rfl
theorem q506 : (Jvm.Cond.lays "HomeCompiler$Scanner" "HomeCompiler$Scanner" "at" "I") ∈ lw_all := lw_g (lw_at lw_m1 192 rfl) rfl
theorem q507 : (Jvm.Cond.soleField "HomeCompiler$Scanner" "at") ∈ lw_all := lw_g (lw_at lw_m1 193 rfl) rfl
theorem q508 : (Jvm.Cond.lays "HomeCompiler$Scanner" "HomeCompiler$Scanner" "token" "I") ∈ lw_all := lw_g (lw_at lw_m1 194 rfl) rfl
theorem q509 : (Jvm.Cond.soleField "HomeCompiler$Scanner" "token") ∈ lw_all := lw_g (lw_at lw_m1 195 rfl) rfl
theorem q510 : (Jvm.Cond.lays "HomeCompiler$Scanner" "HomeCompiler$Scanner" "start" "I") ∈ lw_all := lw_g (lw_at lw_m1 196 rfl) rfl
theorem q511 : (Jvm.Cond.soleField "HomeCompiler$Scanner" "start") ∈ lw_all := lw_g (lw_at lw_m1 197 rfl) rfl
theorem q512 : (Jvm.Cond.lays "HomeCompiler$Scanner" "HomeCompiler$Scanner" "number" "I") ∈ lw_all := lw_g (lw_at lw_m1 198 rfl) rfl
theorem q513 : (Jvm.Cond.soleField "HomeCompiler$Scanner" "number") ∈ lw_all := lw_g (lw_at lw_m1 199 rfl) rfl
theorem q514 : (Jvm.Cond.lays "HomeCompiler$Scanner" "HomeCompiler$Scanner" "name" "I") ∈ lw_all := lw_g (lw_at lw_m1 200 rfl) rfl
theorem q515 : (Jvm.Cond.soleField "HomeCompiler$Scanner" "name") ∈ lw_all := lw_g (lw_at lw_m1 201 rfl) rfl
theorem q516 : (Jvm.Cond.lays "HomeCompiler$Scanner" "HomeCompiler$Scanner" "string" "I") ∈ lw_all := lw_g (lw_at lw_m1 202 rfl) rfl
theorem q517 : (Jvm.Cond.soleField "HomeCompiler$Scanner" "string") ∈ lw_all := lw_g (lw_at lw_m1 203 rfl) rfl
theorem q518 : (Jvm.Cond.superclass "HomeCompiler$Scanner" "java/lang/Object") ∈ lw_all := lw_g (lw_at lw_m1 204 rfl) rfl
theorem q1072 : (Jvm.Cond.instanceMethod ({ cls := "HomeCompiler$Scanner", name := "begin", desc := "(LHomeCompiler$Bytes;)V" } : Jvm.MethodName)) ∈ lw_all := lw_g (lw_at lw_m4 38 rfl) rfl
theorem q1073 : (Jvm.Cond.selects "HomeCompiler$Scanner" ({ cls := "HomeCompiler$Scanner", name := "begin", desc := "(LHomeCompiler$Bytes;)V" } : Jvm.MethodName) ({ cls := "HomeCompiler$Scanner", name := "begin", desc := "(LHomeCompiler$Bytes;)V" } : Jvm.MethodName)) ∈ lw_all := lw_g (lw_at lw_m4 39 rfl) rfl
theorem q1074 : (Jvm.Cond.code ({ cls := "HomeCompiler$Scanner", name := "begin", desc := "(LHomeCompiler$Bytes;)V" } : Jvm.MethodName) prog_16_method_2_code (2 : Nat) (Option.none : Option Jvm.ClassFile.FieldType)) ∈ lw_all := lw_g (lw_at lw_m4 40 rfl) rfl
theorem q1075 : (Jvm.Cond.methodLink "HomeCompiler$Scanner" (76 : Nat) ({ cls := "HomeCompiler$Scanner", name := "next", desc := "()V" } : Jvm.MethodName)) ∈ lw_all := lw_g (lw_at lw_m4 41 rfl) rfl
theorem q1076 : (Jvm.Cond.instanceMethod ({ cls := "HomeCompiler$Scanner", name := "next", desc := "()V" } : Jvm.MethodName)) ∈ lw_all := lw_g (lw_at lw_m4 42 rfl) rfl
theorem q1077 : (Jvm.Cond.selects "HomeCompiler$Scanner" ({ cls := "HomeCompiler$Scanner", name := "next", desc := "()V" } : Jvm.MethodName) ({ cls := "HomeCompiler$Scanner", name := "next", desc := "()V" } : Jvm.MethodName)) ∈ lw_all := lw_g (lw_at lw_m4 43 rfl) rfl
theorem q1078 : (Jvm.Cond.code ({ cls := "HomeCompiler$Scanner", name := "next", desc := "()V" } : Jvm.MethodName) prog_16_method_15_code (3 : Nat) (Option.none : Option Jvm.ClassFile.FieldType)) ∈ lw_all := lw_g (lw_at lw_m4 44 rfl) rfl
theorem q1079 : (Jvm.Cond.methodLink "HomeCompiler$Scanner" (110 : Nat) ({ cls := "HomeCompiler$Scanner", name := "skip", desc := "()Z" } : Jvm.MethodName)) ∈ lw_all := lw_g (lw_at lw_m4 45 rfl) rfl
theorem q1080 : (Jvm.Cond.privateMethod ({ cls := "HomeCompiler$Scanner", name := "skip", desc := "()Z" } : Jvm.MethodName)) ∈ lw_tbl := lw_at lw_m4 46 rfl
theorem q1081 : (Jvm.Cond.instanceMethod ({ cls := "HomeCompiler$Scanner", name := "skip", desc := "()Z" } : Jvm.MethodName)) ∈ lw_all := lw_g (lw_at lw_m4 47 rfl) rfl
theorem q1082 : (Jvm.Cond.code ({ cls := "HomeCompiler$Scanner", name := "skip", desc := "()Z" } : Jvm.MethodName) prog_16_method_13_code (4 : Nat) (Option.some Jvm.ClassFile.FieldType.boolean)) ∈ lw_all := lw_g (lw_at lw_m4 48 rfl) rfl
theorem q1083 : (Jvm.Cond.methodLink "HomeCompiler$Scanner" (103 : Nat) ({ cls := "HomeCompiler$Scanner", name := "look", desc := "(I)I" } : Jvm.MethodName)) ∈ lw_all := lw_g (lw_at lw_m4 49 rfl) rfl
theorem q1084 : (Jvm.Cond.privateMethod ({ cls := "HomeCompiler$Scanner", name := "look", desc := "(I)I" } : Jvm.MethodName)) ∈ lw_tbl := lw_at lw_m4 50 rfl
theorem q1085 : (Jvm.Cond.instanceMethod ({ cls := "HomeCompiler$Scanner", name := "look", desc := "(I)I" } : Jvm.MethodName)) ∈ lw_all := lw_g (lw_at lw_m4 51 rfl) rfl
theorem q1086 : (Jvm.Cond.code ({ cls := "HomeCompiler$Scanner", name := "look", desc := "(I)I" } : Jvm.MethodName) prog_16_method_10_code (2 : Nat) (Option.some Jvm.ClassFile.FieldType.int)) ∈ lw_all := lw_g (lw_at lw_m4 52 rfl) rfl
theorem q1087 : (Jvm.Cond.methodLink "HomeCompiler$Scanner" (94 : Nat) ({ cls := "HomeCompiler$Bytes", name := "size", desc := "()I" } : Jvm.MethodName)) ∈ lw_all := lw_g (lw_at lw_m4 53 rfl) rfl
theorem q1088 : (Jvm.Cond.methodLink "HomeCompiler$Scanner" (100 : Nat) ({ cls := "HomeCompiler$Bytes", name := "at", desc := "(I)I" } : Jvm.MethodName)) ∈ lw_all := lw_g (lw_at lw_m4 54 rfl) rfl
theorem q1092 : (Jvm.Cond.methodLink "HomeCompiler$Scanner" (106 : Nat) ({ cls := "HomeCompiler$Scanner", name := "passComment", desc := "()Z" } : Jvm.MethodName)) ∈ lw_all := lw_g (lw_at lw_m4 58 rfl) rfl
theorem q1093 : (Jvm.Cond.privateMethod ({ cls := "HomeCompiler$Scanner", name := "passComment", desc := "()Z" } : Jvm.MethodName)) ∈ lw_tbl := lw_at lw_m4 59 rfl
theorem q1094 : (Jvm.Cond.instanceMethod ({ cls := "HomeCompiler$Scanner", name := "passComment", desc := "()Z" } : Jvm.MethodName)) ∈ lw_all := lw_g (lw_at lw_m4 60 rfl) rfl
theorem q1095 : (Jvm.Cond.code ({ cls := "HomeCompiler$Scanner", name := "passComment", desc := "()Z" } : Jvm.MethodName) prog_16_method_14_code (3 : Nat) (Option.some Jvm.ClassFile.FieldType.boolean)) ∈ lw_all := lw_g (lw_at lw_m4 61 rfl) rfl
theorem q1096 : (Jvm.Cond.methodLink "HomeCompiler$Scanner" (113 : Nat) ({ cls := "HomeCompiler$Scanner", name := "isLetter", desc := "(I)Z" } : Jvm.MethodName)) ∈ lw_all := lw_g (lw_at lw_m4 62 rfl) rfl
theorem q1097 : (Jvm.Cond.static ({ cls := "HomeCompiler$Scanner", name := "isLetter", desc := "(I)Z" } : Jvm.MethodName)) ∈ lw_all := lw_g (lw_at lw_m4 63 rfl) rfl
theorem q1098 : (Jvm.Cond.code ({ cls := "HomeCompiler$Scanner", name := "isLetter", desc := "(I)Z" } : Jvm.MethodName) prog_16_method_11_code (1 : Nat) (Option.some Jvm.ClassFile.FieldType.boolean)) ∈ lw_all := lw_g (lw_at lw_m4 64 rfl) rfl
theorem q1099 : (Jvm.Cond.methodLink "HomeCompiler$Scanner" (117 : Nat) ({ cls := "HomeCompiler$Scanner", name := "word", desc := "()V" } : Jvm.MethodName)) ∈ lw_all := lw_g (lw_at lw_m4 65 rfl) rfl
theorem q1100 : (Jvm.Cond.privateMethod ({ cls := "HomeCompiler$Scanner", name := "word", desc := "()V" } : Jvm.MethodName)) ∈ lw_tbl := lw_at lw_m4 66 rfl
theorem q1101 : (Jvm.Cond.instanceMethod ({ cls := "HomeCompiler$Scanner", name := "word", desc := "()V" } : Jvm.MethodName)) ∈ lw_all := lw_g (lw_at lw_m4 67 rfl) rfl
theorem q1102 : (Jvm.Cond.code ({ cls := "HomeCompiler$Scanner", name := "word", desc := "()V" } : Jvm.MethodName) prog_16_method_16_code (3 : Nat) (Option.none : Option Jvm.ClassFile.FieldType)) ∈ lw_all := lw_g (lw_at lw_m4 68 rfl) rfl
theorem q1103 : (Jvm.Cond.methodLink "HomeCompiler$Scanner" (120 : Nat) ({ cls := "HomeCompiler$Scanner", name := "isDigit", desc := "(I)Z" } : Jvm.MethodName)) ∈ lw_all := lw_g (lw_at lw_m4 69 rfl) rfl
theorem q1104 : (Jvm.Cond.static ({ cls := "HomeCompiler$Scanner", name := "isDigit", desc := "(I)Z" } : Jvm.MethodName)) ∈ lw_all := lw_g (lw_at lw_m4 70 rfl) rfl
theorem q1105 : (Jvm.Cond.code ({ cls := "HomeCompiler$Scanner", name := "isDigit", desc := "(I)Z" } : Jvm.MethodName) prog_16_method_12_code (1 : Nat) (Option.some Jvm.ClassFile.FieldType.boolean)) ∈ lw_all := lw_g (lw_at lw_m4 71 rfl) rfl
theorem q1106 : (Jvm.Cond.methodLink "HomeCompiler$Scanner" (135 : Nat) ({ cls := "HomeCompiler$Words", name := "find", desc := "(LHomeCompiler$Bytes;II)I" } : Jvm.MethodName)) ∈ lw_all := lw_g (lw_at lw_m4 72 rfl) rfl
theorem q1162 : (Jvm.Cond.methodLink "HomeCompiler$Scanner" (141 : Nat) ({ cls := "HomeCompiler$Names", name := "of", desc := "(LHomeCompiler$Bytes;II)I" } : Jvm.MethodName)) ∈ lw_all := lw_g (lw_at lw_m4 128 rfl) rfl
theorem q1191 : (Jvm.Cond.methodLink "HomeCompiler$Scanner" (123 : Nat) ({ cls := "HomeCompiler$Scanner", name := "digits", desc := "()V" } : Jvm.MethodName)) ∈ lw_all := lw_g (lw_at lw_m4 157 rfl) rfl
theorem q1192 : (Jvm.Cond.privateMethod ({ cls := "HomeCompiler$Scanner", name := "digits", desc := "()V" } : Jvm.MethodName)) ∈ lw_tbl := lw_at lw_m4 158 rfl
theorem q1193 : (Jvm.Cond.instanceMethod ({ cls := "HomeCompiler$Scanner", name := "digits", desc := "()V" } : Jvm.MethodName)) ∈ lw_all := lw_g (lw_at lw_m4 159 rfl) rfl
theorem q1194 : (Jvm.Cond.code ({ cls := "HomeCompiler$Scanner", name := "digits", desc := "()V" } : Jvm.MethodName) prog_16_method_18_code (7 : Nat) (Option.none : Option Jvm.ClassFile.FieldType)) ∈ lw_all := lw_g (lw_at lw_m4 160 rfl) rfl
theorem q1195 : (Jvm.Cond.methodLink "HomeCompiler$Scanner" (146 : Nat) ({ cls := "HomeCompiler$Scanner", name := "figure", desc := "(I)I" } : Jvm.MethodName)) ∈ lw_all := lw_g (lw_at lw_m4 161 rfl) rfl
theorem q1196 : (Jvm.Cond.static ({ cls := "HomeCompiler$Scanner", name := "figure", desc := "(I)I" } : Jvm.MethodName)) ∈ lw_all := lw_g (lw_at lw_m4 162 rfl) rfl
theorem q1197 : (Jvm.Cond.code ({ cls := "HomeCompiler$Scanner", name := "figure", desc := "(I)I" } : Jvm.MethodName) prog_16_method_17_code (1 : Nat) (Option.some Jvm.ClassFile.FieldType.int)) ∈ lw_all := lw_g (lw_at lw_m4 163 rfl) rfl
theorem q1198 : (Jvm.Cond.methodLink "HomeCompiler$Scanner" (126 : Nat) ({ cls := "HomeCompiler$Scanner", name := "character", desc := "()V" } : Jvm.MethodName)) ∈ lw_all := lw_g (lw_at lw_m4 164 rfl) rfl
theorem q1199 : (Jvm.Cond.privateMethod ({ cls := "HomeCompiler$Scanner", name := "character", desc := "()V" } : Jvm.MethodName)) ∈ lw_tbl := lw_at lw_m4 165 rfl
theorem q1200 : (Jvm.Cond.instanceMethod ({ cls := "HomeCompiler$Scanner", name := "character", desc := "()V" } : Jvm.MethodName)) ∈ lw_all := lw_g (lw_at lw_m4 166 rfl) rfl
theorem q1201 : (Jvm.Cond.code ({ cls := "HomeCompiler$Scanner", name := "character", desc := "()V" } : Jvm.MethodName) prog_16_method_19_code (7 : Nat) (Option.none : Option Jvm.ClassFile.FieldType)) ∈ lw_all := lw_g (lw_at lw_m4 167 rfl) rfl
theorem q1202 : (Jvm.Cond.methodLink "HomeCompiler$Scanner" (129 : Nat) ({ cls := "HomeCompiler$Scanner", name := "quoted", desc := "()V" } : Jvm.MethodName)) ∈ lw_all := lw_g (lw_at lw_m4 168 rfl) rfl
theorem q1203 : (Jvm.Cond.privateMethod ({ cls := "HomeCompiler$Scanner", name := "quoted", desc := "()V" } : Jvm.MethodName)) ∈ lw_tbl := lw_at lw_m4 169 rfl
theorem q1204 : (Jvm.Cond.instanceMethod ({ cls := "HomeCompiler$Scanner", name := "quoted", desc := "()V" } : Jvm.MethodName)) ∈ lw_all := lw_g (lw_at lw_m4 170 rfl) rfl
theorem q1205 : (Jvm.Cond.code ({ cls := "HomeCompiler$Scanner", name := "quoted", desc := "()V" } : Jvm.MethodName) prog_16_method_20_code (6 : Nat) (Option.none : Option Jvm.ClassFile.FieldType)) ∈ lw_all := lw_g (lw_at lw_m4 171 rfl) rfl
theorem q1206 : (Jvm.Cond.methodLink "HomeCompiler$Scanner" (149 : Nat) ({ cls := "HomeCompiler$Bytes", name := "add", desc := "(I)V" } : Jvm.MethodName)) ∈ lw_all := lw_g (lw_at lw_m4 172 rfl) rfl
theorem q1207 : (Jvm.Cond.methodLink "HomeCompiler$Scanner" (153 : Nat) ({ cls := "HomeCompiler$Scanner", name := "stringLength", desc := "()I" } : Jvm.MethodName)) ∈ lw_all := lw_g (lw_at lw_m4 173 rfl) rfl
theorem q1208 : (Jvm.Cond.instanceMethod ({ cls := "HomeCompiler$Scanner", name := "stringLength", desc := "()I" } : Jvm.MethodName)) ∈ lw_all := lw_g (lw_at lw_m4 174 rfl) rfl
theorem q1209 : (Jvm.Cond.selects "HomeCompiler$Scanner" ({ cls := "HomeCompiler$Scanner", name := "stringLength", desc := "()I" } : Jvm.MethodName) ({ cls := "HomeCompiler$Scanner", name := "stringLength", desc := "()I" } : Jvm.MethodName)) ∈ lw_all := lw_g (lw_at lw_m4 175 rfl) rfl
theorem q1210 : (Jvm.Cond.code ({ cls := "HomeCompiler$Scanner", name := "stringLength", desc := "()I" } : Jvm.MethodName) prog_16_method_8_code (1 : Nat) (Option.some Jvm.ClassFile.FieldType.int)) ∈ lw_all := lw_g (lw_at lw_m4 176 rfl) rfl
theorem q1211 : (Jvm.Cond.methodLink "HomeCompiler$Scanner" (132 : Nat) ({ cls := "HomeCompiler$Scanner", name := "mark", desc := "()V" } : Jvm.MethodName)) ∈ lw_all := lw_g (lw_at lw_m4 177 rfl) rfl
theorem q1212 : (Jvm.Cond.privateMethod ({ cls := "HomeCompiler$Scanner", name := "mark", desc := "()V" } : Jvm.MethodName)) ∈ lw_tbl := lw_at lw_m4 178 rfl
theorem q1213 : (Jvm.Cond.instanceMethod ({ cls := "HomeCompiler$Scanner", name := "mark", desc := "()V" } : Jvm.MethodName)) ∈ lw_all := lw_g (lw_at lw_m4 179 rfl) rfl
theorem q1214 : (Jvm.Cond.code ({ cls := "HomeCompiler$Scanner", name := "mark", desc := "()V" } : Jvm.MethodName) prog_16_method_22_code (5 : Nat) (Option.none : Option Jvm.ClassFile.FieldType)) ∈ lw_all := lw_g (lw_at lw_m4 180 rfl) rfl
theorem q1215 : (Jvm.Cond.methodLink "HomeCompiler$Scanner" (156 : Nat) ({ cls := "java/lang/String", name := "length", desc := "()I" } : Jvm.MethodName)) ∈ lw_all := lw_g (lw_at lw_m4 181 rfl) rfl
theorem q1216 : (Jvm.Cond.methodLink "HomeCompiler$Scanner" (163 : Nat) ({ cls := "HomeCompiler$Scanner", name := "isHere", desc := "(Ljava/lang/String;)Z" } : Jvm.MethodName)) ∈ lw_all := lw_g (lw_at lw_m4 182 rfl) rfl
theorem q1217 : (Jvm.Cond.privateMethod ({ cls := "HomeCompiler$Scanner", name := "isHere", desc := "(Ljava/lang/String;)Z" } : Jvm.MethodName)) ∈ lw_tbl := lw_at lw_m4 183 rfl
theorem q1218 : (Jvm.Cond.instanceMethod ({ cls := "HomeCompiler$Scanner", name := "isHere", desc := "(Ljava/lang/String;)Z" } : Jvm.MethodName)) ∈ lw_all := lw_g (lw_at lw_m4 184 rfl) rfl
theorem q1219 : (Jvm.Cond.code ({ cls := "HomeCompiler$Scanner", name := "isHere", desc := "(Ljava/lang/String;)Z" } : Jvm.MethodName) prog_16_method_21_code (4 : Nat) (Option.some Jvm.ClassFile.FieldType.boolean)) ∈ lw_all := lw_g (lw_at lw_m4 185 rfl) rfl
theorem q1220 : (Jvm.Cond.methodLink "HomeCompiler$Scanner" (159 : Nat) ({ cls := "java/lang/String", name := "charAt", desc := "(I)C" } : Jvm.MethodName)) ∈ lw_all := lw_g (lw_at lw_m4 186 rfl) rfl
theorem q1247 : (Jvm.Cond.instanceMethod ({ cls := "HomeCompiler$Scanner", name := "token", desc := "()I" } : Jvm.MethodName)) ∈ lw_all := lw_g (lw_at lw_m4 213 rfl) rfl
theorem q1248 : (Jvm.Cond.selects "HomeCompiler$Scanner" ({ cls := "HomeCompiler$Scanner", name := "token", desc := "()I" } : Jvm.MethodName) ({ cls := "HomeCompiler$Scanner", name := "token", desc := "()I" } : Jvm.MethodName)) ∈ lw_all := lw_g (lw_at lw_m4 214 rfl) rfl
theorem q1249 : (Jvm.Cond.code ({ cls := "HomeCompiler$Scanner", name := "token", desc := "()I" } : Jvm.MethodName) prog_16_method_3_code (1 : Nat) (Option.some Jvm.ClassFile.FieldType.int)) ∈ lw_all := lw_g (lw_at lw_m4 215 rfl) rfl
theorem q1259 : (Jvm.Cond.instanceMethod ({ cls := "HomeCompiler$Scanner", name := "start", desc := "()I" } : Jvm.MethodName)) ∈ lw_all := lw_g (lw_at lw_m4 225 rfl) rfl
theorem q1260 : (Jvm.Cond.selects "HomeCompiler$Scanner" ({ cls := "HomeCompiler$Scanner", name := "start", desc := "()I" } : Jvm.MethodName) ({ cls := "HomeCompiler$Scanner", name := "start", desc := "()I" } : Jvm.MethodName)) ∈ lw_all := lw_g (lw_at lw_m4 226 rfl) rfl
theorem q1261 : (Jvm.Cond.code ({ cls := "HomeCompiler$Scanner", name := "start", desc := "()I" } : Jvm.MethodName) prog_16_method_4_code (1 : Nat) (Option.some Jvm.ClassFile.FieldType.int)) ∈ lw_all := lw_g (lw_at lw_m4 227 rfl) rfl
theorem q1345 : (Jvm.Cond.instanceMethod ({ cls := "HomeCompiler$Scanner", name := "name", desc := "()I" } : Jvm.MethodName)) ∈ lw_all := lw_g (lw_at lw_m5 71 rfl) rfl
theorem q1346 : (Jvm.Cond.selects "HomeCompiler$Scanner" ({ cls := "HomeCompiler$Scanner", name := "name", desc := "()I" } : Jvm.MethodName) ({ cls := "HomeCompiler$Scanner", name := "name", desc := "()I" } : Jvm.MethodName)) ∈ lw_all := lw_g (lw_at lw_m5 72 rfl) rfl
theorem q1347 : (Jvm.Cond.code ({ cls := "HomeCompiler$Scanner", name := "name", desc := "()I" } : Jvm.MethodName) prog_16_method_6_code (1 : Nat) (Option.some Jvm.ClassFile.FieldType.int)) ∈ lw_all := lw_g (lw_at lw_m5 73 rfl) rfl
theorem q1393 : (Jvm.Cond.instanceMethod ({ cls := "HomeCompiler$Scanner", name := "number", desc := "()I" } : Jvm.MethodName)) ∈ lw_all := lw_g (lw_at lw_m5 119 rfl) rfl
theorem q1394 : (Jvm.Cond.selects "HomeCompiler$Scanner" ({ cls := "HomeCompiler$Scanner", name := "number", desc := "()I" } : Jvm.MethodName) ({ cls := "HomeCompiler$Scanner", name := "number", desc := "()I" } : Jvm.MethodName)) ∈ lw_all := lw_g (lw_at lw_m5 120 rfl) rfl
theorem q1395 : (Jvm.Cond.code ({ cls := "HomeCompiler$Scanner", name := "number", desc := "()I" } : Jvm.MethodName) prog_16_method_5_code (1 : Nat) (Option.some Jvm.ClassFile.FieldType.int)) ∈ lw_all := lw_g (lw_at lw_m5 121 rfl) rfl
theorem q1496 : (Jvm.Cond.instanceMethod ({ cls := "HomeCompiler$Scanner", name := "string", desc := "()I" } : Jvm.MethodName)) ∈ lw_all := lw_g (lw_at lw_m5 222 rfl) rfl
theorem q1497 : (Jvm.Cond.selects "HomeCompiler$Scanner" ({ cls := "HomeCompiler$Scanner", name := "string", desc := "()I" } : Jvm.MethodName) ({ cls := "HomeCompiler$Scanner", name := "string", desc := "()I" } : Jvm.MethodName)) ∈ lw_all := lw_g (lw_at lw_m5 223 rfl) rfl
theorem q1498 : (Jvm.Cond.code ({ cls := "HomeCompiler$Scanner", name := "string", desc := "()I" } : Jvm.MethodName) prog_16_method_7_code (1 : Nat) (Option.some Jvm.ClassFile.FieldType.int)) ∈ lw_all := lw_g (lw_at lw_m5 224 rfl) rfl
theorem in_X5 : ∀ w ∈ wsX50, w ∈ lw_all := lw_in wsX50 [496, 498, 500, 502, 504, 506, 508, 510, 512, 514, 516] (by decide +kernel) (by decide +kernel)
/-! X6.HomeCompiler_Nodes.lean.txt -/
def RX6 : String := "HomeCompiler$Nodes"
def TX6 : u_T := fun k => match k with
  | 0 => ("HomeCompiler$Nodes", "kinds", "[I", false)
  | 1 => ("HomeCompiler$Nodes", "ops", "[I", false)
  | 2 => ("HomeCompiler$Nodes", "values", "[I", false)
  | 3 => ("HomeCompiler$Nodes", "extras", "[I", false)
  | 4 => ("HomeCompiler$Nodes", "places", "[I", false)
  | 5 => ("HomeCompiler$Nodes", "numbers", "[I", false)
  | 6 => ("HomeCompiler$Nodes", "depths", "[I", false)
  | 7 => ("HomeCompiler$Nodes", "firsts", "[I", false)
  | 8 => ("HomeCompiler$Nodes", "lasts", "[I", false)
  | 9 => ("HomeCompiler$Nodes", "nexts", "[I", false)
  | _ => ("HomeCompiler$Nodes", "count", "I", false)
def tyX6 : Nat → FieldType := fun k => match k with
  | 0 => .array .int
  | 1 => .array .int
  | 2 => .array .int
  | 3 => .array .int
  | 4 => .array .int
  | 5 => .array .int
  | 6 => .array .int
  | 7 => .array .int
  | 8 => .array .int
  | 9 => .array .int
  | _ => .int
abbrev wsX60 : List Cond := u_ws RX6 TX6 11
theorem nmX6 : ∀ a, a < 11 → ∀ b, b < 11 → a ≠ b → (TX6 a).2.1 ≠ (TX6 b).2.1 := by decide +kernel
theorem tyX6_ok : ∀ k, k < 11 → parseFieldDescriptor (TX6 k).2.2.1 = some (tyX6 k) := by decide +kernel
abbrev cX6_init : ByteArray := prog_13_method_1_code
def yX6_init : MethodName := ⟨RX6, "<init>", "()V"⟩
abbrev cX6_clear : ByteArray := prog_13_method_2_code
def yX6_clear : MethodName := ⟨RX6, "clear", "()V"⟩
abbrev cX6_make : ByteArray := prog_13_method_5_code
def yX6_make : MethodName := ⟨RX6, "make", "(IIII)I"⟩
abbrev cX6_grow : ByteArray := prog_13_method_4_code
def yX6_grow : MethodName := ⟨RX6, "grow", "()V"⟩
abbrev cX6_longer : ByteArray := prog_13_method_3_code
def yX6_longer : MethodName := ⟨RX6, "longer", "([I)[I"⟩
abbrev cX6_kind : ByteArray := prog_13_method_16_code
def yX6_kind : MethodName := ⟨RX6, "kind", "(I)I"⟩
abbrev cX6_over : ByteArray := prog_13_method_6_code
def yX6_over : MethodName := ⟨RX6, "over", "(III)I"⟩
abbrev cX6_hang : ByteArray := prog_13_method_7_code
def yX6_hang : MethodName := ⟨RX6, "hang", "(II)V"⟩
abbrev cX6_setPlace : ByteArray := prog_13_method_15_code
def yX6_setPlace : MethodName := ⟨RX6, "setPlace", "(II)V"⟩
abbrev cX6_depth : ByteArray := prog_13_method_12_code
def yX6_depth : MethodName := ⟨RX6, "depth", "(I)I"⟩
abbrev cX6_chain : ByteArray := prog_13_method_8_code
def yX6_chain : MethodName := ⟨RX6, "chain", "(IIII)I"⟩
abbrev cX6_setExtra : ByteArray := prog_13_method_11_code
def yX6_setExtra : MethodName := ⟨RX6, "setExtra", "(II)V"⟩
abbrev cX6_setOp : ByteArray := prog_13_method_9_code
def yX6_setOp : MethodName := ⟨RX6, "setOp", "(II)V"⟩
abbrev cX6_first : ByteArray := prog_13_method_21_code
def yX6_first : MethodName := ⟨RX6, "first", "(I)I"⟩
abbrev cX6_value : ByteArray := prog_13_method_18_code
def yX6_value : MethodName := ⟨RX6, "value", "(I)I"⟩
abbrev cX6_place : ByteArray := prog_13_method_20_code
def yX6_place : MethodName := ⟨RX6, "place", "(I)I"⟩
abbrev cX6_next : ByteArray := prog_13_method_22_code
def yX6_next : MethodName := ⟨RX6, "next", "(I)I"⟩
abbrev cX6_op : ByteArray := prog_13_method_17_code
def yX6_op : MethodName := ⟨RX6, "op", "(I)I"⟩
abbrev cX6_setNumber : ByteArray := prog_13_method_13_code
def yX6_setNumber : MethodName := ⟨RX6, "setNumber", "(II)V"⟩
abbrev cX6_children : ByteArray := prog_13_method_23_code
def yX6_children : MethodName := ⟨RX6, "children", "(I)I"⟩
abbrev cX6_extra : ByteArray := prog_13_method_19_code
def yX6_extra : MethodName := ⟨RX6, "extra", "(I)I"⟩
abbrev cX6_setValue : ByteArray := prog_13_method_10_code
def yX6_setValue : MethodName := ⟨RX6, "setValue", "(II)V"⟩
abbrev cX6_number : ByteArray := prog_13_method_14_code
def yX6_number : MethodName := ⟨RX6, "number", "(I)I"⟩
theorem q320 : (Jvm.Cond.initialized "HomeCompiler$Nodes") ∈ lw_all := lw_g (lw_at lw_m1 6 rfl) rfl
theorem q520 : (Jvm.Cond.instantiable "HomeCompiler$Nodes" (11 : Nat)) ∈ lw_all := lw_g (lw_at lw_m1 206 rfl) rfl
theorem q522 : (Jvm.Cond.instanceMethod ({ cls := "HomeCompiler$Nodes", name := "<init>", desc := "()V" } : Jvm.MethodName)) ∈ lw_all := lw_g (lw_at lw_m1 208 rfl) rfl
theorem q523 : (Jvm.Cond.code ({ cls := "HomeCompiler$Nodes", name := "<init>", desc := "()V" } : Jvm.MethodName) prog_13_method_1_code (1 : Nat) (Option.none : Option Jvm.ClassFile.FieldType)) ∈ lw_all := lw_g (lw_at lw_m1 209 rfl) rfl
theorem q524 : (Jvm.Cond.methodLink "HomeCompiler$Nodes" (3 : Nat) ({ cls := "java/lang/Object", name := "<init>", desc := "()V" } : Jvm.MethodName)) ∈ lw_all := lw_g (lw_at lw_m1 210 rfl) rfl
theorem q525 : (Jvm.Cond.fieldLink "HomeCompiler$Nodes" (9 : Nat) "HomeCompiler$Nodes" "kinds" "[I") ∈ lw_all := lw_g (lw_at lw_m1 211 rfl) rfl
theorem q526 : (Jvm.Cond.fieldLink "HomeCompiler$Nodes" (15 : Nat) "HomeCompiler$Nodes" "ops" "[I") ∈ lw_all := lw_g (lw_at lw_m1 212 rfl) rfl
theorem q527 : (Jvm.Cond.fieldLink "HomeCompiler$Nodes" (18 : Nat) "HomeCompiler$Nodes" "values" "[I") ∈ lw_all := lw_g (lw_at lw_m1 213 rfl) rfl
theorem q528 : (Jvm.Cond.fieldLink "HomeCompiler$Nodes" (21 : Nat) "HomeCompiler$Nodes" "extras" "[I") ∈ lw_all := lw_g (lw_at lw_m1 214 rfl) rfl
theorem q529 : (Jvm.Cond.fieldLink "HomeCompiler$Nodes" (24 : Nat) "HomeCompiler$Nodes" "places" "[I") ∈ lw_all := lw_g (lw_at lw_m1 215 rfl) rfl
theorem q530 : (Jvm.Cond.fieldLink "HomeCompiler$Nodes" (27 : Nat) "HomeCompiler$Nodes" "numbers" "[I") ∈ lw_all := lw_g (lw_at lw_m1 216 rfl) rfl
theorem q531 : (Jvm.Cond.fieldLink "HomeCompiler$Nodes" (30 : Nat) "HomeCompiler$Nodes" "depths" "[I") ∈ lw_all := lw_g (lw_at lw_m1 217 rfl) rfl
theorem q532 : (Jvm.Cond.fieldLink "HomeCompiler$Nodes" (33 : Nat) "HomeCompiler$Nodes" "firsts" "[I") ∈ lw_all := lw_g (lw_at lw_m1 218 rfl) rfl
theorem q533 : (Jvm.Cond.fieldLink "HomeCompiler$Nodes" (36 : Nat) "HomeCompiler$Nodes" "lasts" "[I") ∈ lw_all := lw_g (lw_at lw_m1 219 rfl) rfl
theorem q534 : (Jvm.Cond.fieldLink "HomeCompiler$Nodes" (39 : Nat) "HomeCompiler$Nodes" "nexts" "[I") ∈ lw_all := lw_g (lw_at lw_m1 220 rfl) rfl
theorem q535 : (Jvm.Cond.fieldLink "HomeCompiler$Nodes" (42 : Nat) "HomeCompiler$Nodes" "count" "I") ∈ lw_all := lw_g (lw_at lw_m1 221 rfl) rfl
theorem q536 : (Jvm.Cond.lays "HomeCompiler$Nodes" "HomeCompiler$Nodes" "kinds" "[I") ∈ lw_all := lw_g (lw_at lw_m1 222 rfl) rfl
theorem q537 : (Jvm.Cond.soleField "HomeCompiler$Nodes" "kinds") ∈ lw_all := lw_g (lw_at lw_m1 223 rfl) rfl
theorem q538 : (Jvm.Cond.lays "HomeCompiler$Nodes" "HomeCompiler$Nodes" "ops" "[I") ∈ lw_all := lw_g (lw_at lw_m1 224 rfl) rfl
theorem q539 : (Jvm.Cond.soleField "HomeCompiler$Nodes" "ops") ∈ lw_all := lw_g (lw_at lw_m1 225 rfl) rfl
theorem q540 : (Jvm.Cond.lays "HomeCompiler$Nodes" "HomeCompiler$Nodes" "values" "[I") ∈ lw_all := lw_g (lw_at lw_m1 226 rfl) rfl
theorem q541 : (Jvm.Cond.soleField "HomeCompiler$Nodes" "values") ∈ lw_all := lw_g (lw_at lw_m1 227 rfl) rfl
theorem q542 : (Jvm.Cond.lays "HomeCompiler$Nodes" "HomeCompiler$Nodes" "extras" "[I") ∈ lw_all := lw_g (lw_at lw_m1 228 rfl) rfl
theorem q543 : (Jvm.Cond.soleField "HomeCompiler$Nodes" "extras") ∈ lw_all := lw_g (lw_at lw_m1 229 rfl) rfl
theorem q544 : (Jvm.Cond.lays "HomeCompiler$Nodes" "HomeCompiler$Nodes" "places" "[I") ∈ lw_all := lw_g (lw_at lw_m1 230 rfl) rfl
theorem q545 : (Jvm.Cond.soleField "HomeCompiler$Nodes" "places") ∈ lw_all := lw_g (lw_at lw_m1 231 rfl) rfl
theorem q546 : (Jvm.Cond.lays "HomeCompiler$Nodes" "HomeCompiler$Nodes" "numbers" "[I") ∈ lw_all := lw_g (lw_at lw_m1 232 rfl) rfl
theorem q547 : (Jvm.Cond.soleField "HomeCompiler$Nodes" "numbers") ∈ lw_all := lw_g (lw_at lw_m1 233 rfl) rfl
theorem q548 : (Jvm.Cond.lays "HomeCompiler$Nodes" "HomeCompiler$Nodes" "depths" "[I") ∈ lw_all := lw_g (lw_at lw_m1 234 rfl) rfl
theorem q549 : (Jvm.Cond.soleField "HomeCompiler$Nodes" "depths") ∈ lw_all := lw_g (lw_at lw_m1 235 rfl) rfl
theorem q550 : (Jvm.Cond.lays "HomeCompiler$Nodes" "HomeCompiler$Nodes" "firsts" "[I") ∈ lw_all := lw_g (lw_at lw_m1 236 rfl) rfl
theorem q551 : (Jvm.Cond.soleField "HomeCompiler$Nodes" "firsts") ∈ lw_all := lw_g (lw_at lw_m1 237 rfl) rfl
theorem q552 : (Jvm.Cond.lays "HomeCompiler$Nodes" "HomeCompiler$Nodes" "lasts" "[I") ∈ lw_all := lw_g (lw_at lw_m1 238 rfl) rfl
theorem q553 : (Jvm.Cond.soleField "HomeCompiler$Nodes" "lasts") ∈ lw_all := lw_g (lw_at lw_m1 239 rfl) rfl
theorem q554 : (Jvm.Cond.lays "HomeCompiler$Nodes" "HomeCompiler$Nodes" "nexts" "[I") ∈ lw_all := lw_g (lw_at lw_m2 0 rfl) rfl
theorem q555 : (Jvm.Cond.soleField "HomeCompiler$Nodes" "nexts") ∈ lw_all := lw_g (lw_at lw_m2 1 rfl) rfl
theorem q556 : (Jvm.Cond.lays "HomeCompiler$Nodes" "HomeCompiler$Nodes" "count" "I") ∈ lw_all := lw_g (lw_at lw_m2 2 rfl) rfl
theorem q557 : (Jvm.Cond.soleField "HomeCompiler$Nodes" "count") ∈ lw_all := lw_g (lw_at lw_m2 3 rfl) rfl
theorem q558 : (Jvm.Cond.superclass "HomeCompiler$Nodes" "java/lang/Object") ∈ lw_all := lw_g (lw_at lw_m2 4 rfl) rfl
theorem q1052 : (Jvm.Cond.instanceMethod ({ cls := "HomeCompiler$Nodes", name := "clear", desc := "()V" } : Jvm.MethodName)) ∈ lw_all := lw_g (lw_at lw_m4 18 rfl) rfl
theorem q1053 : (Jvm.Cond.selects "HomeCompiler$Nodes" ({ cls := "HomeCompiler$Nodes", name := "clear", desc := "()V" } : Jvm.MethodName) ({ cls := "HomeCompiler$Nodes", name := "clear", desc := "()V" } : Jvm.MethodName)) ∈ lw_all := lw_g (lw_at lw_m4 19 rfl) rfl
theorem q1054 : (Jvm.Cond.code ({ cls := "HomeCompiler$Nodes", name := "clear", desc := "()V" } : Jvm.MethodName) prog_13_method_2_code (1 : Nat) (Option.none : Option Jvm.ClassFile.FieldType)) ∈ lw_all := lw_g (lw_at lw_m4 20 rfl) rfl
theorem q1231 : (Jvm.Cond.instanceMethod ({ cls := "HomeCompiler$Nodes", name := "make", desc := "(IIII)I" } : Jvm.MethodName)) ∈ lw_all := lw_g (lw_at lw_m4 197 rfl) rfl
theorem q1232 : (Jvm.Cond.selects "HomeCompiler$Nodes" ({ cls := "HomeCompiler$Nodes", name := "make", desc := "(IIII)I" } : Jvm.MethodName) ({ cls := "HomeCompiler$Nodes", name := "make", desc := "(IIII)I" } : Jvm.MethodName)) ∈ lw_all := lw_g (lw_at lw_m4 198 rfl) rfl
theorem q1233 : (Jvm.Cond.code ({ cls := "HomeCompiler$Nodes", name := "make", desc := "(IIII)I" } : Jvm.MethodName) prog_13_method_5_code (5 : Nat) (Option.some Jvm.ClassFile.FieldType.int)) ∈ lw_all := lw_g (lw_at lw_m4 199 rfl) rfl
theorem q1234 : (Jvm.Cond.methodLink "HomeCompiler$Nodes" (56 : Nat) ({ cls := "HomeCompiler$Nodes", name := "grow", desc := "()V" } : Jvm.MethodName)) ∈ lw_all := lw_g (lw_at lw_m4 200 rfl) rfl
theorem q1235 : (Jvm.Cond.privateMethod ({ cls := "HomeCompiler$Nodes", name := "grow", desc := "()V" } : Jvm.MethodName)) ∈ lw_tbl := lw_at lw_m4 201 rfl
theorem q1236 : (Jvm.Cond.instanceMethod ({ cls := "HomeCompiler$Nodes", name := "grow", desc := "()V" } : Jvm.MethodName)) ∈ lw_all := lw_g (lw_at lw_m4 202 rfl) rfl
theorem q1237 : (Jvm.Cond.code ({ cls := "HomeCompiler$Nodes", name := "grow", desc := "()V" } : Jvm.MethodName) prog_13_method_4_code (1 : Nat) (Option.none : Option Jvm.ClassFile.FieldType)) ∈ lw_all := lw_g (lw_at lw_m4 203 rfl) rfl
theorem q1238 : (Jvm.Cond.methodLink "HomeCompiler$Nodes" (52 : Nat) ({ cls := "HomeCompiler$Nodes", name := "longer", desc := "([I)[I" } : Jvm.MethodName)) ∈ lw_all := lw_g (lw_at lw_m4 204 rfl) rfl
theorem q1239 : (Jvm.Cond.static ({ cls := "HomeCompiler$Nodes", name := "longer", desc := "([I)[I" } : Jvm.MethodName)) ∈ lw_all := lw_g (lw_at lw_m4 205 rfl) rfl
theorem q1240 : (Jvm.Cond.code ({ cls := "HomeCompiler$Nodes", name := "longer", desc := "([I)[I" } : Jvm.MethodName) prog_13_method_3_code (2 : Nat) (Option.some (Jvm.ClassFile.FieldType.array Jvm.ClassFile.FieldType.int))) ∈ lw_all := lw_g (lw_at lw_m4 206 rfl) rfl
theorem q1241 : (Jvm.Cond.methodLink "HomeCompiler$Nodes" (46 : Nat) ({ cls := "java/lang/System", name := "arraycopy", desc := "(Ljava/lang/Object;ILjava/lang/Object;II)V" } : Jvm.MethodName)) ∈ lw_all := lw_g (lw_at lw_m4 207 rfl) rfl
theorem q1369 : (Jvm.Cond.instanceMethod ({ cls := "HomeCompiler$Nodes", name := "kind", desc := "(I)I" } : Jvm.MethodName)) ∈ lw_all := lw_g (lw_at lw_m5 95 rfl) rfl
theorem q1370 : (Jvm.Cond.selects "HomeCompiler$Nodes" ({ cls := "HomeCompiler$Nodes", name := "kind", desc := "(I)I" } : Jvm.MethodName) ({ cls := "HomeCompiler$Nodes", name := "kind", desc := "(I)I" } : Jvm.MethodName)) ∈ lw_all := lw_g (lw_at lw_m5 96 rfl) rfl
theorem q1371 : (Jvm.Cond.code ({ cls := "HomeCompiler$Nodes", name := "kind", desc := "(I)I" } : Jvm.MethodName) prog_13_method_16_code (2 : Nat) (Option.some Jvm.ClassFile.FieldType.int)) ∈ lw_all := lw_g (lw_at lw_m5 97 rfl) rfl
theorem q1373 : (Jvm.Cond.instanceMethod ({ cls := "HomeCompiler$Nodes", name := "over", desc := "(III)I" } : Jvm.MethodName)) ∈ lw_all := lw_g (lw_at lw_m5 99 rfl) rfl
theorem q1374 : (Jvm.Cond.selects "HomeCompiler$Nodes" ({ cls := "HomeCompiler$Nodes", name := "over", desc := "(III)I" } : Jvm.MethodName) ({ cls := "HomeCompiler$Nodes", name := "over", desc := "(III)I" } : Jvm.MethodName)) ∈ lw_all := lw_g (lw_at lw_m5 100 rfl) rfl
theorem q1375 : (Jvm.Cond.code ({ cls := "HomeCompiler$Nodes", name := "over", desc := "(III)I" } : Jvm.MethodName) prog_13_method_6_code (5 : Nat) (Option.some Jvm.ClassFile.FieldType.int)) ∈ lw_all := lw_g (lw_at lw_m5 101 rfl) rfl
theorem q1376 : (Jvm.Cond.methodLink "HomeCompiler$Nodes" (59 : Nat) ({ cls := "HomeCompiler$Nodes", name := "make", desc := "(IIII)I" } : Jvm.MethodName)) ∈ lw_all := lw_g (lw_at lw_m5 102 rfl) rfl
theorem q1377 : (Jvm.Cond.methodLink "HomeCompiler$Nodes" (63 : Nat) ({ cls := "HomeCompiler$Nodes", name := "hang", desc := "(II)V" } : Jvm.MethodName)) ∈ lw_all := lw_g (lw_at lw_m5 103 rfl) rfl
theorem q1378 : (Jvm.Cond.instanceMethod ({ cls := "HomeCompiler$Nodes", name := "hang", desc := "(II)V" } : Jvm.MethodName)) ∈ lw_all := lw_g (lw_at lw_m5 104 rfl) rfl
theorem q1379 : (Jvm.Cond.selects "HomeCompiler$Nodes" ({ cls := "HomeCompiler$Nodes", name := "hang", desc := "(II)V" } : Jvm.MethodName) ({ cls := "HomeCompiler$Nodes", name := "hang", desc := "(II)V" } : Jvm.MethodName)) ∈ lw_all := lw_g (lw_at lw_m5 105 rfl) rfl
theorem q1380 : (Jvm.Cond.code ({ cls := "HomeCompiler$Nodes", name := "hang", desc := "(II)V" } : Jvm.MethodName) prog_13_method_7_code (4 : Nat) (Option.none : Option Jvm.ClassFile.FieldType)) ∈ lw_all := lw_g (lw_at lw_m5 106 rfl) rfl
theorem q1381 : (Jvm.Cond.methodLink "HomeCompiler$Nodes" (67 : Nat) ({ cls := "java/lang/Math", name := "max", desc := "(II)I" } : Jvm.MethodName)) ∈ lw_all := lw_g (lw_at lw_m5 107 rfl) rfl
theorem q1385 : (Jvm.Cond.instanceMethod ({ cls := "HomeCompiler$Nodes", name := "setPlace", desc := "(II)V" } : Jvm.MethodName)) ∈ lw_all := lw_g (lw_at lw_m5 111 rfl) rfl
theorem q1386 : (Jvm.Cond.selects "HomeCompiler$Nodes" ({ cls := "HomeCompiler$Nodes", name := "setPlace", desc := "(II)V" } : Jvm.MethodName) ({ cls := "HomeCompiler$Nodes", name := "setPlace", desc := "(II)V" } : Jvm.MethodName)) ∈ lw_all := lw_g (lw_at lw_m5 112 rfl) rfl
theorem q1387 : (Jvm.Cond.code ({ cls := "HomeCompiler$Nodes", name := "setPlace", desc := "(II)V" } : Jvm.MethodName) prog_13_method_15_code (3 : Nat) (Option.none : Option Jvm.ClassFile.FieldType)) ∈ lw_all := lw_g (lw_at lw_m5 113 rfl) rfl
theorem q1409 : (Jvm.Cond.instanceMethod ({ cls := "HomeCompiler$Nodes", name := "depth", desc := "(I)I" } : Jvm.MethodName)) ∈ lw_all := lw_g (lw_at lw_m5 135 rfl) rfl
theorem q1410 : (Jvm.Cond.selects "HomeCompiler$Nodes" ({ cls := "HomeCompiler$Nodes", name := "depth", desc := "(I)I" } : Jvm.MethodName) ({ cls := "HomeCompiler$Nodes", name := "depth", desc := "(I)I" } : Jvm.MethodName)) ∈ lw_all := lw_g (lw_at lw_m5 136 rfl) rfl
theorem q1411 : (Jvm.Cond.code ({ cls := "HomeCompiler$Nodes", name := "depth", desc := "(I)I" } : Jvm.MethodName) prog_13_method_12_code (2 : Nat) (Option.some Jvm.ClassFile.FieldType.int)) ∈ lw_all := lw_g (lw_at lw_m5 137 rfl) rfl
theorem q1430 : (Jvm.Cond.instanceMethod ({ cls := "HomeCompiler$Nodes", name := "chain", desc := "(IIII)I" } : Jvm.MethodName)) ∈ lw_all := lw_g (lw_at lw_m5 156 rfl) rfl
theorem q1431 : (Jvm.Cond.selects "HomeCompiler$Nodes" ({ cls := "HomeCompiler$Nodes", name := "chain", desc := "(IIII)I" } : Jvm.MethodName) ({ cls := "HomeCompiler$Nodes", name := "chain", desc := "(IIII)I" } : Jvm.MethodName)) ∈ lw_all := lw_g (lw_at lw_m5 157 rfl) rfl
theorem q1432 : (Jvm.Cond.code ({ cls := "HomeCompiler$Nodes", name := "chain", desc := "(IIII)I" } : Jvm.MethodName) prog_13_method_8_code (8 : Nat) (Option.some Jvm.ClassFile.FieldType.int)) ∈ lw_all := lw_g (lw_at lw_m5 158 rfl) rfl
theorem q1433 : (Jvm.Cond.methodLink "HomeCompiler$Nodes" (73 : Nat) ({ cls := "HomeCompiler$Nodes", name := "over", desc := "(III)I" } : Jvm.MethodName)) ∈ lw_all := lw_g (lw_at lw_m5 159 rfl) rfl
theorem q1463 : (Jvm.Cond.instanceMethod ({ cls := "HomeCompiler$Nodes", name := "setExtra", desc := "(II)V" } : Jvm.MethodName)) ∈ lw_all := lw_g (lw_at lw_m5 189 rfl) rfl
theorem q1464 : (Jvm.Cond.selects "HomeCompiler$Nodes" ({ cls := "HomeCompiler$Nodes", name := "setExtra", desc := "(II)V" } : Jvm.MethodName) ({ cls := "HomeCompiler$Nodes", name := "setExtra", desc := "(II)V" } : Jvm.MethodName)) ∈ lw_all := lw_g (lw_at lw_m5 190 rfl) rfl
theorem q1465 : (Jvm.Cond.code ({ cls := "HomeCompiler$Nodes", name := "setExtra", desc := "(II)V" } : Jvm.MethodName) prog_13_method_11_code (3 : Nat) (Option.none : Option Jvm.ClassFile.FieldType)) ∈ lw_all := lw_g (lw_at lw_m5 191 rfl) rfl
theorem q1487 : (Jvm.Cond.instanceMethod ({ cls := "HomeCompiler$Nodes", name := "setOp", desc := "(II)V" } : Jvm.MethodName)) ∈ lw_all := lw_g (lw_at lw_m5 213 rfl) rfl
theorem q1488 : (Jvm.Cond.selects "HomeCompiler$Nodes" ({ cls := "HomeCompiler$Nodes", name := "setOp", desc := "(II)V" } : Jvm.MethodName) ({ cls := "HomeCompiler$Nodes", name := "setOp", desc := "(II)V" } : Jvm.MethodName)) ∈ lw_all := lw_g (lw_at lw_m5 214 rfl) rfl
theorem q1489 : (Jvm.Cond.code ({ cls := "HomeCompiler$Nodes", name := "setOp", desc := "(II)V" } : Jvm.MethodName) prog_13_method_9_code (3 : Nat) (Option.none : Option Jvm.ClassFile.FieldType)) ∈ lw_all := lw_g (lw_at lw_m5 215 rfl) rfl
theorem q1576 : (Jvm.Cond.instanceMethod ({ cls := "HomeCompiler$Nodes", name := "first", desc := "(I)I" } : Jvm.MethodName)) ∈ lw_all := lw_g (lw_at lw_m6 62 rfl) rfl
theorem q1577 : (Jvm.Cond.selects "HomeCompiler$Nodes" ({ cls := "HomeCompiler$Nodes", name := "first", desc := "(I)I" } : Jvm.MethodName) ({ cls := "HomeCompiler$Nodes", name := "first", desc := "(I)I" } : Jvm.MethodName)) ∈ lw_all := lw_g (lw_at lw_m6 63 rfl) rfl
theorem q1578 : (Jvm.Cond.code ({ cls := "HomeCompiler$Nodes", name := "first", desc := "(I)I" } : Jvm.MethodName) prog_13_method_21_code (2 : Nat) (Option.some Jvm.ClassFile.FieldType.int)) ∈ lw_all := lw_g (lw_at lw_m6 64 rfl) rfl
theorem q1586 : (Jvm.Cond.instanceMethod ({ cls := "HomeCompiler$Nodes", name := "value", desc := "(I)I" } : Jvm.MethodName)) ∈ lw_all := lw_g (lw_at lw_m6 72 rfl) rfl
theorem q1587 : (Jvm.Cond.selects "HomeCompiler$Nodes" ({ cls := "HomeCompiler$Nodes", name := "value", desc := "(I)I" } : Jvm.MethodName) ({ cls := "HomeCompiler$Nodes", name := "value", desc := "(I)I" } : Jvm.MethodName)) ∈ lw_all := lw_g (lw_at lw_m6 73 rfl) rfl
theorem q1588 : (Jvm.Cond.code ({ cls := "HomeCompiler$Nodes", name := "value", desc := "(I)I" } : Jvm.MethodName) prog_13_method_18_code (2 : Nat) (Option.some Jvm.ClassFile.FieldType.int)) ∈ lw_all := lw_g (lw_at lw_m6 74 rfl) rfl
theorem q1594 : (Jvm.Cond.instanceMethod ({ cls := "HomeCompiler$Nodes", name := "place", desc := "(I)I" } : Jvm.MethodName)) ∈ lw_all := lw_g (lw_at lw_m6 80 rfl) rfl
theorem q1595 : (Jvm.Cond.selects "HomeCompiler$Nodes" ({ cls := "HomeCompiler$Nodes", name := "place", desc := "(I)I" } : Jvm.MethodName) ({ cls := "HomeCompiler$Nodes", name := "place", desc := "(I)I" } : Jvm.MethodName)) ∈ lw_all := lw_g (lw_at lw_m6 81 rfl) rfl
theorem q1596 : (Jvm.Cond.code ({ cls := "HomeCompiler$Nodes", name := "place", desc := "(I)I" } : Jvm.MethodName) prog_13_method_20_code (2 : Nat) (Option.some Jvm.ClassFile.FieldType.int)) ∈ lw_all := lw_g (lw_at lw_m6 82 rfl) rfl
theorem q1603 : (Jvm.Cond.instanceMethod ({ cls := "HomeCompiler$Nodes", name := "next", desc := "(I)I" } : Jvm.MethodName)) ∈ lw_all := lw_g (lw_at lw_m6 89 rfl) rfl
theorem q1604 : (Jvm.Cond.selects "HomeCompiler$Nodes" ({ cls := "HomeCompiler$Nodes", name := "next", desc := "(I)I" } : Jvm.MethodName) ({ cls := "HomeCompiler$Nodes", name := "next", desc := "(I)I" } : Jvm.MethodName)) ∈ lw_all := lw_g (lw_at lw_m6 90 rfl) rfl
theorem q1605 : (Jvm.Cond.code ({ cls := "HomeCompiler$Nodes", name := "next", desc := "(I)I" } : Jvm.MethodName) prog_13_method_22_code (2 : Nat) (Option.some Jvm.ClassFile.FieldType.int)) ∈ lw_all := lw_g (lw_at lw_m6 91 rfl) rfl
theorem q1639 : (Jvm.Cond.instanceMethod ({ cls := "HomeCompiler$Nodes", name := "op", desc := "(I)I" } : Jvm.MethodName)) ∈ lw_all := lw_g (lw_at lw_m6 125 rfl) rfl
theorem q1640 : (Jvm.Cond.selects "HomeCompiler$Nodes" ({ cls := "HomeCompiler$Nodes", name := "op", desc := "(I)I" } : Jvm.MethodName) ({ cls := "HomeCompiler$Nodes", name := "op", desc := "(I)I" } : Jvm.MethodName)) ∈ lw_all := lw_g (lw_at lw_m6 126 rfl) rfl
theorem q1641 : (Jvm.Cond.code ({ cls := "HomeCompiler$Nodes", name := "op", desc := "(I)I" } : Jvm.MethodName) prog_13_method_17_code (2 : Nat) (Option.some Jvm.ClassFile.FieldType.int)) ∈ lw_all := lw_g (lw_at lw_m6 127 rfl) rfl
theorem q1647 : (Jvm.Cond.instanceMethod ({ cls := "HomeCompiler$Nodes", name := "setNumber", desc := "(II)V" } : Jvm.MethodName)) ∈ lw_all := lw_g (lw_at lw_m6 133 rfl) rfl
theorem q1648 : (Jvm.Cond.selects "HomeCompiler$Nodes" ({ cls := "HomeCompiler$Nodes", name := "setNumber", desc := "(II)V" } : Jvm.MethodName) ({ cls := "HomeCompiler$Nodes", name := "setNumber", desc := "(II)V" } : Jvm.MethodName)) ∈ lw_all := lw_g (lw_at lw_m6 134 rfl) rfl
theorem q1649 : (Jvm.Cond.code ({ cls := "HomeCompiler$Nodes", name := "setNumber", desc := "(II)V" } : Jvm.MethodName) prog_13_method_13_code (3 : Nat) (Option.none : Option Jvm.ClassFile.FieldType)) ∈ lw_all := lw_g (lw_at lw_m6 135 rfl) rfl
theorem q1675 : (Jvm.Cond.instanceMethod ({ cls := "HomeCompiler$Nodes", name := "children", desc := "(I)I" } : Jvm.MethodName)) ∈ lw_all := lw_g (lw_at lw_m6 161 rfl) rfl
theorem q1676 : (Jvm.Cond.selects "HomeCompiler$Nodes" ({ cls := "HomeCompiler$Nodes", name := "children", desc := "(I)I" } : Jvm.MethodName) ({ cls := "HomeCompiler$Nodes", name := "children", desc := "(I)I" } : Jvm.MethodName)) ∈ lw_all := lw_g (lw_at lw_m6 162 rfl) rfl
theorem q1677 : (Jvm.Cond.code ({ cls := "HomeCompiler$Nodes", name := "children", desc := "(I)I" } : Jvm.MethodName) prog_13_method_23_code (4 : Nat) (Option.some Jvm.ClassFile.FieldType.int)) ∈ lw_all := lw_g (lw_at lw_m6 163 rfl) rfl
theorem q1687 : (Jvm.Cond.instanceMethod ({ cls := "HomeCompiler$Nodes", name := "extra", desc := "(I)I" } : Jvm.MethodName)) ∈ lw_all := lw_g (lw_at lw_m6 173 rfl) rfl
theorem q1688 : (Jvm.Cond.selects "HomeCompiler$Nodes" ({ cls := "HomeCompiler$Nodes", name := "extra", desc := "(I)I" } : Jvm.MethodName) ({ cls := "HomeCompiler$Nodes", name := "extra", desc := "(I)I" } : Jvm.MethodName)) ∈ lw_all := lw_g (lw_at lw_m6 174 rfl) rfl
theorem q1689 : (Jvm.Cond.code ({ cls := "HomeCompiler$Nodes", name := "extra", desc := "(I)I" } : Jvm.MethodName) prog_13_method_19_code (2 : Nat) (Option.some Jvm.ClassFile.FieldType.int)) ∈ lw_all := lw_g (lw_at lw_m6 175 rfl) rfl
theorem q1723 : (Jvm.Cond.instanceMethod ({ cls := "HomeCompiler$Nodes", name := "setValue", desc := "(II)V" } : Jvm.MethodName)) ∈ lw_all := lw_g (lw_at lw_m6 209 rfl) rfl
theorem q1724 : (Jvm.Cond.selects "HomeCompiler$Nodes" ({ cls := "HomeCompiler$Nodes", name := "setValue", desc := "(II)V" } : Jvm.MethodName) ({ cls := "HomeCompiler$Nodes", name := "setValue", desc := "(II)V" } : Jvm.MethodName)) ∈ lw_all := lw_g (lw_at lw_m6 210 rfl) rfl
theorem q1725 : (Jvm.Cond.code ({ cls := "HomeCompiler$Nodes", name := "setValue", desc := "(II)V" } : Jvm.MethodName) prog_13_method_10_code (3 : Nat) (Option.none : Option Jvm.ClassFile.FieldType)) ∈ lw_all := lw_g (lw_at lw_m6 211 rfl) rfl
theorem q1970 : (Jvm.Cond.instanceMethod ({ cls := "HomeCompiler$Nodes", name := "number", desc := "(I)I" } : Jvm.MethodName)) ∈ lw_all := lw_g (lw_at lw_m7 216 rfl) rfl
theorem q1971 : (Jvm.Cond.selects "HomeCompiler$Nodes" ({ cls := "HomeCompiler$Nodes", name := "number", desc := "(I)I" } : Jvm.MethodName) ({ cls := "HomeCompiler$Nodes", name := "number", desc := "(I)I" } : Jvm.MethodName)) ∈ lw_all := lw_g (lw_at lw_m7 217 rfl) rfl
theorem q1972 : (Jvm.Cond.code ({ cls := "HomeCompiler$Nodes", name := "number", desc := "(I)I" } : Jvm.MethodName) prog_13_method_14_code (2 : Nat) (Option.some Jvm.ClassFile.FieldType.int)) ∈ lw_all := lw_g (lw_at lw_m7 218 rfl) rfl
theorem in_X6 : ∀ w ∈ wsX60, w ∈ lw_all := lw_in wsX60 [536, 538, 540, 542, 544, 546, 548, 550, 552, 554, 556] (by decide +kernel) (by decide +kernel)
/-! X7.HomeCompiler_Reader.lean.txt -/
def RX7 : String := "HomeCompiler$Reader"
def TX7 : u_T := fun k => match k with
  | 0 => ("HomeCompiler$Reader", "scan", "LHomeCompiler$Scanner;", true)
  | 1 => ("HomeCompiler$Reader", "nodes", "LHomeCompiler$Nodes;", true)
  | 2 => ("HomeCompiler$Reader", "open", "I", false)
  | 3 => ("HomeCompiler$Reader", "operands", "[I", true)
  | 4 => ("HomeCompiler$Reader", "operators", "[I", true)
  | _ => ("HomeCompiler$Reader", "waiting", "I", false)
def tyX7 : Nat → FieldType := fun k => match k with
  | 0 => .object "HomeCompiler$Scanner"
  | 1 => .object "HomeCompiler$Nodes"
  | 2 => .int
  | 3 => .array .int
  | 4 => .array .int
  | _ => .int
abbrev wsX70 : List Cond := u_ws RX7 TX7 6
theorem nmX7 : ∀ a, a < 6 → ∀ b, b < 6 → a ≠ b → (TX7 a).2.1 ≠ (TX7 b).2.1 := by decide +kernel
theorem tyX7_ok : ∀ k, k < 6 → parseFieldDescriptor (TX7 k).2.2.1 = some (tyX7 k) := by decide +kernel
abbrev cX7_init : ByteArray := prog_15_method_1_code
def yX7_init : MethodName := ⟨RX7, "<init>", "(LHomeCompiler$Scanner;LHomeCompiler$Nodes;)V"⟩
abbrev cX7_read : ByteArray := prog_15_method_13_code
def yX7_read : MethodName := ⟨RX7, "read", "()I"⟩
abbrev cX7_is : ByteArray := prog_15_method_3_code
def yX7_is : MethodName := ⟨RX7, "is", "(I)Z"⟩
abbrev cX7_isWord : ByteArray := prog_15_method_4_code
def yX7_isWord : MethodName := ⟨RX7, "isWord", "(I)Z"⟩
abbrev cX7_enumeration : ByteArray := prog_15_method_15_code
def yX7_enumeration : MethodName := ⟨RX7, "enumeration", "()I"⟩
abbrev cX7_bracket : ByteArray := prog_15_method_10_code
def yX7_bracket : MethodName := ⟨RX7, "bracket", "(I)V"⟩
abbrev cX7_need : ByteArray := prog_15_method_2_code
def yX7_need : MethodName := ⟨RX7, "need", "(Z)V"⟩
abbrev cX7_opens : ByteArray := prog_15_method_8_code
def yX7_opens : MethodName := ⟨RX7, "opens", "()V"⟩
abbrev cX7_name : ByteArray := prog_15_method_12_code
def yX7_name : MethodName := ⟨RX7, "name", "()I"⟩
abbrev cX7_takes : ByteArray := prog_15_method_5_code
def yX7_takes : MethodName := ⟨RX7, "takes", "(I)Z"⟩
abbrev cX7_constant : ByteArray := prog_15_method_14_code
def yX7_constant : MethodName := ⟨RX7, "constant", "()I"⟩
abbrev cX7_choice : ByteArray := prog_15_method_37_code
def yX7_choice : MethodName := ⟨RX7, "choice", "()I"⟩
abbrev cX7_operand : ByteArray := prog_15_method_43_code
def yX7_operand : MethodName := ⟨RX7, "operand", "()I"⟩
abbrev cX7_isUnary : ByteArray := prog_15_method_42_code
def yX7_isUnary : MethodName := ⟨RX7, "isUnary", "()Z"⟩
abbrev cX7_primary : ByteArray := prog_15_method_44_code
def yX7_primary : MethodName := ⟨RX7, "primary", "()I"⟩
abbrev cX7_expression : ByteArray := prog_15_method_36_code
def yX7_expression : MethodName := ⟨RX7, "expression", "()I"⟩
abbrev cX7_isSet : ByteArray := prog_15_method_35_code
def yX7_isSet : MethodName := ⟨RX7, "isSet", "()Z"⟩
abbrev cX7_shallow : ByteArray := prog_15_method_9_code
def yX7_shallow : MethodName := ⟨RX7, "shallow", "(I)V"⟩
abbrev cX7_choiceBehind : ByteArray := prog_15_method_38_code
def yX7_choiceBehind : MethodName := ⟨RX7, "choiceBehind", "(III)I"⟩
abbrev cX7_operation : ByteArray := prog_15_method_40_code
def yX7_operation : MethodName := ⟨RX7, "operation", "(II)I"⟩
abbrev cX7_rank : ByteArray := prog_15_method_39_code
def yX7_rank : MethodName := ⟨RX7, "rank", "(I)I"⟩
abbrev cX7_settle : ByteArray := prog_15_method_41_code
def yX7_settle : MethodName := ⟨RX7, "settle", "(II)V"⟩
abbrev cX7_take : ByteArray := prog_15_method_7_code
def yX7_take : MethodName := ⟨RX7, "take", "(I)V"⟩
abbrev cX7_closes : ByteArray := prog_15_method_11_code
def yX7_closes : MethodName := ⟨RX7, "closes", "(I)V"⟩
abbrev cX7_call : ByteArray := prog_15_method_45_code
def yX7_call : MethodName := ⟨RX7, "call", "(II)I"⟩
abbrev cX7_declaration : ByteArray := prog_15_method_16_code
def yX7_declaration : MethodName := ⟨RX7, "declaration", "()I"⟩
abbrev cX7_function : ByteArray := prog_15_method_17_code
def yX7_function : MethodName := ⟨RX7, "function", "(III)I"⟩
abbrev cX7_takesWord : ByteArray := prog_15_method_6_code
def yX7_takesWord : MethodName := ⟨RX7, "takesWord", "(I)Z"⟩
abbrev cX7_parameter : ByteArray := prog_15_method_18_code
def yX7_parameter : MethodName := ⟨RX7, "parameter", "()I"⟩
abbrev cX7_block : ByteArray := prog_15_method_22_code
def yX7_block : MethodName := ⟨RX7, "block", "()I"⟩
abbrev cX7_statement : ByteArray := prog_15_method_25_code
def yX7_statement : MethodName := ⟨RX7, "statement", "()I"⟩
abbrev cX7_isDeclaration : ByteArray := prog_15_method_23_code
def yX7_isDeclaration : MethodName := ⟨RX7, "isDeclaration", "()Z"⟩
abbrev cX7_variables : ByteArray := prog_15_method_24_code
def yX7_variables : MethodName := ⟨RX7, "variables", "()I"⟩
abbrev cX7_variable : ByteArray := prog_15_method_19_code
def yX7_variable : MethodName := ⟨RX7, "variable", "(II)I"⟩
abbrev cX7_string : ByteArray := prog_15_method_20_code
def yX7_string : MethodName := ⟨RX7, "string", "()I"⟩
abbrev cX7_list : ByteArray := prog_15_method_21_code
def yX7_list : MethodName := ⟨RX7, "list", "()I"⟩
abbrev cX7_choosing : ByteArray := prog_15_method_28_code
def yX7_choosing : MethodName := ⟨RX7, "choosing", "(I)I"⟩
abbrev cX7_condition : ByteArray := prog_15_method_27_code
def yX7_condition : MethodName := ⟨RX7, "condition", "()I"⟩
abbrev cX7_looping : ByteArray := prog_15_method_29_code
def yX7_looping : MethodName := ⟨RX7, "looping", "(I)I"⟩
abbrev cX7_doing : ByteArray := prog_15_method_30_code
def yX7_doing : MethodName := ⟨RX7, "doing", "(I)I"⟩
abbrev cX7_counting : ByteArray := prog_15_method_32_code
def yX7_counting : MethodName := ⟨RX7, "counting", "(I)I"⟩
abbrev cX7_empty : ByteArray := prog_15_method_31_code
def yX7_empty : MethodName := ⟨RX7, "empty", "()I"⟩
abbrev cX7_switching : ByteArray := prog_15_method_33_code
def yX7_switching : MethodName := ⟨RX7, "switching", "(I)I"⟩
abbrev cX7_part : ByteArray := prog_15_method_34_code
def yX7_part : MethodName := ⟨RX7, "part", "()I"⟩
abbrev cX7_returning : ByteArray := prog_15_method_26_code
def yX7_returning : MethodName := ⟨RX7, "returning", "(I)I"⟩
theorem q321 : (Jvm.Cond.initialized "HomeCompiler$Reader") ∈ lw_all := lw_g (lw_at lw_m1 7 rfl) rfl
theorem q560 : (Jvm.Cond.instantiable "HomeCompiler$Reader" (6 : Nat)) ∈ lw_all := lw_g (lw_at lw_m2 6 rfl) rfl
theorem q562 : (Jvm.Cond.instanceMethod ({ cls := "HomeCompiler$Reader", name := "<init>", desc := "(LHomeCompiler$Scanner;LHomeCompiler$Nodes;)V" } : Jvm.MethodName)) ∈ lw_all := lw_g (lw_at lw_m2 8 rfl) rfl
theorem q563 : (Jvm.Cond.code ({ cls := "HomeCompiler$Reader", name := "<init>", desc := "(LHomeCompiler$Scanner;LHomeCompiler$Nodes;)V" } : Jvm.MethodName) prog_15_method_1_code (3 : Nat) (Option.none : Option Jvm.ClassFile.FieldType)) ∈ lw_all := lw_g (lw_at lw_m2 9 rfl) rfl
theorem q564 : (Jvm.Cond.methodLink "HomeCompiler$Reader" (1 : Nat) ({ cls := "java/lang/Object", name := "<init>", desc := "()V" } : Jvm.MethodName)) ∈ lw_all := lw_g (lw_at lw_m2 10 rfl) rfl
theorem q565 : (Jvm.Cond.fieldLink "HomeCompiler$Reader" (16 : Nat) "HomeCompiler$Reader" "scan" "LHomeCompiler$Scanner;") ∈ lw_all := lw_g (lw_at lw_m2 11 rfl) rfl
theorem q566 : (Jvm.Cond.fieldLink "HomeCompiler$Reader" (20 : Nat) "HomeCompiler$Reader" "nodes" "LHomeCompiler$Nodes;") ∈ lw_all := lw_g (lw_at lw_m2 12 rfl) rfl
theorem q567 : (Jvm.Cond.fieldLink "HomeCompiler$Reader" (47 : Nat) "HomeCompiler$Reader" "open" "I") ∈ lw_all := lw_g (lw_at lw_m2 13 rfl) rfl
theorem q568 : (Jvm.Cond.fieldLink "HomeCompiler$Reader" (9 : Nat) "HomeCompiler$Reader" "operands" "[I") ∈ lw_all := lw_g (lw_at lw_m2 14 rfl) rfl
theorem q569 : (Jvm.Cond.fieldLink "HomeCompiler$Reader" (13 : Nat) "HomeCompiler$Reader" "operators" "[I") ∈ lw_all := lw_g (lw_at lw_m2 15 rfl) rfl
theorem q570 : (Jvm.Cond.fieldLink "HomeCompiler$Reader" (67 : Nat) "HomeCompiler$Reader" "waiting" "I") ∈ lw_all := lw_g (lw_at lw_m2 16 rfl) rfl
theorem q571 : (Jvm.Cond.laysFinal "HomeCompiler$Reader" "HomeCompiler$Reader" "scan" "LHomeCompiler$Scanner;") ∈ lw_all := lw_g (lw_at lw_m2 17 rfl) rfl
theorem q572 : (Jvm.Cond.soleField "HomeCompiler$Reader" "scan") ∈ lw_all := lw_g (lw_at lw_m2 18 rfl) rfl
theorem q573 : (Jvm.Cond.laysFinal "HomeCompiler$Reader" "HomeCompiler$Reader" "nodes" "LHomeCompiler$Nodes;") ∈ lw_all := lw_g (lw_at lw_m2 19 rfl) rfl
theorem q574 : (Jvm.Cond.soleField "HomeCompiler$Reader" "nodes") ∈ lw_all := lw_g (lw_at lw_m2 20 rfl) rfl
theorem q575 : (Jvm.Cond.lays "HomeCompiler$Reader" "HomeCompiler$Reader" "open" "I") ∈ lw_all := lw_g (lw_at lw_m2 21 rfl) rfl
theorem q576 : (Jvm.Cond.soleField "HomeCompiler$Reader" "open") ∈ lw_all := lw_g (lw_at lw_m2 22 rfl) rfl
theorem q577 : (Jvm.Cond.laysFinal "HomeCompiler$Reader" "HomeCompiler$Reader" "operands" "[I") ∈ lw_all := lw_g (lw_at lw_m2 23 rfl) rfl
theorem q578 : (Jvm.Cond.soleField "HomeCompiler$Reader" "operands") ∈ lw_all := lw_g (lw_at lw_m2 24 rfl) rfl
theorem q579 : (Jvm.Cond.laysFinal "HomeCompiler$Reader" "HomeCompiler$Reader" "operators" "[I") ∈ lw_all := lw_g (lw_at lw_m2 25 rfl) rfl
theorem q580 : (Jvm.Cond.soleField "HomeCompiler$Reader" "operators") ∈ lw_all := lw_g (lw_at lw_m2 26 rfl) rfl
theorem q581 : (Jvm.Cond.lays "HomeCompiler$Reader" "HomeCompiler$Reader" "waiting" "I") ∈ lw_all := lw_g (lw_at lw_m2 27 rfl) rfl
theorem q582 : (Jvm.Cond.soleField "HomeCompiler$Reader" "waiting") ∈ lw_all := lw_g (lw_at lw_m2 28 rfl) rfl
theorem q583 : (Jvm.Cond.superclass "HomeCompiler$Reader" "java/lang/Object") ∈ lw_all := lw_g (lw_at lw_m2 29 rfl) rfl
theorem q1227 : (Jvm.Cond.instanceMethod ({ cls := "HomeCompiler$Reader", name := "read", desc := "()I" } : Jvm.MethodName)) ∈ lw_all := lw_g (lw_at lw_m4 193 rfl) rfl
theorem q1228 : (Jvm.Cond.selects "HomeCompiler$Reader" ({ cls := "HomeCompiler$Reader", name := "read", desc := "()I" } : Jvm.MethodName) ({ cls := "HomeCompiler$Reader", name := "read", desc := "()I" } : Jvm.MethodName)) ∈ lw_all := lw_g (lw_at lw_m4 194 rfl) rfl
theorem q1229 : (Jvm.Cond.code ({ cls := "HomeCompiler$Reader", name := "read", desc := "()I" } : Jvm.MethodName) prog_15_method_13_code (2 : Nat) (Option.some Jvm.ClassFile.FieldType.int)) ∈ lw_all := lw_g (lw_at lw_m4 195 rfl) rfl
theorem q1230 : (Jvm.Cond.methodLink "HomeCompiler$Reader" (70 : Nat) ({ cls := "HomeCompiler$Nodes", name := "make", desc := "(IIII)I" } : Jvm.MethodName)) ∈ lw_all := lw_g (lw_at lw_m4 196 rfl) rfl
theorem q1242 : (Jvm.Cond.methodLink "HomeCompiler$Reader" (33 : Nat) ({ cls := "HomeCompiler$Reader", name := "is", desc := "(I)Z" } : Jvm.MethodName)) ∈ lw_all := lw_g (lw_at lw_m4 208 rfl) rfl
theorem q1243 : (Jvm.Cond.privateMethod ({ cls := "HomeCompiler$Reader", name := "is", desc := "(I)Z" } : Jvm.MethodName)) ∈ lw_tbl := lw_at lw_m4 209 rfl
theorem q1244 : (Jvm.Cond.instanceMethod ({ cls := "HomeCompiler$Reader", name := "is", desc := "(I)Z" } : Jvm.MethodName)) ∈ lw_all := lw_g (lw_at lw_m4 210 rfl) rfl
theorem q1245 : (Jvm.Cond.code ({ cls := "HomeCompiler$Reader", name := "is", desc := "(I)Z" } : Jvm.MethodName) prog_15_method_3_code (2 : Nat) (Option.some Jvm.ClassFile.FieldType.boolean)) ∈ lw_all := lw_g (lw_at lw_m4 211 rfl) rfl
theorem q1246 : (Jvm.Cond.methodLink "HomeCompiler$Reader" (27 : Nat) ({ cls := "HomeCompiler$Scanner", name := "token", desc := "()I" } : Jvm.MethodName)) ∈ lw_all := lw_g (lw_at lw_m4 212 rfl) rfl
theorem q1250 : (Jvm.Cond.methodLink "HomeCompiler$Reader" (76 : Nat) ({ cls := "HomeCompiler$Reader", name := "isWord", desc := "(I)Z" } : Jvm.MethodName)) ∈ lw_all := lw_g (lw_at lw_m4 216 rfl) rfl
theorem q1251 : (Jvm.Cond.privateMethod ({ cls := "HomeCompiler$Reader", name := "isWord", desc := "(I)Z" } : Jvm.MethodName)) ∈ lw_tbl := lw_at lw_m4 217 rfl
theorem q1252 : (Jvm.Cond.instanceMethod ({ cls := "HomeCompiler$Reader", name := "isWord", desc := "(I)Z" } : Jvm.MethodName)) ∈ lw_all := lw_g (lw_at lw_m4 218 rfl) rfl
theorem q1253 : (Jvm.Cond.code ({ cls := "HomeCompiler$Reader", name := "isWord", desc := "(I)Z" } : Jvm.MethodName) prog_15_method_4_code (2 : Nat) (Option.some Jvm.ClassFile.FieldType.boolean)) ∈ lw_all := lw_g (lw_at lw_m4 219 rfl) rfl
theorem q1254 : (Jvm.Cond.methodLink "HomeCompiler$Reader" (79 : Nat) ({ cls := "HomeCompiler$Reader", name := "enumeration", desc := "()I" } : Jvm.MethodName)) ∈ lw_all := lw_g (lw_at lw_m4 220 rfl) rfl
theorem q1255 : (Jvm.Cond.privateMethod ({ cls := "HomeCompiler$Reader", name := "enumeration", desc := "()I" } : Jvm.MethodName)) ∈ lw_tbl := lw_at lw_m4 221 rfl
theorem q1256 : (Jvm.Cond.instanceMethod ({ cls := "HomeCompiler$Reader", name := "enumeration", desc := "()I" } : Jvm.MethodName)) ∈ lw_all := lw_g (lw_at lw_m4 222 rfl) rfl
theorem q1257 : (Jvm.Cond.code ({ cls := "HomeCompiler$Reader", name := "enumeration", desc := "()I" } : Jvm.MethodName) prog_15_method_15_code (5 : Nat) (Option.some Jvm.ClassFile.FieldType.int)) ∈ lw_all := lw_g (lw_at lw_m4 223 rfl) rfl
theorem q1258 : (Jvm.Cond.methodLink "HomeCompiler$Reader" (89 : Nat) ({ cls := "HomeCompiler$Scanner", name := "start", desc := "()I" } : Jvm.MethodName)) ∈ lw_all := lw_g (lw_at lw_m4 224 rfl) rfl
theorem q1262 : (Jvm.Cond.methodLink "HomeCompiler$Reader" (37 : Nat) ({ cls := "HomeCompiler$Scanner", name := "next", desc := "()V" } : Jvm.MethodName)) ∈ lw_all := lw_g (lw_at lw_m4 228 rfl) rfl
theorem q1263 : (Jvm.Cond.methodLink "HomeCompiler$Reader" (102 : Nat) ({ cls := "HomeCompiler$Reader", name := "bracket", desc := "(I)V" } : Jvm.MethodName)) ∈ lw_all := lw_g (lw_at lw_m4 229 rfl) rfl
theorem q1264 : (Jvm.Cond.privateMethod ({ cls := "HomeCompiler$Reader", name := "bracket", desc := "(I)V" } : Jvm.MethodName)) ∈ lw_tbl := lw_at lw_m4 230 rfl
theorem q1265 : (Jvm.Cond.instanceMethod ({ cls := "HomeCompiler$Reader", name := "bracket", desc := "(I)V" } : Jvm.MethodName)) ∈ lw_all := lw_g (lw_at lw_m4 231 rfl) rfl
theorem q1266 : (Jvm.Cond.code ({ cls := "HomeCompiler$Reader", name := "bracket", desc := "(I)V" } : Jvm.MethodName) prog_15_method_10_code (2 : Nat) (Option.none : Option Jvm.ClassFile.FieldType)) ∈ lw_all := lw_g (lw_at lw_m4 232 rfl) rfl
theorem q1267 : (Jvm.Cond.methodLink "HomeCompiler$Reader" (43 : Nat) ({ cls := "HomeCompiler$Reader", name := "need", desc := "(Z)V" } : Jvm.MethodName)) ∈ lw_all := lw_g (lw_at lw_m4 233 rfl) rfl
theorem q1268 : (Jvm.Cond.static ({ cls := "HomeCompiler$Reader", name := "need", desc := "(Z)V" } : Jvm.MethodName)) ∈ lw_all := lw_g (lw_at lw_m4 234 rfl) rfl
theorem q1269 : (Jvm.Cond.code ({ cls := "HomeCompiler$Reader", name := "need", desc := "(Z)V" } : Jvm.MethodName) prog_15_method_2_code (1 : Nat) (Option.none : Option Jvm.ClassFile.FieldType)) ∈ lw_all := lw_g (lw_at lw_m4 235 rfl) rfl
theorem q1270 : (Jvm.Cond.classLink "HomeCompiler$Reader" (24 : Nat) "java/lang/IllegalArgumentException") ∈ lw_all := lw_g (lw_at lw_m4 236 rfl) rfl
theorem q1313 : (Jvm.Cond.methodLink "HomeCompiler$Reader" (26 : Nat) ({ cls := "java/lang/IllegalArgumentException", name := "<init>", desc := "()V" } : Jvm.MethodName)) ∈ lw_all := lw_g (lw_at lw_m5 39 rfl) rfl
theorem q1336 : (Jvm.Cond.methodLink "HomeCompiler$Reader" (57 : Nat) ({ cls := "HomeCompiler$Reader", name := "opens", desc := "()V" } : Jvm.MethodName)) ∈ lw_all := lw_g (lw_at lw_m5 62 rfl) rfl
theorem q1337 : (Jvm.Cond.privateMethod ({ cls := "HomeCompiler$Reader", name := "opens", desc := "()V" } : Jvm.MethodName)) ∈ lw_tbl := lw_at lw_m5 63 rfl
theorem q1338 : (Jvm.Cond.instanceMethod ({ cls := "HomeCompiler$Reader", name := "opens", desc := "()V" } : Jvm.MethodName)) ∈ lw_all := lw_g (lw_at lw_m5 64 rfl) rfl
theorem q1339 : (Jvm.Cond.code ({ cls := "HomeCompiler$Reader", name := "opens", desc := "()V" } : Jvm.MethodName) prog_15_method_8_code (1 : Nat) (Option.none : Option Jvm.ClassFile.FieldType)) ∈ lw_all := lw_g (lw_at lw_m5 65 rfl) rfl
theorem q1340 : (Jvm.Cond.methodLink "HomeCompiler$Reader" (105 : Nat) ({ cls := "HomeCompiler$Reader", name := "name", desc := "()I" } : Jvm.MethodName)) ∈ lw_all := lw_g (lw_at lw_m5 66 rfl) rfl
theorem q1341 : (Jvm.Cond.privateMethod ({ cls := "HomeCompiler$Reader", name := "name", desc := "()I" } : Jvm.MethodName)) ∈ lw_tbl := lw_at lw_m5 67 rfl
theorem q1342 : (Jvm.Cond.instanceMethod ({ cls := "HomeCompiler$Reader", name := "name", desc := "()I" } : Jvm.MethodName)) ∈ lw_all := lw_g (lw_at lw_m5 68 rfl) rfl
theorem q1343 : (Jvm.Cond.code ({ cls := "HomeCompiler$Reader", name := "name", desc := "()I" } : Jvm.MethodName) prog_15_method_12_code (2 : Nat) (Option.some Jvm.ClassFile.FieldType.int)) ∈ lw_all := lw_g (lw_at lw_m5 69 rfl) rfl
theorem q1344 : (Jvm.Cond.methodLink "HomeCompiler$Reader" (64 : Nat) ({ cls := "HomeCompiler$Scanner", name := "name", desc := "()I" } : Jvm.MethodName)) ∈ lw_all := lw_g (lw_at lw_m5 70 rfl) rfl
theorem q1348 : (Jvm.Cond.methodLink "HomeCompiler$Reader" (40 : Nat) ({ cls := "HomeCompiler$Reader", name := "takes", desc := "(I)Z" } : Jvm.MethodName)) ∈ lw_all := lw_g (lw_at lw_m5 74 rfl) rfl
theorem q1349 : (Jvm.Cond.privateMethod ({ cls := "HomeCompiler$Reader", name := "takes", desc := "(I)Z" } : Jvm.MethodName)) ∈ lw_tbl := lw_at lw_m5 75 rfl
theorem q1350 : (Jvm.Cond.instanceMethod ({ cls := "HomeCompiler$Reader", name := "takes", desc := "(I)Z" } : Jvm.MethodName)) ∈ lw_all := lw_g (lw_at lw_m5 76 rfl) rfl
theorem q1351 : (Jvm.Cond.code ({ cls := "HomeCompiler$Reader", name := "takes", desc := "(I)Z" } : Jvm.MethodName) prog_15_method_5_code (3 : Nat) (Option.some Jvm.ClassFile.FieldType.boolean)) ∈ lw_all := lw_g (lw_at lw_m5 77 rfl) rfl
theorem q1352 : (Jvm.Cond.methodLink "HomeCompiler$Reader" (106 : Nat) ({ cls := "HomeCompiler$Reader", name := "constant", desc := "()I" } : Jvm.MethodName)) ∈ lw_all := lw_g (lw_at lw_m5 78 rfl) rfl
theorem q1353 : (Jvm.Cond.privateMethod ({ cls := "HomeCompiler$Reader", name := "constant", desc := "()I" } : Jvm.MethodName)) ∈ lw_tbl := lw_at lw_m5 79 rfl
theorem q1354 : (Jvm.Cond.instanceMethod ({ cls := "HomeCompiler$Reader", name := "constant", desc := "()I" } : Jvm.MethodName)) ∈ lw_all := lw_g (lw_at lw_m5 80 rfl) rfl
theorem q1355 : (Jvm.Cond.code ({ cls := "HomeCompiler$Reader", name := "constant", desc := "()I" } : Jvm.MethodName) prog_15_method_14_code (3 : Nat) (Option.some Jvm.ClassFile.FieldType.int)) ∈ lw_all := lw_g (lw_at lw_m5 81 rfl) rfl
theorem q1356 : (Jvm.Cond.methodLink "HomeCompiler$Reader" (92 : Nat) ({ cls := "HomeCompiler$Reader", name := "choice", desc := "()I" } : Jvm.MethodName)) ∈ lw_all := lw_g (lw_at lw_m5 82 rfl) rfl
theorem q1357 : (Jvm.Cond.privateMethod ({ cls := "HomeCompiler$Reader", name := "choice", desc := "()I" } : Jvm.MethodName)) ∈ lw_tbl := lw_at lw_m5 83 rfl
theorem q1358 : (Jvm.Cond.instanceMethod ({ cls := "HomeCompiler$Reader", name := "choice", desc := "()I" } : Jvm.MethodName)) ∈ lw_all := lw_g (lw_at lw_m5 84 rfl) rfl
theorem q1359 : (Jvm.Cond.code ({ cls := "HomeCompiler$Reader", name := "choice", desc := "()I" } : Jvm.MethodName) prog_15_method_37_code (3 : Nat) (Option.some Jvm.ClassFile.FieldType.int)) ∈ lw_all := lw_g (lw_at lw_m5 85 rfl) rfl
theorem q1360 : (Jvm.Cond.methodLink "HomeCompiler$Reader" (184 : Nat) ({ cls := "HomeCompiler$Reader", name := "operand", desc := "()I" } : Jvm.MethodName)) ∈ lw_all := lw_g (lw_at lw_m5 86 rfl) rfl
theorem q1361 : (Jvm.Cond.privateMethod ({ cls := "HomeCompiler$Reader", name := "operand", desc := "()I" } : Jvm.MethodName)) ∈ lw_tbl := lw_at lw_m5 87 rfl
theorem q1362 : (Jvm.Cond.instanceMethod ({ cls := "HomeCompiler$Reader", name := "operand", desc := "()I" } : Jvm.MethodName)) ∈ lw_all := lw_g (lw_at lw_m5 88 rfl) rfl
theorem q1363 : (Jvm.Cond.code ({ cls := "HomeCompiler$Reader", name := "operand", desc := "()I" } : Jvm.MethodName) prog_15_method_43_code (8 : Nat) (Option.some Jvm.ClassFile.FieldType.int)) ∈ lw_all := lw_g (lw_at lw_m5 89 rfl) rfl
theorem q1364 : (Jvm.Cond.methodLink "HomeCompiler$Reader" (208 : Nat) ({ cls := "HomeCompiler$Reader", name := "isUnary", desc := "()Z" } : Jvm.MethodName)) ∈ lw_all := lw_g (lw_at lw_m5 90 rfl) rfl
theorem q1365 : (Jvm.Cond.privateMethod ({ cls := "HomeCompiler$Reader", name := "isUnary", desc := "()Z" } : Jvm.MethodName)) ∈ lw_tbl := lw_at lw_m5 91 rfl
theorem q1366 : (Jvm.Cond.instanceMethod ({ cls := "HomeCompiler$Reader", name := "isUnary", desc := "()Z" } : Jvm.MethodName)) ∈ lw_all := lw_g (lw_at lw_m5 92 rfl) rfl
theorem q1367 : (Jvm.Cond.code ({ cls := "HomeCompiler$Reader", name := "isUnary", desc := "()Z" } : Jvm.MethodName) prog_15_method_42_code (1 : Nat) (Option.some Jvm.ClassFile.FieldType.boolean)) ∈ lw_all := lw_g (lw_at lw_m5 93 rfl) rfl
theorem q1368 : (Jvm.Cond.methodLink "HomeCompiler$Reader" (211 : Nat) ({ cls := "HomeCompiler$Nodes", name := "kind", desc := "(I)I" } : Jvm.MethodName)) ∈ lw_all := lw_g (lw_at lw_m5 94 rfl) rfl
theorem q1372 : (Jvm.Cond.methodLink "HomeCompiler$Reader" (95 : Nat) ({ cls := "HomeCompiler$Nodes", name := "over", desc := "(III)I" } : Jvm.MethodName)) ∈ lw_all := lw_g (lw_at lw_m5 98 rfl) rfl
theorem q1384 : (Jvm.Cond.methodLink "HomeCompiler$Reader" (99 : Nat) ({ cls := "HomeCompiler$Nodes", name := "setPlace", desc := "(II)V" } : Jvm.MethodName)) ∈ lw_all := lw_g (lw_at lw_m5 110 rfl) rfl
theorem q1388 : (Jvm.Cond.methodLink "HomeCompiler$Reader" (214 : Nat) ({ cls := "HomeCompiler$Reader", name := "primary", desc := "()I" } : Jvm.MethodName)) ∈ lw_all := lw_g (lw_at lw_m5 114 rfl) rfl
theorem q1389 : (Jvm.Cond.privateMethod ({ cls := "HomeCompiler$Reader", name := "primary", desc := "()I" } : Jvm.MethodName)) ∈ lw_tbl := lw_at lw_m5 115 rfl
theorem q1390 : (Jvm.Cond.instanceMethod ({ cls := "HomeCompiler$Reader", name := "primary", desc := "()I" } : Jvm.MethodName)) ∈ lw_all := lw_g (lw_at lw_m5 116 rfl) rfl
theorem q1391 : (Jvm.Cond.code ({ cls := "HomeCompiler$Reader", name := "primary", desc := "()I" } : Jvm.MethodName) prog_15_method_44_code (4 : Nat) (Option.some Jvm.ClassFile.FieldType.int)) ∈ lw_all := lw_g (lw_at lw_m5 117 rfl) rfl
theorem q1392 : (Jvm.Cond.methodLink "HomeCompiler$Reader" (217 : Nat) ({ cls := "HomeCompiler$Scanner", name := "number", desc := "()I" } : Jvm.MethodName)) ∈ lw_all := lw_g (lw_at lw_m5 118 rfl) rfl
theorem q1396 : (Jvm.Cond.methodLink "HomeCompiler$Reader" (140 : Nat) ({ cls := "HomeCompiler$Reader", name := "expression", desc := "()I" } : Jvm.MethodName)) ∈ lw_all := lw_g (lw_at lw_m5 122 rfl) rfl
theorem q1397 : (Jvm.Cond.privateMethod ({ cls := "HomeCompiler$Reader", name := "expression", desc := "()I" } : Jvm.MethodName)) ∈ lw_tbl := lw_at lw_m5 123 rfl
theorem q1398 : (Jvm.Cond.instanceMethod ({ cls := "HomeCompiler$Reader", name := "expression", desc := "()I" } : Jvm.MethodName)) ∈ lw_all := lw_g (lw_at lw_m5 124 rfl) rfl
theorem q1399 : (Jvm.Cond.code ({ cls := "HomeCompiler$Reader", name := "expression", desc := "()I" } : Jvm.MethodName) prog_15_method_36_code (5 : Nat) (Option.some Jvm.ClassFile.FieldType.int)) ∈ lw_all := lw_g (lw_at lw_m5 125 rfl) rfl
theorem q1400 : (Jvm.Cond.methodLink "HomeCompiler$Reader" (187 : Nat) ({ cls := "HomeCompiler$Reader", name := "isSet", desc := "()Z" } : Jvm.MethodName)) ∈ lw_all := lw_g (lw_at lw_m5 126 rfl) rfl
theorem q1401 : (Jvm.Cond.privateMethod ({ cls := "HomeCompiler$Reader", name := "isSet", desc := "()Z" } : Jvm.MethodName)) ∈ lw_tbl := lw_at lw_m5 127 rfl
theorem q1402 : (Jvm.Cond.instanceMethod ({ cls := "HomeCompiler$Reader", name := "isSet", desc := "()Z" } : Jvm.MethodName)) ∈ lw_all := lw_g (lw_at lw_m5 128 rfl) rfl
theorem q1403 : (Jvm.Cond.code ({ cls := "HomeCompiler$Reader", name := "isSet", desc := "()Z" } : Jvm.MethodName) prog_15_method_35_code (1 : Nat) (Option.some Jvm.ClassFile.FieldType.boolean)) ∈ lw_all := lw_g (lw_at lw_m5 129 rfl) rfl
theorem q1404 : (Jvm.Cond.methodLink "HomeCompiler$Reader" (190 : Nat) ({ cls := "HomeCompiler$Reader", name := "shallow", desc := "(I)V" } : Jvm.MethodName)) ∈ lw_all := lw_g (lw_at lw_m5 130 rfl) rfl
theorem q1405 : (Jvm.Cond.privateMethod ({ cls := "HomeCompiler$Reader", name := "shallow", desc := "(I)V" } : Jvm.MethodName)) ∈ lw_tbl := lw_at lw_m5 131 rfl
theorem q1406 : (Jvm.Cond.instanceMethod ({ cls := "HomeCompiler$Reader", name := "shallow", desc := "(I)V" } : Jvm.MethodName)) ∈ lw_all := lw_g (lw_at lw_m5 132 rfl) rfl
theorem q1407 : (Jvm.Cond.code ({ cls := "HomeCompiler$Reader", name := "shallow", desc := "(I)V" } : Jvm.MethodName) prog_15_method_9_code (2 : Nat) (Option.none : Option Jvm.ClassFile.FieldType)) ∈ lw_all := lw_g (lw_at lw_m5 133 rfl) rfl
theorem q1408 : (Jvm.Cond.methodLink "HomeCompiler$Reader" (51 : Nat) ({ cls := "HomeCompiler$Nodes", name := "depth", desc := "(I)I" } : Jvm.MethodName)) ∈ lw_all := lw_g (lw_at lw_m5 134 rfl) rfl
theorem q1412 : (Jvm.Cond.methodLink "HomeCompiler$Reader" (85 : Nat) ({ cls := "HomeCompiler$Nodes", name := "hang", desc := "(II)V" } : Jvm.MethodName)) ∈ lw_all := lw_g (lw_at lw_m5 138 rfl) rfl
theorem q1413 : (Jvm.Cond.methodLink "HomeCompiler$Reader" (193 : Nat) ({ cls := "HomeCompiler$Reader", name := "choiceBehind", desc := "(III)I" } : Jvm.MethodName)) ∈ lw_all := lw_g (lw_at lw_m5 139 rfl) rfl
theorem q1414 : (Jvm.Cond.privateMethod ({ cls := "HomeCompiler$Reader", name := "choiceBehind", desc := "(III)I" } : Jvm.MethodName)) ∈ lw_tbl := lw_at lw_m5 140 rfl
theorem q1415 : (Jvm.Cond.instanceMethod ({ cls := "HomeCompiler$Reader", name := "choiceBehind", desc := "(III)I" } : Jvm.MethodName)) ∈ lw_all := lw_g (lw_at lw_m5 141 rfl) rfl
theorem q1416 : (Jvm.Cond.code ({ cls := "HomeCompiler$Reader", name := "choiceBehind", desc := "(III)I" } : Jvm.MethodName) prog_15_method_38_code (6 : Nat) (Option.some Jvm.ClassFile.FieldType.int)) ∈ lw_all := lw_g (lw_at lw_m5 142 rfl) rfl
theorem q1417 : (Jvm.Cond.methodLink "HomeCompiler$Reader" (196 : Nat) ({ cls := "HomeCompiler$Reader", name := "operation", desc := "(II)I" } : Jvm.MethodName)) ∈ lw_all := lw_g (lw_at lw_m5 143 rfl) rfl
theorem q1418 : (Jvm.Cond.privateMethod ({ cls := "HomeCompiler$Reader", name := "operation", desc := "(II)I" } : Jvm.MethodName)) ∈ lw_tbl := lw_at lw_m5 144 rfl
theorem q1419 : (Jvm.Cond.instanceMethod ({ cls := "HomeCompiler$Reader", name := "operation", desc := "(II)I" } : Jvm.MethodName)) ∈ lw_all := lw_g (lw_at lw_m5 145 rfl) rfl
theorem q1420 : (Jvm.Cond.code ({ cls := "HomeCompiler$Reader", name := "operation", desc := "(II)I" } : Jvm.MethodName) prog_15_method_40_code (5 : Nat) (Option.some Jvm.ClassFile.FieldType.int)) ∈ lw_all := lw_g (lw_at lw_m5 146 rfl) rfl
theorem q1421 : (Jvm.Cond.methodLink "HomeCompiler$Reader" (199 : Nat) ({ cls := "HomeCompiler$Reader", name := "rank", desc := "(I)I" } : Jvm.MethodName)) ∈ lw_all := lw_g (lw_at lw_m5 147 rfl) rfl
theorem q1422 : (Jvm.Cond.privateMethod ({ cls := "HomeCompiler$Reader", name := "rank", desc := "(I)I" } : Jvm.MethodName)) ∈ lw_tbl := lw_at lw_m5 148 rfl
theorem q1423 : (Jvm.Cond.instanceMethod ({ cls := "HomeCompiler$Reader", name := "rank", desc := "(I)I" } : Jvm.MethodName)) ∈ lw_all := lw_g (lw_at lw_m5 149 rfl) rfl
theorem q1424 : (Jvm.Cond.code ({ cls := "HomeCompiler$Reader", name := "rank", desc := "(I)I" } : Jvm.MethodName) prog_15_method_39_code (2 : Nat) (Option.some Jvm.ClassFile.FieldType.int)) ∈ lw_all := lw_g (lw_at lw_m5 150 rfl) rfl
theorem q1425 : (Jvm.Cond.methodLink "HomeCompiler$Reader" (202 : Nat) ({ cls := "HomeCompiler$Reader", name := "settle", desc := "(II)V" } : Jvm.MethodName)) ∈ lw_all := lw_g (lw_at lw_m5 151 rfl) rfl
theorem q1426 : (Jvm.Cond.privateMethod ({ cls := "HomeCompiler$Reader", name := "settle", desc := "(II)V" } : Jvm.MethodName)) ∈ lw_tbl := lw_at lw_m5 152 rfl
theorem q1427 : (Jvm.Cond.instanceMethod ({ cls := "HomeCompiler$Reader", name := "settle", desc := "(II)V" } : Jvm.MethodName)) ∈ lw_all := lw_g (lw_at lw_m5 153 rfl) rfl
theorem q1428 : (Jvm.Cond.code ({ cls := "HomeCompiler$Reader", name := "settle", desc := "(II)V" } : Jvm.MethodName) prog_15_method_41_code (4 : Nat) (Option.none : Option Jvm.ClassFile.FieldType)) ∈ lw_all := lw_g (lw_at lw_m5 154 rfl) rfl
theorem q1429 : (Jvm.Cond.methodLink "HomeCompiler$Reader" (205 : Nat) ({ cls := "HomeCompiler$Nodes", name := "chain", desc := "(IIII)I" } : Jvm.MethodName)) ∈ lw_all := lw_g (lw_at lw_m5 155 rfl) rfl
theorem q1434 : (Jvm.Cond.methodLink "HomeCompiler$Reader" (60 : Nat) ({ cls := "HomeCompiler$Reader", name := "take", desc := "(I)V" } : Jvm.MethodName)) ∈ lw_all := lw_g (lw_at lw_m5 160 rfl) rfl
theorem q1435 : (Jvm.Cond.privateMethod ({ cls := "HomeCompiler$Reader", name := "take", desc := "(I)V" } : Jvm.MethodName)) ∈ lw_tbl := lw_at lw_m5 161 rfl
theorem q1436 : (Jvm.Cond.instanceMethod ({ cls := "HomeCompiler$Reader", name := "take", desc := "(I)V" } : Jvm.MethodName)) ∈ lw_all := lw_g (lw_at lw_m5 162 rfl) rfl
theorem q1437 : (Jvm.Cond.code ({ cls := "HomeCompiler$Reader", name := "take", desc := "(I)V" } : Jvm.MethodName) prog_15_method_7_code (2 : Nat) (Option.none : Option Jvm.ClassFile.FieldType)) ∈ lw_all := lw_g (lw_at lw_m5 163 rfl) rfl
theorem q1438 : (Jvm.Cond.methodLink "HomeCompiler$Reader" (109 : Nat) ({ cls := "HomeCompiler$Reader", name := "closes", desc := "(I)V" } : Jvm.MethodName)) ∈ lw_all := lw_g (lw_at lw_m5 164 rfl) rfl
theorem q1439 : (Jvm.Cond.privateMethod ({ cls := "HomeCompiler$Reader", name := "closes", desc := "(I)V" } : Jvm.MethodName)) ∈ lw_tbl := lw_at lw_m5 165 rfl
theorem q1440 : (Jvm.Cond.instanceMethod ({ cls := "HomeCompiler$Reader", name := "closes", desc := "(I)V" } : Jvm.MethodName)) ∈ lw_all := lw_g (lw_at lw_m5 166 rfl) rfl
theorem q1441 : (Jvm.Cond.code ({ cls := "HomeCompiler$Reader", name := "closes", desc := "(I)V" } : Jvm.MethodName) prog_15_method_11_code (2 : Nat) (Option.none : Option Jvm.ClassFile.FieldType)) ∈ lw_all := lw_g (lw_at lw_m5 167 rfl) rfl
theorem q1442 : (Jvm.Cond.methodLink "HomeCompiler$Reader" (220 : Nat) ({ cls := "HomeCompiler$Reader", name := "call", desc := "(II)I" } : Jvm.MethodName)) ∈ lw_all := lw_g (lw_at lw_m5 168 rfl) rfl
theorem q1443 : (Jvm.Cond.privateMethod ({ cls := "HomeCompiler$Reader", name := "call", desc := "(II)I" } : Jvm.MethodName)) ∈ lw_tbl := lw_at lw_m5 169 rfl
theorem q1444 : (Jvm.Cond.instanceMethod ({ cls := "HomeCompiler$Reader", name := "call", desc := "(II)I" } : Jvm.MethodName)) ∈ lw_all := lw_g (lw_at lw_m5 170 rfl) rfl
theorem q1445 : (Jvm.Cond.code ({ cls := "HomeCompiler$Reader", name := "call", desc := "(II)I" } : Jvm.MethodName) prog_15_method_45_code (4 : Nat) (Option.some Jvm.ClassFile.FieldType.int)) ∈ lw_all := lw_g (lw_at lw_m5 171 rfl) rfl
theorem q1446 : (Jvm.Cond.methodLink "HomeCompiler$Reader" (82 : Nat) ({ cls := "HomeCompiler$Reader", name := "declaration", desc := "()I" } : Jvm.MethodName)) ∈ lw_all := lw_g (lw_at lw_m5 172 rfl) rfl
theorem q1447 : (Jvm.Cond.privateMethod ({ cls := "HomeCompiler$Reader", name := "declaration", desc := "()I" } : Jvm.MethodName)) ∈ lw_tbl := lw_at lw_m5 173 rfl
theorem q1448 : (Jvm.Cond.instanceMethod ({ cls := "HomeCompiler$Reader", name := "declaration", desc := "()I" } : Jvm.MethodName)) ∈ lw_all := lw_g (lw_at lw_m5 174 rfl) rfl
theorem q1449 : (Jvm.Cond.code ({ cls := "HomeCompiler$Reader", name := "declaration", desc := "()I" } : Jvm.MethodName) prog_15_method_16_code (7 : Nat) (Option.some Jvm.ClassFile.FieldType.int)) ∈ lw_all := lw_g (lw_at lw_m5 175 rfl) rfl
theorem q1450 : (Jvm.Cond.methodLink "HomeCompiler$Reader" (112 : Nat) ({ cls := "HomeCompiler$Reader", name := "function", desc := "(III)I" } : Jvm.MethodName)) ∈ lw_all := lw_g (lw_at lw_m5 176 rfl) rfl
theorem q1451 : (Jvm.Cond.privateMethod ({ cls := "HomeCompiler$Reader", name := "function", desc := "(III)I" } : Jvm.MethodName)) ∈ lw_tbl := lw_at lw_m5 177 rfl
theorem q1452 : (Jvm.Cond.instanceMethod ({ cls := "HomeCompiler$Reader", name := "function", desc := "(III)I" } : Jvm.MethodName)) ∈ lw_all := lw_g (lw_at lw_m5 178 rfl) rfl
theorem q1453 : (Jvm.Cond.code ({ cls := "HomeCompiler$Reader", name := "function", desc := "(III)I" } : Jvm.MethodName) prog_15_method_17_code (5 : Nat) (Option.some Jvm.ClassFile.FieldType.int)) ∈ lw_all := lw_g (lw_at lw_m5 179 rfl) rfl
theorem q1454 : (Jvm.Cond.methodLink "HomeCompiler$Reader" (119 : Nat) ({ cls := "HomeCompiler$Reader", name := "takesWord", desc := "(I)Z" } : Jvm.MethodName)) ∈ lw_all := lw_g (lw_at lw_m5 180 rfl) rfl
theorem q1455 : (Jvm.Cond.privateMethod ({ cls := "HomeCompiler$Reader", name := "takesWord", desc := "(I)Z" } : Jvm.MethodName)) ∈ lw_tbl := lw_at lw_m5 181 rfl
theorem q1456 : (Jvm.Cond.instanceMethod ({ cls := "HomeCompiler$Reader", name := "takesWord", desc := "(I)Z" } : Jvm.MethodName)) ∈ lw_all := lw_g (lw_at lw_m5 182 rfl) rfl
theorem q1457 : (Jvm.Cond.code ({ cls := "HomeCompiler$Reader", name := "takesWord", desc := "(I)Z" } : Jvm.MethodName) prog_15_method_6_code (2 : Nat) (Option.some Jvm.ClassFile.FieldType.boolean)) ∈ lw_all := lw_g (lw_at lw_m5 183 rfl) rfl
theorem q1458 : (Jvm.Cond.methodLink "HomeCompiler$Reader" (122 : Nat) ({ cls := "HomeCompiler$Reader", name := "parameter", desc := "()I" } : Jvm.MethodName)) ∈ lw_all := lw_g (lw_at lw_m5 184 rfl) rfl
theorem q1459 : (Jvm.Cond.privateMethod ({ cls := "HomeCompiler$Reader", name := "parameter", desc := "()I" } : Jvm.MethodName)) ∈ lw_tbl := lw_at lw_m5 185 rfl
theorem q1460 : (Jvm.Cond.instanceMethod ({ cls := "HomeCompiler$Reader", name := "parameter", desc := "()I" } : Jvm.MethodName)) ∈ lw_all := lw_g (lw_at lw_m5 186 rfl) rfl
theorem q1461 : (Jvm.Cond.code ({ cls := "HomeCompiler$Reader", name := "parameter", desc := "()I" } : Jvm.MethodName) prog_15_method_18_code (4 : Nat) (Option.some Jvm.ClassFile.FieldType.int)) ∈ lw_all := lw_g (lw_at lw_m5 187 rfl) rfl
theorem q1462 : (Jvm.Cond.methodLink "HomeCompiler$Reader" (128 : Nat) ({ cls := "HomeCompiler$Nodes", name := "setExtra", desc := "(II)V" } : Jvm.MethodName)) ∈ lw_all := lw_g (lw_at lw_m5 188 rfl) rfl
theorem q1466 : (Jvm.Cond.methodLink "HomeCompiler$Reader" (125 : Nat) ({ cls := "HomeCompiler$Reader", name := "block", desc := "()I" } : Jvm.MethodName)) ∈ lw_all := lw_g (lw_at lw_m5 192 rfl) rfl
theorem q1467 : (Jvm.Cond.privateMethod ({ cls := "HomeCompiler$Reader", name := "block", desc := "()I" } : Jvm.MethodName)) ∈ lw_tbl := lw_at lw_m5 193 rfl
theorem q1468 : (Jvm.Cond.instanceMethod ({ cls := "HomeCompiler$Reader", name := "block", desc := "()I" } : Jvm.MethodName)) ∈ lw_all := lw_g (lw_at lw_m5 194 rfl) rfl
theorem q1469 : (Jvm.Cond.code ({ cls := "HomeCompiler$Reader", name := "block", desc := "()I" } : Jvm.MethodName) prog_15_method_22_code (2 : Nat) (Option.some Jvm.ClassFile.FieldType.int)) ∈ lw_all := lw_g (lw_at lw_m5 195 rfl) rfl
theorem q1470 : (Jvm.Cond.methodLink "HomeCompiler$Reader" (147 : Nat) ({ cls := "HomeCompiler$Reader", name := "statement", desc := "()I" } : Jvm.MethodName)) ∈ lw_all := lw_g (lw_at lw_m5 196 rfl) rfl
theorem q1471 : (Jvm.Cond.privateMethod ({ cls := "HomeCompiler$Reader", name := "statement", desc := "()I" } : Jvm.MethodName)) ∈ lw_tbl := lw_at lw_m5 197 rfl
theorem q1472 : (Jvm.Cond.instanceMethod ({ cls := "HomeCompiler$Reader", name := "statement", desc := "()I" } : Jvm.MethodName)) ∈ lw_all := lw_g (lw_at lw_m5 198 rfl) rfl
theorem q1473 : (Jvm.Cond.code ({ cls := "HomeCompiler$Reader", name := "statement", desc := "()I" } : Jvm.MethodName) prog_15_method_25_code (4 : Nat) (Option.some Jvm.ClassFile.FieldType.int)) ∈ lw_all := lw_g (lw_at lw_m5 199 rfl) rfl
theorem q1474 : (Jvm.Cond.methodLink "HomeCompiler$Reader" (150 : Nat) ({ cls := "HomeCompiler$Reader", name := "isDeclaration", desc := "()Z" } : Jvm.MethodName)) ∈ lw_all := lw_g (lw_at lw_m5 200 rfl) rfl
theorem q1475 : (Jvm.Cond.privateMethod ({ cls := "HomeCompiler$Reader", name := "isDeclaration", desc := "()Z" } : Jvm.MethodName)) ∈ lw_tbl := lw_at lw_m5 201 rfl
theorem q1476 : (Jvm.Cond.instanceMethod ({ cls := "HomeCompiler$Reader", name := "isDeclaration", desc := "()Z" } : Jvm.MethodName)) ∈ lw_all := lw_g (lw_at lw_m5 202 rfl) rfl
theorem q1477 : (Jvm.Cond.code ({ cls := "HomeCompiler$Reader", name := "isDeclaration", desc := "()Z" } : Jvm.MethodName) prog_15_method_23_code (1 : Nat) (Option.some Jvm.ClassFile.FieldType.boolean)) ∈ lw_all := lw_g (lw_at lw_m5 203 rfl) rfl
theorem q1478 : (Jvm.Cond.methodLink "HomeCompiler$Reader" (154 : Nat) ({ cls := "HomeCompiler$Reader", name := "variables", desc := "()I" } : Jvm.MethodName)) ∈ lw_all := lw_g (lw_at lw_m5 204 rfl) rfl
theorem q1479 : (Jvm.Cond.privateMethod ({ cls := "HomeCompiler$Reader", name := "variables", desc := "()I" } : Jvm.MethodName)) ∈ lw_tbl := lw_at lw_m5 205 rfl
theorem q1480 : (Jvm.Cond.instanceMethod ({ cls := "HomeCompiler$Reader", name := "variables", desc := "()I" } : Jvm.MethodName)) ∈ lw_all := lw_g (lw_at lw_m5 206 rfl) rfl
theorem q1481 : (Jvm.Cond.code ({ cls := "HomeCompiler$Reader", name := "variables", desc := "()I" } : Jvm.MethodName) prog_15_method_24_code (5 : Nat) (Option.some Jvm.ClassFile.FieldType.int)) ∈ lw_all := lw_g (lw_at lw_m5 207 rfl) rfl
theorem q1482 : (Jvm.Cond.methodLink "HomeCompiler$Reader" (115 : Nat) ({ cls := "HomeCompiler$Reader", name := "variable", desc := "(II)I" } : Jvm.MethodName)) ∈ lw_all := lw_g (lw_at lw_m5 208 rfl) rfl
theorem q1483 : (Jvm.Cond.privateMethod ({ cls := "HomeCompiler$Reader", name := "variable", desc := "(II)I" } : Jvm.MethodName)) ∈ lw_tbl := lw_at lw_m5 209 rfl
theorem q1484 : (Jvm.Cond.instanceMethod ({ cls := "HomeCompiler$Reader", name := "variable", desc := "(II)I" } : Jvm.MethodName)) ∈ lw_all := lw_g (lw_at lw_m5 210 rfl) rfl
theorem q1485 : (Jvm.Cond.code ({ cls := "HomeCompiler$Reader", name := "variable", desc := "(II)I" } : Jvm.MethodName) prog_15_method_19_code (6 : Nat) (Option.some Jvm.ClassFile.FieldType.int)) ∈ lw_all := lw_g (lw_at lw_m5 211 rfl) rfl
theorem q1486 : (Jvm.Cond.methodLink "HomeCompiler$Reader" (131 : Nat) ({ cls := "HomeCompiler$Nodes", name := "setOp", desc := "(II)V" } : Jvm.MethodName)) ∈ lw_all := lw_g (lw_at lw_m5 212 rfl) rfl
theorem q1490 : (Jvm.Cond.methodLink "HomeCompiler$Reader" (134 : Nat) ({ cls := "HomeCompiler$Reader", name := "string", desc := "()I" } : Jvm.MethodName)) ∈ lw_all := lw_g (lw_at lw_m5 216 rfl) rfl
theorem q1491 : (Jvm.Cond.privateMethod ({ cls := "HomeCompiler$Reader", name := "string", desc := "()I" } : Jvm.MethodName)) ∈ lw_tbl := lw_at lw_m5 217 rfl
theorem q1492 : (Jvm.Cond.instanceMethod ({ cls := "HomeCompiler$Reader", name := "string", desc := "()I" } : Jvm.MethodName)) ∈ lw_all := lw_g (lw_at lw_m5 218 rfl) rfl
theorem q1493 : (Jvm.Cond.code ({ cls := "HomeCompiler$Reader", name := "string", desc := "()I" } : Jvm.MethodName) prog_15_method_20_code (2 : Nat) (Option.some Jvm.ClassFile.FieldType.int)) ∈ lw_all := lw_g (lw_at lw_m5 219 rfl) rfl
theorem q1494 : (Jvm.Cond.methodLink "HomeCompiler$Reader" (143 : Nat) ({ cls := "HomeCompiler$Scanner", name := "stringLength", desc := "()I" } : Jvm.MethodName)) ∈ lw_all := lw_g (lw_at lw_m5 220 rfl) rfl
theorem q1495 : (Jvm.Cond.methodLink "HomeCompiler$Reader" (146 : Nat) ({ cls := "HomeCompiler$Scanner", name := "string", desc := "()I" } : Jvm.MethodName)) ∈ lw_all := lw_g (lw_at lw_m5 221 rfl) rfl
theorem q1499 : (Jvm.Cond.methodLink "HomeCompiler$Reader" (137 : Nat) ({ cls := "HomeCompiler$Reader", name := "list", desc := "()I" } : Jvm.MethodName)) ∈ lw_all := lw_g (lw_at lw_m5 225 rfl) rfl
theorem q1500 : (Jvm.Cond.privateMethod ({ cls := "HomeCompiler$Reader", name := "list", desc := "()I" } : Jvm.MethodName)) ∈ lw_tbl := lw_at lw_m5 226 rfl
theorem q1501 : (Jvm.Cond.instanceMethod ({ cls := "HomeCompiler$Reader", name := "list", desc := "()I" } : Jvm.MethodName)) ∈ lw_all := lw_g (lw_at lw_m5 227 rfl) rfl
theorem q1502 : (Jvm.Cond.code ({ cls := "HomeCompiler$Reader", name := "list", desc := "()I" } : Jvm.MethodName) prog_15_method_21_code (2 : Nat) (Option.some Jvm.ClassFile.FieldType.int)) ∈ lw_all := lw_g (lw_at lw_m5 228 rfl) rfl
theorem q1503 : (Jvm.Cond.methodLink "HomeCompiler$Reader" (157 : Nat) ({ cls := "HomeCompiler$Reader", name := "choosing", desc := "(I)I" } : Jvm.MethodName)) ∈ lw_all := lw_g (lw_at lw_m5 229 rfl) rfl
theorem q1504 : (Jvm.Cond.privateMethod ({ cls := "HomeCompiler$Reader", name := "choosing", desc := "(I)I" } : Jvm.MethodName)) ∈ lw_tbl := lw_at lw_m5 230 rfl
theorem q1505 : (Jvm.Cond.instanceMethod ({ cls := "HomeCompiler$Reader", name := "choosing", desc := "(I)I" } : Jvm.MethodName)) ∈ lw_all := lw_g (lw_at lw_m5 231 rfl) rfl
theorem q1506 : (Jvm.Cond.code ({ cls := "HomeCompiler$Reader", name := "choosing", desc := "(I)I" } : Jvm.MethodName) prog_15_method_28_code (3 : Nat) (Option.some Jvm.ClassFile.FieldType.int)) ∈ lw_all := lw_g (lw_at lw_m5 232 rfl) rfl
theorem q1507 : (Jvm.Cond.methodLink "HomeCompiler$Reader" (175 : Nat) ({ cls := "HomeCompiler$Reader", name := "condition", desc := "()I" } : Jvm.MethodName)) ∈ lw_all := lw_g (lw_at lw_m5 233 rfl) rfl
theorem q1508 : (Jvm.Cond.privateMethod ({ cls := "HomeCompiler$Reader", name := "condition", desc := "()I" } : Jvm.MethodName)) ∈ lw_tbl := lw_at lw_m5 234 rfl
theorem q1509 : (Jvm.Cond.instanceMethod ({ cls := "HomeCompiler$Reader", name := "condition", desc := "()I" } : Jvm.MethodName)) ∈ lw_all := lw_g (lw_at lw_m5 235 rfl) rfl
theorem q1510 : (Jvm.Cond.code ({ cls := "HomeCompiler$Reader", name := "condition", desc := "()I" } : Jvm.MethodName) prog_15_method_27_code (2 : Nat) (Option.some Jvm.ClassFile.FieldType.int)) ∈ lw_all := lw_g (lw_at lw_m5 236 rfl) rfl
theorem q1511 : (Jvm.Cond.methodLink "HomeCompiler$Reader" (160 : Nat) ({ cls := "HomeCompiler$Reader", name := "looping", desc := "(I)I" } : Jvm.MethodName)) ∈ lw_all := lw_g (lw_at lw_m5 237 rfl) rfl
theorem q1512 : (Jvm.Cond.privateMethod ({ cls := "HomeCompiler$Reader", name := "looping", desc := "(I)I" } : Jvm.MethodName)) ∈ lw_tbl := lw_at lw_m5 238 rfl
theorem q1513 : (Jvm.Cond.instanceMethod ({ cls := "HomeCompiler$Reader", name := "looping", desc := "(I)I" } : Jvm.MethodName)) ∈ lw_all := lw_g (lw_at lw_m5 239 rfl) rfl
theorem q1514 : (Jvm.Cond.code ({ cls := "HomeCompiler$Reader", name := "looping", desc := "(I)I" } : Jvm.MethodName) prog_15_method_29_code (3 : Nat) (Option.some Jvm.ClassFile.FieldType.int)) ∈ lw_all := lw_g (lw_at lw_m6 0 rfl) rfl
theorem q1515 : (Jvm.Cond.methodLink "HomeCompiler$Reader" (163 : Nat) ({ cls := "HomeCompiler$Reader", name := "doing", desc := "(I)I" } : Jvm.MethodName)) ∈ lw_all := lw_g (lw_at lw_m6 1 rfl) rfl
theorem q1516 : (Jvm.Cond.privateMethod ({ cls := "HomeCompiler$Reader", name := "doing", desc := "(I)I" } : Jvm.MethodName)) ∈ lw_tbl := lw_at lw_m6 2 rfl
theorem q1517 : (Jvm.Cond.instanceMethod ({ cls := "HomeCompiler$Reader", name := "doing", desc := "(I)I" } : Jvm.MethodName)) ∈ lw_all := lw_g (lw_at lw_m6 3 rfl) rfl
theorem q1518 : (Jvm.Cond.code ({ cls := "HomeCompiler$Reader", name := "doing", desc := "(I)I" } : Jvm.MethodName) prog_15_method_30_code (3 : Nat) (Option.some Jvm.ClassFile.FieldType.int)) ∈ lw_all := lw_g (lw_at lw_m6 4 rfl) rfl
theorem q1519 : (Jvm.Cond.methodLink "HomeCompiler$Reader" (166 : Nat) ({ cls := "HomeCompiler$Reader", name := "counting", desc := "(I)I" } : Jvm.MethodName)) ∈ lw_all := lw_g (lw_at lw_m6 5 rfl) rfl
theorem q1520 : (Jvm.Cond.privateMethod ({ cls := "HomeCompiler$Reader", name := "counting", desc := "(I)I" } : Jvm.MethodName)) ∈ lw_tbl := lw_at lw_m6 6 rfl
theorem q1521 : (Jvm.Cond.instanceMethod ({ cls := "HomeCompiler$Reader", name := "counting", desc := "(I)I" } : Jvm.MethodName)) ∈ lw_all := lw_g (lw_at lw_m6 7 rfl) rfl
theorem q1522 : (Jvm.Cond.code ({ cls := "HomeCompiler$Reader", name := "counting", desc := "(I)I" } : Jvm.MethodName) prog_15_method_32_code (3 : Nat) (Option.some Jvm.ClassFile.FieldType.int)) ∈ lw_all := lw_g (lw_at lw_m6 8 rfl) rfl
theorem q1523 : (Jvm.Cond.methodLink "HomeCompiler$Reader" (178 : Nat) ({ cls := "HomeCompiler$Reader", name := "empty", desc := "()I" } : Jvm.MethodName)) ∈ lw_all := lw_g (lw_at lw_m6 9 rfl) rfl
theorem q1524 : (Jvm.Cond.privateMethod ({ cls := "HomeCompiler$Reader", name := "empty", desc := "()I" } : Jvm.MethodName)) ∈ lw_tbl := lw_at lw_m6 10 rfl
theorem q1525 : (Jvm.Cond.instanceMethod ({ cls := "HomeCompiler$Reader", name := "empty", desc := "()I" } : Jvm.MethodName)) ∈ lw_all := lw_g (lw_at lw_m6 11 rfl) rfl
theorem q1526 : (Jvm.Cond.code ({ cls := "HomeCompiler$Reader", name := "empty", desc := "()I" } : Jvm.MethodName) prog_15_method_31_code (1 : Nat) (Option.some Jvm.ClassFile.FieldType.int)) ∈ lw_all := lw_g (lw_at lw_m6 12 rfl) rfl
theorem q1527 : (Jvm.Cond.methodLink "HomeCompiler$Reader" (169 : Nat) ({ cls := "HomeCompiler$Reader", name := "switching", desc := "(I)I" } : Jvm.MethodName)) ∈ lw_all := lw_g (lw_at lw_m6 13 rfl) rfl
theorem q1528 : (Jvm.Cond.privateMethod ({ cls := "HomeCompiler$Reader", name := "switching", desc := "(I)I" } : Jvm.MethodName)) ∈ lw_tbl := lw_at lw_m6 14 rfl
theorem q1529 : (Jvm.Cond.instanceMethod ({ cls := "HomeCompiler$Reader", name := "switching", desc := "(I)I" } : Jvm.MethodName)) ∈ lw_all := lw_g (lw_at lw_m6 15 rfl) rfl
theorem q1530 : (Jvm.Cond.code ({ cls := "HomeCompiler$Reader", name := "switching", desc := "(I)I" } : Jvm.MethodName) prog_15_method_33_code (3 : Nat) (Option.some Jvm.ClassFile.FieldType.int)) ∈ lw_all := lw_g (lw_at lw_m6 16 rfl) rfl
theorem q1531 : (Jvm.Cond.methodLink "HomeCompiler$Reader" (181 : Nat) ({ cls := "HomeCompiler$Reader", name := "part", desc := "()I" } : Jvm.MethodName)) ∈ lw_all := lw_g (lw_at lw_m6 17 rfl) rfl
theorem q1532 : (Jvm.Cond.privateMethod ({ cls := "HomeCompiler$Reader", name := "part", desc := "()I" } : Jvm.MethodName)) ∈ lw_tbl := lw_at lw_m6 18 rfl
theorem q1533 : (Jvm.Cond.instanceMethod ({ cls := "HomeCompiler$Reader", name := "part", desc := "()I" } : Jvm.MethodName)) ∈ lw_all := lw_g (lw_at lw_m6 19 rfl) rfl
theorem q1534 : (Jvm.Cond.code ({ cls := "HomeCompiler$Reader", name := "part", desc := "()I" } : Jvm.MethodName) prog_15_method_34_code (3 : Nat) (Option.some Jvm.ClassFile.FieldType.int)) ∈ lw_all := lw_g (lw_at lw_m6 20 rfl) rfl
theorem q1535 : (Jvm.Cond.methodLink "HomeCompiler$Reader" (172 : Nat) ({ cls := "HomeCompiler$Reader", name := "returning", desc := "(I)I" } : Jvm.MethodName)) ∈ lw_all := lw_g (lw_at lw_m6 21 rfl) rfl
theorem q1536 : (Jvm.Cond.privateMethod ({ cls := "HomeCompiler$Reader", name := "returning", desc := "(I)I" } : Jvm.MethodName)) ∈ lw_tbl := lw_at lw_m6 22 rfl
theorem q1537 : (Jvm.Cond.instanceMethod ({ cls := "HomeCompiler$Reader", name := "returning", desc := "(I)I" } : Jvm.MethodName)) ∈ lw_all := lw_g (lw_at lw_m6 23 rfl) rfl
theorem q1538 : (Jvm.Cond.code ({ cls := "HomeCompiler$Reader", name := "returning", desc := "(I)I" } : Jvm.MethodName) prog_15_method_26_code (3 : Nat) (Option.some Jvm.ClassFile.FieldType.int)) ∈ lw_all := lw_g (lw_at lw_m6 24 rfl) rfl
theorem in_X7 : ∀ w ∈ wsX70, w ∈ lw_all := lw_in wsX70 [571, 573, 575, 577, 579, 581] (by decide +kernel) (by decide +kernel)
/-! X8.HomeCompiler_Checker.lean.txt -/
def RX8 : String := "HomeCompiler$Checker"
def TX8 : u_T := fun k => match k with
  | 0 => ("HomeCompiler$Checker", "nodes", "LHomeCompiler$Nodes;", true)
  | 1 => ("HomeCompiler$Checker", "names", "LHomeCompiler$Names;", true)
  | 2 => ("HomeCompiler$Checker", "words", "LHomeCompiler$Words;", true)
  | 3 => ("HomeCompiler$Checker", "wrong", "LHomeCompiler$Wrong;", true)
  | 4 => ("HomeCompiler$Checker", "symbols", "LHomeCompiler$Symbols;", true)
  | 5 => ("HomeCompiler$Checker", "variables", "LHomeCompiler$Variables;", true)
  | 6 => ("HomeCompiler$Checker", "given", "LHomeCompiler$Bytes;", true)
  | 7 => ("HomeCompiler$Checker", "functions", "[I", false)
  | 8 => ("HomeCompiler$Checker", "heights", "[I", false)
  | 9 => ("HomeCompiler$Checker", "count", "I", false)
  | 10 => ("HomeCompiler$Checker", "existing", "I", false)
  | 11 => ("HomeCompiler$Checker", "function", "I", false)
  | 12 => ("HomeCompiler$Checker", "loops", "I", false)
  | 13 => ("HomeCompiler$Checker", "breaks", "I", false)
  | 14 => ("HomeCompiler$Checker", "zero", "Z", false)
  | _ => ("HomeCompiler$Checker", "value", "I", false)
def tyX8 : Nat → FieldType := fun k => match k with
  | 0 => .object "HomeCompiler$Nodes"
  | 1 => .object "HomeCompiler$Names"
  | 2 => .object "HomeCompiler$Words"
  | 3 => .object "HomeCompiler$Wrong"
  | 4 => .object "HomeCompiler$Symbols"
  | 5 => .object "HomeCompiler$Variables"
  | 6 => .object "HomeCompiler$Bytes"
  | 7 => .array .int
  | 8 => .array .int
  | 9 => .int
  | 10 => .int
  | 11 => .int
  | 12 => .int
  | 13 => .int
  | 14 => .boolean
  | _ => .int
abbrev wsX80 : List Cond := u_ws RX8 TX8 16
theorem nmX8 : ∀ a, a < 16 → ∀ b, b < 16 → a ≠ b → (TX8 a).2.1 ≠ (TX8 b).2.1 := by decide +kernel
theorem tyX8_ok : ∀ k, k < 16 → parseFieldDescriptor (TX8 k).2.2.1 = some (tyX8 k) := by decide +kernel
abbrev cX8_init : ByteArray := prog_3_method_1_code
def yX8_init : MethodName := ⟨RX8, "<init>", "(LHomeCompiler$Nodes;LHomeCompiler$Names;LHomeCompiler$Words;)V"⟩
abbrev cX8_variables : ByteArray := prog_3_method_3_code
def yX8_variables : MethodName := ⟨RX8, "variables", "()LHomeCompiler$Variables;"⟩
abbrev cX8_clear : ByteArray := prog_3_method_6_code
def yX8_clear : MethodName := ⟨RX8, "clear", "()V"⟩
abbrev cX8_check : ByteArray := prog_3_method_7_code
def yX8_check : MethodName := ⟨RX8, "check", "(IZI)V"⟩
abbrev cX8_nameOf : ByteArray := prog_3_method_8_code
def yX8_nameOf : MethodName := ⟨RX8, "nameOf", "(Ljava/lang/String;)I"⟩
abbrev cX8_know : ByteArray := prog_3_method_9_code
def yX8_know : MethodName := ⟨RX8, "know", "(I)V"⟩
abbrev cX8_part : ByteArray := prog_3_method_18_code
def yX8_part : MethodName := ⟨RX8, "part", "(I)V"⟩
abbrev cX8_constant : ByteArray := prog_3_method_41_code
def yX8_constant : MethodName := ⟨RX8, "constant", "(I)Z"⟩
abbrev cX8_isTold : ByteArray := prog_3_method_43_code
def yX8_isTold : MethodName := ⟨RX8, "isTold", "(I)Z"⟩
abbrev cX8_number : ByteArray := prog_3_method_31_code
def yX8_number : MethodName := ⟨RX8, "number", "(I)V"⟩
abbrev cX8_typeOf : ByteArray := prog_3_method_32_code
def yX8_typeOf : MethodName := ⟨RX8, "typeOf", "(I)I"⟩
abbrev cX8_typeOfName : ByteArray := prog_3_method_34_code
def yX8_typeOfName : MethodName := ⟨RX8, "typeOfName", "(I)I"⟩
abbrev cX8_typeOfVariable : ByteArray := prog_3_method_33_code
def yX8_typeOfVariable : MethodName := ⟨RX8, "typeOfVariable", "(II)I"⟩
abbrev cX8_typeOfCall : ByteArray := prog_3_method_37_code
def yX8_typeOfCall : MethodName := ⟨RX8, "typeOfCall", "(I)I"⟩
abbrev cX8_typeOfGiven : ByteArray := prog_3_method_38_code
def yX8_typeOfGiven : MethodName := ⟨RX8, "typeOfGiven", "(ILjava/lang/String;)I"⟩
abbrev cX8_argument : ByteArray := prog_3_method_39_code
def yX8_argument : MethodName := ⟨RX8, "argument", "(II)V"⟩
abbrev cX8_typeOfOwn : ByteArray := prog_3_method_40_code
def yX8_typeOfOwn : MethodName := ⟨RX8, "typeOfOwn", "(II)I"⟩
abbrev cX8_typeOfIndex : ByteArray := prog_3_method_35_code
def yX8_typeOfIndex : MethodName := ⟨RX8, "typeOfIndex", "(I)I"⟩
abbrev cX8_target : ByteArray := prog_3_method_36_code
def yX8_target : MethodName := ⟨RX8, "target", "(I)V"⟩
abbrev cX8_sortOf : ByteArray := prog_3_method_44_code
def yX8_sortOf : MethodName := ⟨RX8, "sortOf", "(I)I"⟩
abbrev cX8_valueOf : ByteArray := prog_3_method_45_code
def yX8_valueOf : MethodName := ⟨RX8, "valueOf", "(I)I"⟩
abbrev cX8_valueOfChain : ByteArray := prog_3_method_46_code
def yX8_valueOfChain : MethodName := ⟨RX8, "valueOfChain", "(I)I"⟩
abbrev cX8_reckon : ByteArray := prog_3_method_48_code
def yX8_reckon : MethodName := ⟨RX8, "reckon", "(III)I"⟩
abbrev cX8_truth : ByteArray := prog_3_method_47_code
def yX8_truth : MethodName := ⟨RX8, "truth", "(Z)I"⟩
abbrev cX8_divide : ByteArray := prog_3_method_49_code
def yX8_divide : MethodName := ⟨RX8, "divide", "(III)I"⟩
abbrev cX8_declare : ByteArray := prog_3_method_17_code
def yX8_declare : MethodName := ⟨RX8, "declare", "(IIII)V"⟩
abbrev cX8_variables_2 : ByteArray := prog_3_method_19_code
def yX8_variables_2 : MethodName := ⟨RX8, "variables", "(I)V"⟩
abbrev cX8_variable : ByteArray := prog_3_method_20_code
def yX8_variable : MethodName := ⟨RX8, "variable", "(II)V"⟩
abbrev cX8_fill : ByteArray := prog_3_method_21_code
def yX8_fill : MethodName := ⟨RX8, "fill", "(III)V"⟩
abbrev cX8_told : ByteArray := prog_3_method_42_code
def yX8_told : MethodName := ⟨RX8, "told", "(I)I"⟩
abbrev cX8_function : ByteArray := prog_3_method_22_code
def yX8_function : MethodName := ⟨RX8, "function", "(I)V"⟩
abbrev cX8_statements : ByteArray := prog_3_method_23_code
def yX8_statements : MethodName := ⟨RX8, "statements", "(I)V"⟩
abbrev cX8_statement : ByteArray := prog_3_method_24_code
def yX8_statement : MethodName := ⟨RX8, "statement", "(I)V"⟩
abbrev cX8_anything : ByteArray := prog_3_method_30_code
def yX8_anything : MethodName := ⟨RX8, "anything", "(I)V"⟩
abbrev cX8_body : ByteArray := prog_3_method_25_code
def yX8_body : MethodName := ⟨RX8, "body", "(I)V"⟩
abbrev cX8_counting : ByteArray := prog_3_method_26_code
def yX8_counting : MethodName := ⟨RX8, "counting", "(I)V"⟩
abbrev cX8_switching : ByteArray := prog_3_method_27_code
def yX8_switching : MethodName := ⟨RX8, "switching", "(I)V"⟩
abbrev cX8_isTwice : ByteArray := prog_3_method_28_code
def yX8_isTwice : MethodName := ⟨RX8, "isTwice", "(II)Z"⟩
abbrev cX8_leaving : ByteArray := prog_3_method_29_code
def yX8_leaving : MethodName := ⟨RX8, "leaving", "(I)V"⟩
abbrev cX8_tallest : ByteArray := prog_3_method_16_code
def yX8_tallest : MethodName := ⟨RX8, "tallest", "(I)I"⟩
abbrev cX8_height : ByteArray := prog_3_method_15_code
def yX8_height : MethodName := ⟨RX8, "height", "(I)I"⟩
abbrev cX8_isArray : ByteArray := prog_3_method_14_code
def yX8_isArray : MethodName := ⟨RX8, "isArray", "(I)Z"⟩
abbrev cX8_whole : ByteArray := prog_3_method_10_code
def yX8_whole : MethodName := ⟨RX8, "whole", "(I)V"⟩
abbrev cX8_isMain : ByteArray := prog_3_method_11_code
def yX8_isMain : MethodName := ⟨RX8, "isMain", "(I)Z"⟩
abbrev cX8_frame : ByteArray := prog_3_method_13_code
def yX8_frame : MethodName := ⟨RX8, "frame", "(I)I"⟩
abbrev cX8_wrong : ByteArray := prog_3_method_2_code
def yX8_wrong : MethodName := ⟨RX8, "wrong", "()LHomeCompiler$Wrong;"⟩
abbrev cX8_main : ByteArray := prog_3_method_12_code
def yX8_main : MethodName := ⟨RX8, "main", "()I"⟩
abbrev cX8_count : ByteArray := prog_3_method_4_code
def yX8_count : MethodName := ⟨RX8, "count", "()I"⟩
abbrev cX8_node : ByteArray := prog_3_method_5_code
def yX8_node : MethodName := ⟨RX8, "node", "(I)I"⟩
theorem q322 : (Jvm.Cond.initialized "HomeCompiler$Checker") ∈ lw_all := lw_g (lw_at lw_m1 8 rfl) rfl
theorem q585 : (Jvm.Cond.instantiable "HomeCompiler$Checker" (16 : Nat)) ∈ lw_all := lw_g (lw_at lw_m2 31 rfl) rfl
theorem q587 : (Jvm.Cond.instanceMethod ({ cls := "HomeCompiler$Checker", name := "<init>", desc := "(LHomeCompiler$Nodes;LHomeCompiler$Names;LHomeCompiler$Words;)V" } : Jvm.MethodName)) ∈ lw_all := lw_g (lw_at lw_m2 33 rfl) rfl
theorem q588 : (Jvm.Cond.code ({ cls := "HomeCompiler$Checker", name := "<init>", desc := "(LHomeCompiler$Nodes;LHomeCompiler$Names;LHomeCompiler$Words;)V" } : Jvm.MethodName) prog_3_method_1_code (4 : Nat) (Option.none : Option Jvm.ClassFile.FieldType)) ∈ lw_all := lw_g (lw_at lw_m2 34 rfl) rfl
theorem q589 : (Jvm.Cond.methodLink "HomeCompiler$Checker" (3 : Nat) ({ cls := "java/lang/Object", name := "<init>", desc := "()V" } : Jvm.MethodName)) ∈ lw_all := lw_g (lw_at lw_m2 35 rfl) rfl
theorem q590 : (Jvm.Cond.classLink "HomeCompiler$Checker" (9 : Nat) "HomeCompiler$Wrong") ∈ lw_all := lw_g (lw_at lw_m2 36 rfl) rfl
theorem q592 : (Jvm.Cond.methodLinkNest "HomeCompiler$Checker" (11 : Nat) ({ cls := "HomeCompiler$Wrong", name := "<init>", desc := "()V" } : Jvm.MethodName) "HomeCompiler") ∈ lw_tbl := lw_at lw_m2 38 rfl
theorem q603 : (Jvm.Cond.classLink "HomeCompiler$Checker" (18 : Nat) "HomeCompiler$Symbols") ∈ lw_all := lw_g (lw_at lw_m2 49 rfl) rfl
theorem q605 : (Jvm.Cond.methodLinkNest "HomeCompiler$Checker" (20 : Nat) ({ cls := "HomeCompiler$Symbols", name := "<init>", desc := "()V" } : Jvm.MethodName) "HomeCompiler") ∈ lw_tbl := lw_at lw_m2 51 rfl
theorem q634 : (Jvm.Cond.classLink "HomeCompiler$Checker" (25 : Nat) "HomeCompiler$Variables") ∈ lw_all := lw_g (lw_at lw_m2 80 rfl) rfl
theorem q636 : (Jvm.Cond.methodLinkNest "HomeCompiler$Checker" (27 : Nat) ({ cls := "HomeCompiler$Variables", name := "<init>", desc := "()V" } : Jvm.MethodName) "HomeCompiler") ∈ lw_tbl := lw_at lw_m2 82 rfl
theorem q659 : (Jvm.Cond.classLink "HomeCompiler$Checker" (32 : Nat) "HomeCompiler$Bytes") ∈ lw_all := lw_g (lw_at lw_m2 105 rfl) rfl
theorem q660 : (Jvm.Cond.methodLinkNest "HomeCompiler$Checker" (34 : Nat) ({ cls := "HomeCompiler$Bytes", name := "<init>", desc := "()V" } : Jvm.MethodName) "HomeCompiler") ∈ lw_tbl := lw_at lw_m2 106 rfl
theorem q661 : (Jvm.Cond.fieldLink "HomeCompiler$Checker" (46 : Nat) "HomeCompiler$Checker" "nodes" "LHomeCompiler$Nodes;") ∈ lw_all := lw_g (lw_at lw_m2 107 rfl) rfl
theorem q662 : (Jvm.Cond.fieldLink "HomeCompiler$Checker" (50 : Nat) "HomeCompiler$Checker" "names" "LHomeCompiler$Names;") ∈ lw_all := lw_g (lw_at lw_m2 108 rfl) rfl
theorem q663 : (Jvm.Cond.fieldLink "HomeCompiler$Checker" (54 : Nat) "HomeCompiler$Checker" "words" "LHomeCompiler$Words;") ∈ lw_all := lw_g (lw_at lw_m2 109 rfl) rfl
theorem q664 : (Jvm.Cond.fieldLink "HomeCompiler$Checker" (12 : Nat) "HomeCompiler$Checker" "wrong" "LHomeCompiler$Wrong;") ∈ lw_all := lw_g (lw_at lw_m2 110 rfl) rfl
theorem q665 : (Jvm.Cond.fieldLink "HomeCompiler$Checker" (21 : Nat) "HomeCompiler$Checker" "symbols" "LHomeCompiler$Symbols;") ∈ lw_all := lw_g (lw_at lw_m2 111 rfl) rfl
theorem q666 : (Jvm.Cond.fieldLink "HomeCompiler$Checker" (28 : Nat) "HomeCompiler$Checker" "variables" "LHomeCompiler$Variables;") ∈ lw_all := lw_g (lw_at lw_m2 112 rfl) rfl
theorem q667 : (Jvm.Cond.fieldLink "HomeCompiler$Checker" (35 : Nat) "HomeCompiler$Checker" "given" "LHomeCompiler$Bytes;") ∈ lw_all := lw_g (lw_at lw_m2 113 rfl) rfl
theorem q668 : (Jvm.Cond.fieldLink "HomeCompiler$Checker" (39 : Nat) "HomeCompiler$Checker" "functions" "[I") ∈ lw_all := lw_g (lw_at lw_m2 114 rfl) rfl
theorem q669 : (Jvm.Cond.fieldLink "HomeCompiler$Checker" (43 : Nat) "HomeCompiler$Checker" "heights" "[I") ∈ lw_all := lw_g (lw_at lw_m2 115 rfl) rfl
theorem q670 : (Jvm.Cond.fieldLink "HomeCompiler$Checker" (58 : Nat) "HomeCompiler$Checker" "count" "I") ∈ lw_all := lw_g (lw_at lw_m2 116 rfl) rfl
theorem q671 : (Jvm.Cond.fieldLink "HomeCompiler$Checker" (77 : Nat) "HomeCompiler$Checker" "existing" "I") ∈ lw_all := lw_g (lw_at lw_m2 117 rfl) rfl
theorem q672 : (Jvm.Cond.fieldLink "HomeCompiler$Checker" (203 : Nat) "HomeCompiler$Checker" "function" "I") ∈ lw_all := lw_g (lw_at lw_m2 118 rfl) rfl
theorem q673 : (Jvm.Cond.fieldLink "HomeCompiler$Checker" (236 : Nat) "HomeCompiler$Checker" "loops" "I") ∈ lw_all := lw_g (lw_at lw_m2 119 rfl) rfl
theorem q674 : (Jvm.Cond.fieldLink "HomeCompiler$Checker" (239 : Nat) "HomeCompiler$Checker" "breaks" "I") ∈ lw_all := lw_g (lw_at lw_m2 120 rfl) rfl
theorem q675 : (Jvm.Cond.fieldLink "HomeCompiler$Checker" (323 : Nat) "HomeCompiler$Checker" "zero" "Z") ∈ lw_all := lw_g (lw_at lw_m2 121 rfl) rfl
theorem q676 : (Jvm.Cond.fieldLink "HomeCompiler$Checker" (318 : Nat) "HomeCompiler$Checker" "value" "I") ∈ lw_all := lw_g (lw_at lw_m2 122 rfl) rfl
theorem q677 : (Jvm.Cond.laysFinal "HomeCompiler$Checker" "HomeCompiler$Checker" "nodes" "LHomeCompiler$Nodes;") ∈ lw_all := lw_g (lw_at lw_m2 123 rfl) rfl
theorem q678 : (Jvm.Cond.soleField "HomeCompiler$Checker" "nodes") ∈ lw_all := lw_g (lw_at lw_m2 124 rfl) rfl
theorem q679 : (Jvm.Cond.laysFinal "HomeCompiler$Checker" "HomeCompiler$Checker" "names" "LHomeCompiler$Names;") ∈ lw_all := lw_g (lw_at lw_m2 125 rfl) rfl
theorem q680 : (Jvm.Cond.soleField "HomeCompiler$Checker" "names") ∈ lw_all := lw_g (lw_at lw_m2 126 rfl) rfl
theorem q681 : (Jvm.Cond.laysFinal "HomeCompiler$Checker" "HomeCompiler$Checker" "words" "LHomeCompiler$Words;") ∈ lw_all := lw_g (lw_at lw_m2 127 rfl) rfl
theorem q682 : (Jvm.Cond.soleField "HomeCompiler$Checker" "words") ∈ lw_all := lw_g (lw_at lw_m2 128 rfl) rfl
theorem q683 : (Jvm.Cond.laysFinal "HomeCompiler$Checker" "HomeCompiler$Checker" "wrong" "LHomeCompiler$Wrong;") ∈ lw_all := lw_g (lw_at lw_m2 129 rfl) rfl
theorem q684 : (Jvm.Cond.soleField "HomeCompiler$Checker" "wrong") ∈ lw_all := lw_g (lw_at lw_m2 130 rfl) rfl
theorem q685 : (Jvm.Cond.laysFinal "HomeCompiler$Checker" "HomeCompiler$Checker" "symbols" "LHomeCompiler$Symbols;") ∈ lw_all := lw_g (lw_at lw_m2 131 rfl) rfl
theorem q686 : (Jvm.Cond.soleField "HomeCompiler$Checker" "symbols") ∈ lw_all := lw_g (lw_at lw_m2 132 rfl) rfl
theorem q687 : (Jvm.Cond.laysFinal "HomeCompiler$Checker" "HomeCompiler$Checker" "variables" "LHomeCompiler$Variables;") ∈ lw_all := lw_g (lw_at lw_m2 133 rfl) rfl
theorem q688 : (Jvm.Cond.soleField "HomeCompiler$Checker" "variables") ∈ lw_all := lw_g (lw_at lw_m2 134 rfl) rfl
theorem q689 : (Jvm.Cond.laysFinal "HomeCompiler$Checker" "HomeCompiler$Checker" "given" "LHomeCompiler$Bytes;") ∈ lw_all := lw_g (lw_at lw_m2 135 rfl) rfl
theorem q690 : (Jvm.Cond.soleField "HomeCompiler$Checker" "given") ∈ lw_all := lw_g (lw_at lw_m2 136 rfl) rfl
theorem q691 : (Jvm.Cond.lays "HomeCompiler$Checker" "HomeCompiler$Checker" "functions" "[I") ∈ lw_all := lw_g (lw_at lw_m2 137 rfl) rfl
theorem q692 : (Jvm.Cond.soleField "HomeCompiler$Checker" "functions") ∈ lw_all := lw_g (lw_at lw_m2 138 rfl) rfl
theorem q693 : (Jvm.Cond.lays "HomeCompiler$Checker" "HomeCompiler$Checker" "heights" "[I") ∈ lw_all := lw_g (lw_at lw_m2 139 rfl) rfl
theorem q694 : (Jvm.Cond.soleField "HomeCompiler$Checker" "heights") ∈ lw_all := lw_g (lw_at lw_m2 140 rfl) rfl
theorem q695 : (Jvm.Cond.lays "HomeCompiler$Checker" "HomeCompiler$Checker" "count" "I") ∈ lw_all := lw_g (lw_at lw_m2 141 rfl) rfl
theorem q696 : (Jvm.Cond.soleField "HomeCompiler$Checker" "count") ∈ lw_all := lw_g (lw_at lw_m2 142 rfl) rfl
theorem q697 : (Jvm.Cond.lays "HomeCompiler$Checker" "HomeCompiler$Checker" "existing" "I") ∈ lw_all := lw_g (lw_at lw_m2 143 rfl) rfl
theorem q698 : (Jvm.Cond.soleField "HomeCompiler$Checker" "existing") ∈ lw_all := lw_g (lw_at lw_m2 144 rfl) rfl
theorem q699 : (Jvm.Cond.lays "HomeCompiler$Checker" "HomeCompiler$Checker" "function" "I") ∈ lw_all := lw_g (lw_at lw_m2 145 rfl) rfl
theorem q700 : (Jvm.Cond.soleField "HomeCompiler$Checker" "function") ∈ lw_all := lw_g (lw_at lw_m2 146 rfl) rfl
theorem q701 : (Jvm.Cond.lays "HomeCompiler$Checker" "HomeCompiler$Checker" "loops" "I") ∈ lw_all := lw_g (lw_at lw_m2 147 rfl) rfl
theorem q702 : (Jvm.Cond.soleField "HomeCompiler$Checker" "loops") ∈ lw_all := lw_g (lw_at lw_m2 148 rfl) rfl
theorem q703 : (Jvm.Cond.lays "HomeCompiler$Checker" "HomeCompiler$Checker" "breaks" "I") ∈ lw_all := lw_g (lw_at lw_m2 149 rfl) rfl
theorem q704 : (Jvm.Cond.soleField "HomeCompiler$Checker" "breaks") ∈ lw_all := lw_g (lw_at lw_m2 150 rfl) rfl
theorem q705 : (Jvm.Cond.lays "HomeCompiler$Checker" "HomeCompiler$Checker" "zero" "Z") ∈ lw_all := lw_g (lw_at lw_m2 151 rfl) rfl
theorem q706 : (Jvm.Cond.soleField "HomeCompiler$Checker" "zero") ∈ lw_all := lw_g (lw_at lw_m2 152 rfl) rfl
theorem q707 : (Jvm.Cond.lays "HomeCompiler$Checker" "HomeCompiler$Checker" "value" "I") ∈ lw_all := lw_g (lw_at lw_m2 153 rfl) rfl
theorem q708 : (Jvm.Cond.soleField "HomeCompiler$Checker" "value") ∈ lw_all := lw_g (lw_at lw_m2 154 rfl) rfl
theorem q709 : (Jvm.Cond.superclass "HomeCompiler$Checker" "java/lang/Object") ∈ lw_all := lw_g (lw_at lw_m2 155 rfl) rfl
theorem q745 : (Jvm.Cond.instanceMethod ({ cls := "HomeCompiler$Checker", name := "variables", desc := "()LHomeCompiler$Variables;" } : Jvm.MethodName)) ∈ lw_all := lw_g (lw_at lw_m2 191 rfl) rfl
theorem q746 : (Jvm.Cond.selects "HomeCompiler$Checker" ({ cls := "HomeCompiler$Checker", name := "variables", desc := "()LHomeCompiler$Variables;" } : Jvm.MethodName) ({ cls := "HomeCompiler$Checker", name := "variables", desc := "()LHomeCompiler$Variables;" } : Jvm.MethodName)) ∈ lw_all := lw_g (lw_at lw_m2 192 rfl) rfl
theorem q747 : (Jvm.Cond.code ({ cls := "HomeCompiler$Checker", name := "variables", desc := "()LHomeCompiler$Variables;" } : Jvm.MethodName) prog_3_method_3_code (1 : Nat) (Option.some (Jvm.ClassFile.FieldType.object "HomeCompiler$Variables"))) ∈ lw_all := lw_g (lw_at lw_m2 193 rfl) rfl
theorem q1056 : (Jvm.Cond.instanceMethod ({ cls := "HomeCompiler$Checker", name := "clear", desc := "()V" } : Jvm.MethodName)) ∈ lw_all := lw_g (lw_at lw_m4 22 rfl) rfl
theorem q1057 : (Jvm.Cond.selects "HomeCompiler$Checker" ({ cls := "HomeCompiler$Checker", name := "clear", desc := "()V" } : Jvm.MethodName) ({ cls := "HomeCompiler$Checker", name := "clear", desc := "()V" } : Jvm.MethodName)) ∈ lw_all := lw_g (lw_at lw_m4 23 rfl) rfl
theorem q1058 : (Jvm.Cond.code ({ cls := "HomeCompiler$Checker", name := "clear", desc := "()V" } : Jvm.MethodName) prog_3_method_6_code (1 : Nat) (Option.none : Option Jvm.ClassFile.FieldType)) ∈ lw_all := lw_g (lw_at lw_m4 24 rfl) rfl
theorem q1059 : (Jvm.Cond.methodLink "HomeCompiler$Checker" (62 : Nat) ({ cls := "HomeCompiler$Wrong", name := "clear", desc := "()V" } : Jvm.MethodName)) ∈ lw_all := lw_g (lw_at lw_m4 25 rfl) rfl
theorem q1063 : (Jvm.Cond.methodLink "HomeCompiler$Checker" (65 : Nat) ({ cls := "HomeCompiler$Variables", name := "clear", desc := "()V" } : Jvm.MethodName)) ∈ lw_all := lw_g (lw_at lw_m4 29 rfl) rfl
theorem q1541 : (Jvm.Cond.instanceMethod ({ cls := "HomeCompiler$Checker", name := "check", desc := "(IZI)V" } : Jvm.MethodName)) ∈ lw_all := lw_g (lw_at lw_m6 27 rfl) rfl
theorem q1542 : (Jvm.Cond.selects "HomeCompiler$Checker" ({ cls := "HomeCompiler$Checker", name := "check", desc := "(IZI)V" } : Jvm.MethodName) ({ cls := "HomeCompiler$Checker", name := "check", desc := "(IZI)V" } : Jvm.MethodName)) ∈ lw_all := lw_g (lw_at lw_m6 28 rfl) rfl
theorem q1543 : (Jvm.Cond.code ({ cls := "HomeCompiler$Checker", name := "check", desc := "(IZI)V" } : Jvm.MethodName) prog_3_method_7_code (5 : Nat) (Option.none : Option Jvm.ClassFile.FieldType)) ∈ lw_all := lw_g (lw_at lw_m6 29 rfl) rfl
theorem q1544 : (Jvm.Cond.methodLink "HomeCompiler$Checker" (66 : Nat) ({ cls := "HomeCompiler$Checker", name := "clear", desc := "()V" } : Jvm.MethodName)) ∈ lw_all := lw_g (lw_at lw_m6 30 rfl) rfl
theorem q1545 : (Jvm.Cond.methodLink "HomeCompiler$Checker" (67 : Nat) ({ cls := "HomeCompiler$Names", name := "count", desc := "()I" } : Jvm.MethodName)) ∈ lw_all := lw_g (lw_at lw_m6 31 rfl) rfl
theorem q1549 : (Jvm.Cond.methodLink "HomeCompiler$Checker" (74 : Nat) ({ cls := "HomeCompiler$Symbols", name := "clear", desc := "(I)V" } : Jvm.MethodName)) ∈ lw_all := lw_g (lw_at lw_m6 35 rfl) rfl
theorem q1553 : (Jvm.Cond.methodLink "HomeCompiler$Checker" (80 : Nat) ({ cls := "HomeCompiler$Words", name := "given", desc := "(I)Ljava/lang/String;" } : Jvm.MethodName)) ∈ lw_all := lw_g (lw_at lw_m6 39 rfl) rfl
theorem q1557 : (Jvm.Cond.methodLink "HomeCompiler$Checker" (83 : Nat) ({ cls := "HomeCompiler$Checker", name := "nameOf", desc := "(Ljava/lang/String;)I" } : Jvm.MethodName)) ∈ lw_all := lw_g (lw_at lw_m6 43 rfl) rfl
theorem q1558 : (Jvm.Cond.privateMethod ({ cls := "HomeCompiler$Checker", name := "nameOf", desc := "(Ljava/lang/String;)I" } : Jvm.MethodName)) ∈ lw_tbl := lw_at lw_m6 44 rfl
theorem q1559 : (Jvm.Cond.instanceMethod ({ cls := "HomeCompiler$Checker", name := "nameOf", desc := "(Ljava/lang/String;)I" } : Jvm.MethodName)) ∈ lw_all := lw_g (lw_at lw_m6 45 rfl) rfl
theorem q1560 : (Jvm.Cond.code ({ cls := "HomeCompiler$Checker", name := "nameOf", desc := "(Ljava/lang/String;)I" } : Jvm.MethodName) prog_3_method_8_code (4 : Nat) (Option.some Jvm.ClassFile.FieldType.int)) ∈ lw_all := lw_g (lw_at lw_m6 46 rfl) rfl
theorem q1561 : (Jvm.Cond.methodLink "HomeCompiler$Checker" (115 : Nat) ({ cls := "HomeCompiler$Bytes", name := "size", desc := "()I" } : Jvm.MethodName)) ∈ lw_all := lw_g (lw_at lw_m6 47 rfl) rfl
theorem q1562 : (Jvm.Cond.methodLink "HomeCompiler$Checker" (118 : Nat) ({ cls := "java/lang/String", name := "length", desc := "()I" } : Jvm.MethodName)) ∈ lw_all := lw_g (lw_at lw_m6 48 rfl) rfl
theorem q1563 : (Jvm.Cond.methodLink "HomeCompiler$Checker" (123 : Nat) ({ cls := "java/lang/String", name := "charAt", desc := "(I)C" } : Jvm.MethodName)) ∈ lw_all := lw_g (lw_at lw_m6 49 rfl) rfl
theorem q1564 : (Jvm.Cond.methodLink "HomeCompiler$Checker" (127 : Nat) ({ cls := "HomeCompiler$Bytes", name := "add", desc := "(I)V" } : Jvm.MethodName)) ∈ lw_all := lw_g (lw_at lw_m6 50 rfl) rfl
theorem q1565 : (Jvm.Cond.methodLink "HomeCompiler$Checker" (129 : Nat) ({ cls := "HomeCompiler$Names", name := "of", desc := "(LHomeCompiler$Bytes;II)I" } : Jvm.MethodName)) ∈ lw_all := lw_g (lw_at lw_m6 51 rfl) rfl
theorem q1566 : (Jvm.Cond.methodLink "HomeCompiler$Checker" (133 : Nat) ({ cls := "HomeCompiler$Bytes", name := "cut", desc := "(I)V" } : Jvm.MethodName)) ∈ lw_all := lw_g (lw_at lw_m6 52 rfl) rfl
theorem q1567 : (Jvm.Cond.methodLink "HomeCompiler$Checker" (87 : Nat) ({ cls := "HomeCompiler$Symbols", name := "add", desc := "(III)V" } : Jvm.MethodName)) ∈ lw_all := lw_g (lw_at lw_m6 53 rfl) rfl
theorem q1575 : (Jvm.Cond.methodLink "HomeCompiler$Checker" (91 : Nat) ({ cls := "HomeCompiler$Nodes", name := "first", desc := "(I)I" } : Jvm.MethodName)) ∈ lw_all := lw_g (lw_at lw_m6 61 rfl) rfl
theorem q1579 : (Jvm.Cond.methodLink "HomeCompiler$Checker" (97 : Nat) ({ cls := "HomeCompiler$Nodes", name := "kind", desc := "(I)I" } : Jvm.MethodName)) ∈ lw_all := lw_g (lw_at lw_m6 65 rfl) rfl
theorem q1580 : (Jvm.Cond.methodLink "HomeCompiler$Checker" (100 : Nat) ({ cls := "HomeCompiler$Checker", name := "know", desc := "(I)V" } : Jvm.MethodName)) ∈ lw_all := lw_g (lw_at lw_m6 66 rfl) rfl
theorem q1581 : (Jvm.Cond.privateMethod ({ cls := "HomeCompiler$Checker", name := "know", desc := "(I)V" } : Jvm.MethodName)) ∈ lw_tbl := lw_at lw_m6 67 rfl
theorem q1582 : (Jvm.Cond.instanceMethod ({ cls := "HomeCompiler$Checker", name := "know", desc := "(I)V" } : Jvm.MethodName)) ∈ lw_all := lw_g (lw_at lw_m6 68 rfl) rfl
theorem q1583 : (Jvm.Cond.code ({ cls := "HomeCompiler$Checker", name := "know", desc := "(I)V" } : Jvm.MethodName) prog_3_method_9_code (3 : Nat) (Option.none : Option Jvm.ClassFile.FieldType)) ∈ lw_all := lw_g (lw_at lw_m6 69 rfl) rfl
theorem q1584 : (Jvm.Cond.methodLink "HomeCompiler$Checker" (136 : Nat) ({ cls := "java/lang/System", name := "arraycopy", desc := "(Ljava/lang/Object;ILjava/lang/Object;II)V" } : Jvm.MethodName)) ∈ lw_all := lw_g (lw_at lw_m6 70 rfl) rfl
theorem q1585 : (Jvm.Cond.methodLink "HomeCompiler$Checker" (142 : Nat) ({ cls := "HomeCompiler$Nodes", name := "value", desc := "(I)I" } : Jvm.MethodName)) ∈ lw_all := lw_g (lw_at lw_m6 71 rfl) rfl
theorem q1589 : (Jvm.Cond.methodLink "HomeCompiler$Checker" (145 : Nat) ({ cls := "HomeCompiler$Symbols", name := "isHere", desc := "(I)Z" } : Jvm.MethodName)) ∈ lw_all := lw_g (lw_at lw_m6 75 rfl) rfl
theorem q1593 : (Jvm.Cond.methodLink "HomeCompiler$Checker" (149 : Nat) ({ cls := "HomeCompiler$Nodes", name := "place", desc := "(I)I" } : Jvm.MethodName)) ∈ lw_all := lw_g (lw_at lw_m6 79 rfl) rfl
theorem q1597 : (Jvm.Cond.methodLink "HomeCompiler$Checker" (152 : Nat) ({ cls := "HomeCompiler$Wrong", name := "say", desc := "(II)V" } : Jvm.MethodName)) ∈ lw_all := lw_g (lw_at lw_m6 83 rfl) rfl
theorem q1601 : (Jvm.Cond.methodLink "HomeCompiler$Checker" (156 : Nat) ({ cls := "HomeCompiler$Nodes", name := "setExtra", desc := "(II)V" } : Jvm.MethodName)) ∈ lw_all := lw_g (lw_at lw_m6 87 rfl) rfl
theorem q1602 : (Jvm.Cond.methodLink "HomeCompiler$Checker" (103 : Nat) ({ cls := "HomeCompiler$Nodes", name := "next", desc := "(I)I" } : Jvm.MethodName)) ∈ lw_all := lw_g (lw_at lw_m6 88 rfl) rfl
theorem q1606 : (Jvm.Cond.methodLink "HomeCompiler$Checker" (106 : Nat) ({ cls := "HomeCompiler$Checker", name := "part", desc := "(I)V" } : Jvm.MethodName)) ∈ lw_all := lw_g (lw_at lw_m6 92 rfl) rfl
theorem q1607 : (Jvm.Cond.privateMethod ({ cls := "HomeCompiler$Checker", name := "part", desc := "(I)V" } : Jvm.MethodName)) ∈ lw_tbl := lw_at lw_m6 93 rfl
theorem q1608 : (Jvm.Cond.instanceMethod ({ cls := "HomeCompiler$Checker", name := "part", desc := "(I)V" } : Jvm.MethodName)) ∈ lw_all := lw_g (lw_at lw_m6 94 rfl) rfl
theorem q1609 : (Jvm.Cond.code ({ cls := "HomeCompiler$Checker", name := "part", desc := "(I)V" } : Jvm.MethodName) prog_3_method_18_code (4 : Nat) (Option.none : Option Jvm.ClassFile.FieldType)) ∈ lw_all := lw_g (lw_at lw_m6 95 rfl) rfl
theorem q1610 : (Jvm.Cond.methodLink "HomeCompiler$Checker" (196 : Nat) ({ cls := "HomeCompiler$Checker", name := "constant", desc := "(I)Z" } : Jvm.MethodName)) ∈ lw_all := lw_g (lw_at lw_m6 96 rfl) rfl
theorem q1611 : (Jvm.Cond.privateMethod ({ cls := "HomeCompiler$Checker", name := "constant", desc := "(I)Z" } : Jvm.MethodName)) ∈ lw_tbl := lw_at lw_m6 97 rfl
theorem q1612 : (Jvm.Cond.instanceMethod ({ cls := "HomeCompiler$Checker", name := "constant", desc := "(I)Z" } : Jvm.MethodName)) ∈ lw_all := lw_g (lw_at lw_m6 98 rfl) rfl
theorem q1613 : (Jvm.Cond.code ({ cls := "HomeCompiler$Checker", name := "constant", desc := "(I)Z" } : Jvm.MethodName) prog_3_method_41_code (3 : Nat) (Option.some Jvm.ClassFile.FieldType.boolean)) ∈ lw_all := lw_g (lw_at lw_m6 99 rfl) rfl
theorem q1614 : (Jvm.Cond.methodLink "HomeCompiler$Checker" (317 : Nat) ({ cls := "HomeCompiler$Checker", name := "isTold", desc := "(I)Z" } : Jvm.MethodName)) ∈ lw_all := lw_g (lw_at lw_m6 100 rfl) rfl
theorem q1615 : (Jvm.Cond.privateMethod ({ cls := "HomeCompiler$Checker", name := "isTold", desc := "(I)Z" } : Jvm.MethodName)) ∈ lw_tbl := lw_at lw_m6 101 rfl
theorem q1616 : (Jvm.Cond.instanceMethod ({ cls := "HomeCompiler$Checker", name := "isTold", desc := "(I)Z" } : Jvm.MethodName)) ∈ lw_all := lw_g (lw_at lw_m6 102 rfl) rfl
theorem q1617 : (Jvm.Cond.code ({ cls := "HomeCompiler$Checker", name := "isTold", desc := "(I)Z" } : Jvm.MethodName) prog_3_method_43_code (3 : Nat) (Option.some Jvm.ClassFile.FieldType.boolean)) ∈ lw_all := lw_g (lw_at lw_m6 103 rfl) rfl
theorem q1618 : (Jvm.Cond.methodLink "HomeCompiler$Checker" (228 : Nat) ({ cls := "HomeCompiler$Checker", name := "number", desc := "(I)V" } : Jvm.MethodName)) ∈ lw_all := lw_g (lw_at lw_m6 104 rfl) rfl
theorem q1619 : (Jvm.Cond.privateMethod ({ cls := "HomeCompiler$Checker", name := "number", desc := "(I)V" } : Jvm.MethodName)) ∈ lw_tbl := lw_at lw_m6 105 rfl
theorem q1620 : (Jvm.Cond.instanceMethod ({ cls := "HomeCompiler$Checker", name := "number", desc := "(I)V" } : Jvm.MethodName)) ∈ lw_all := lw_g (lw_at lw_m6 106 rfl) rfl
theorem q1621 : (Jvm.Cond.code ({ cls := "HomeCompiler$Checker", name := "number", desc := "(I)V" } : Jvm.MethodName) prog_3_method_31_code (3 : Nat) (Option.none : Option Jvm.ClassFile.FieldType)) ∈ lw_all := lw_g (lw_at lw_m6 107 rfl) rfl
theorem q1622 : (Jvm.Cond.methodLink "HomeCompiler$Checker" (276 : Nat) ({ cls := "HomeCompiler$Checker", name := "typeOf", desc := "(I)I" } : Jvm.MethodName)) ∈ lw_all := lw_g (lw_at lw_m6 108 rfl) rfl
theorem q1623 : (Jvm.Cond.privateMethod ({ cls := "HomeCompiler$Checker", name := "typeOf", desc := "(I)I" } : Jvm.MethodName)) ∈ lw_tbl := lw_at lw_m6 109 rfl
theorem q1624 : (Jvm.Cond.instanceMethod ({ cls := "HomeCompiler$Checker", name := "typeOf", desc := "(I)I" } : Jvm.MethodName)) ∈ lw_all := lw_g (lw_at lw_m6 110 rfl) rfl
theorem q1625 : (Jvm.Cond.code ({ cls := "HomeCompiler$Checker", name := "typeOf", desc := "(I)I" } : Jvm.MethodName) prog_3_method_32_code (3 : Nat) (Option.some Jvm.ClassFile.FieldType.int)) ∈ lw_all := lw_g (lw_at lw_m6 111 rfl) rfl
theorem q1626 : (Jvm.Cond.methodLink "HomeCompiler$Checker" (279 : Nat) ({ cls := "HomeCompiler$Checker", name := "typeOfName", desc := "(I)I" } : Jvm.MethodName)) ∈ lw_all := lw_g (lw_at lw_m6 112 rfl) rfl
theorem q1627 : (Jvm.Cond.privateMethod ({ cls := "HomeCompiler$Checker", name := "typeOfName", desc := "(I)I" } : Jvm.MethodName)) ∈ lw_tbl := lw_at lw_m6 113 rfl
theorem q1628 : (Jvm.Cond.instanceMethod ({ cls := "HomeCompiler$Checker", name := "typeOfName", desc := "(I)I" } : Jvm.MethodName)) ∈ lw_all := lw_g (lw_at lw_m6 114 rfl) rfl
theorem q1629 : (Jvm.Cond.code ({ cls := "HomeCompiler$Checker", name := "typeOfName", desc := "(I)I" } : Jvm.MethodName) prog_3_method_34_code (3 : Nat) (Option.some Jvm.ClassFile.FieldType.int)) ∈ lw_all := lw_g (lw_at lw_m6 115 rfl) rfl
theorem q1630 : (Jvm.Cond.methodLink "HomeCompiler$Checker" (294 : Nat) ({ cls := "HomeCompiler$Symbols", name := "find", desc := "(I)I" } : Jvm.MethodName)) ∈ lw_all := lw_g (lw_at lw_m6 116 rfl) rfl
theorem q1634 : (Jvm.Cond.methodLink "HomeCompiler$Checker" (297 : Nat) ({ cls := "HomeCompiler$Symbols", name := "sort", desc := "(I)I" } : Jvm.MethodName)) ∈ lw_all := lw_g (lw_at lw_m6 120 rfl) rfl
theorem q1638 : (Jvm.Cond.methodLink "HomeCompiler$Checker" (168 : Nat) ({ cls := "HomeCompiler$Nodes", name := "op", desc := "(I)I" } : Jvm.MethodName)) ∈ lw_all := lw_g (lw_at lw_m6 124 rfl) rfl
theorem q1642 : (Jvm.Cond.methodLink "HomeCompiler$Checker" (300 : Nat) ({ cls := "HomeCompiler$Symbols", name := "value", desc := "(I)I" } : Jvm.MethodName)) ∈ lw_all := lw_g (lw_at lw_m6 128 rfl) rfl
theorem q1646 : (Jvm.Cond.methodLink "HomeCompiler$Checker" (245 : Nat) ({ cls := "HomeCompiler$Nodes", name := "setNumber", desc := "(II)V" } : Jvm.MethodName)) ∈ lw_all := lw_g (lw_at lw_m6 132 rfl) rfl
theorem q1650 : (Jvm.Cond.methodLink "HomeCompiler$Checker" (301 : Nat) ({ cls := "HomeCompiler$Checker", name := "typeOfVariable", desc := "(II)I" } : Jvm.MethodName)) ∈ lw_all := lw_g (lw_at lw_m6 136 rfl) rfl
theorem q1651 : (Jvm.Cond.privateMethod ({ cls := "HomeCompiler$Checker", name := "typeOfVariable", desc := "(II)I" } : Jvm.MethodName)) ∈ lw_tbl := lw_at lw_m6 137 rfl
theorem q1652 : (Jvm.Cond.instanceMethod ({ cls := "HomeCompiler$Checker", name := "typeOfVariable", desc := "(II)I" } : Jvm.MethodName)) ∈ lw_all := lw_g (lw_at lw_m6 138 rfl) rfl
theorem q1653 : (Jvm.Cond.code ({ cls := "HomeCompiler$Checker", name := "typeOfVariable", desc := "(II)I" } : Jvm.MethodName) prog_3_method_33_code (3 : Nat) (Option.some Jvm.ClassFile.FieldType.int)) ∈ lw_all := lw_g (lw_at lw_m6 139 rfl) rfl
theorem q1654 : (Jvm.Cond.methodLink "HomeCompiler$Checker" (176 : Nat) ({ cls := "HomeCompiler$Variables", name := "size", desc := "(I)I" } : Jvm.MethodName)) ∈ lw_all := lw_g (lw_at lw_m6 140 rfl) rfl
theorem q1658 : (Jvm.Cond.methodLink "HomeCompiler$Checker" (291 : Nat) ({ cls := "HomeCompiler$Variables", name := "type", desc := "(I)I" } : Jvm.MethodName)) ∈ lw_all := lw_g (lw_at lw_m6 144 rfl) rfl
theorem q1662 : (Jvm.Cond.methodLink "HomeCompiler$Checker" (282 : Nat) ({ cls := "HomeCompiler$Checker", name := "typeOfCall", desc := "(I)I" } : Jvm.MethodName)) ∈ lw_all := lw_g (lw_at lw_m6 148 rfl) rfl
theorem q1663 : (Jvm.Cond.privateMethod ({ cls := "HomeCompiler$Checker", name := "typeOfCall", desc := "(I)I" } : Jvm.MethodName)) ∈ lw_tbl := lw_at lw_m6 149 rfl
theorem q1664 : (Jvm.Cond.instanceMethod ({ cls := "HomeCompiler$Checker", name := "typeOfCall", desc := "(I)I" } : Jvm.MethodName)) ∈ lw_all := lw_g (lw_at lw_m6 150 rfl) rfl
theorem q1665 : (Jvm.Cond.code ({ cls := "HomeCompiler$Checker", name := "typeOfCall", desc := "(I)I" } : Jvm.MethodName) prog_3_method_37_code (5 : Nat) (Option.some Jvm.ClassFile.FieldType.int)) ∈ lw_all := lw_g (lw_at lw_m6 151 rfl) rfl
theorem q1666 : (Jvm.Cond.methodLink "HomeCompiler$Checker" (304 : Nat) ({ cls := "HomeCompiler$Words", name := "takes", desc := "(I)Ljava/lang/String;" } : Jvm.MethodName)) ∈ lw_all := lw_g (lw_at lw_m6 152 rfl) rfl
theorem q1670 : (Jvm.Cond.methodLink "HomeCompiler$Checker" (307 : Nat) ({ cls := "HomeCompiler$Checker", name := "typeOfGiven", desc := "(ILjava/lang/String;)I" } : Jvm.MethodName)) ∈ lw_all := lw_g (lw_at lw_m6 156 rfl) rfl
theorem q1671 : (Jvm.Cond.privateMethod ({ cls := "HomeCompiler$Checker", name := "typeOfGiven", desc := "(ILjava/lang/String;)I" } : Jvm.MethodName)) ∈ lw_tbl := lw_at lw_m6 157 rfl
theorem q1672 : (Jvm.Cond.instanceMethod ({ cls := "HomeCompiler$Checker", name := "typeOfGiven", desc := "(ILjava/lang/String;)I" } : Jvm.MethodName)) ∈ lw_all := lw_g (lw_at lw_m6 158 rfl) rfl
theorem q1673 : (Jvm.Cond.code ({ cls := "HomeCompiler$Checker", name := "typeOfGiven", desc := "(ILjava/lang/String;)I" } : Jvm.MethodName) prog_3_method_38_code (5 : Nat) (Option.some Jvm.ClassFile.FieldType.int)) ∈ lw_all := lw_g (lw_at lw_m6 159 rfl) rfl
theorem q1674 : (Jvm.Cond.methodLink "HomeCompiler$Checker" (233 : Nat) ({ cls := "HomeCompiler$Nodes", name := "children", desc := "(I)I" } : Jvm.MethodName)) ∈ lw_all := lw_g (lw_at lw_m6 160 rfl) rfl
theorem q1678 : (Jvm.Cond.methodLink "HomeCompiler$Checker" (314 : Nat) ({ cls := "HomeCompiler$Checker", name := "argument", desc := "(II)V" } : Jvm.MethodName)) ∈ lw_all := lw_g (lw_at lw_m6 164 rfl) rfl
theorem q1679 : (Jvm.Cond.privateMethod ({ cls := "HomeCompiler$Checker", name := "argument", desc := "(II)V" } : Jvm.MethodName)) ∈ lw_tbl := lw_at lw_m6 165 rfl
theorem q1680 : (Jvm.Cond.instanceMethod ({ cls := "HomeCompiler$Checker", name := "argument", desc := "(II)V" } : Jvm.MethodName)) ∈ lw_all := lw_g (lw_at lw_m6 166 rfl) rfl
theorem q1681 : (Jvm.Cond.code ({ cls := "HomeCompiler$Checker", name := "argument", desc := "(II)V" } : Jvm.MethodName) prog_3_method_39_code (5 : Nat) (Option.none : Option Jvm.ClassFile.FieldType)) ∈ lw_all := lw_g (lw_at lw_m6 167 rfl) rfl
theorem q1682 : (Jvm.Cond.methodLink "HomeCompiler$Checker" (311 : Nat) ({ cls := "HomeCompiler$Checker", name := "typeOfOwn", desc := "(II)I" } : Jvm.MethodName)) ∈ lw_all := lw_g (lw_at lw_m6 168 rfl) rfl
theorem q1683 : (Jvm.Cond.privateMethod ({ cls := "HomeCompiler$Checker", name := "typeOfOwn", desc := "(II)I" } : Jvm.MethodName)) ∈ lw_tbl := lw_at lw_m6 169 rfl
theorem q1684 : (Jvm.Cond.instanceMethod ({ cls := "HomeCompiler$Checker", name := "typeOfOwn", desc := "(II)I" } : Jvm.MethodName)) ∈ lw_all := lw_g (lw_at lw_m6 170 rfl) rfl
theorem q1685 : (Jvm.Cond.code ({ cls := "HomeCompiler$Checker", name := "typeOfOwn", desc := "(II)I" } : Jvm.MethodName) prog_3_method_40_code (7 : Nat) (Option.some Jvm.ClassFile.FieldType.int)) ∈ lw_all := lw_g (lw_at lw_m6 171 rfl) rfl
theorem q1686 : (Jvm.Cond.methodLink "HomeCompiler$Checker" (171 : Nat) ({ cls := "HomeCompiler$Nodes", name := "extra", desc := "(I)I" } : Jvm.MethodName)) ∈ lw_all := lw_g (lw_at lw_m6 172 rfl) rfl
theorem q1690 : (Jvm.Cond.methodLink "HomeCompiler$Checker" (285 : Nat) ({ cls := "HomeCompiler$Checker", name := "typeOfIndex", desc := "(I)I" } : Jvm.MethodName)) ∈ lw_all := lw_g (lw_at lw_m6 176 rfl) rfl
theorem q1691 : (Jvm.Cond.privateMethod ({ cls := "HomeCompiler$Checker", name := "typeOfIndex", desc := "(I)I" } : Jvm.MethodName)) ∈ lw_tbl := lw_at lw_m6 177 rfl
theorem q1692 : (Jvm.Cond.instanceMethod ({ cls := "HomeCompiler$Checker", name := "typeOfIndex", desc := "(I)I" } : Jvm.MethodName)) ∈ lw_all := lw_g (lw_at lw_m6 178 rfl) rfl
theorem q1693 : (Jvm.Cond.code ({ cls := "HomeCompiler$Checker", name := "typeOfIndex", desc := "(I)I" } : Jvm.MethodName) prog_3_method_35_code (3 : Nat) (Option.some Jvm.ClassFile.FieldType.int)) ∈ lw_all := lw_g (lw_at lw_m6 179 rfl) rfl
theorem q1694 : (Jvm.Cond.methodLink "HomeCompiler$Checker" (288 : Nat) ({ cls := "HomeCompiler$Checker", name := "target", desc := "(I)V" } : Jvm.MethodName)) ∈ lw_all := lw_g (lw_at lw_m6 180 rfl) rfl
theorem q1695 : (Jvm.Cond.privateMethod ({ cls := "HomeCompiler$Checker", name := "target", desc := "(I)V" } : Jvm.MethodName)) ∈ lw_tbl := lw_at lw_m6 181 rfl
theorem q1696 : (Jvm.Cond.instanceMethod ({ cls := "HomeCompiler$Checker", name := "target", desc := "(I)V" } : Jvm.MethodName)) ∈ lw_all := lw_g (lw_at lw_m6 182 rfl) rfl
theorem q1697 : (Jvm.Cond.code ({ cls := "HomeCompiler$Checker", name := "target", desc := "(I)V" } : Jvm.MethodName) prog_3_method_36_code (5 : Nat) (Option.none : Option Jvm.ClassFile.FieldType)) ∈ lw_all := lw_g (lw_at lw_m6 183 rfl) rfl
theorem q1698 : (Jvm.Cond.methodLink "HomeCompiler$Checker" (320 : Nat) ({ cls := "HomeCompiler$Checker", name := "sortOf", desc := "(I)I" } : Jvm.MethodName)) ∈ lw_all := lw_g (lw_at lw_m6 184 rfl) rfl
theorem q1699 : (Jvm.Cond.privateMethod ({ cls := "HomeCompiler$Checker", name := "sortOf", desc := "(I)I" } : Jvm.MethodName)) ∈ lw_tbl := lw_at lw_m6 185 rfl
theorem q1700 : (Jvm.Cond.instanceMethod ({ cls := "HomeCompiler$Checker", name := "sortOf", desc := "(I)I" } : Jvm.MethodName)) ∈ lw_all := lw_g (lw_at lw_m6 186 rfl) rfl
theorem q1701 : (Jvm.Cond.code ({ cls := "HomeCompiler$Checker", name := "sortOf", desc := "(I)I" } : Jvm.MethodName) prog_3_method_44_code (6 : Nat) (Option.some Jvm.ClassFile.FieldType.int)) ∈ lw_all := lw_g (lw_at lw_m6 187 rfl) rfl
theorem q1702 : (Jvm.Cond.methodLink "HomeCompiler$Checker" (187 : Nat) ({ cls := "java/lang/Math", name := "max", desc := "(II)I" } : Jvm.MethodName)) ∈ lw_all := lw_g (lw_at lw_m6 188 rfl) rfl
theorem q1703 : (Jvm.Cond.methodLink "HomeCompiler$Checker" (327 : Nat) ({ cls := "HomeCompiler$Checker", name := "valueOf", desc := "(I)I" } : Jvm.MethodName)) ∈ lw_all := lw_g (lw_at lw_m6 189 rfl) rfl
theorem q1704 : (Jvm.Cond.privateMethod ({ cls := "HomeCompiler$Checker", name := "valueOf", desc := "(I)I" } : Jvm.MethodName)) ∈ lw_tbl := lw_at lw_m6 190 rfl
theorem q1705 : (Jvm.Cond.instanceMethod ({ cls := "HomeCompiler$Checker", name := "valueOf", desc := "(I)I" } : Jvm.MethodName)) ∈ lw_all := lw_g (lw_at lw_m6 191 rfl) rfl
theorem q1706 : (Jvm.Cond.code ({ cls := "HomeCompiler$Checker", name := "valueOf", desc := "(I)I" } : Jvm.MethodName) prog_3_method_45_code (4 : Nat) (Option.some Jvm.ClassFile.FieldType.int)) ∈ lw_all := lw_g (lw_at lw_m6 192 rfl) rfl
theorem q1707 : (Jvm.Cond.methodLink "HomeCompiler$Checker" (330 : Nat) ({ cls := "HomeCompiler$Checker", name := "valueOfChain", desc := "(I)I" } : Jvm.MethodName)) ∈ lw_all := lw_g (lw_at lw_m6 193 rfl) rfl
theorem q1708 : (Jvm.Cond.privateMethod ({ cls := "HomeCompiler$Checker", name := "valueOfChain", desc := "(I)I" } : Jvm.MethodName)) ∈ lw_tbl := lw_at lw_m6 194 rfl
theorem q1709 : (Jvm.Cond.instanceMethod ({ cls := "HomeCompiler$Checker", name := "valueOfChain", desc := "(I)I" } : Jvm.MethodName)) ∈ lw_all := lw_g (lw_at lw_m6 195 rfl) rfl
theorem q1710 : (Jvm.Cond.code ({ cls := "HomeCompiler$Checker", name := "valueOfChain", desc := "(I)I" } : Jvm.MethodName) prog_3_method_46_code (6 : Nat) (Option.some Jvm.ClassFile.FieldType.int)) ∈ lw_all := lw_g (lw_at lw_m6 196 rfl) rfl
theorem q1711 : (Jvm.Cond.methodLink "HomeCompiler$Checker" (333 : Nat) ({ cls := "HomeCompiler$Checker", name := "reckon", desc := "(III)I" } : Jvm.MethodName)) ∈ lw_all := lw_g (lw_at lw_m6 197 rfl) rfl
theorem q1712 : (Jvm.Cond.privateMethod ({ cls := "HomeCompiler$Checker", name := "reckon", desc := "(III)I" } : Jvm.MethodName)) ∈ lw_tbl := lw_at lw_m6 198 rfl
theorem q1713 : (Jvm.Cond.instanceMethod ({ cls := "HomeCompiler$Checker", name := "reckon", desc := "(III)I" } : Jvm.MethodName)) ∈ lw_all := lw_g (lw_at lw_m6 199 rfl) rfl
theorem q1714 : (Jvm.Cond.code ({ cls := "HomeCompiler$Checker", name := "reckon", desc := "(III)I" } : Jvm.MethodName) prog_3_method_48_code (4 : Nat) (Option.some Jvm.ClassFile.FieldType.int)) ∈ lw_all := lw_g (lw_at lw_m6 200 rfl) rfl
theorem q1715 : (Jvm.Cond.methodLink "HomeCompiler$Checker" (336 : Nat) ({ cls := "HomeCompiler$Checker", name := "truth", desc := "(Z)I" } : Jvm.MethodName)) ∈ lw_all := lw_g (lw_at lw_m6 201 rfl) rfl
theorem q1716 : (Jvm.Cond.static ({ cls := "HomeCompiler$Checker", name := "truth", desc := "(Z)I" } : Jvm.MethodName)) ∈ lw_all := lw_g (lw_at lw_m6 202 rfl) rfl
theorem q1717 : (Jvm.Cond.code ({ cls := "HomeCompiler$Checker", name := "truth", desc := "(Z)I" } : Jvm.MethodName) prog_3_method_47_code (1 : Nat) (Option.some Jvm.ClassFile.FieldType.int)) ∈ lw_all := lw_g (lw_at lw_m6 203 rfl) rfl
theorem q1718 : (Jvm.Cond.methodLink "HomeCompiler$Checker" (340 : Nat) ({ cls := "HomeCompiler$Checker", name := "divide", desc := "(III)I" } : Jvm.MethodName)) ∈ lw_all := lw_g (lw_at lw_m6 204 rfl) rfl
theorem q1719 : (Jvm.Cond.privateMethod ({ cls := "HomeCompiler$Checker", name := "divide", desc := "(III)I" } : Jvm.MethodName)) ∈ lw_tbl := lw_at lw_m6 205 rfl
theorem q1720 : (Jvm.Cond.instanceMethod ({ cls := "HomeCompiler$Checker", name := "divide", desc := "(III)I" } : Jvm.MethodName)) ∈ lw_all := lw_g (lw_at lw_m6 206 rfl) rfl
theorem q1721 : (Jvm.Cond.code ({ cls := "HomeCompiler$Checker", name := "divide", desc := "(III)I" } : Jvm.MethodName) prog_3_method_49_code (4 : Nat) (Option.some Jvm.ClassFile.FieldType.int)) ∈ lw_all := lw_g (lw_at lw_m6 207 rfl) rfl
theorem q1722 : (Jvm.Cond.methodLink "HomeCompiler$Checker" (222 : Nat) ({ cls := "HomeCompiler$Nodes", name := "setValue", desc := "(II)V" } : Jvm.MethodName)) ∈ lw_all := lw_g (lw_at lw_m6 208 rfl) rfl
theorem q1726 : (Jvm.Cond.methodLink "HomeCompiler$Checker" (199 : Nat) ({ cls := "HomeCompiler$Checker", name := "declare", desc := "(IIII)V" } : Jvm.MethodName)) ∈ lw_all := lw_g (lw_at lw_m6 212 rfl) rfl
theorem q1727 : (Jvm.Cond.privateMethod ({ cls := "HomeCompiler$Checker", name := "declare", desc := "(IIII)V" } : Jvm.MethodName)) ∈ lw_tbl := lw_at lw_m6 213 rfl
theorem q1728 : (Jvm.Cond.instanceMethod ({ cls := "HomeCompiler$Checker", name := "declare", desc := "(IIII)V" } : Jvm.MethodName)) ∈ lw_all := lw_g (lw_at lw_m6 214 rfl) rfl
theorem q1729 : (Jvm.Cond.code ({ cls := "HomeCompiler$Checker", name := "declare", desc := "(IIII)V" } : Jvm.MethodName) prog_3_method_17_code (5 : Nat) (Option.none : Option Jvm.ClassFile.FieldType)) ∈ lw_all := lw_g (lw_at lw_m6 215 rfl) rfl
theorem q1730 : (Jvm.Cond.methodLink "HomeCompiler$Checker" (206 : Nat) ({ cls := "HomeCompiler$Checker", name := "variables", desc := "(I)V" } : Jvm.MethodName)) ∈ lw_all := lw_g (lw_at lw_m6 216 rfl) rfl
theorem q1731 : (Jvm.Cond.privateMethod ({ cls := "HomeCompiler$Checker", name := "variables", desc := "(I)V" } : Jvm.MethodName)) ∈ lw_tbl := lw_at lw_m6 217 rfl
theorem q1732 : (Jvm.Cond.instanceMethod ({ cls := "HomeCompiler$Checker", name := "variables", desc := "(I)V" } : Jvm.MethodName)) ∈ lw_all := lw_g (lw_at lw_m6 218 rfl) rfl
theorem q1733 : (Jvm.Cond.code ({ cls := "HomeCompiler$Checker", name := "variables", desc := "(I)V" } : Jvm.MethodName) prog_3_method_19_code (3 : Nat) (Option.none : Option Jvm.ClassFile.FieldType)) ∈ lw_all := lw_g (lw_at lw_m6 219 rfl) rfl
theorem q1734 : (Jvm.Cond.methodLink "HomeCompiler$Checker" (210 : Nat) ({ cls := "HomeCompiler$Checker", name := "variable", desc := "(II)V" } : Jvm.MethodName)) ∈ lw_all := lw_g (lw_at lw_m6 220 rfl) rfl
theorem q1735 : (Jvm.Cond.privateMethod ({ cls := "HomeCompiler$Checker", name := "variable", desc := "(II)V" } : Jvm.MethodName)) ∈ lw_tbl := lw_at lw_m6 221 rfl
theorem q1736 : (Jvm.Cond.instanceMethod ({ cls := "HomeCompiler$Checker", name := "variable", desc := "(II)V" } : Jvm.MethodName)) ∈ lw_all := lw_g (lw_at lw_m6 222 rfl) rfl
theorem q1737 : (Jvm.Cond.code ({ cls := "HomeCompiler$Checker", name := "variable", desc := "(II)V" } : Jvm.MethodName) prog_3_method_20_code (6 : Nat) (Option.none : Option Jvm.ClassFile.FieldType)) ∈ lw_all := lw_g (lw_at lw_m6 223 rfl) rfl
theorem q1738 : (Jvm.Cond.methodLink "HomeCompiler$Checker" (213 : Nat) ({ cls := "HomeCompiler$Checker", name := "fill", desc := "(III)V" } : Jvm.MethodName)) ∈ lw_all := lw_g (lw_at lw_m6 224 rfl) rfl
theorem q1739 : (Jvm.Cond.privateMethod ({ cls := "HomeCompiler$Checker", name := "fill", desc := "(III)V" } : Jvm.MethodName)) ∈ lw_tbl := lw_at lw_m6 225 rfl
theorem q1740 : (Jvm.Cond.instanceMethod ({ cls := "HomeCompiler$Checker", name := "fill", desc := "(III)V" } : Jvm.MethodName)) ∈ lw_all := lw_g (lw_at lw_m6 226 rfl) rfl
theorem q1741 : (Jvm.Cond.code ({ cls := "HomeCompiler$Checker", name := "fill", desc := "(III)V" } : Jvm.MethodName) prog_3_method_21_code (5 : Nat) (Option.none : Option Jvm.ClassFile.FieldType)) ∈ lw_all := lw_g (lw_at lw_m6 227 rfl) rfl
theorem q1742 : (Jvm.Cond.constant "HomeCompiler$Checker" (218 : Nat) (2147483647 : Int32)) ∈ lw_all := lw_g (lw_at lw_m6 228 rfl) rfl
theorem q1743 : (Jvm.Cond.methodLink "HomeCompiler$Checker" (219 : Nat) ({ cls := "HomeCompiler$Checker", name := "told", desc := "(I)I" } : Jvm.MethodName)) ∈ lw_all := lw_g (lw_at lw_m6 229 rfl) rfl
theorem q1744 : (Jvm.Cond.privateMethod ({ cls := "HomeCompiler$Checker", name := "told", desc := "(I)I" } : Jvm.MethodName)) ∈ lw_tbl := lw_at lw_m6 230 rfl
theorem q1745 : (Jvm.Cond.instanceMethod ({ cls := "HomeCompiler$Checker", name := "told", desc := "(I)I" } : Jvm.MethodName)) ∈ lw_all := lw_g (lw_at lw_m6 231 rfl) rfl
theorem q1746 : (Jvm.Cond.code ({ cls := "HomeCompiler$Checker", name := "told", desc := "(I)I" } : Jvm.MethodName) prog_3_method_42_code (2 : Nat) (Option.some Jvm.ClassFile.FieldType.int)) ∈ lw_all := lw_g (lw_at lw_m6 232 rfl) rfl
theorem q1747 : (Jvm.Cond.methodLink "HomeCompiler$Checker" (225 : Nat) ({ cls := "HomeCompiler$Nodes", name := "setOp", desc := "(II)V" } : Jvm.MethodName)) ∈ lw_all := lw_g (lw_at lw_m6 233 rfl) rfl
theorem q1748 : (Jvm.Cond.methodLink "HomeCompiler$Checker" (230 : Nat) ({ cls := "HomeCompiler$Variables", name := "add", desc := "(III)I" } : Jvm.MethodName)) ∈ lw_all := lw_g (lw_at lw_m6 234 rfl) rfl
theorem q1764 : (Jvm.Cond.methodLink "HomeCompiler$Checker" (208 : Nat) ({ cls := "HomeCompiler$Checker", name := "function", desc := "(I)V" } : Jvm.MethodName)) ∈ lw_all := lw_g (lw_at lw_m7 10 rfl) rfl
theorem q1765 : (Jvm.Cond.privateMethod ({ cls := "HomeCompiler$Checker", name := "function", desc := "(I)V" } : Jvm.MethodName)) ∈ lw_tbl := lw_at lw_m7 11 rfl
theorem q1766 : (Jvm.Cond.instanceMethod ({ cls := "HomeCompiler$Checker", name := "function", desc := "(I)V" } : Jvm.MethodName)) ∈ lw_all := lw_g (lw_at lw_m7 12 rfl) rfl
theorem q1767 : (Jvm.Cond.code ({ cls := "HomeCompiler$Checker", name := "function", desc := "(I)V" } : Jvm.MethodName) prog_3_method_22_code (4 : Nat) (Option.none : Option Jvm.ClassFile.FieldType)) ∈ lw_all := lw_g (lw_at lw_m7 13 rfl) rfl
theorem q1768 : (Jvm.Cond.methodLink "HomeCompiler$Checker" (242 : Nat) ({ cls := "HomeCompiler$Symbols", name := "open", desc := "()V" } : Jvm.MethodName)) ∈ lw_all := lw_g (lw_at lw_m7 14 rfl) rfl
theorem q1772 : (Jvm.Cond.methodLink "HomeCompiler$Checker" (248 : Nat) ({ cls := "HomeCompiler$Checker", name := "statements", desc := "(I)V" } : Jvm.MethodName)) ∈ lw_all := lw_g (lw_at lw_m7 18 rfl) rfl
theorem q1773 : (Jvm.Cond.privateMethod ({ cls := "HomeCompiler$Checker", name := "statements", desc := "(I)V" } : Jvm.MethodName)) ∈ lw_tbl := lw_at lw_m7 19 rfl
theorem q1774 : (Jvm.Cond.instanceMethod ({ cls := "HomeCompiler$Checker", name := "statements", desc := "(I)V" } : Jvm.MethodName)) ∈ lw_all := lw_g (lw_at lw_m7 20 rfl) rfl
theorem q1775 : (Jvm.Cond.code ({ cls := "HomeCompiler$Checker", name := "statements", desc := "(I)V" } : Jvm.MethodName) prog_3_method_23_code (3 : Nat) (Option.none : Option Jvm.ClassFile.FieldType)) ∈ lw_all := lw_g (lw_at lw_m7 21 rfl) rfl
theorem q1776 : (Jvm.Cond.methodLink "HomeCompiler$Checker" (254 : Nat) ({ cls := "HomeCompiler$Checker", name := "statement", desc := "(I)V" } : Jvm.MethodName)) ∈ lw_all := lw_g (lw_at lw_m7 22 rfl) rfl
theorem q1777 : (Jvm.Cond.privateMethod ({ cls := "HomeCompiler$Checker", name := "statement", desc := "(I)V" } : Jvm.MethodName)) ∈ lw_tbl := lw_at lw_m7 23 rfl
theorem q1778 : (Jvm.Cond.instanceMethod ({ cls := "HomeCompiler$Checker", name := "statement", desc := "(I)V" } : Jvm.MethodName)) ∈ lw_all := lw_g (lw_at lw_m7 24 rfl) rfl
theorem q1779 : (Jvm.Cond.code ({ cls := "HomeCompiler$Checker", name := "statement", desc := "(I)V" } : Jvm.MethodName) prog_3_method_24_code (3 : Nat) (Option.none : Option Jvm.ClassFile.FieldType)) ∈ lw_all := lw_g (lw_at lw_m7 25 rfl) rfl
theorem q1780 : (Jvm.Cond.methodLink "HomeCompiler$Checker" (251 : Nat) ({ cls := "HomeCompiler$Symbols", name := "close", desc := "()V" } : Jvm.MethodName)) ∈ lw_all := lw_g (lw_at lw_m7 26 rfl) rfl
theorem q1784 : (Jvm.Cond.methodLink "HomeCompiler$Checker" (257 : Nat) ({ cls := "HomeCompiler$Checker", name := "anything", desc := "(I)V" } : Jvm.MethodName)) ∈ lw_all := lw_g (lw_at lw_m7 30 rfl) rfl
theorem q1785 : (Jvm.Cond.privateMethod ({ cls := "HomeCompiler$Checker", name := "anything", desc := "(I)V" } : Jvm.MethodName)) ∈ lw_tbl := lw_at lw_m7 31 rfl
theorem q1786 : (Jvm.Cond.instanceMethod ({ cls := "HomeCompiler$Checker", name := "anything", desc := "(I)V" } : Jvm.MethodName)) ∈ lw_all := lw_g (lw_at lw_m7 32 rfl) rfl
theorem q1787 : (Jvm.Cond.code ({ cls := "HomeCompiler$Checker", name := "anything", desc := "(I)V" } : Jvm.MethodName) prog_3_method_30_code (3 : Nat) (Option.none : Option Jvm.ClassFile.FieldType)) ∈ lw_all := lw_g (lw_at lw_m7 33 rfl) rfl
theorem q1788 : (Jvm.Cond.methodLink "HomeCompiler$Checker" (260 : Nat) ({ cls := "HomeCompiler$Checker", name := "body", desc := "(I)V" } : Jvm.MethodName)) ∈ lw_all := lw_g (lw_at lw_m7 34 rfl) rfl
theorem q1789 : (Jvm.Cond.privateMethod ({ cls := "HomeCompiler$Checker", name := "body", desc := "(I)V" } : Jvm.MethodName)) ∈ lw_tbl := lw_at lw_m7 35 rfl
theorem q1790 : (Jvm.Cond.instanceMethod ({ cls := "HomeCompiler$Checker", name := "body", desc := "(I)V" } : Jvm.MethodName)) ∈ lw_all := lw_g (lw_at lw_m7 36 rfl) rfl
theorem q1791 : (Jvm.Cond.code ({ cls := "HomeCompiler$Checker", name := "body", desc := "(I)V" } : Jvm.MethodName) prog_3_method_25_code (2 : Nat) (Option.none : Option Jvm.ClassFile.FieldType)) ∈ lw_all := lw_g (lw_at lw_m7 37 rfl) rfl
theorem q1792 : (Jvm.Cond.methodLink "HomeCompiler$Checker" (263 : Nat) ({ cls := "HomeCompiler$Checker", name := "counting", desc := "(I)V" } : Jvm.MethodName)) ∈ lw_all := lw_g (lw_at lw_m7 38 rfl) rfl
theorem q1793 : (Jvm.Cond.privateMethod ({ cls := "HomeCompiler$Checker", name := "counting", desc := "(I)V" } : Jvm.MethodName)) ∈ lw_tbl := lw_at lw_m7 39 rfl
theorem q1794 : (Jvm.Cond.instanceMethod ({ cls := "HomeCompiler$Checker", name := "counting", desc := "(I)V" } : Jvm.MethodName)) ∈ lw_all := lw_g (lw_at lw_m7 40 rfl) rfl
theorem q1795 : (Jvm.Cond.code ({ cls := "HomeCompiler$Checker", name := "counting", desc := "(I)V" } : Jvm.MethodName) prog_3_method_26_code (4 : Nat) (Option.none : Option Jvm.ClassFile.FieldType)) ∈ lw_all := lw_g (lw_at lw_m7 41 rfl) rfl
theorem q1796 : (Jvm.Cond.methodLink "HomeCompiler$Checker" (266 : Nat) ({ cls := "HomeCompiler$Checker", name := "switching", desc := "(I)V" } : Jvm.MethodName)) ∈ lw_all := lw_g (lw_at lw_m7 42 rfl) rfl
theorem q1797 : (Jvm.Cond.privateMethod ({ cls := "HomeCompiler$Checker", name := "switching", desc := "(I)V" } : Jvm.MethodName)) ∈ lw_tbl := lw_at lw_m7 43 rfl
theorem q1798 : (Jvm.Cond.instanceMethod ({ cls := "HomeCompiler$Checker", name := "switching", desc := "(I)V" } : Jvm.MethodName)) ∈ lw_all := lw_g (lw_at lw_m7 44 rfl) rfl
theorem q1799 : (Jvm.Cond.code ({ cls := "HomeCompiler$Checker", name := "switching", desc := "(I)V" } : Jvm.MethodName) prog_3_method_27_code (5 : Nat) (Option.none : Option Jvm.ClassFile.FieldType)) ∈ lw_all := lw_g (lw_at lw_m7 45 rfl) rfl
theorem q1800 : (Jvm.Cond.methodLink "HomeCompiler$Checker" (272 : Nat) ({ cls := "HomeCompiler$Checker", name := "isTwice", desc := "(II)Z" } : Jvm.MethodName)) ∈ lw_all := lw_g (lw_at lw_m7 46 rfl) rfl
theorem q1801 : (Jvm.Cond.privateMethod ({ cls := "HomeCompiler$Checker", name := "isTwice", desc := "(II)Z" } : Jvm.MethodName)) ∈ lw_tbl := lw_at lw_m7 47 rfl
theorem q1802 : (Jvm.Cond.instanceMethod ({ cls := "HomeCompiler$Checker", name := "isTwice", desc := "(II)Z" } : Jvm.MethodName)) ∈ lw_all := lw_g (lw_at lw_m7 48 rfl) rfl
theorem q1803 : (Jvm.Cond.code ({ cls := "HomeCompiler$Checker", name := "isTwice", desc := "(II)Z" } : Jvm.MethodName) prog_3_method_28_code (7 : Nat) (Option.some Jvm.ClassFile.FieldType.boolean)) ∈ lw_all := lw_g (lw_at lw_m7 49 rfl) rfl
theorem q1804 : (Jvm.Cond.methodLink "HomeCompiler$Checker" (269 : Nat) ({ cls := "HomeCompiler$Checker", name := "leaving", desc := "(I)V" } : Jvm.MethodName)) ∈ lw_all := lw_g (lw_at lw_m7 50 rfl) rfl
theorem q1805 : (Jvm.Cond.privateMethod ({ cls := "HomeCompiler$Checker", name := "leaving", desc := "(I)V" } : Jvm.MethodName)) ∈ lw_tbl := lw_at lw_m7 51 rfl
theorem q1806 : (Jvm.Cond.instanceMethod ({ cls := "HomeCompiler$Checker", name := "leaving", desc := "(I)V" } : Jvm.MethodName)) ∈ lw_all := lw_g (lw_at lw_m7 52 rfl) rfl
theorem q1807 : (Jvm.Cond.code ({ cls := "HomeCompiler$Checker", name := "leaving", desc := "(I)V" } : Jvm.MethodName) prog_3_method_29_code (4 : Nat) (Option.none : Option Jvm.ClassFile.FieldType)) ∈ lw_all := lw_g (lw_at lw_m7 53 rfl) rfl
theorem q1808 : (Jvm.Cond.methodLink "HomeCompiler$Checker" (193 : Nat) ({ cls := "HomeCompiler$Checker", name := "tallest", desc := "(I)I" } : Jvm.MethodName)) ∈ lw_all := lw_g (lw_at lw_m7 54 rfl) rfl
theorem q1809 : (Jvm.Cond.privateMethod ({ cls := "HomeCompiler$Checker", name := "tallest", desc := "(I)I" } : Jvm.MethodName)) ∈ lw_tbl := lw_at lw_m7 55 rfl
theorem q1810 : (Jvm.Cond.instanceMethod ({ cls := "HomeCompiler$Checker", name := "tallest", desc := "(I)I" } : Jvm.MethodName)) ∈ lw_all := lw_g (lw_at lw_m7 56 rfl) rfl
theorem q1811 : (Jvm.Cond.code ({ cls := "HomeCompiler$Checker", name := "tallest", desc := "(I)I" } : Jvm.MethodName) prog_3_method_16_code (5 : Nat) (Option.some Jvm.ClassFile.FieldType.int)) ∈ lw_all := lw_g (lw_at lw_m7 57 rfl) rfl
theorem q1812 : (Jvm.Cond.methodLink "HomeCompiler$Checker" (184 : Nat) ({ cls := "HomeCompiler$Checker", name := "height", desc := "(I)I" } : Jvm.MethodName)) ∈ lw_all := lw_g (lw_at lw_m7 58 rfl) rfl
theorem q1813 : (Jvm.Cond.privateMethod ({ cls := "HomeCompiler$Checker", name := "height", desc := "(I)I" } : Jvm.MethodName)) ∈ lw_tbl := lw_at lw_m7 59 rfl
theorem q1814 : (Jvm.Cond.instanceMethod ({ cls := "HomeCompiler$Checker", name := "height", desc := "(I)I" } : Jvm.MethodName)) ∈ lw_all := lw_g (lw_at lw_m7 60 rfl) rfl
theorem q1815 : (Jvm.Cond.code ({ cls := "HomeCompiler$Checker", name := "height", desc := "(I)I" } : Jvm.MethodName) prog_3_method_15_code (8 : Nat) (Option.some Jvm.ClassFile.FieldType.int)) ∈ lw_all := lw_g (lw_at lw_m7 61 rfl) rfl
theorem q1816 : (Jvm.Cond.methodLink "HomeCompiler$Checker" (178 : Nat) ({ cls := "HomeCompiler$Checker", name := "isArray", desc := "(I)Z" } : Jvm.MethodName)) ∈ lw_all := lw_g (lw_at lw_m7 62 rfl) rfl
theorem q1817 : (Jvm.Cond.privateMethod ({ cls := "HomeCompiler$Checker", name := "isArray", desc := "(I)Z" } : Jvm.MethodName)) ∈ lw_tbl := lw_at lw_m7 63 rfl
theorem q1818 : (Jvm.Cond.instanceMethod ({ cls := "HomeCompiler$Checker", name := "isArray", desc := "(I)Z" } : Jvm.MethodName)) ∈ lw_all := lw_g (lw_at lw_m7 64 rfl) rfl
theorem q1819 : (Jvm.Cond.code ({ cls := "HomeCompiler$Checker", name := "isArray", desc := "(I)Z" } : Jvm.MethodName) prog_3_method_14_code (2 : Nat) (Option.some Jvm.ClassFile.FieldType.boolean)) ∈ lw_all := lw_g (lw_at lw_m7 65 rfl) rfl
theorem q1820 : (Jvm.Cond.methodLink "HomeCompiler$Checker" (181 : Nat) ({ cls := "HomeCompiler$Words", name := "isTold", desc := "(I)Z" } : Jvm.MethodName)) ∈ lw_all := lw_g (lw_at lw_m7 66 rfl) rfl
theorem q1823 : (Jvm.Cond.methodLink "HomeCompiler$Checker" (109 : Nat) ({ cls := "HomeCompiler$Wrong", name := "number", desc := "()I" } : Jvm.MethodName)) ∈ lw_all := lw_g (lw_at lw_m7 69 rfl) rfl
theorem q1827 : (Jvm.Cond.methodLink "HomeCompiler$Checker" (112 : Nat) ({ cls := "HomeCompiler$Checker", name := "whole", desc := "(I)V" } : Jvm.MethodName)) ∈ lw_all := lw_g (lw_at lw_m7 73 rfl) rfl
theorem q1828 : (Jvm.Cond.privateMethod ({ cls := "HomeCompiler$Checker", name := "whole", desc := "(I)V" } : Jvm.MethodName)) ∈ lw_tbl := lw_at lw_m7 74 rfl
theorem q1829 : (Jvm.Cond.instanceMethod ({ cls := "HomeCompiler$Checker", name := "whole", desc := "(I)V" } : Jvm.MethodName)) ∈ lw_all := lw_g (lw_at lw_m7 75 rfl) rfl
theorem q1830 : (Jvm.Cond.code ({ cls := "HomeCompiler$Checker", name := "whole", desc := "(I)V" } : Jvm.MethodName) prog_3_method_10_code (5 : Nat) (Option.none : Option Jvm.ClassFile.FieldType)) ∈ lw_all := lw_g (lw_at lw_m7 76 rfl) rfl
theorem q1831 : (Jvm.Cond.methodLink "HomeCompiler$Checker" (159 : Nat) ({ cls := "HomeCompiler$Checker", name := "isMain", desc := "(I)Z" } : Jvm.MethodName)) ∈ lw_all := lw_g (lw_at lw_m7 77 rfl) rfl
theorem q1832 : (Jvm.Cond.privateMethod ({ cls := "HomeCompiler$Checker", name := "isMain", desc := "(I)Z" } : Jvm.MethodName)) ∈ lw_tbl := lw_at lw_m7 78 rfl
theorem q1833 : (Jvm.Cond.instanceMethod ({ cls := "HomeCompiler$Checker", name := "isMain", desc := "(I)Z" } : Jvm.MethodName)) ∈ lw_all := lw_g (lw_at lw_m7 79 rfl) rfl
theorem q1834 : (Jvm.Cond.code ({ cls := "HomeCompiler$Checker", name := "isMain", desc := "(I)Z" } : Jvm.MethodName) prog_3_method_11_code (4 : Nat) (Option.some Jvm.ClassFile.FieldType.boolean)) ∈ lw_all := lw_g (lw_at lw_m7 80 rfl) rfl
theorem q1835 : (Jvm.Cond.stringRef "HomeCompiler$Checker" (174 : Nat) "main") ∈ lw_tbl := lw_at lw_m7 81 rfl
theorem q1836 : (Jvm.Cond.methodLink "HomeCompiler$Checker" (162 : Nat) ({ cls := "HomeCompiler$Checker", name := "frame", desc := "(I)I" } : Jvm.MethodName)) ∈ lw_all := lw_g (lw_at lw_m7 82 rfl) rfl
theorem q1837 : (Jvm.Cond.instanceMethod ({ cls := "HomeCompiler$Checker", name := "frame", desc := "(I)I" } : Jvm.MethodName)) ∈ lw_all := lw_g (lw_at lw_m7 83 rfl) rfl
theorem q1838 : (Jvm.Cond.selects "HomeCompiler$Checker" ({ cls := "HomeCompiler$Checker", name := "frame", desc := "(I)I" } : Jvm.MethodName) ({ cls := "HomeCompiler$Checker", name := "frame", desc := "(I)I" } : Jvm.MethodName)) ∈ lw_all := lw_g (lw_at lw_m7 84 rfl) rfl
theorem q1839 : (Jvm.Cond.code ({ cls := "HomeCompiler$Checker", name := "frame", desc := "(I)I" } : Jvm.MethodName) prog_3_method_13_code (2 : Nat) (Option.some Jvm.ClassFile.FieldType.int)) ∈ lw_all := lw_g (lw_at lw_m7 85 rfl) rfl
theorem q1840 : (Jvm.Cond.methodLink "HomeCompiler$Checker" (165 : Nat) ({ cls := "HomeCompiler$Variables", name := "wordsOf", desc := "(I)I" } : Jvm.MethodName)) ∈ lw_all := lw_g (lw_at lw_m7 86 rfl) rfl
theorem q1845 : (Jvm.Cond.instanceMethod ({ cls := "HomeCompiler$Checker", name := "wrong", desc := "()LHomeCompiler$Wrong;" } : Jvm.MethodName)) ∈ lw_all := lw_g (lw_at lw_m7 91 rfl) rfl
theorem q1846 : (Jvm.Cond.selects "HomeCompiler$Checker" ({ cls := "HomeCompiler$Checker", name := "wrong", desc := "()LHomeCompiler$Wrong;" } : Jvm.MethodName) ({ cls := "HomeCompiler$Checker", name := "wrong", desc := "()LHomeCompiler$Wrong;" } : Jvm.MethodName)) ∈ lw_all := lw_g (lw_at lw_m7 92 rfl) rfl
theorem q1847 : (Jvm.Cond.code ({ cls := "HomeCompiler$Checker", name := "wrong", desc := "()LHomeCompiler$Wrong;" } : Jvm.MethodName) prog_3_method_2_code (1 : Nat) (Option.some (Jvm.ClassFile.FieldType.object "HomeCompiler$Wrong"))) ∈ lw_all := lw_g (lw_at lw_m7 93 rfl) rfl
theorem q1877 : (Jvm.Cond.instanceMethod ({ cls := "HomeCompiler$Checker", name := "main", desc := "()I" } : Jvm.MethodName)) ∈ lw_all := lw_g (lw_at lw_m7 123 rfl) rfl
theorem q1878 : (Jvm.Cond.selects "HomeCompiler$Checker" ({ cls := "HomeCompiler$Checker", name := "main", desc := "()I" } : Jvm.MethodName) ({ cls := "HomeCompiler$Checker", name := "main", desc := "()I" } : Jvm.MethodName)) ∈ lw_all := lw_g (lw_at lw_m7 124 rfl) rfl
theorem q1879 : (Jvm.Cond.code ({ cls := "HomeCompiler$Checker", name := "main", desc := "()I" } : Jvm.MethodName) prog_3_method_12_code (2 : Nat) (Option.some Jvm.ClassFile.FieldType.int)) ∈ lw_all := lw_g (lw_at lw_m7 125 rfl) rfl
theorem q1885 : (Jvm.Cond.instanceMethod ({ cls := "HomeCompiler$Checker", name := "count", desc := "()I" } : Jvm.MethodName)) ∈ lw_all := lw_g (lw_at lw_m7 131 rfl) rfl
theorem q1886 : (Jvm.Cond.selects "HomeCompiler$Checker" ({ cls := "HomeCompiler$Checker", name := "count", desc := "()I" } : Jvm.MethodName) ({ cls := "HomeCompiler$Checker", name := "count", desc := "()I" } : Jvm.MethodName)) ∈ lw_all := lw_g (lw_at lw_m7 132 rfl) rfl
theorem q1887 : (Jvm.Cond.code ({ cls := "HomeCompiler$Checker", name := "count", desc := "()I" } : Jvm.MethodName) prog_3_method_4_code (1 : Nat) (Option.some Jvm.ClassFile.FieldType.int)) ∈ lw_all := lw_g (lw_at lw_m7 133 rfl) rfl
theorem q1932 : (Jvm.Cond.instanceMethod ({ cls := "HomeCompiler$Checker", name := "node", desc := "(I)I" } : Jvm.MethodName)) ∈ lw_all := lw_g (lw_at lw_m7 178 rfl) rfl
theorem q1933 : (Jvm.Cond.selects "HomeCompiler$Checker" ({ cls := "HomeCompiler$Checker", name := "node", desc := "(I)I" } : Jvm.MethodName) ({ cls := "HomeCompiler$Checker", name := "node", desc := "(I)I" } : Jvm.MethodName)) ∈ lw_all := lw_g (lw_at lw_m7 179 rfl) rfl
theorem q1934 : (Jvm.Cond.code ({ cls := "HomeCompiler$Checker", name := "node", desc := "(I)I" } : Jvm.MethodName) prog_3_method_5_code (2 : Nat) (Option.some Jvm.ClassFile.FieldType.int)) ∈ lw_all := lw_g (lw_at lw_m7 180 rfl) rfl
theorem in_X8 : ∀ w ∈ wsX80, w ∈ lw_all := lw_in wsX80 [677, 679, 681, 683, 685, 687, 689, 691, 693, 695, 697, 699, 701, 703, 705, 707] (by decide +kernel) (by decide +kernel)
/-! X9.HomeCompiler_Wrong.lean.txt -/
def RX9 : String := "HomeCompiler$Wrong"
def TX9 : u_T := fun k => match k with
  | 0 => ("HomeCompiler$Wrong", "number", "I", false)
  | _ => ("HomeCompiler$Wrong", "place", "I", false)
def tyX9 : Nat → FieldType := fun k => match k with
  | 0 => .int
  | _ => .int
abbrev wsX90 : List Cond := u_ws RX9 TX9 2
theorem nmX9 : ∀ a, a < 2 → ∀ b, b < 2 → a ≠ b → (TX9 a).2.1 ≠ (TX9 b).2.1 := by decide +kernel
theorem tyX9_ok : ∀ k, k < 2 → parseFieldDescriptor (TX9 k).2.2.1 = some (tyX9 k) := by decide +kernel
abbrev cX9_init : ByteArray := prog_21_method_1_code
def yX9_init : MethodName := ⟨RX9, "<init>", "()V"⟩
abbrev cX9_clear : ByteArray := prog_21_method_2_code
def yX9_clear : MethodName := ⟨RX9, "clear", "()V"⟩
abbrev cX9_say : ByteArray := prog_21_method_3_code
def yX9_say : MethodName := ⟨RX9, "say", "(II)V"⟩
abbrev cX9_number : ByteArray := prog_21_method_4_code
def yX9_number : MethodName := ⟨RX9, "number", "()I"⟩
abbrev cX9_place : ByteArray := prog_21_method_5_code
def yX9_place : MethodName := ⟨RX9, "place", "()I"⟩
theorem q323 : (Jvm.Cond.initialized "HomeCompiler$Wrong") ∈ lw_all := lw_g (lw_at lw_m1 9 rfl) rfl
theorem q591 : (Jvm.Cond.instantiable "HomeCompiler$Wrong" (2 : Nat)) ∈ lw_all := lw_g (lw_at lw_m2 37 rfl) rfl
theorem q593 : (Jvm.Cond.instanceMethod ({ cls := "HomeCompiler$Wrong", name := "<init>", desc := "()V" } : Jvm.MethodName)) ∈ lw_all := lw_g (lw_at lw_m2 39 rfl) rfl
theorem q594 : (Jvm.Cond.code ({ cls := "HomeCompiler$Wrong", name := "<init>", desc := "()V" } : Jvm.MethodName) prog_21_method_1_code (1 : Nat) (Option.none : Option Jvm.ClassFile.FieldType)) ∈ lw_all := lw_g (lw_at lw_m2 40 rfl) rfl
theorem q595 : (Jvm.Cond.methodLink "HomeCompiler$Wrong" (1 : Nat) ({ cls := "java/lang/Object", name := "<init>", desc := "()V" } : Jvm.MethodName)) ∈ lw_all := lw_g (lw_at lw_m2 41 rfl) rfl
theorem q596 : (Jvm.Cond.fieldLink "HomeCompiler$Wrong" (7 : Nat) "HomeCompiler$Wrong" "number" "I") ∈ lw_all := lw_g (lw_at lw_m2 42 rfl) rfl
theorem q597 : (Jvm.Cond.fieldLink "HomeCompiler$Wrong" (13 : Nat) "HomeCompiler$Wrong" "place" "I") ∈ lw_all := lw_g (lw_at lw_m2 43 rfl) rfl
theorem q598 : (Jvm.Cond.lays "HomeCompiler$Wrong" "HomeCompiler$Wrong" "number" "I") ∈ lw_all := lw_g (lw_at lw_m2 44 rfl) rfl
theorem q599 : (Jvm.Cond.soleField "HomeCompiler$Wrong" "number") ∈ lw_all := lw_g (lw_at lw_m2 45 rfl) rfl
theorem q600 : (Jvm.Cond.lays "HomeCompiler$Wrong" "HomeCompiler$Wrong" "place" "I") ∈ lw_all := lw_g (lw_at lw_m2 46 rfl) rfl
theorem q601 : (Jvm.Cond.soleField "HomeCompiler$Wrong" "place") ∈ lw_all := lw_g (lw_at lw_m2 47 rfl) rfl
theorem q602 : (Jvm.Cond.superclass "HomeCompiler$Wrong" "java/lang/Object") ∈ lw_all := lw_g (lw_at lw_m2 48 rfl) rfl
theorem q1060 : (Jvm.Cond.instanceMethod ({ cls := "HomeCompiler$Wrong", name := "clear", desc := "()V" } : Jvm.MethodName)) ∈ lw_all := lw_g (lw_at lw_m4 26 rfl) rfl
theorem q1061 : (Jvm.Cond.selects "HomeCompiler$Wrong" ({ cls := "HomeCompiler$Wrong", name := "clear", desc := "()V" } : Jvm.MethodName) ({ cls := "HomeCompiler$Wrong", name := "clear", desc := "()V" } : Jvm.MethodName)) ∈ lw_all := lw_g (lw_at lw_m4 27 rfl) rfl
theorem q1062 : (Jvm.Cond.code ({ cls := "HomeCompiler$Wrong", name := "clear", desc := "()V" } : Jvm.MethodName) prog_21_method_2_code (1 : Nat) (Option.none : Option Jvm.ClassFile.FieldType)) ∈ lw_all := lw_g (lw_at lw_m4 28 rfl) rfl
theorem q1598 : (Jvm.Cond.instanceMethod ({ cls := "HomeCompiler$Wrong", name := "say", desc := "(II)V" } : Jvm.MethodName)) ∈ lw_all := lw_g (lw_at lw_m6 84 rfl) rfl
theorem q1599 : (Jvm.Cond.selects "HomeCompiler$Wrong" ({ cls := "HomeCompiler$Wrong", name := "say", desc := "(II)V" } : Jvm.MethodName) ({ cls := "HomeCompiler$Wrong", name := "say", desc := "(II)V" } : Jvm.MethodName)) ∈ lw_all := lw_g (lw_at lw_m6 85 rfl) rfl
theorem q1600 : (Jvm.Cond.code ({ cls := "HomeCompiler$Wrong", name := "say", desc := "(II)V" } : Jvm.MethodName) prog_21_method_3_code (4 : Nat) (Option.none : Option Jvm.ClassFile.FieldType)) ∈ lw_all := lw_g (lw_at lw_m6 86 rfl) rfl
theorem q1824 : (Jvm.Cond.instanceMethod ({ cls := "HomeCompiler$Wrong", name := "number", desc := "()I" } : Jvm.MethodName)) ∈ lw_all := lw_g (lw_at lw_m7 70 rfl) rfl
theorem q1825 : (Jvm.Cond.selects "HomeCompiler$Wrong" ({ cls := "HomeCompiler$Wrong", name := "number", desc := "()I" } : Jvm.MethodName) ({ cls := "HomeCompiler$Wrong", name := "number", desc := "()I" } : Jvm.MethodName)) ∈ lw_all := lw_g (lw_at lw_m7 71 rfl) rfl
theorem q1826 : (Jvm.Cond.code ({ cls := "HomeCompiler$Wrong", name := "number", desc := "()I" } : Jvm.MethodName) prog_21_method_4_code (1 : Nat) (Option.some Jvm.ClassFile.FieldType.int)) ∈ lw_all := lw_g (lw_at lw_m7 72 rfl) rfl
theorem q1850 : (Jvm.Cond.instanceMethod ({ cls := "HomeCompiler$Wrong", name := "place", desc := "()I" } : Jvm.MethodName)) ∈ lw_all := lw_g (lw_at lw_m7 96 rfl) rfl
theorem q1851 : (Jvm.Cond.selects "HomeCompiler$Wrong" ({ cls := "HomeCompiler$Wrong", name := "place", desc := "()I" } : Jvm.MethodName) ({ cls := "HomeCompiler$Wrong", name := "place", desc := "()I" } : Jvm.MethodName)) ∈ lw_all := lw_g (lw_at lw_m7 97 rfl) rfl
theorem q1852 : (Jvm.Cond.code ({ cls := "HomeCompiler$Wrong", name := "place", desc := "()I" } : Jvm.MethodName) prog_21_method_5_code (1 : Nat) (Option.some Jvm.ClassFile.FieldType.int)) ∈ lw_all := lw_g (lw_at lw_m7 98 rfl) rfl
theorem in_X9 : ∀ w ∈ wsX90, w ∈ lw_all := lw_in wsX90 [598, 600] (by decide +kernel) (by decide +kernel)
/-! words.java_lang_System.lean.txt -/
theorem q340 : (Jvm.Cond.initialized "java/lang/System") ∈ lw_all := lw_g (lw_at lw_m1 26 rfl) rfl
theorem q1184 : (Jvm.Cond.static ({ cls := "java/lang/System", name := "arraycopy", desc := "(Ljava/lang/Object;ILjava/lang/Object;II)V" } : Jvm.MethodName)) ∈ lw_all := lw_g (lw_at lw_m4 150 rfl) rfl
theorem q1185 : (Jvm.Cond.native ({ cls := "java/lang/System", name := "arraycopy", desc := "(Ljava/lang/Object;ILjava/lang/Object;II)V" } : Jvm.MethodName)) ∈ lw_all := lw_g (lw_at lw_m4 151 rfl) rfl
/-! words.rest.lean.txt -/
theorem q366 : (Jvm.Cond.arrayOver (Jvm.ClassFile.FieldType.object "java/lang/String")) ∈ lw_tbl := lw_at lw_m1 52 rfl
theorem q416 : (Jvm.Cond.arrayClass Jvm.ClassFile.FieldType.byte) ∈ lw_all := lw_g (lw_at lw_m1 102 rfl) rfl
theorem q455 : (Jvm.Cond.arrayClass Jvm.ClassFile.FieldType.int) ∈ lw_all := lw_g (lw_at lw_m1 141 rfl) rfl
theorem q881 : (Jvm.Cond.arrayClass Jvm.ClassFile.FieldType.boolean) ∈ lw_all := lw_g (lw_at lw_m3 87 rfl) rfl
theorem q3759 : (Jvm.Cond.arrayClass Jvm.ClassFile.FieldType.long) ∈ lw_all := lw_g (lw_at lw_m15 85 rfl) rfl
