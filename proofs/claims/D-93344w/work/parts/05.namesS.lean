/-! HadForVoice$Refusal -/
set_option maxRecDepth 100000
def RX1 : String := "HadForVoice$Refusal"
def TX1 : u_T := fun k => match k with
  | 0 => ("java/lang/Throwable", "cause", "Ljava/lang/Throwable;", false)
  | 1 => ("java/lang/Throwable", "stackTrace", "[Ljava/lang/StackTraceElement;", false)
  | 2 => ("java/lang/Throwable", "suppressedExceptions", "Ljava/util/List;", false)
  | 3 => ("java/lang/Throwable", "detailMessage", "Ljava/lang/String;", false)
  | 4 => ("java/lang/Throwable", "backtrace", "Ljava/lang/Object;", false)
  | 5 => ("java/lang/Throwable", "depth", "I", false)
  | _ => ("HadForVoice$Refusal", "answer", "I", false)
def tyX1 : Nat → FieldType := fun k => match k with
  | 0 => .object "java/lang/Throwable"
  | 1 => .array (.object "java/lang/StackTraceElement")
  | 2 => .object "java/util/List"
  | 3 => .object "java/lang/String"
  | 4 => .object "java/lang/Object"
  | 5 => .int
  | _ => .int
abbrev wsX10 : List Cond := u_ws RX1 TX1 7
theorem nmX1 : ∀ a, a < 7 → ∀ b, b < 7 → a ≠ b → (TX1 a).2.1 ≠ (TX1 b).2.1 := by decide +kernel
theorem tyX1_ok : ∀ k, k < 7 → parseFieldDescriptor (TX1 k).2.2.1 = some (tyX1 k) := by decide +kernel
abbrev cX1_init : ByteArray := prog_15_method_1_code
def yX1_init : MethodName := ⟨RX1, "<init>", "()V"⟩
def dkwX1_init_0 : List UInt8 := [42, 1, 1, 3, 3, 183, 0, 1, 177]
abbrev dktX1_init_0 : List UInt8 := dkwX1_init_0 ++ []
theorem dksX1_init_0 : cX1_init.data.toList.drop 0 = dktX1_init_0 := by decide +kernel
theorem dX1_init_0 : decode cX1_init 0 = .ok (.aload_n 0, 1) := dk_42 (dk_at dksX1_init_0 0 rfl rfl)
theorem dX1_init_1 : decode cX1_init 1 = .ok (.aconst_null, 1) := dk_1 (dk_at dksX1_init_0 1 rfl rfl)
theorem dX1_init_2 : decode cX1_init 2 = .ok (.aconst_null, 1) := dk_1 (dk_at dksX1_init_0 2 rfl rfl)
theorem dX1_init_3 : decode cX1_init 3 = .ok (.iconst 0, 1) := dk_3 (dk_at dksX1_init_0 3 rfl rfl)
theorem dX1_init_4 : decode cX1_init 4 = .ok (.iconst 0, 1) := dk_3 (dk_at dksX1_init_0 4 rfl rfl)
theorem dX1_init_5 : decode cX1_init 5 = .ok (.invokespecial 1, 3) := dk_183 0 1 (dk_at dksX1_init_0 5 rfl rfl)
theorem dX1_init_8 : decode cX1_init 8 = .ok (.return_, 1) := dk_177 (dk_at dksX1_init_0 8 rfl rfl)
abbrev cX1_of : ByteArray := prog_15_method_2_code
def yX1_of : MethodName := ⟨RX1, "of", "(I)LHadForVoice$Refusal;"⟩
def dkwX1_of_0 : List UInt8 := [42, 27, 181, 0, 7, 42, 176]
abbrev dktX1_of_0 : List UInt8 := dkwX1_of_0 ++ []
theorem dksX1_of_0 : cX1_of.data.toList.drop 0 = dktX1_of_0 := by decide +kernel
theorem dX1_of_0 : decode cX1_of 0 = .ok (.aload_n 0, 1) := dk_42 (dk_at dksX1_of_0 0 rfl rfl)
theorem dX1_of_1 : decode cX1_of 1 = .ok (.iload_n 1, 1) := dk_27 (dk_at dksX1_of_0 1 rfl rfl)
theorem dX1_of_2 : decode cX1_of 2 = .ok (.putfield 7, 3) := dk_181 0 7 (dk_at dksX1_of_0 2 rfl rfl)
theorem dX1_of_5 : decode cX1_of 5 = .ok (.aload_n 0, 1) := dk_42 (dk_at dksX1_of_0 5 rfl rfl)
theorem dX1_of_6 : decode cX1_of 6 = .ok (.areturn, 1) := dk_176 (dk_at dksX1_of_0 6 rfl rfl)
theorem q120 : (Jvm.Cond.initialized "HadForVoice$Refusal") ∈ lw_all := lw_g (lw_at lw_m1 5 rfl) rfl
theorem q160 : (Jvm.Cond.instantiable "HadForVoice$Refusal" (7 : Nat)) ∈ lw_all := lw_g (lw_at lw_m1 45 rfl) rfl
theorem q161 : (Jvm.Cond.castable "HadForVoice$Refusal" "HadForVoice$Refusal") ∈ lw_tbl := lw_at lw_m1 46 rfl
theorem q168 : (Jvm.Cond.selects "HadForVoice$Refusal" ({ cls := "java/lang/Throwable", name := "fillInStackTrace", desc := "(I)Ljava/lang/Throwable;" } : Jvm.MethodName) ({ cls := "java/lang/Throwable", name := "fillInStackTrace", desc := "(I)Ljava/lang/Throwable;" } : Jvm.MethodName)) ∈ lw_all := lw_g (lw_at lw_m1 53 rfl) rfl
theorem q169 : (Jvm.Cond.selects "HadForVoice$Refusal" ({ cls := "java/lang/Throwable", name := "fillInStackTrace", desc := "()Ljava/lang/Throwable;" } : Jvm.MethodName) ({ cls := "java/lang/Throwable", name := "fillInStackTrace", desc := "()Ljava/lang/Throwable;" } : Jvm.MethodName)) ∈ lw_all := lw_g (lw_at lw_m1 54 rfl) rfl
theorem q170 : (Jvm.Cond.lays "HadForVoice$Refusal" "java/lang/Throwable" "cause" "Ljava/lang/Throwable;") ∈ lw_all := lw_g (lw_at lw_m1 55 rfl) rfl
theorem q172 : (Jvm.Cond.lays "HadForVoice$Refusal" "java/lang/Throwable" "stackTrace" "[Ljava/lang/StackTraceElement;") ∈ lw_all := lw_g (lw_at lw_m1 57 rfl) rfl
theorem q174 : (Jvm.Cond.lays "HadForVoice$Refusal" "java/lang/Throwable" "suppressedExceptions" "Ljava/util/List;") ∈ lw_all := lw_g (lw_at lw_m1 59 rfl) rfl
theorem q176 : (Jvm.Cond.lays "HadForVoice$Refusal" "java/lang/Throwable" "detailMessage" "Ljava/lang/String;") ∈ lw_all := lw_g (lw_at lw_m1 61 rfl) rfl
theorem q178 : (Jvm.Cond.lays "HadForVoice$Refusal" "java/lang/Throwable" "backtrace" "Ljava/lang/Object;") ∈ lw_all := lw_g (lw_at lw_m1 63 rfl) rfl
theorem q217 : (Jvm.Cond.instanceMethod ({ cls := "HadForVoice$Refusal", name := "<init>", desc := "()V" } : Jvm.MethodName)) ∈ lw_all := lw_g (lw_at lw_m1 102 rfl) rfl
theorem q218 : (Jvm.Cond.code ({ cls := "HadForVoice$Refusal", name := "<init>", desc := "()V" } : Jvm.MethodName) prog_15_method_1_code (1 : Nat) (Option.none : Option Jvm.ClassFile.FieldType)) ∈ lw_all := lw_g (lw_at lw_m1 103 rfl) rfl
theorem q219 : (Jvm.Cond.methodLink "HadForVoice$Refusal" (1 : Nat) ({ cls := "java/lang/RuntimeException", name := "<init>", desc := "(Ljava/lang/String;Ljava/lang/Throwable;ZZ)V" } : Jvm.MethodName)) ∈ lw_all := lw_g (lw_at lw_m1 104 rfl) rfl
theorem q228 : (Jvm.Cond.fieldLink "HadForVoice$Refusal" (7 : Nat) "HadForVoice$Refusal" "answer" "I") ∈ lw_all := lw_g (lw_at lw_m1 113 rfl) rfl
theorem q237 : (Jvm.Cond.lays "HadForVoice$Refusal" "HadForVoice$Refusal" "answer" "I") ∈ lw_all := lw_g (lw_at lw_m1 122 rfl) rfl
theorem q238 : (Jvm.Cond.soleField "HadForVoice$Refusal" "answer") ∈ lw_all := lw_g (lw_at lw_m1 123 rfl) rfl
theorem q243 : (Jvm.Cond.lays "HadForVoice$Refusal" "java/lang/Throwable" "depth" "I") ∈ lw_all := lw_g (lw_at lw_m1 128 rfl) rfl
theorem q246 : (Jvm.Cond.superclass "HadForVoice$Refusal" "java/lang/RuntimeException") ∈ lw_all := lw_g (lw_at lw_m1 131 rfl) rfl
theorem q250 : (Jvm.Cond.declares ({ cls := "HadForVoice$Refusal", name := "<init>", desc := "()V" } : Jvm.MethodName)) ∈ lw_tbl := lw_at lw_m1 135 rfl
theorem q731 : (Jvm.Cond.declares ({ cls := "HadForVoice$Refusal", name := "of", desc := "(I)LHadForVoice$Refusal;" } : Jvm.MethodName)) ∈ lw_tbl := lw_at lw_m3 136 rfl
theorem q733 : (Jvm.Cond.instanceMethod ({ cls := "HadForVoice$Refusal", name := "of", desc := "(I)LHadForVoice$Refusal;" } : Jvm.MethodName)) ∈ lw_all := lw_g (lw_at lw_m3 138 rfl) rfl
theorem q734 : (Jvm.Cond.code ({ cls := "HadForVoice$Refusal", name := "of", desc := "(I)LHadForVoice$Refusal;" } : Jvm.MethodName) prog_15_method_2_code (2 : Nat) (Option.some (Jvm.ClassFile.FieldType.object "HadForVoice$Refusal"))) ∈ lw_all := lw_g (lw_at lw_m3 139 rfl) rfl
theorem q2212 : (Jvm.Cond.sameMethod "HadForVoice$Refusal" "HadForVoice$Refusal" "of" "(I)LHadForVoice$Refusal;") ∈ lw_all := lw_g (lw_at lw_m9 177 rfl) rfl
theorem q2214 : (Jvm.Cond.selects "HadForVoice$Refusal" ({ cls := "HadForVoice$Refusal", name := "of", desc := "(I)LHadForVoice$Refusal;" } : Jvm.MethodName) ({ cls := "HadForVoice$Refusal", name := "of", desc := "(I)LHadForVoice$Refusal;" } : Jvm.MethodName)) ∈ lw_all := lw_g (lw_at lw_m9 179 rfl) rfl
theorem in_X1 : ∀ w ∈ wsX10, w ∈ lw_all := lw_in wsX10 [170, 172, 174, 176, 178, 243, 237] (by decide +kernel) (by decide +kernel)
/-! HadForVoice$Fault -/
set_option maxRecDepth 100000
def RX2 : String := "HadForVoice$Fault"
def TX2 : u_T := fun k => match k with
  | 0 => ("java/lang/Throwable", "cause", "Ljava/lang/Throwable;", false)
  | 1 => ("java/lang/Throwable", "stackTrace", "[Ljava/lang/StackTraceElement;", false)
  | 2 => ("java/lang/Throwable", "suppressedExceptions", "Ljava/util/List;", false)
  | 3 => ("java/lang/Throwable", "detailMessage", "Ljava/lang/String;", false)
  | 4 => ("java/lang/Throwable", "backtrace", "Ljava/lang/Object;", false)
  | 5 => ("java/lang/Throwable", "depth", "I", false)
  | _ => ("HadForVoice$Refusal", "answer", "I", false)
def tyX2 : Nat → FieldType := fun k => match k with
  | 0 => .object "java/lang/Throwable"
  | 1 => .array (.object "java/lang/StackTraceElement")
  | 2 => .object "java/util/List"
  | 3 => .object "java/lang/String"
  | 4 => .object "java/lang/Object"
  | 5 => .int
  | _ => .int
abbrev wsX20 : List Cond := u_ws RX2 TX2 7
theorem nmX2 : ∀ a, a < 7 → ∀ b, b < 7 → a ≠ b → (TX2 a).2.1 ≠ (TX2 b).2.1 := by decide +kernel
theorem tyX2_ok : ∀ k, k < 7 → parseFieldDescriptor (TX2 k).2.2.1 = some (tyX2 k) := by decide +kernel
abbrev cX2_init : ByteArray := prog_6_method_1_code
def yX2_init : MethodName := ⟨RX2, "<init>", "()V"⟩
theorem dX2_init_0 : decode cX2_init 0 = .ok (.aload_n 0, 1) := by decide +kernel
theorem dX2_init_1 : decode cX2_init 1 = .ok (.invokespecial 1, 3) := by decide +kernel
theorem dX2_init_4 : decode cX2_init 4 = .ok (.return_, 1) := by decide +kernel
theorem q121 : (Jvm.Cond.initialized "HadForVoice$Fault") ∈ lw_all := lw_g (lw_at lw_m1 6 rfl) rfl
theorem q192 : (Jvm.Cond.selects "HadForVoice$Fault" ({ cls := "java/lang/Throwable", name := "fillInStackTrace", desc := "()Ljava/lang/Throwable;" } : Jvm.MethodName) ({ cls := "java/lang/Throwable", name := "fillInStackTrace", desc := "()Ljava/lang/Throwable;" } : Jvm.MethodName)) ∈ lw_all := lw_g (lw_at lw_m1 77 rfl) rfl
theorem q230 : (Jvm.Cond.sameField "HadForVoice$Fault" "HadForVoice$Refusal" "answer" "I") ∈ lw_all := lw_g (lw_at lw_m1 115 rfl) rfl
theorem q248 : (Jvm.Cond.instantiable "HadForVoice$Fault" (7 : Nat)) ∈ lw_all := lw_g (lw_at lw_m1 133 rfl) rfl
theorem q249 : (Jvm.Cond.castable "HadForVoice$Fault" "HadForVoice$Fault") ∈ lw_tbl := lw_at lw_m1 134 rfl
theorem q251 : (Jvm.Cond.selects "HadForVoice$Fault" ({ cls := "java/lang/Throwable", name := "fillInStackTrace", desc := "(I)Ljava/lang/Throwable;" } : Jvm.MethodName) ({ cls := "java/lang/Throwable", name := "fillInStackTrace", desc := "(I)Ljava/lang/Throwable;" } : Jvm.MethodName)) ∈ lw_all := lw_g (lw_at lw_m1 136 rfl) rfl
theorem q252 : (Jvm.Cond.lays "HadForVoice$Fault" "java/lang/Throwable" "cause" "Ljava/lang/Throwable;") ∈ lw_all := lw_g (lw_at lw_m1 137 rfl) rfl
theorem q253 : (Jvm.Cond.lays "HadForVoice$Fault" "java/lang/Throwable" "stackTrace" "[Ljava/lang/StackTraceElement;") ∈ lw_all := lw_g (lw_at lw_m1 138 rfl) rfl
theorem q254 : (Jvm.Cond.lays "HadForVoice$Fault" "java/lang/Throwable" "suppressedExceptions" "Ljava/util/List;") ∈ lw_all := lw_g (lw_at lw_m1 139 rfl) rfl
theorem q255 : (Jvm.Cond.lays "HadForVoice$Fault" "java/lang/Throwable" "detailMessage" "Ljava/lang/String;") ∈ lw_all := lw_g (lw_at lw_m1 140 rfl) rfl
theorem q256 : (Jvm.Cond.lays "HadForVoice$Fault" "java/lang/Throwable" "backtrace" "Ljava/lang/Object;") ∈ lw_all := lw_g (lw_at lw_m1 141 rfl) rfl
theorem q258 : (Jvm.Cond.instanceMethod ({ cls := "HadForVoice$Fault", name := "<init>", desc := "()V" } : Jvm.MethodName)) ∈ lw_all := lw_g (lw_at lw_m1 143 rfl) rfl
theorem q259 : (Jvm.Cond.code ({ cls := "HadForVoice$Fault", name := "<init>", desc := "()V" } : Jvm.MethodName) prog_6_method_1_code (1 : Nat) (Option.none : Option Jvm.ClassFile.FieldType)) ∈ lw_all := lw_g (lw_at lw_m1 144 rfl) rfl
theorem q260 : (Jvm.Cond.methodLink "HadForVoice$Fault" (1 : Nat) ({ cls := "HadForVoice$Refusal", name := "<init>", desc := "()V" } : Jvm.MethodName)) ∈ lw_all := lw_g (lw_at lw_m1 145 rfl) rfl
theorem q261 : (Jvm.Cond.lays "HadForVoice$Fault" "HadForVoice$Refusal" "answer" "I") ∈ lw_all := lw_g (lw_at lw_m1 146 rfl) rfl
theorem q262 : (Jvm.Cond.lays "HadForVoice$Fault" "java/lang/Throwable" "depth" "I") ∈ lw_all := lw_g (lw_at lw_m1 147 rfl) rfl
theorem q263 : (Jvm.Cond.superclass "HadForVoice$Fault" "HadForVoice$Refusal") ∈ lw_all := lw_g (lw_at lw_m1 148 rfl) rfl
theorem q730 : (Jvm.Cond.sameMethod "HadForVoice$Fault" "HadForVoice$Refusal" "of" "(I)LHadForVoice$Refusal;") ∈ lw_all := lw_g (lw_at lw_m3 135 rfl) rfl
theorem q732 : (Jvm.Cond.selects "HadForVoice$Fault" ({ cls := "HadForVoice$Fault", name := "of", desc := "(I)LHadForVoice$Refusal;" } : Jvm.MethodName) ({ cls := "HadForVoice$Refusal", name := "of", desc := "(I)LHadForVoice$Refusal;" } : Jvm.MethodName)) ∈ lw_all := lw_g (lw_at lw_m3 137 rfl) rfl
theorem q2213 : (Jvm.Cond.selects "HadForVoice$Fault" ({ cls := "HadForVoice$Refusal", name := "of", desc := "(I)LHadForVoice$Refusal;" } : Jvm.MethodName) ({ cls := "HadForVoice$Refusal", name := "of", desc := "(I)LHadForVoice$Refusal;" } : Jvm.MethodName)) ∈ lw_all := lw_g (lw_at lw_m9 178 rfl) rfl
theorem q2216 : (Jvm.Cond.castable "HadForVoice$Fault" "HadForVoice$Refusal") ∈ lw_tbl := lw_at lw_m9 181 rfl
theorem in_X2 : ∀ w ∈ wsX20, w ∈ lw_all := lw_in wsX20 [252, 253, 254, 255, 256, 262, 261] (by decide +kernel) (by decide +kernel)
/-! HadForVoice$Town -/
set_option maxRecDepth 100000
def RX3 : String := "HadForVoice$Town"
def TX3 : u_T := fun k => match k with
  | 0 => ("HadForVoice$Town", "people", "I", false)
  | 1 => ("HadForVoice$Town", "fee", "I", false)
  | 2 => ("HadForVoice$Town", "reports", "I", false)
  | 3 => ("HadForVoice$Town", "made", "I", false)
  | 4 => ("HadForVoice$Town", "z", "I", false)
  | 5 => ("HadForVoice$Town", "kind", "[I", true)
  | 6 => ("HadForVoice$Town", "has", "[I", true)
  | 7 => ("HadForVoice$Town", "needs", "[I", true)
  | 8 => ("HadForVoice$Town", "coins", "[I", true)
  | 9 => ("HadForVoice$Town", "meets", "[I", true)
  | 10 => ("HadForVoice$Town", "worth", "[I", true)
  | 11 => ("HadForVoice$Town", "jar", "[I", true)
  | 12 => ("HadForVoice$Town", "given", "[I", true)
  | 13 => ("HadForVoice$Town", "got", "[I", true)
  | 14 => ("HadForVoice$Town", "asked", "[I", true)
  | 15 => ("HadForVoice$Town", "which", "[I", true)
  | 16 => ("HadForVoice$Town", "had", "[I", true)
  | 17 => ("HadForVoice$Town", "came", "[I", true)
  | _ => ("HadForVoice$Town", "rules", "[LHadForVoice$Rule;", false)
def tyX3 : Nat → FieldType := fun k => match k with
  | 0 => .int
  | 1 => .int
  | 2 => .int
  | 3 => .int
  | 4 => .int
  | 5 => .array .int
  | 6 => .array .int
  | 7 => .array .int
  | 8 => .array .int
  | 9 => .array .int
  | 10 => .array .int
  | 11 => .array .int
  | 12 => .array .int
  | 13 => .array .int
  | 14 => .array .int
  | 15 => .array .int
  | 16 => .array .int
  | 17 => .array .int
  | _ => .array (.object "HadForVoice$Rule")
abbrev wsX30 : List Cond := u_ws RX3 TX3 19
set_option maxRecDepth 100000 in
theorem nmX3 : ∀ a, a < 19 → ∀ b, b < 19 → a ≠ b → (TX3 a).2.1 ≠ (TX3 b).2.1 := by decide +kernel
set_option maxRecDepth 100000 in
theorem tyX3_ok : ∀ k, k < 19 → parseFieldDescriptor (TX3 k).2.2.1 = some (tyX3 k) := by decide +kernel
abbrev cX3_init : ByteArray := prog_21_method_1_code
def yX3_init : MethodName := ⟨RX3, "<init>", "()V"⟩
def dkwX3_init_5 : List UInt8 := [181, 0, 57, 177]
abbrev dktX3_init_5 : List UInt8 := dkwX3_init_5 ++ []
def dkwX3_init_4 : List UInt8 := [181, 0, 46, 42, 16, 12, 188, 10, 181, 0, 49, 42, 16, 12, 188, 10, 181, 0, 52, 42, 3, 189, 0, 55]
abbrev dktX3_init_4 : List UInt8 := dkwX3_init_4 ++ dktX3_init_5
def dkwX3_init_3 : List UInt8 := [181, 0, 37, 42, 16, 6, 188, 10, 181, 0, 40, 42, 16, 6, 188, 10, 181, 0, 43, 42, 16, 12, 188, 10]
abbrev dktX3_init_3 : List UInt8 := dkwX3_init_3 ++ dktX3_init_4
def dkwX3_init_2 : List UInt8 := [181, 0, 28, 42, 16, 8, 188, 10, 181, 0, 31, 42, 16, 8, 188, 10, 181, 0, 34, 42, 16, 6, 188, 10]
abbrev dktX3_init_2 : List UInt8 := dkwX3_init_2 ++ dktX3_init_3
def dkwX3_init_1 : List UInt8 := [181, 0, 19, 42, 16, 6, 188, 10, 181, 0, 22, 42, 16, 6, 188, 10, 181, 0, 25, 42, 16, 6, 188, 10]
abbrev dktX3_init_1 : List UInt8 := dkwX3_init_1 ++ dktX3_init_2
def dkwX3_init_0 : List UInt8 := [42, 183, 0, 3, 42, 4, 181, 0, 9, 42, 16, 6, 188, 10, 181, 0, 15, 42, 16, 6, 188, 10]
abbrev dktX3_init_0 : List UInt8 := dkwX3_init_0 ++ dktX3_init_1
theorem dksX3_init_0 : cX3_init.data.toList.drop 0 = dktX3_init_0 := by decide +kernel
theorem dksX3_init_1 : cX3_init.data.toList.drop 22 = dktX3_init_1 := dk_seg dksX3_init_0 22 rfl rfl
theorem dksX3_init_2 : cX3_init.data.toList.drop 46 = dktX3_init_2 := dk_seg dksX3_init_1 24 rfl rfl
theorem dksX3_init_3 : cX3_init.data.toList.drop 70 = dktX3_init_3 := dk_seg dksX3_init_2 24 rfl rfl
theorem dksX3_init_4 : cX3_init.data.toList.drop 94 = dktX3_init_4 := dk_seg dksX3_init_3 24 rfl rfl
theorem dksX3_init_5 : cX3_init.data.toList.drop 118 = dktX3_init_5 := dk_seg dksX3_init_4 24 rfl rfl
theorem dX3_init_0 : decode cX3_init 0 = .ok (.aload_n 0, 1) := dk_42 (dk_at dksX3_init_0 0 rfl rfl)
theorem dX3_init_1 : decode cX3_init 1 = .ok (.invokespecial 3, 3) := dk_183 0 3 (dk_at dksX3_init_0 1 rfl rfl)
theorem dX3_init_4 : decode cX3_init 4 = .ok (.aload_n 0, 1) := dk_42 (dk_at dksX3_init_0 4 rfl rfl)
theorem dX3_init_5 : decode cX3_init 5 = .ok (.iconst 1, 1) := dk_4 (dk_at dksX3_init_0 5 rfl rfl)
theorem dX3_init_6 : decode cX3_init 6 = .ok (.putfield 9, 3) := dk_181 0 9 (dk_at dksX3_init_0 6 rfl rfl)
theorem dX3_init_9 : decode cX3_init 9 = .ok (.aload_n 0, 1) := dk_42 (dk_at dksX3_init_0 9 rfl rfl)
theorem dX3_init_10 : decode cX3_init 10 = .ok (.bipush 6, 2) := dk_16 6 (dk_at dksX3_init_0 10 rfl rfl)
theorem dX3_init_12 : decode cX3_init 12 = .ok (.newarray .int, 2) := dk_188_10 (dk_at dksX3_init_0 12 rfl rfl)
theorem dX3_init_14 : decode cX3_init 14 = .ok (.putfield 15, 3) := dk_181 0 15 (dk_at dksX3_init_0 14 rfl rfl)
theorem dX3_init_17 : decode cX3_init 17 = .ok (.aload_n 0, 1) := dk_42 (dk_at dksX3_init_0 17 rfl rfl)
theorem dX3_init_18 : decode cX3_init 18 = .ok (.bipush 6, 2) := dk_16 6 (dk_at dksX3_init_0 18 rfl rfl)
theorem dX3_init_20 : decode cX3_init 20 = .ok (.newarray .int, 2) := dk_188_10 (dk_at dksX3_init_0 20 rfl rfl)
theorem dX3_init_22 : decode cX3_init 22 = .ok (.putfield 19, 3) := dk_181 0 19 (dk_at dksX3_init_1 0 rfl rfl)
theorem dX3_init_25 : decode cX3_init 25 = .ok (.aload_n 0, 1) := dk_42 (dk_at dksX3_init_1 3 rfl rfl)
theorem dX3_init_26 : decode cX3_init 26 = .ok (.bipush 6, 2) := dk_16 6 (dk_at dksX3_init_1 4 rfl rfl)
theorem dX3_init_28 : decode cX3_init 28 = .ok (.newarray .int, 2) := dk_188_10 (dk_at dksX3_init_1 6 rfl rfl)
theorem dX3_init_30 : decode cX3_init 30 = .ok (.putfield 22, 3) := dk_181 0 22 (dk_at dksX3_init_1 8 rfl rfl)
theorem dX3_init_33 : decode cX3_init 33 = .ok (.aload_n 0, 1) := dk_42 (dk_at dksX3_init_1 11 rfl rfl)
theorem dX3_init_34 : decode cX3_init 34 = .ok (.bipush 6, 2) := dk_16 6 (dk_at dksX3_init_1 12 rfl rfl)
theorem dX3_init_36 : decode cX3_init 36 = .ok (.newarray .int, 2) := dk_188_10 (dk_at dksX3_init_1 14 rfl rfl)
theorem dX3_init_38 : decode cX3_init 38 = .ok (.putfield 25, 3) := dk_181 0 25 (dk_at dksX3_init_1 16 rfl rfl)
theorem dX3_init_41 : decode cX3_init 41 = .ok (.aload_n 0, 1) := dk_42 (dk_at dksX3_init_1 19 rfl rfl)
theorem dX3_init_42 : decode cX3_init 42 = .ok (.bipush 6, 2) := dk_16 6 (dk_at dksX3_init_1 20 rfl rfl)
theorem dX3_init_44 : decode cX3_init 44 = .ok (.newarray .int, 2) := dk_188_10 (dk_at dksX3_init_1 22 rfl rfl)
theorem dX3_init_46 : decode cX3_init 46 = .ok (.putfield 28, 3) := dk_181 0 28 (dk_at dksX3_init_2 0 rfl rfl)
theorem dX3_init_49 : decode cX3_init 49 = .ok (.aload_n 0, 1) := dk_42 (dk_at dksX3_init_2 3 rfl rfl)
theorem dX3_init_50 : decode cX3_init 50 = .ok (.bipush 8, 2) := dk_16 8 (dk_at dksX3_init_2 4 rfl rfl)
theorem dX3_init_52 : decode cX3_init 52 = .ok (.newarray .int, 2) := dk_188_10 (dk_at dksX3_init_2 6 rfl rfl)
theorem dX3_init_54 : decode cX3_init 54 = .ok (.putfield 31, 3) := dk_181 0 31 (dk_at dksX3_init_2 8 rfl rfl)
theorem dX3_init_57 : decode cX3_init 57 = .ok (.aload_n 0, 1) := dk_42 (dk_at dksX3_init_2 11 rfl rfl)
theorem dX3_init_58 : decode cX3_init 58 = .ok (.bipush 8, 2) := dk_16 8 (dk_at dksX3_init_2 12 rfl rfl)
theorem dX3_init_60 : decode cX3_init 60 = .ok (.newarray .int, 2) := dk_188_10 (dk_at dksX3_init_2 14 rfl rfl)
theorem dX3_init_62 : decode cX3_init 62 = .ok (.putfield 34, 3) := dk_181 0 34 (dk_at dksX3_init_2 16 rfl rfl)
theorem dX3_init_65 : decode cX3_init 65 = .ok (.aload_n 0, 1) := dk_42 (dk_at dksX3_init_2 19 rfl rfl)
theorem dX3_init_66 : decode cX3_init 66 = .ok (.bipush 6, 2) := dk_16 6 (dk_at dksX3_init_2 20 rfl rfl)
theorem dX3_init_68 : decode cX3_init 68 = .ok (.newarray .int, 2) := dk_188_10 (dk_at dksX3_init_2 22 rfl rfl)
theorem dX3_init_70 : decode cX3_init 70 = .ok (.putfield 37, 3) := dk_181 0 37 (dk_at dksX3_init_3 0 rfl rfl)
theorem dX3_init_73 : decode cX3_init 73 = .ok (.aload_n 0, 1) := dk_42 (dk_at dksX3_init_3 3 rfl rfl)
theorem dX3_init_74 : decode cX3_init 74 = .ok (.bipush 6, 2) := dk_16 6 (dk_at dksX3_init_3 4 rfl rfl)
theorem dX3_init_76 : decode cX3_init 76 = .ok (.newarray .int, 2) := dk_188_10 (dk_at dksX3_init_3 6 rfl rfl)
theorem dX3_init_78 : decode cX3_init 78 = .ok (.putfield 40, 3) := dk_181 0 40 (dk_at dksX3_init_3 8 rfl rfl)
theorem dX3_init_81 : decode cX3_init 81 = .ok (.aload_n 0, 1) := dk_42 (dk_at dksX3_init_3 11 rfl rfl)
theorem dX3_init_82 : decode cX3_init 82 = .ok (.bipush 6, 2) := dk_16 6 (dk_at dksX3_init_3 12 rfl rfl)
theorem dX3_init_84 : decode cX3_init 84 = .ok (.newarray .int, 2) := dk_188_10 (dk_at dksX3_init_3 14 rfl rfl)
theorem dX3_init_86 : decode cX3_init 86 = .ok (.putfield 43, 3) := dk_181 0 43 (dk_at dksX3_init_3 16 rfl rfl)
theorem dX3_init_89 : decode cX3_init 89 = .ok (.aload_n 0, 1) := dk_42 (dk_at dksX3_init_3 19 rfl rfl)
theorem dX3_init_90 : decode cX3_init 90 = .ok (.bipush 12, 2) := dk_16 12 (dk_at dksX3_init_3 20 rfl rfl)
theorem dX3_init_92 : decode cX3_init 92 = .ok (.newarray .int, 2) := dk_188_10 (dk_at dksX3_init_3 22 rfl rfl)
theorem dX3_init_94 : decode cX3_init 94 = .ok (.putfield 46, 3) := dk_181 0 46 (dk_at dksX3_init_4 0 rfl rfl)
theorem dX3_init_97 : decode cX3_init 97 = .ok (.aload_n 0, 1) := dk_42 (dk_at dksX3_init_4 3 rfl rfl)
theorem dX3_init_98 : decode cX3_init 98 = .ok (.bipush 12, 2) := dk_16 12 (dk_at dksX3_init_4 4 rfl rfl)
theorem dX3_init_100 : decode cX3_init 100 = .ok (.newarray .int, 2) := dk_188_10 (dk_at dksX3_init_4 6 rfl rfl)
theorem dX3_init_102 : decode cX3_init 102 = .ok (.putfield 49, 3) := dk_181 0 49 (dk_at dksX3_init_4 8 rfl rfl)
theorem dX3_init_105 : decode cX3_init 105 = .ok (.aload_n 0, 1) := dk_42 (dk_at dksX3_init_4 11 rfl rfl)
theorem dX3_init_106 : decode cX3_init 106 = .ok (.bipush 12, 2) := dk_16 12 (dk_at dksX3_init_4 12 rfl rfl)
theorem dX3_init_108 : decode cX3_init 108 = .ok (.newarray .int, 2) := dk_188_10 (dk_at dksX3_init_4 14 rfl rfl)
theorem dX3_init_110 : decode cX3_init 110 = .ok (.putfield 52, 3) := dk_181 0 52 (dk_at dksX3_init_4 16 rfl rfl)
theorem dX3_init_113 : decode cX3_init 113 = .ok (.aload_n 0, 1) := dk_42 (dk_at dksX3_init_4 19 rfl rfl)
theorem dX3_init_114 : decode cX3_init 114 = .ok (.iconst 0, 1) := dk_3 (dk_at dksX3_init_4 20 rfl rfl)
theorem dX3_init_115 : decode cX3_init 115 = .ok (.anewarray 55, 3) := dk_189 0 55 (dk_at dksX3_init_4 21 rfl rfl)
theorem dX3_init_118 : decode cX3_init 118 = .ok (.putfield 57, 3) := dk_181 0 57 (dk_at dksX3_init_5 0 rfl rfl)
theorem dX3_init_121 : decode cX3_init 121 = .ok (.return_, 1) := dk_177 (dk_at dksX3_init_5 3 rfl rfl)
abbrev cX3_whole : ByteArray := prog_21_method_4_code
def yX3_whole : MethodName := ⟨RX3, "whole", "()I"⟩
def dkwX3_whole_1 : List UInt8 := [167, 0, 4, 3, 128, 60, 132, 2, 1, 167, 255, 227, 27, 172]
abbrev dktX3_whole_1 : List UInt8 := dkwX3_whole_1 ++ []
def dkwX3_whole_0 : List UInt8 := [3, 60, 3, 61, 28, 42, 180, 0, 61, 162, 0, 27, 27, 42, 28, 182, 0, 79, 153, 0, 9, 4, 28, 120]
abbrev dktX3_whole_0 : List UInt8 := dkwX3_whole_0 ++ dktX3_whole_1
theorem dksX3_whole_0 : cX3_whole.data.toList.drop 0 = dktX3_whole_0 := by decide +kernel
theorem dksX3_whole_1 : cX3_whole.data.toList.drop 24 = dktX3_whole_1 := dk_seg dksX3_whole_0 24 rfl rfl
theorem dX3_whole_0 : decode cX3_whole 0 = .ok (.iconst 0, 1) := dk_3 (dk_at dksX3_whole_0 0 rfl rfl)
theorem dX3_whole_1 : decode cX3_whole 1 = .ok (.istore_n 1, 1) := dk_60 (dk_at dksX3_whole_0 1 rfl rfl)
theorem dX3_whole_2 : decode cX3_whole 2 = .ok (.iconst 0, 1) := dk_3 (dk_at dksX3_whole_0 2 rfl rfl)
theorem dX3_whole_3 : decode cX3_whole 3 = .ok (.istore_n 2, 1) := dk_61 (dk_at dksX3_whole_0 3 rfl rfl)
theorem dX3_whole_4 : decode cX3_whole 4 = .ok (.iload_n 2, 1) := dk_28 (dk_at dksX3_whole_0 4 rfl rfl)
theorem dX3_whole_5 : decode cX3_whole 5 = .ok (.aload_n 0, 1) := dk_42 (dk_at dksX3_whole_0 5 rfl rfl)
theorem dX3_whole_6 : decode cX3_whole 6 = .ok (.getfield 61, 3) := dk_180 0 61 (dk_at dksX3_whole_0 6 rfl rfl)
theorem dX3_whole_9 : decode cX3_whole 9 = .ok (.if_icmp .ge 27, 3) := dk_162 0 27 (dk_at dksX3_whole_0 9 rfl rfl)
theorem dX3_whole_12 : decode cX3_whole 12 = .ok (.iload_n 1, 1) := dk_27 (dk_at dksX3_whole_0 12 rfl rfl)
theorem dX3_whole_13 : decode cX3_whole 13 = .ok (.aload_n 0, 1) := dk_42 (dk_at dksX3_whole_0 13 rfl rfl)
theorem dX3_whole_14 : decode cX3_whole 14 = .ok (.iload_n 2, 1) := dk_28 (dk_at dksX3_whole_0 14 rfl rfl)
theorem dX3_whole_15 : decode cX3_whole 15 = .ok (.invokevirtual 79, 3) := dk_182 0 79 (dk_at dksX3_whole_0 15 rfl rfl)
theorem dX3_whole_18 : decode cX3_whole 18 = .ok (.ifCond .eq 9, 3) := dk_153 0 9 (dk_at dksX3_whole_0 18 rfl rfl)
theorem dX3_whole_21 : decode cX3_whole 21 = .ok (.iconst 1, 1) := dk_4 (dk_at dksX3_whole_0 21 rfl rfl)
theorem dX3_whole_22 : decode cX3_whole 22 = .ok (.iload_n 2, 1) := dk_28 (dk_at dksX3_whole_0 22 rfl rfl)
theorem dX3_whole_23 : decode cX3_whole 23 = .ok (.ishl, 1) := dk_120 (dk_at dksX3_whole_0 23 rfl rfl)
theorem dX3_whole_24 : decode cX3_whole 24 = .ok (.goto 4, 3) := dk_167 0 4 (dk_at dksX3_whole_1 0 rfl rfl)
theorem dX3_whole_27 : decode cX3_whole 27 = .ok (.iconst 0, 1) := dk_3 (dk_at dksX3_whole_1 3 rfl rfl)
theorem dX3_whole_28 : decode cX3_whole 28 = .ok (.ior, 1) := dk_128 (dk_at dksX3_whole_1 4 rfl rfl)
theorem dX3_whole_29 : decode cX3_whole 29 = .ok (.istore_n 1, 1) := dk_60 (dk_at dksX3_whole_1 5 rfl rfl)
theorem dX3_whole_30 : decode cX3_whole 30 = .ok (.iinc 2 1, 3) := dk_132 2 1 (dk_at dksX3_whole_1 6 rfl rfl)
theorem dX3_whole_33 : decode cX3_whole 33 = .ok (.goto (-29), 3) := dk_167 255 227 (dk_at dksX3_whole_1 9 rfl rfl)
theorem dX3_whole_36 : decode cX3_whole 36 = .ok (.iload_n 1, 1) := dk_27 (dk_at dksX3_whole_1 12 rfl rfl)
theorem dX3_whole_37 : decode cX3_whole 37 = .ok (.ireturn, 1) := dk_172 (dk_at dksX3_whole_1 13 rfl rfl)
abbrev cX3_isWhole : ByteArray := prog_21_method_3_code
def yX3_isWhole : MethodName := ⟨RX3, "isWhole", "(I)Z"⟩
def dkwX3_isWhole_0 : List UInt8 := [42, 180, 0, 19, 27, 46, 42, 180, 0, 22, 27, 46, 160, 0, 7, 4, 167, 0, 4, 3, 172]
abbrev dktX3_isWhole_0 : List UInt8 := dkwX3_isWhole_0 ++ []
theorem dksX3_isWhole_0 : cX3_isWhole.data.toList.drop 0 = dktX3_isWhole_0 := by decide +kernel
theorem dX3_isWhole_0 : decode cX3_isWhole 0 = .ok (.aload_n 0, 1) := dk_42 (dk_at dksX3_isWhole_0 0 rfl rfl)
theorem dX3_isWhole_1 : decode cX3_isWhole 1 = .ok (.getfield 19, 3) := dk_180 0 19 (dk_at dksX3_isWhole_0 1 rfl rfl)
theorem dX3_isWhole_4 : decode cX3_isWhole 4 = .ok (.iload_n 1, 1) := dk_27 (dk_at dksX3_isWhole_0 4 rfl rfl)
theorem dX3_isWhole_5 : decode cX3_isWhole 5 = .ok (.iaload, 1) := dk_46 (dk_at dksX3_isWhole_0 5 rfl rfl)
theorem dX3_isWhole_6 : decode cX3_isWhole 6 = .ok (.aload_n 0, 1) := dk_42 (dk_at dksX3_isWhole_0 6 rfl rfl)
theorem dX3_isWhole_7 : decode cX3_isWhole 7 = .ok (.getfield 22, 3) := dk_180 0 22 (dk_at dksX3_isWhole_0 7 rfl rfl)
theorem dX3_isWhole_10 : decode cX3_isWhole 10 = .ok (.iload_n 1, 1) := dk_27 (dk_at dksX3_isWhole_0 10 rfl rfl)
theorem dX3_isWhole_11 : decode cX3_isWhole 11 = .ok (.iaload, 1) := dk_46 (dk_at dksX3_isWhole_0 11 rfl rfl)
theorem dX3_isWhole_12 : decode cX3_isWhole 12 = .ok (.if_icmp .ne 7, 3) := dk_160 0 7 (dk_at dksX3_isWhole_0 12 rfl rfl)
theorem dX3_isWhole_15 : decode cX3_isWhole 15 = .ok (.iconst 1, 1) := dk_4 (dk_at dksX3_isWhole_0 15 rfl rfl)
theorem dX3_isWhole_16 : decode cX3_isWhole 16 = .ok (.goto 4, 3) := dk_167 0 4 (dk_at dksX3_isWhole_0 16 rfl rfl)
theorem dX3_isWhole_19 : decode cX3_isWhole 19 = .ok (.iconst 0, 1) := dk_3 (dk_at dksX3_isWhole_0 19 rfl rfl)
theorem dX3_isWhole_20 : decode cX3_isWhole 20 = .ok (.ireturn, 1) := dk_172 (dk_at dksX3_isWhole_0 20 rfl rfl)
abbrev cX3_purse : ByteArray := prog_21_method_5_code
def yX3_purse : MethodName := ⟨RX3, "purse", "()I"⟩
def dkwX3_purse_1 : List UInt8 := [167, 255, 236, 27, 172]
abbrev dktX3_purse_1 : List UInt8 := dkwX3_purse_1 ++ []
def dkwX3_purse_0 : List UInt8 := [3, 60, 3, 61, 28, 42, 180, 0, 61, 162, 0, 18, 27, 42, 180, 0, 25, 28, 46, 96, 60, 132, 2, 1]
abbrev dktX3_purse_0 : List UInt8 := dkwX3_purse_0 ++ dktX3_purse_1
theorem dksX3_purse_0 : cX3_purse.data.toList.drop 0 = dktX3_purse_0 := by decide +kernel
theorem dksX3_purse_1 : cX3_purse.data.toList.drop 24 = dktX3_purse_1 := dk_seg dksX3_purse_0 24 rfl rfl
theorem dX3_purse_0 : decode cX3_purse 0 = .ok (.iconst 0, 1) := dk_3 (dk_at dksX3_purse_0 0 rfl rfl)
theorem dX3_purse_1 : decode cX3_purse 1 = .ok (.istore_n 1, 1) := dk_60 (dk_at dksX3_purse_0 1 rfl rfl)
theorem dX3_purse_2 : decode cX3_purse 2 = .ok (.iconst 0, 1) := dk_3 (dk_at dksX3_purse_0 2 rfl rfl)
theorem dX3_purse_3 : decode cX3_purse 3 = .ok (.istore_n 2, 1) := dk_61 (dk_at dksX3_purse_0 3 rfl rfl)
theorem dX3_purse_4 : decode cX3_purse 4 = .ok (.iload_n 2, 1) := dk_28 (dk_at dksX3_purse_0 4 rfl rfl)
theorem dX3_purse_5 : decode cX3_purse 5 = .ok (.aload_n 0, 1) := dk_42 (dk_at dksX3_purse_0 5 rfl rfl)
theorem dX3_purse_6 : decode cX3_purse 6 = .ok (.getfield 61, 3) := dk_180 0 61 (dk_at dksX3_purse_0 6 rfl rfl)
theorem dX3_purse_9 : decode cX3_purse 9 = .ok (.if_icmp .ge 18, 3) := dk_162 0 18 (dk_at dksX3_purse_0 9 rfl rfl)
theorem dX3_purse_12 : decode cX3_purse 12 = .ok (.iload_n 1, 1) := dk_27 (dk_at dksX3_purse_0 12 rfl rfl)
theorem dX3_purse_13 : decode cX3_purse 13 = .ok (.aload_n 0, 1) := dk_42 (dk_at dksX3_purse_0 13 rfl rfl)
theorem dX3_purse_14 : decode cX3_purse 14 = .ok (.getfield 25, 3) := dk_180 0 25 (dk_at dksX3_purse_0 14 rfl rfl)
theorem dX3_purse_17 : decode cX3_purse 17 = .ok (.iload_n 2, 1) := dk_28 (dk_at dksX3_purse_0 17 rfl rfl)
theorem dX3_purse_18 : decode cX3_purse 18 = .ok (.iaload, 1) := dk_46 (dk_at dksX3_purse_0 18 rfl rfl)
theorem dX3_purse_19 : decode cX3_purse 19 = .ok (.iadd, 1) := dk_96 (dk_at dksX3_purse_0 19 rfl rfl)
theorem dX3_purse_20 : decode cX3_purse 20 = .ok (.istore_n 1, 1) := dk_60 (dk_at dksX3_purse_0 20 rfl rfl)
theorem dX3_purse_21 : decode cX3_purse 21 = .ok (.iinc 2 1, 3) := dk_132 2 1 (dk_at dksX3_purse_0 21 rfl rfl)
theorem dX3_purse_24 : decode cX3_purse 24 = .ok (.goto (-20), 3) := dk_167 255 236 (dk_at dksX3_purse_1 0 rfl rfl)
theorem dX3_purse_27 : decode cX3_purse 27 = .ok (.iload_n 1, 1) := dk_27 (dk_at dksX3_purse_1 3 rfl rfl)
theorem dX3_purse_28 : decode cX3_purse 28 = .ok (.ireturn, 1) := dk_172 (dk_at dksX3_purse_1 4 rfl rfl)
abbrev cX3_trades : ByteArray := prog_21_method_7_code
def yX3_trades : MethodName := ⟨RX3, "trades", "(III)V"⟩
def dkwX3_trades_1 : List UInt8 := [79, 42, 180, 0, 19, 27, 28, 79, 42, 180, 0, 25, 27, 92, 46, 29, 100, 79, 177]
abbrev dktX3_trades_1 : List UInt8 := dkwX3_trades_1 ++ []
def dkwX3_trades_0 : List UInt8 := [42, 180, 0, 34, 42, 180, 0, 19, 27, 46, 92, 46, 4, 96, 79, 42, 180, 0, 34, 28, 92, 46, 4, 100]
abbrev dktX3_trades_0 : List UInt8 := dkwX3_trades_0 ++ dktX3_trades_1
theorem dksX3_trades_0 : cX3_trades.data.toList.drop 0 = dktX3_trades_0 := by decide +kernel
theorem dksX3_trades_1 : cX3_trades.data.toList.drop 24 = dktX3_trades_1 := dk_seg dksX3_trades_0 24 rfl rfl
theorem dX3_trades_0 : decode cX3_trades 0 = .ok (.aload_n 0, 1) := dk_42 (dk_at dksX3_trades_0 0 rfl rfl)
theorem dX3_trades_1 : decode cX3_trades 1 = .ok (.getfield 34, 3) := dk_180 0 34 (dk_at dksX3_trades_0 1 rfl rfl)
theorem dX3_trades_4 : decode cX3_trades 4 = .ok (.aload_n 0, 1) := dk_42 (dk_at dksX3_trades_0 4 rfl rfl)
theorem dX3_trades_5 : decode cX3_trades 5 = .ok (.getfield 19, 3) := dk_180 0 19 (dk_at dksX3_trades_0 5 rfl rfl)
theorem dX3_trades_8 : decode cX3_trades 8 = .ok (.iload_n 1, 1) := dk_27 (dk_at dksX3_trades_0 8 rfl rfl)
theorem dX3_trades_9 : decode cX3_trades 9 = .ok (.iaload, 1) := dk_46 (dk_at dksX3_trades_0 9 rfl rfl)
theorem dX3_trades_10 : decode cX3_trades 10 = .ok (.dup2, 1) := dk_92 (dk_at dksX3_trades_0 10 rfl rfl)
theorem dX3_trades_11 : decode cX3_trades 11 = .ok (.iaload, 1) := dk_46 (dk_at dksX3_trades_0 11 rfl rfl)
theorem dX3_trades_12 : decode cX3_trades 12 = .ok (.iconst 1, 1) := dk_4 (dk_at dksX3_trades_0 12 rfl rfl)
theorem dX3_trades_13 : decode cX3_trades 13 = .ok (.iadd, 1) := dk_96 (dk_at dksX3_trades_0 13 rfl rfl)
theorem dX3_trades_14 : decode cX3_trades 14 = .ok (.iastore, 1) := dk_79 (dk_at dksX3_trades_0 14 rfl rfl)
theorem dX3_trades_15 : decode cX3_trades 15 = .ok (.aload_n 0, 1) := dk_42 (dk_at dksX3_trades_0 15 rfl rfl)
theorem dX3_trades_16 : decode cX3_trades 16 = .ok (.getfield 34, 3) := dk_180 0 34 (dk_at dksX3_trades_0 16 rfl rfl)
theorem dX3_trades_19 : decode cX3_trades 19 = .ok (.iload_n 2, 1) := dk_28 (dk_at dksX3_trades_0 19 rfl rfl)
theorem dX3_trades_20 : decode cX3_trades 20 = .ok (.dup2, 1) := dk_92 (dk_at dksX3_trades_0 20 rfl rfl)
theorem dX3_trades_21 : decode cX3_trades 21 = .ok (.iaload, 1) := dk_46 (dk_at dksX3_trades_0 21 rfl rfl)
theorem dX3_trades_22 : decode cX3_trades 22 = .ok (.iconst 1, 1) := dk_4 (dk_at dksX3_trades_0 22 rfl rfl)
theorem dX3_trades_23 : decode cX3_trades 23 = .ok (.isub, 1) := dk_100 (dk_at dksX3_trades_0 23 rfl rfl)
theorem dX3_trades_24 : decode cX3_trades 24 = .ok (.iastore, 1) := dk_79 (dk_at dksX3_trades_1 0 rfl rfl)
theorem dX3_trades_25 : decode cX3_trades 25 = .ok (.aload_n 0, 1) := dk_42 (dk_at dksX3_trades_1 1 rfl rfl)
theorem dX3_trades_26 : decode cX3_trades 26 = .ok (.getfield 19, 3) := dk_180 0 19 (dk_at dksX3_trades_1 2 rfl rfl)
theorem dX3_trades_29 : decode cX3_trades 29 = .ok (.iload_n 1, 1) := dk_27 (dk_at dksX3_trades_1 5 rfl rfl)
theorem dX3_trades_30 : decode cX3_trades 30 = .ok (.iload_n 2, 1) := dk_28 (dk_at dksX3_trades_1 6 rfl rfl)
theorem dX3_trades_31 : decode cX3_trades 31 = .ok (.iastore, 1) := dk_79 (dk_at dksX3_trades_1 7 rfl rfl)
theorem dX3_trades_32 : decode cX3_trades 32 = .ok (.aload_n 0, 1) := dk_42 (dk_at dksX3_trades_1 8 rfl rfl)
theorem dX3_trades_33 : decode cX3_trades 33 = .ok (.getfield 25, 3) := dk_180 0 25 (dk_at dksX3_trades_1 9 rfl rfl)
theorem dX3_trades_36 : decode cX3_trades 36 = .ok (.iload_n 1, 1) := dk_27 (dk_at dksX3_trades_1 12 rfl rfl)
theorem dX3_trades_37 : decode cX3_trades 37 = .ok (.dup2, 1) := dk_92 (dk_at dksX3_trades_1 13 rfl rfl)
theorem dX3_trades_38 : decode cX3_trades 38 = .ok (.iaload, 1) := dk_46 (dk_at dksX3_trades_1 14 rfl rfl)
theorem dX3_trades_39 : decode cX3_trades 39 = .ok (.iload_n 3, 1) := dk_29 (dk_at dksX3_trades_1 15 rfl rfl)
theorem dX3_trades_40 : decode cX3_trades 40 = .ok (.isub, 1) := dk_100 (dk_at dksX3_trades_1 16 rfl rfl)
theorem dX3_trades_41 : decode cX3_trades 41 = .ok (.iastore, 1) := dk_79 (dk_at dksX3_trades_1 17 rfl rfl)
theorem dX3_trades_42 : decode cX3_trades 42 = .ok (.return_, 1) := dk_177 (dk_at dksX3_trades_1 18 rfl rfl)
abbrev cX3_exchange : ByteArray := prog_21_method_6_code
def yX3_exchange : MethodName := ⟨RX3, "exchange", "(II)V"⟩
def dkwX3_exchange_1 : List UInt8 := [29, 79, 177]
abbrev dktX3_exchange_1 : List UInt8 := dkwX3_exchange_1 ++ []
def dkwX3_exchange_0 : List UInt8 := [42, 180, 0, 19, 27, 46, 62, 42, 180, 0, 19, 27, 42, 180, 0, 19, 28, 46, 79, 42, 180, 0, 19, 28]
abbrev dktX3_exchange_0 : List UInt8 := dkwX3_exchange_0 ++ dktX3_exchange_1
theorem dksX3_exchange_0 : cX3_exchange.data.toList.drop 0 = dktX3_exchange_0 := by decide +kernel
theorem dksX3_exchange_1 : cX3_exchange.data.toList.drop 24 = dktX3_exchange_1 := dk_seg dksX3_exchange_0 24 rfl rfl
theorem dX3_exchange_0 : decode cX3_exchange 0 = .ok (.aload_n 0, 1) := dk_42 (dk_at dksX3_exchange_0 0 rfl rfl)
theorem dX3_exchange_1 : decode cX3_exchange 1 = .ok (.getfield 19, 3) := dk_180 0 19 (dk_at dksX3_exchange_0 1 rfl rfl)
theorem dX3_exchange_4 : decode cX3_exchange 4 = .ok (.iload_n 1, 1) := dk_27 (dk_at dksX3_exchange_0 4 rfl rfl)
theorem dX3_exchange_5 : decode cX3_exchange 5 = .ok (.iaload, 1) := dk_46 (dk_at dksX3_exchange_0 5 rfl rfl)
theorem dX3_exchange_6 : decode cX3_exchange 6 = .ok (.istore_n 3, 1) := dk_62 (dk_at dksX3_exchange_0 6 rfl rfl)
theorem dX3_exchange_7 : decode cX3_exchange 7 = .ok (.aload_n 0, 1) := dk_42 (dk_at dksX3_exchange_0 7 rfl rfl)
theorem dX3_exchange_8 : decode cX3_exchange 8 = .ok (.getfield 19, 3) := dk_180 0 19 (dk_at dksX3_exchange_0 8 rfl rfl)
theorem dX3_exchange_11 : decode cX3_exchange 11 = .ok (.iload_n 1, 1) := dk_27 (dk_at dksX3_exchange_0 11 rfl rfl)
theorem dX3_exchange_12 : decode cX3_exchange 12 = .ok (.aload_n 0, 1) := dk_42 (dk_at dksX3_exchange_0 12 rfl rfl)
theorem dX3_exchange_13 : decode cX3_exchange 13 = .ok (.getfield 19, 3) := dk_180 0 19 (dk_at dksX3_exchange_0 13 rfl rfl)
theorem dX3_exchange_16 : decode cX3_exchange 16 = .ok (.iload_n 2, 1) := dk_28 (dk_at dksX3_exchange_0 16 rfl rfl)
theorem dX3_exchange_17 : decode cX3_exchange 17 = .ok (.iaload, 1) := dk_46 (dk_at dksX3_exchange_0 17 rfl rfl)
theorem dX3_exchange_18 : decode cX3_exchange 18 = .ok (.iastore, 1) := dk_79 (dk_at dksX3_exchange_0 18 rfl rfl)
theorem dX3_exchange_19 : decode cX3_exchange 19 = .ok (.aload_n 0, 1) := dk_42 (dk_at dksX3_exchange_0 19 rfl rfl)
theorem dX3_exchange_20 : decode cX3_exchange 20 = .ok (.getfield 19, 3) := dk_180 0 19 (dk_at dksX3_exchange_0 20 rfl rfl)
theorem dX3_exchange_23 : decode cX3_exchange 23 = .ok (.iload_n 2, 1) := dk_28 (dk_at dksX3_exchange_0 23 rfl rfl)
theorem dX3_exchange_24 : decode cX3_exchange 24 = .ok (.iload_n 3, 1) := dk_29 (dk_at dksX3_exchange_1 0 rfl rfl)
theorem dX3_exchange_25 : decode cX3_exchange 25 = .ok (.iastore, 1) := dk_79 (dk_at dksX3_exchange_1 1 rfl rfl)
theorem dX3_exchange_26 : decode cX3_exchange 26 = .ok (.return_, 1) := dk_177 (dk_at dksX3_exchange_1 2 rfl rfl)
abbrev cX3_enters : ByteArray := prog_21_method_8_code
def yX3_enters : MethodName := ⟨RX3, "enters", "(III)V"⟩
def dkwX3_enters_4 : List UInt8 := [180, 0, 70, 4, 96, 181, 0, 70, 177]
abbrev dktX3_enters_4 : List UInt8 := dkwX3_enters_4 ++ []
def dkwX3_enters_3 : List UInt8 := [27, 79, 42, 180, 0, 49, 42, 180, 0, 70, 28, 79, 42, 180, 0, 52, 42, 180, 0, 70, 29, 79, 42, 89]
abbrev dktX3_enters_3 : List UInt8 := dkwX3_enters_3 ++ dktX3_enters_4
def dkwX3_enters_2 : List UInt8 := [3, 16, 11, 184, 0, 73, 42, 89, 180, 0, 70, 4, 100, 181, 0, 70, 42, 180, 0, 46, 42, 180, 0, 70]
abbrev dktX3_enters_2 : List UInt8 := dkwX3_enters_2 ++ dktX3_enters_3
def dkwX3_enters_1 : List UInt8 := [42, 180, 0, 49, 4, 42, 180, 0, 49, 3, 16, 11, 184, 0, 73, 42, 180, 0, 52, 4, 42, 180, 0, 52]
abbrev dktX3_enters_1 : List UInt8 := dkwX3_enters_1 ++ dktX3_enters_2
def dkwX3_enters_0 : List UInt8 := [42, 180, 0, 70, 16, 12, 160, 0, 58, 42, 180, 0, 46, 4, 42, 180, 0, 46, 3, 16, 11, 184, 0, 73]
abbrev dktX3_enters_0 : List UInt8 := dkwX3_enters_0 ++ dktX3_enters_1
theorem dksX3_enters_0 : cX3_enters.data.toList.drop 0 = dktX3_enters_0 := by decide +kernel
theorem dksX3_enters_1 : cX3_enters.data.toList.drop 24 = dktX3_enters_1 := dk_seg dksX3_enters_0 24 rfl rfl
theorem dksX3_enters_2 : cX3_enters.data.toList.drop 48 = dktX3_enters_2 := dk_seg dksX3_enters_1 24 rfl rfl
theorem dksX3_enters_3 : cX3_enters.data.toList.drop 72 = dktX3_enters_3 := dk_seg dksX3_enters_2 24 rfl rfl
theorem dksX3_enters_4 : cX3_enters.data.toList.drop 96 = dktX3_enters_4 := dk_seg dksX3_enters_3 24 rfl rfl
theorem dX3_enters_0 : decode cX3_enters 0 = .ok (.aload_n 0, 1) := dk_42 (dk_at dksX3_enters_0 0 rfl rfl)
theorem dX3_enters_1 : decode cX3_enters 1 = .ok (.getfield 70, 3) := dk_180 0 70 (dk_at dksX3_enters_0 1 rfl rfl)
theorem dX3_enters_4 : decode cX3_enters 4 = .ok (.bipush 12, 2) := dk_16 12 (dk_at dksX3_enters_0 4 rfl rfl)
theorem dX3_enters_6 : decode cX3_enters 6 = .ok (.if_icmp .ne 58, 3) := dk_160 0 58 (dk_at dksX3_enters_0 6 rfl rfl)
theorem dX3_enters_9 : decode cX3_enters 9 = .ok (.aload_n 0, 1) := dk_42 (dk_at dksX3_enters_0 9 rfl rfl)
theorem dX3_enters_10 : decode cX3_enters 10 = .ok (.getfield 46, 3) := dk_180 0 46 (dk_at dksX3_enters_0 10 rfl rfl)
theorem dX3_enters_13 : decode cX3_enters 13 = .ok (.iconst 1, 1) := dk_4 (dk_at dksX3_enters_0 13 rfl rfl)
theorem dX3_enters_14 : decode cX3_enters 14 = .ok (.aload_n 0, 1) := dk_42 (dk_at dksX3_enters_0 14 rfl rfl)
theorem dX3_enters_15 : decode cX3_enters 15 = .ok (.getfield 46, 3) := dk_180 0 46 (dk_at dksX3_enters_0 15 rfl rfl)
theorem dX3_enters_18 : decode cX3_enters 18 = .ok (.iconst 0, 1) := dk_3 (dk_at dksX3_enters_0 18 rfl rfl)
theorem dX3_enters_19 : decode cX3_enters 19 = .ok (.bipush 11, 2) := dk_16 11 (dk_at dksX3_enters_0 19 rfl rfl)
theorem dX3_enters_21 : decode cX3_enters 21 = .ok (.invokestatic 73, 3) := dk_184 0 73 (dk_at dksX3_enters_0 21 rfl rfl)
theorem dX3_enters_24 : decode cX3_enters 24 = .ok (.aload_n 0, 1) := dk_42 (dk_at dksX3_enters_1 0 rfl rfl)
theorem dX3_enters_25 : decode cX3_enters 25 = .ok (.getfield 49, 3) := dk_180 0 49 (dk_at dksX3_enters_1 1 rfl rfl)
theorem dX3_enters_28 : decode cX3_enters 28 = .ok (.iconst 1, 1) := dk_4 (dk_at dksX3_enters_1 4 rfl rfl)
theorem dX3_enters_29 : decode cX3_enters 29 = .ok (.aload_n 0, 1) := dk_42 (dk_at dksX3_enters_1 5 rfl rfl)
theorem dX3_enters_30 : decode cX3_enters 30 = .ok (.getfield 49, 3) := dk_180 0 49 (dk_at dksX3_enters_1 6 rfl rfl)
theorem dX3_enters_33 : decode cX3_enters 33 = .ok (.iconst 0, 1) := dk_3 (dk_at dksX3_enters_1 9 rfl rfl)
theorem dX3_enters_34 : decode cX3_enters 34 = .ok (.bipush 11, 2) := dk_16 11 (dk_at dksX3_enters_1 10 rfl rfl)
theorem dX3_enters_36 : decode cX3_enters 36 = .ok (.invokestatic 73, 3) := dk_184 0 73 (dk_at dksX3_enters_1 12 rfl rfl)
theorem dX3_enters_39 : decode cX3_enters 39 = .ok (.aload_n 0, 1) := dk_42 (dk_at dksX3_enters_1 15 rfl rfl)
theorem dX3_enters_40 : decode cX3_enters 40 = .ok (.getfield 52, 3) := dk_180 0 52 (dk_at dksX3_enters_1 16 rfl rfl)
theorem dX3_enters_43 : decode cX3_enters 43 = .ok (.iconst 1, 1) := dk_4 (dk_at dksX3_enters_1 19 rfl rfl)
theorem dX3_enters_44 : decode cX3_enters 44 = .ok (.aload_n 0, 1) := dk_42 (dk_at dksX3_enters_1 20 rfl rfl)
theorem dX3_enters_45 : decode cX3_enters 45 = .ok (.getfield 52, 3) := dk_180 0 52 (dk_at dksX3_enters_1 21 rfl rfl)
theorem dX3_enters_48 : decode cX3_enters 48 = .ok (.iconst 0, 1) := dk_3 (dk_at dksX3_enters_2 0 rfl rfl)
theorem dX3_enters_49 : decode cX3_enters 49 = .ok (.bipush 11, 2) := dk_16 11 (dk_at dksX3_enters_2 1 rfl rfl)
theorem dX3_enters_51 : decode cX3_enters 51 = .ok (.invokestatic 73, 3) := dk_184 0 73 (dk_at dksX3_enters_2 3 rfl rfl)
theorem dX3_enters_54 : decode cX3_enters 54 = .ok (.aload_n 0, 1) := dk_42 (dk_at dksX3_enters_2 6 rfl rfl)
theorem dX3_enters_55 : decode cX3_enters 55 = .ok (.dup, 1) := dk_89 (dk_at dksX3_enters_2 7 rfl rfl)
theorem dX3_enters_56 : decode cX3_enters 56 = .ok (.getfield 70, 3) := dk_180 0 70 (dk_at dksX3_enters_2 8 rfl rfl)
theorem dX3_enters_59 : decode cX3_enters 59 = .ok (.iconst 1, 1) := dk_4 (dk_at dksX3_enters_2 11 rfl rfl)
theorem dX3_enters_60 : decode cX3_enters 60 = .ok (.isub, 1) := dk_100 (dk_at dksX3_enters_2 12 rfl rfl)
theorem dX3_enters_61 : decode cX3_enters 61 = .ok (.putfield 70, 3) := dk_181 0 70 (dk_at dksX3_enters_2 13 rfl rfl)
theorem dX3_enters_64 : decode cX3_enters 64 = .ok (.aload_n 0, 1) := dk_42 (dk_at dksX3_enters_2 16 rfl rfl)
theorem dX3_enters_65 : decode cX3_enters 65 = .ok (.getfield 46, 3) := dk_180 0 46 (dk_at dksX3_enters_2 17 rfl rfl)
theorem dX3_enters_68 : decode cX3_enters 68 = .ok (.aload_n 0, 1) := dk_42 (dk_at dksX3_enters_2 20 rfl rfl)
theorem dX3_enters_69 : decode cX3_enters 69 = .ok (.getfield 70, 3) := dk_180 0 70 (dk_at dksX3_enters_2 21 rfl rfl)
theorem dX3_enters_72 : decode cX3_enters 72 = .ok (.iload_n 1, 1) := dk_27 (dk_at dksX3_enters_3 0 rfl rfl)
theorem dX3_enters_73 : decode cX3_enters 73 = .ok (.iastore, 1) := dk_79 (dk_at dksX3_enters_3 1 rfl rfl)
theorem dX3_enters_74 : decode cX3_enters 74 = .ok (.aload_n 0, 1) := dk_42 (dk_at dksX3_enters_3 2 rfl rfl)
theorem dX3_enters_75 : decode cX3_enters 75 = .ok (.getfield 49, 3) := dk_180 0 49 (dk_at dksX3_enters_3 3 rfl rfl)
theorem dX3_enters_78 : decode cX3_enters 78 = .ok (.aload_n 0, 1) := dk_42 (dk_at dksX3_enters_3 6 rfl rfl)
theorem dX3_enters_79 : decode cX3_enters 79 = .ok (.getfield 70, 3) := dk_180 0 70 (dk_at dksX3_enters_3 7 rfl rfl)
theorem dX3_enters_82 : decode cX3_enters 82 = .ok (.iload_n 2, 1) := dk_28 (dk_at dksX3_enters_3 10 rfl rfl)
theorem dX3_enters_83 : decode cX3_enters 83 = .ok (.iastore, 1) := dk_79 (dk_at dksX3_enters_3 11 rfl rfl)
theorem dX3_enters_84 : decode cX3_enters 84 = .ok (.aload_n 0, 1) := dk_42 (dk_at dksX3_enters_3 12 rfl rfl)
theorem dX3_enters_85 : decode cX3_enters 85 = .ok (.getfield 52, 3) := dk_180 0 52 (dk_at dksX3_enters_3 13 rfl rfl)
theorem dX3_enters_88 : decode cX3_enters 88 = .ok (.aload_n 0, 1) := dk_42 (dk_at dksX3_enters_3 16 rfl rfl)
theorem dX3_enters_89 : decode cX3_enters 89 = .ok (.getfield 70, 3) := dk_180 0 70 (dk_at dksX3_enters_3 17 rfl rfl)
theorem dX3_enters_92 : decode cX3_enters 92 = .ok (.iload_n 3, 1) := dk_29 (dk_at dksX3_enters_3 20 rfl rfl)
theorem dX3_enters_93 : decode cX3_enters 93 = .ok (.iastore, 1) := dk_79 (dk_at dksX3_enters_3 21 rfl rfl)
theorem dX3_enters_94 : decode cX3_enters 94 = .ok (.aload_n 0, 1) := dk_42 (dk_at dksX3_enters_3 22 rfl rfl)
theorem dX3_enters_95 : decode cX3_enters 95 = .ok (.dup, 1) := dk_89 (dk_at dksX3_enters_3 23 rfl rfl)
theorem dX3_enters_96 : decode cX3_enters 96 = .ok (.getfield 70, 3) := dk_180 0 70 (dk_at dksX3_enters_4 0 rfl rfl)
theorem dX3_enters_99 : decode cX3_enters 99 = .ok (.iconst 1, 1) := dk_4 (dk_at dksX3_enters_4 3 rfl rfl)
theorem dX3_enters_100 : decode cX3_enters 100 = .ok (.iadd, 1) := dk_96 (dk_at dksX3_enters_4 4 rfl rfl)
theorem dX3_enters_101 : decode cX3_enters 101 = .ok (.putfield 70, 3) := dk_181 0 70 (dk_at dksX3_enters_4 5 rfl rfl)
theorem dX3_enters_104 : decode cX3_enters 104 = .ok (.return_, 1) := dk_177 (dk_at dksX3_enters_4 8 rfl rfl)
abbrev cX3_become : ByteArray := prog_21_method_2_code
def yX3_become : MethodName := ⟨RX3, "become", "(LHadForVoice$Town;)V"⟩
def dkwX3_become_10 : List UInt8 := [3, 16, 12, 184, 0, 73, 177]
abbrev dktX3_become_10 : List UInt8 := dkwX3_become_10 ++ []
def dkwX3_become_9 : List UInt8 := [43, 180, 0, 49, 3, 42, 180, 0, 49, 3, 16, 12, 184, 0, 73, 43, 180, 0, 52, 3, 42, 180, 0, 52]
abbrev dktX3_become_9 : List UInt8 := dkwX3_become_9 ++ dktX3_become_10
def dkwX3_become_8 : List UInt8 := [180, 0, 43, 3, 16, 6, 184, 0, 73, 43, 180, 0, 46, 3, 42, 180, 0, 46, 3, 16, 12, 184, 0, 73]
abbrev dktX3_become_8 : List UInt8 := dkwX3_become_8 ++ dktX3_become_9
def dkwX3_become_7 : List UInt8 := [184, 0, 73, 43, 180, 0, 40, 3, 42, 180, 0, 40, 3, 16, 6, 184, 0, 73, 43, 180, 0, 43, 3, 42]
abbrev dktX3_become_7 : List UInt8 := dkwX3_become_7 ++ dktX3_become_8
def dkwX3_become_6 : List UInt8 := [3, 42, 180, 0, 34, 3, 16, 8, 184, 0, 73, 43, 180, 0, 37, 3, 42, 180, 0, 37, 3, 16, 6]
abbrev dktX3_become_6 : List UInt8 := dkwX3_become_6 ++ dktX3_become_7
def dkwX3_become_5 : List UInt8 := [16, 6, 184, 0, 73, 43, 180, 0, 31, 3, 42, 180, 0, 31, 3, 16, 8, 184, 0, 73, 43, 180, 0, 34]
abbrev dktX3_become_5 : List UInt8 := dkwX3_become_5 ++ dktX3_become_6
def dkwX3_become_4 : List UInt8 := [180, 0, 25, 3, 42, 180, 0, 25, 3, 16, 6, 184, 0, 73, 43, 180, 0, 28, 3, 42, 180, 0, 28, 3]
abbrev dktX3_become_4 : List UInt8 := dkwX3_become_4 ++ dktX3_become_5
def dkwX3_become_3 : List UInt8 := [3, 16, 6, 184, 0, 73, 43, 180, 0, 22, 3, 42, 180, 0, 22, 3, 16, 6, 184, 0, 73, 43]
abbrev dktX3_become_3 : List UInt8 := dkwX3_become_3 ++ dktX3_become_4
def dkwX3_become_2 : List UInt8 := [43, 180, 0, 15, 3, 42, 180, 0, 15, 3, 16, 6, 184, 0, 73, 43, 180, 0, 19, 3, 42, 180, 0, 19]
abbrev dktX3_become_2 : List UInt8 := dkwX3_become_2 ++ dktX3_become_3
def dkwX3_become_1 : List UInt8 := [42, 43, 180, 0, 70, 181, 0, 70, 42, 43, 180, 0, 9, 181, 0, 9, 42, 43, 180, 0, 57, 181, 0, 57]
abbrev dktX3_become_1 : List UInt8 := dkwX3_become_1 ++ dktX3_become_2
def dkwX3_become_0 : List UInt8 := [42, 43, 180, 0, 61, 181, 0, 61, 42, 43, 180, 0, 64, 181, 0, 64, 42, 43, 180, 0, 67, 181, 0, 67]
abbrev dktX3_become_0 : List UInt8 := dkwX3_become_0 ++ dktX3_become_1
theorem dksX3_become_0 : cX3_become.data.toList.drop 0 = dktX3_become_0 := by decide +kernel
theorem dksX3_become_1 : cX3_become.data.toList.drop 24 = dktX3_become_1 := dk_seg dksX3_become_0 24 rfl rfl
theorem dksX3_become_2 : cX3_become.data.toList.drop 48 = dktX3_become_2 := dk_seg dksX3_become_1 24 rfl rfl
theorem dksX3_become_3 : cX3_become.data.toList.drop 72 = dktX3_become_3 := dk_seg dksX3_become_2 24 rfl rfl
theorem dksX3_become_4 : cX3_become.data.toList.drop 94 = dktX3_become_4 := dk_seg dksX3_become_3 22 rfl rfl
theorem dksX3_become_5 : cX3_become.data.toList.drop 118 = dktX3_become_5 := dk_seg dksX3_become_4 24 rfl rfl
theorem dksX3_become_6 : cX3_become.data.toList.drop 142 = dktX3_become_6 := dk_seg dksX3_become_5 24 rfl rfl
theorem dksX3_become_7 : cX3_become.data.toList.drop 165 = dktX3_become_7 := dk_seg dksX3_become_6 23 rfl rfl
theorem dksX3_become_8 : cX3_become.data.toList.drop 189 = dktX3_become_8 := dk_seg dksX3_become_7 24 rfl rfl
theorem dksX3_become_9 : cX3_become.data.toList.drop 213 = dktX3_become_9 := dk_seg dksX3_become_8 24 rfl rfl
theorem dksX3_become_10 : cX3_become.data.toList.drop 237 = dktX3_become_10 := dk_seg dksX3_become_9 24 rfl rfl
theorem dX3_become_0 : decode cX3_become 0 = .ok (.aload_n 0, 1) := dk_42 (dk_at dksX3_become_0 0 rfl rfl)
theorem dX3_become_1 : decode cX3_become 1 = .ok (.aload_n 1, 1) := dk_43 (dk_at dksX3_become_0 1 rfl rfl)
theorem dX3_become_2 : decode cX3_become 2 = .ok (.getfield 61, 3) := dk_180 0 61 (dk_at dksX3_become_0 2 rfl rfl)
theorem dX3_become_5 : decode cX3_become 5 = .ok (.putfield 61, 3) := dk_181 0 61 (dk_at dksX3_become_0 5 rfl rfl)
theorem dX3_become_8 : decode cX3_become 8 = .ok (.aload_n 0, 1) := dk_42 (dk_at dksX3_become_0 8 rfl rfl)
theorem dX3_become_9 : decode cX3_become 9 = .ok (.aload_n 1, 1) := dk_43 (dk_at dksX3_become_0 9 rfl rfl)
theorem dX3_become_10 : decode cX3_become 10 = .ok (.getfield 64, 3) := dk_180 0 64 (dk_at dksX3_become_0 10 rfl rfl)
theorem dX3_become_13 : decode cX3_become 13 = .ok (.putfield 64, 3) := dk_181 0 64 (dk_at dksX3_become_0 13 rfl rfl)
theorem dX3_become_16 : decode cX3_become 16 = .ok (.aload_n 0, 1) := dk_42 (dk_at dksX3_become_0 16 rfl rfl)
theorem dX3_become_17 : decode cX3_become 17 = .ok (.aload_n 1, 1) := dk_43 (dk_at dksX3_become_0 17 rfl rfl)
theorem dX3_become_18 : decode cX3_become 18 = .ok (.getfield 67, 3) := dk_180 0 67 (dk_at dksX3_become_0 18 rfl rfl)
theorem dX3_become_21 : decode cX3_become 21 = .ok (.putfield 67, 3) := dk_181 0 67 (dk_at dksX3_become_0 21 rfl rfl)
theorem dX3_become_24 : decode cX3_become 24 = .ok (.aload_n 0, 1) := dk_42 (dk_at dksX3_become_1 0 rfl rfl)
theorem dX3_become_25 : decode cX3_become 25 = .ok (.aload_n 1, 1) := dk_43 (dk_at dksX3_become_1 1 rfl rfl)
theorem dX3_become_26 : decode cX3_become 26 = .ok (.getfield 70, 3) := dk_180 0 70 (dk_at dksX3_become_1 2 rfl rfl)
theorem dX3_become_29 : decode cX3_become 29 = .ok (.putfield 70, 3) := dk_181 0 70 (dk_at dksX3_become_1 5 rfl rfl)
theorem dX3_become_32 : decode cX3_become 32 = .ok (.aload_n 0, 1) := dk_42 (dk_at dksX3_become_1 8 rfl rfl)
theorem dX3_become_33 : decode cX3_become 33 = .ok (.aload_n 1, 1) := dk_43 (dk_at dksX3_become_1 9 rfl rfl)
theorem dX3_become_34 : decode cX3_become 34 = .ok (.getfield 9, 3) := dk_180 0 9 (dk_at dksX3_become_1 10 rfl rfl)
theorem dX3_become_37 : decode cX3_become 37 = .ok (.putfield 9, 3) := dk_181 0 9 (dk_at dksX3_become_1 13 rfl rfl)
theorem dX3_become_40 : decode cX3_become 40 = .ok (.aload_n 0, 1) := dk_42 (dk_at dksX3_become_1 16 rfl rfl)
theorem dX3_become_41 : decode cX3_become 41 = .ok (.aload_n 1, 1) := dk_43 (dk_at dksX3_become_1 17 rfl rfl)
theorem dX3_become_42 : decode cX3_become 42 = .ok (.getfield 57, 3) := dk_180 0 57 (dk_at dksX3_become_1 18 rfl rfl)
theorem dX3_become_45 : decode cX3_become 45 = .ok (.putfield 57, 3) := dk_181 0 57 (dk_at dksX3_become_1 21 rfl rfl)
theorem dX3_become_48 : decode cX3_become 48 = .ok (.aload_n 1, 1) := dk_43 (dk_at dksX3_become_2 0 rfl rfl)
theorem dX3_become_49 : decode cX3_become 49 = .ok (.getfield 15, 3) := dk_180 0 15 (dk_at dksX3_become_2 1 rfl rfl)
theorem dX3_become_52 : decode cX3_become 52 = .ok (.iconst 0, 1) := dk_3 (dk_at dksX3_become_2 4 rfl rfl)
theorem dX3_become_53 : decode cX3_become 53 = .ok (.aload_n 0, 1) := dk_42 (dk_at dksX3_become_2 5 rfl rfl)
theorem dX3_become_54 : decode cX3_become 54 = .ok (.getfield 15, 3) := dk_180 0 15 (dk_at dksX3_become_2 6 rfl rfl)
theorem dX3_become_57 : decode cX3_become 57 = .ok (.iconst 0, 1) := dk_3 (dk_at dksX3_become_2 9 rfl rfl)
theorem dX3_become_58 : decode cX3_become 58 = .ok (.bipush 6, 2) := dk_16 6 (dk_at dksX3_become_2 10 rfl rfl)
theorem dX3_become_60 : decode cX3_become 60 = .ok (.invokestatic 73, 3) := dk_184 0 73 (dk_at dksX3_become_2 12 rfl rfl)
theorem dX3_become_63 : decode cX3_become 63 = .ok (.aload_n 1, 1) := dk_43 (dk_at dksX3_become_2 15 rfl rfl)
theorem dX3_become_64 : decode cX3_become 64 = .ok (.getfield 19, 3) := dk_180 0 19 (dk_at dksX3_become_2 16 rfl rfl)
theorem dX3_become_67 : decode cX3_become 67 = .ok (.iconst 0, 1) := dk_3 (dk_at dksX3_become_2 19 rfl rfl)
theorem dX3_become_68 : decode cX3_become 68 = .ok (.aload_n 0, 1) := dk_42 (dk_at dksX3_become_2 20 rfl rfl)
theorem dX3_become_69 : decode cX3_become 69 = .ok (.getfield 19, 3) := dk_180 0 19 (dk_at dksX3_become_2 21 rfl rfl)
theorem dX3_become_72 : decode cX3_become 72 = .ok (.iconst 0, 1) := dk_3 (dk_at dksX3_become_3 0 rfl rfl)
theorem dX3_become_73 : decode cX3_become 73 = .ok (.bipush 6, 2) := dk_16 6 (dk_at dksX3_become_3 1 rfl rfl)
theorem dX3_become_75 : decode cX3_become 75 = .ok (.invokestatic 73, 3) := dk_184 0 73 (dk_at dksX3_become_3 3 rfl rfl)
theorem dX3_become_78 : decode cX3_become 78 = .ok (.aload_n 1, 1) := dk_43 (dk_at dksX3_become_3 6 rfl rfl)
theorem dX3_become_79 : decode cX3_become 79 = .ok (.getfield 22, 3) := dk_180 0 22 (dk_at dksX3_become_3 7 rfl rfl)
theorem dX3_become_82 : decode cX3_become 82 = .ok (.iconst 0, 1) := dk_3 (dk_at dksX3_become_3 10 rfl rfl)
theorem dX3_become_83 : decode cX3_become 83 = .ok (.aload_n 0, 1) := dk_42 (dk_at dksX3_become_3 11 rfl rfl)
theorem dX3_become_84 : decode cX3_become 84 = .ok (.getfield 22, 3) := dk_180 0 22 (dk_at dksX3_become_3 12 rfl rfl)
theorem dX3_become_87 : decode cX3_become 87 = .ok (.iconst 0, 1) := dk_3 (dk_at dksX3_become_3 15 rfl rfl)
theorem dX3_become_88 : decode cX3_become 88 = .ok (.bipush 6, 2) := dk_16 6 (dk_at dksX3_become_3 16 rfl rfl)
theorem dX3_become_90 : decode cX3_become 90 = .ok (.invokestatic 73, 3) := dk_184 0 73 (dk_at dksX3_become_3 18 rfl rfl)
theorem dX3_become_93 : decode cX3_become 93 = .ok (.aload_n 1, 1) := dk_43 (dk_at dksX3_become_3 21 rfl rfl)
theorem dX3_become_94 : decode cX3_become 94 = .ok (.getfield 25, 3) := dk_180 0 25 (dk_at dksX3_become_4 0 rfl rfl)
theorem dX3_become_97 : decode cX3_become 97 = .ok (.iconst 0, 1) := dk_3 (dk_at dksX3_become_4 3 rfl rfl)
theorem dX3_become_98 : decode cX3_become 98 = .ok (.aload_n 0, 1) := dk_42 (dk_at dksX3_become_4 4 rfl rfl)
theorem dX3_become_99 : decode cX3_become 99 = .ok (.getfield 25, 3) := dk_180 0 25 (dk_at dksX3_become_4 5 rfl rfl)
theorem dX3_become_102 : decode cX3_become 102 = .ok (.iconst 0, 1) := dk_3 (dk_at dksX3_become_4 8 rfl rfl)
theorem dX3_become_103 : decode cX3_become 103 = .ok (.bipush 6, 2) := dk_16 6 (dk_at dksX3_become_4 9 rfl rfl)
theorem dX3_become_105 : decode cX3_become 105 = .ok (.invokestatic 73, 3) := dk_184 0 73 (dk_at dksX3_become_4 11 rfl rfl)
theorem dX3_become_108 : decode cX3_become 108 = .ok (.aload_n 1, 1) := dk_43 (dk_at dksX3_become_4 14 rfl rfl)
theorem dX3_become_109 : decode cX3_become 109 = .ok (.getfield 28, 3) := dk_180 0 28 (dk_at dksX3_become_4 15 rfl rfl)
theorem dX3_become_112 : decode cX3_become 112 = .ok (.iconst 0, 1) := dk_3 (dk_at dksX3_become_4 18 rfl rfl)
theorem dX3_become_113 : decode cX3_become 113 = .ok (.aload_n 0, 1) := dk_42 (dk_at dksX3_become_4 19 rfl rfl)
theorem dX3_become_114 : decode cX3_become 114 = .ok (.getfield 28, 3) := dk_180 0 28 (dk_at dksX3_become_4 20 rfl rfl)
theorem dX3_become_117 : decode cX3_become 117 = .ok (.iconst 0, 1) := dk_3 (dk_at dksX3_become_4 23 rfl rfl)
theorem dX3_become_118 : decode cX3_become 118 = .ok (.bipush 6, 2) := dk_16 6 (dk_at dksX3_become_5 0 rfl rfl)
theorem dX3_become_120 : decode cX3_become 120 = .ok (.invokestatic 73, 3) := dk_184 0 73 (dk_at dksX3_become_5 2 rfl rfl)
theorem dX3_become_123 : decode cX3_become 123 = .ok (.aload_n 1, 1) := dk_43 (dk_at dksX3_become_5 5 rfl rfl)
theorem dX3_become_124 : decode cX3_become 124 = .ok (.getfield 31, 3) := dk_180 0 31 (dk_at dksX3_become_5 6 rfl rfl)
theorem dX3_become_127 : decode cX3_become 127 = .ok (.iconst 0, 1) := dk_3 (dk_at dksX3_become_5 9 rfl rfl)
theorem dX3_become_128 : decode cX3_become 128 = .ok (.aload_n 0, 1) := dk_42 (dk_at dksX3_become_5 10 rfl rfl)
theorem dX3_become_129 : decode cX3_become 129 = .ok (.getfield 31, 3) := dk_180 0 31 (dk_at dksX3_become_5 11 rfl rfl)
theorem dX3_become_132 : decode cX3_become 132 = .ok (.iconst 0, 1) := dk_3 (dk_at dksX3_become_5 14 rfl rfl)
theorem dX3_become_133 : decode cX3_become 133 = .ok (.bipush 8, 2) := dk_16 8 (dk_at dksX3_become_5 15 rfl rfl)
theorem dX3_become_135 : decode cX3_become 135 = .ok (.invokestatic 73, 3) := dk_184 0 73 (dk_at dksX3_become_5 17 rfl rfl)
theorem dX3_become_138 : decode cX3_become 138 = .ok (.aload_n 1, 1) := dk_43 (dk_at dksX3_become_5 20 rfl rfl)
theorem dX3_become_139 : decode cX3_become 139 = .ok (.getfield 34, 3) := dk_180 0 34 (dk_at dksX3_become_5 21 rfl rfl)
theorem dX3_become_142 : decode cX3_become 142 = .ok (.iconst 0, 1) := dk_3 (dk_at dksX3_become_6 0 rfl rfl)
theorem dX3_become_143 : decode cX3_become 143 = .ok (.aload_n 0, 1) := dk_42 (dk_at dksX3_become_6 1 rfl rfl)
theorem dX3_become_144 : decode cX3_become 144 = .ok (.getfield 34, 3) := dk_180 0 34 (dk_at dksX3_become_6 2 rfl rfl)
theorem dX3_become_147 : decode cX3_become 147 = .ok (.iconst 0, 1) := dk_3 (dk_at dksX3_become_6 5 rfl rfl)
theorem dX3_become_148 : decode cX3_become 148 = .ok (.bipush 8, 2) := dk_16 8 (dk_at dksX3_become_6 6 rfl rfl)
theorem dX3_become_150 : decode cX3_become 150 = .ok (.invokestatic 73, 3) := dk_184 0 73 (dk_at dksX3_become_6 8 rfl rfl)
theorem dX3_become_153 : decode cX3_become 153 = .ok (.aload_n 1, 1) := dk_43 (dk_at dksX3_become_6 11 rfl rfl)
theorem dX3_become_154 : decode cX3_become 154 = .ok (.getfield 37, 3) := dk_180 0 37 (dk_at dksX3_become_6 12 rfl rfl)
theorem dX3_become_157 : decode cX3_become 157 = .ok (.iconst 0, 1) := dk_3 (dk_at dksX3_become_6 15 rfl rfl)
theorem dX3_become_158 : decode cX3_become 158 = .ok (.aload_n 0, 1) := dk_42 (dk_at dksX3_become_6 16 rfl rfl)
theorem dX3_become_159 : decode cX3_become 159 = .ok (.getfield 37, 3) := dk_180 0 37 (dk_at dksX3_become_6 17 rfl rfl)
theorem dX3_become_162 : decode cX3_become 162 = .ok (.iconst 0, 1) := dk_3 (dk_at dksX3_become_6 20 rfl rfl)
theorem dX3_become_163 : decode cX3_become 163 = .ok (.bipush 6, 2) := dk_16 6 (dk_at dksX3_become_6 21 rfl rfl)
theorem dX3_become_165 : decode cX3_become 165 = .ok (.invokestatic 73, 3) := dk_184 0 73 (dk_at dksX3_become_7 0 rfl rfl)
theorem dX3_become_168 : decode cX3_become 168 = .ok (.aload_n 1, 1) := dk_43 (dk_at dksX3_become_7 3 rfl rfl)
theorem dX3_become_169 : decode cX3_become 169 = .ok (.getfield 40, 3) := dk_180 0 40 (dk_at dksX3_become_7 4 rfl rfl)
theorem dX3_become_172 : decode cX3_become 172 = .ok (.iconst 0, 1) := dk_3 (dk_at dksX3_become_7 7 rfl rfl)
theorem dX3_become_173 : decode cX3_become 173 = .ok (.aload_n 0, 1) := dk_42 (dk_at dksX3_become_7 8 rfl rfl)
theorem dX3_become_174 : decode cX3_become 174 = .ok (.getfield 40, 3) := dk_180 0 40 (dk_at dksX3_become_7 9 rfl rfl)
theorem dX3_become_177 : decode cX3_become 177 = .ok (.iconst 0, 1) := dk_3 (dk_at dksX3_become_7 12 rfl rfl)
theorem dX3_become_178 : decode cX3_become 178 = .ok (.bipush 6, 2) := dk_16 6 (dk_at dksX3_become_7 13 rfl rfl)
theorem dX3_become_180 : decode cX3_become 180 = .ok (.invokestatic 73, 3) := dk_184 0 73 (dk_at dksX3_become_7 15 rfl rfl)
theorem dX3_become_183 : decode cX3_become 183 = .ok (.aload_n 1, 1) := dk_43 (dk_at dksX3_become_7 18 rfl rfl)
theorem dX3_become_184 : decode cX3_become 184 = .ok (.getfield 43, 3) := dk_180 0 43 (dk_at dksX3_become_7 19 rfl rfl)
theorem dX3_become_187 : decode cX3_become 187 = .ok (.iconst 0, 1) := dk_3 (dk_at dksX3_become_7 22 rfl rfl)
theorem dX3_become_188 : decode cX3_become 188 = .ok (.aload_n 0, 1) := dk_42 (dk_at dksX3_become_7 23 rfl rfl)
theorem dX3_become_189 : decode cX3_become 189 = .ok (.getfield 43, 3) := dk_180 0 43 (dk_at dksX3_become_8 0 rfl rfl)
theorem dX3_become_192 : decode cX3_become 192 = .ok (.iconst 0, 1) := dk_3 (dk_at dksX3_become_8 3 rfl rfl)
theorem dX3_become_193 : decode cX3_become 193 = .ok (.bipush 6, 2) := dk_16 6 (dk_at dksX3_become_8 4 rfl rfl)
theorem dX3_become_195 : decode cX3_become 195 = .ok (.invokestatic 73, 3) := dk_184 0 73 (dk_at dksX3_become_8 6 rfl rfl)
theorem dX3_become_198 : decode cX3_become 198 = .ok (.aload_n 1, 1) := dk_43 (dk_at dksX3_become_8 9 rfl rfl)
theorem dX3_become_199 : decode cX3_become 199 = .ok (.getfield 46, 3) := dk_180 0 46 (dk_at dksX3_become_8 10 rfl rfl)
theorem dX3_become_202 : decode cX3_become 202 = .ok (.iconst 0, 1) := dk_3 (dk_at dksX3_become_8 13 rfl rfl)
theorem dX3_become_203 : decode cX3_become 203 = .ok (.aload_n 0, 1) := dk_42 (dk_at dksX3_become_8 14 rfl rfl)
theorem dX3_become_204 : decode cX3_become 204 = .ok (.getfield 46, 3) := dk_180 0 46 (dk_at dksX3_become_8 15 rfl rfl)
theorem dX3_become_207 : decode cX3_become 207 = .ok (.iconst 0, 1) := dk_3 (dk_at dksX3_become_8 18 rfl rfl)
theorem dX3_become_208 : decode cX3_become 208 = .ok (.bipush 12, 2) := dk_16 12 (dk_at dksX3_become_8 19 rfl rfl)
theorem dX3_become_210 : decode cX3_become 210 = .ok (.invokestatic 73, 3) := dk_184 0 73 (dk_at dksX3_become_8 21 rfl rfl)
theorem dX3_become_213 : decode cX3_become 213 = .ok (.aload_n 1, 1) := dk_43 (dk_at dksX3_become_9 0 rfl rfl)
theorem dX3_become_214 : decode cX3_become 214 = .ok (.getfield 49, 3) := dk_180 0 49 (dk_at dksX3_become_9 1 rfl rfl)
theorem dX3_become_217 : decode cX3_become 217 = .ok (.iconst 0, 1) := dk_3 (dk_at dksX3_become_9 4 rfl rfl)
theorem dX3_become_218 : decode cX3_become 218 = .ok (.aload_n 0, 1) := dk_42 (dk_at dksX3_become_9 5 rfl rfl)
theorem dX3_become_219 : decode cX3_become 219 = .ok (.getfield 49, 3) := dk_180 0 49 (dk_at dksX3_become_9 6 rfl rfl)
theorem dX3_become_222 : decode cX3_become 222 = .ok (.iconst 0, 1) := dk_3 (dk_at dksX3_become_9 9 rfl rfl)
theorem dX3_become_223 : decode cX3_become 223 = .ok (.bipush 12, 2) := dk_16 12 (dk_at dksX3_become_9 10 rfl rfl)
theorem dX3_become_225 : decode cX3_become 225 = .ok (.invokestatic 73, 3) := dk_184 0 73 (dk_at dksX3_become_9 12 rfl rfl)
theorem dX3_become_228 : decode cX3_become 228 = .ok (.aload_n 1, 1) := dk_43 (dk_at dksX3_become_9 15 rfl rfl)
theorem dX3_become_229 : decode cX3_become 229 = .ok (.getfield 52, 3) := dk_180 0 52 (dk_at dksX3_become_9 16 rfl rfl)
theorem dX3_become_232 : decode cX3_become 232 = .ok (.iconst 0, 1) := dk_3 (dk_at dksX3_become_9 19 rfl rfl)
theorem dX3_become_233 : decode cX3_become 233 = .ok (.aload_n 0, 1) := dk_42 (dk_at dksX3_become_9 20 rfl rfl)
theorem dX3_become_234 : decode cX3_become 234 = .ok (.getfield 52, 3) := dk_180 0 52 (dk_at dksX3_become_9 21 rfl rfl)
theorem dX3_become_237 : decode cX3_become 237 = .ok (.iconst 0, 1) := dk_3 (dk_at dksX3_become_10 0 rfl rfl)
theorem dX3_become_238 : decode cX3_become 238 = .ok (.bipush 12, 2) := dk_16 12 (dk_at dksX3_become_10 1 rfl rfl)
theorem dX3_become_240 : decode cX3_become 240 = .ok (.invokestatic 73, 3) := dk_184 0 73 (dk_at dksX3_become_10 3 rfl rfl)
theorem dX3_become_243 : decode cX3_become 243 = .ok (.return_, 1) := dk_177 (dk_at dksX3_become_10 6 rfl rfl)
theorem q122 : (Jvm.Cond.initialized "HadForVoice$Town") ∈ lw_all := lw_g (lw_at lw_m1 7 rfl) rfl
theorem q265 : (Jvm.Cond.instantiable "HadForVoice$Town" (19 : Nat)) ∈ lw_all := lw_g (lw_at lw_m1 150 rfl) rfl
theorem q267 : (Jvm.Cond.instanceMethod ({ cls := "HadForVoice$Town", name := "<init>", desc := "()V" } : Jvm.MethodName)) ∈ lw_all := lw_g (lw_at lw_m1 152 rfl) rfl
theorem q268 : (Jvm.Cond.code ({ cls := "HadForVoice$Town", name := "<init>", desc := "()V" } : Jvm.MethodName) prog_21_method_1_code (1 : Nat) (Option.none : Option Jvm.ClassFile.FieldType)) ∈ lw_all := lw_g (lw_at lw_m1 153 rfl) rfl
theorem q269 : (Jvm.Cond.methodLink "HadForVoice$Town" (3 : Nat) ({ cls := "java/lang/Object", name := "<init>", desc := "()V" } : Jvm.MethodName)) ∈ lw_all := lw_g (lw_at lw_m1 154 rfl) rfl
theorem q270 : (Jvm.Cond.classLink "HadForVoice$Town" (55 : Nat) "HadForVoice$Rule") ∈ lw_all := lw_g (lw_at lw_m1 155 rfl) rfl
theorem q272 : (Jvm.Cond.fieldLink "HadForVoice$Town" (61 : Nat) "HadForVoice$Town" "people" "I") ∈ lw_all := lw_g (lw_at lw_m1 157 rfl) rfl
theorem q274 : (Jvm.Cond.fieldLink "HadForVoice$Town" (64 : Nat) "HadForVoice$Town" "fee" "I") ∈ lw_all := lw_g (lw_at lw_m1 159 rfl) rfl
theorem q276 : (Jvm.Cond.fieldLink "HadForVoice$Town" (67 : Nat) "HadForVoice$Town" "reports" "I") ∈ lw_all := lw_g (lw_at lw_m1 161 rfl) rfl
theorem q278 : (Jvm.Cond.fieldLink "HadForVoice$Town" (70 : Nat) "HadForVoice$Town" "made" "I") ∈ lw_all := lw_g (lw_at lw_m1 163 rfl) rfl
theorem q280 : (Jvm.Cond.fieldLink "HadForVoice$Town" (9 : Nat) "HadForVoice$Town" "z" "I") ∈ lw_all := lw_g (lw_at lw_m1 165 rfl) rfl
theorem q282 : (Jvm.Cond.fieldLink "HadForVoice$Town" (15 : Nat) "HadForVoice$Town" "kind" "[I") ∈ lw_all := lw_g (lw_at lw_m1 167 rfl) rfl
theorem q284 : (Jvm.Cond.fieldLink "HadForVoice$Town" (19 : Nat) "HadForVoice$Town" "has" "[I") ∈ lw_all := lw_g (lw_at lw_m1 169 rfl) rfl
theorem q286 : (Jvm.Cond.fieldLink "HadForVoice$Town" (22 : Nat) "HadForVoice$Town" "needs" "[I") ∈ lw_all := lw_g (lw_at lw_m1 171 rfl) rfl
theorem q288 : (Jvm.Cond.fieldLink "HadForVoice$Town" (25 : Nat) "HadForVoice$Town" "coins" "[I") ∈ lw_all := lw_g (lw_at lw_m1 173 rfl) rfl
theorem q290 : (Jvm.Cond.fieldLink "HadForVoice$Town" (28 : Nat) "HadForVoice$Town" "meets" "[I") ∈ lw_all := lw_g (lw_at lw_m1 175 rfl) rfl
theorem q292 : (Jvm.Cond.fieldLink "HadForVoice$Town" (31 : Nat) "HadForVoice$Town" "worth" "[I") ∈ lw_all := lw_g (lw_at lw_m1 177 rfl) rfl
theorem q294 : (Jvm.Cond.fieldLink "HadForVoice$Town" (34 : Nat) "HadForVoice$Town" "jar" "[I") ∈ lw_all := lw_g (lw_at lw_m1 179 rfl) rfl
theorem q296 : (Jvm.Cond.fieldLink "HadForVoice$Town" (37 : Nat) "HadForVoice$Town" "given" "[I") ∈ lw_all := lw_g (lw_at lw_m1 181 rfl) rfl
theorem q298 : (Jvm.Cond.fieldLink "HadForVoice$Town" (40 : Nat) "HadForVoice$Town" "got" "[I") ∈ lw_all := lw_g (lw_at lw_m1 183 rfl) rfl
theorem q300 : (Jvm.Cond.fieldLink "HadForVoice$Town" (43 : Nat) "HadForVoice$Town" "asked" "[I") ∈ lw_all := lw_g (lw_at lw_m1 185 rfl) rfl
theorem q302 : (Jvm.Cond.fieldLink "HadForVoice$Town" (46 : Nat) "HadForVoice$Town" "which" "[I") ∈ lw_all := lw_g (lw_at lw_m1 187 rfl) rfl
theorem q304 : (Jvm.Cond.fieldLink "HadForVoice$Town" (49 : Nat) "HadForVoice$Town" "had" "[I") ∈ lw_all := lw_g (lw_at lw_m1 189 rfl) rfl
theorem q306 : (Jvm.Cond.fieldLink "HadForVoice$Town" (52 : Nat) "HadForVoice$Town" "came" "[I") ∈ lw_all := lw_g (lw_at lw_m1 191 rfl) rfl
theorem q308 : (Jvm.Cond.fieldLink "HadForVoice$Town" (57 : Nat) "HadForVoice$Town" "rules" "[LHadForVoice$Rule;") ∈ lw_all := lw_g (lw_at lw_m1 193 rfl) rfl
theorem q310 : (Jvm.Cond.lays "HadForVoice$Town" "HadForVoice$Town" "people" "I") ∈ lw_all := lw_g (lw_at lw_m1 195 rfl) rfl
theorem q311 : (Jvm.Cond.soleField "HadForVoice$Town" "people") ∈ lw_all := lw_g (lw_at lw_m1 196 rfl) rfl
theorem q312 : (Jvm.Cond.lays "HadForVoice$Town" "HadForVoice$Town" "fee" "I") ∈ lw_all := lw_g (lw_at lw_m1 197 rfl) rfl
theorem q313 : (Jvm.Cond.soleField "HadForVoice$Town" "fee") ∈ lw_all := lw_g (lw_at lw_m1 198 rfl) rfl
theorem q314 : (Jvm.Cond.lays "HadForVoice$Town" "HadForVoice$Town" "reports" "I") ∈ lw_all := lw_g (lw_at lw_m1 199 rfl) rfl
theorem q315 : (Jvm.Cond.soleField "HadForVoice$Town" "reports") ∈ lw_all := lw_g (lw_at lw_m1 200 rfl) rfl
theorem q316 : (Jvm.Cond.lays "HadForVoice$Town" "HadForVoice$Town" "made" "I") ∈ lw_all := lw_g (lw_at lw_m1 201 rfl) rfl
theorem q317 : (Jvm.Cond.soleField "HadForVoice$Town" "made") ∈ lw_all := lw_g (lw_at lw_m1 202 rfl) rfl
theorem q318 : (Jvm.Cond.lays "HadForVoice$Town" "HadForVoice$Town" "z" "I") ∈ lw_all := lw_g (lw_at lw_m1 203 rfl) rfl
theorem q319 : (Jvm.Cond.soleField "HadForVoice$Town" "z") ∈ lw_all := lw_g (lw_at lw_m1 204 rfl) rfl
theorem q320 : (Jvm.Cond.laysFinal "HadForVoice$Town" "HadForVoice$Town" "kind" "[I") ∈ lw_all := lw_g (lw_at lw_m1 205 rfl) rfl
theorem q321 : (Jvm.Cond.soleField "HadForVoice$Town" "kind") ∈ lw_all := lw_g (lw_at lw_m1 206 rfl) rfl
theorem q322 : (Jvm.Cond.laysFinal "HadForVoice$Town" "HadForVoice$Town" "has" "[I") ∈ lw_all := lw_g (lw_at lw_m1 207 rfl) rfl
theorem q323 : (Jvm.Cond.soleField "HadForVoice$Town" "has") ∈ lw_all := lw_g (lw_at lw_m1 208 rfl) rfl
theorem q324 : (Jvm.Cond.laysFinal "HadForVoice$Town" "HadForVoice$Town" "needs" "[I") ∈ lw_all := lw_g (lw_at lw_m1 209 rfl) rfl
theorem q325 : (Jvm.Cond.soleField "HadForVoice$Town" "needs") ∈ lw_all := lw_g (lw_at lw_m1 210 rfl) rfl
theorem q326 : (Jvm.Cond.laysFinal "HadForVoice$Town" "HadForVoice$Town" "coins" "[I") ∈ lw_all := lw_g (lw_at lw_m1 211 rfl) rfl
theorem q327 : (Jvm.Cond.soleField "HadForVoice$Town" "coins") ∈ lw_all := lw_g (lw_at lw_m1 212 rfl) rfl
theorem q328 : (Jvm.Cond.laysFinal "HadForVoice$Town" "HadForVoice$Town" "meets" "[I") ∈ lw_all := lw_g (lw_at lw_m1 213 rfl) rfl
theorem q329 : (Jvm.Cond.soleField "HadForVoice$Town" "meets") ∈ lw_all := lw_g (lw_at lw_m1 214 rfl) rfl
theorem q330 : (Jvm.Cond.laysFinal "HadForVoice$Town" "HadForVoice$Town" "worth" "[I") ∈ lw_all := lw_g (lw_at lw_m1 215 rfl) rfl
theorem q331 : (Jvm.Cond.soleField "HadForVoice$Town" "worth") ∈ lw_all := lw_g (lw_at lw_m1 216 rfl) rfl
theorem q332 : (Jvm.Cond.laysFinal "HadForVoice$Town" "HadForVoice$Town" "jar" "[I") ∈ lw_all := lw_g (lw_at lw_m1 217 rfl) rfl
theorem q333 : (Jvm.Cond.soleField "HadForVoice$Town" "jar") ∈ lw_all := lw_g (lw_at lw_m1 218 rfl) rfl
theorem q334 : (Jvm.Cond.laysFinal "HadForVoice$Town" "HadForVoice$Town" "given" "[I") ∈ lw_all := lw_g (lw_at lw_m1 219 rfl) rfl
theorem q335 : (Jvm.Cond.soleField "HadForVoice$Town" "given") ∈ lw_all := lw_g (lw_at lw_m1 220 rfl) rfl
theorem q336 : (Jvm.Cond.laysFinal "HadForVoice$Town" "HadForVoice$Town" "got" "[I") ∈ lw_all := lw_g (lw_at lw_m1 221 rfl) rfl
theorem q337 : (Jvm.Cond.soleField "HadForVoice$Town" "got") ∈ lw_all := lw_g (lw_at lw_m1 222 rfl) rfl
theorem q338 : (Jvm.Cond.laysFinal "HadForVoice$Town" "HadForVoice$Town" "asked" "[I") ∈ lw_all := lw_g (lw_at lw_m1 223 rfl) rfl
theorem q339 : (Jvm.Cond.soleField "HadForVoice$Town" "asked") ∈ lw_all := lw_g (lw_at lw_m1 224 rfl) rfl
theorem q340 : (Jvm.Cond.laysFinal "HadForVoice$Town" "HadForVoice$Town" "which" "[I") ∈ lw_all := lw_g (lw_at lw_m1 225 rfl) rfl
theorem q341 : (Jvm.Cond.soleField "HadForVoice$Town" "which") ∈ lw_all := lw_g (lw_at lw_m1 226 rfl) rfl
theorem q342 : (Jvm.Cond.laysFinal "HadForVoice$Town" "HadForVoice$Town" "had" "[I") ∈ lw_all := lw_g (lw_at lw_m1 227 rfl) rfl
theorem q343 : (Jvm.Cond.soleField "HadForVoice$Town" "had") ∈ lw_all := lw_g (lw_at lw_m1 228 rfl) rfl
theorem q344 : (Jvm.Cond.laysFinal "HadForVoice$Town" "HadForVoice$Town" "came" "[I") ∈ lw_all := lw_g (lw_at lw_m1 229 rfl) rfl
theorem q345 : (Jvm.Cond.soleField "HadForVoice$Town" "came") ∈ lw_all := lw_g (lw_at lw_m1 230 rfl) rfl
theorem q346 : (Jvm.Cond.lays "HadForVoice$Town" "HadForVoice$Town" "rules" "[LHadForVoice$Rule;") ∈ lw_all := lw_g (lw_at lw_m1 231 rfl) rfl
theorem q347 : (Jvm.Cond.soleField "HadForVoice$Town" "rules") ∈ lw_all := lw_g (lw_at lw_m1 232 rfl) rfl
theorem q348 : (Jvm.Cond.superclass "HadForVoice$Town" "java/lang/Object") ∈ lw_all := lw_g (lw_at lw_m1 233 rfl) rfl
theorem q580 : (Jvm.Cond.instanceMethod ({ cls := "HadForVoice$Town", name := "whole", desc := "()I" } : Jvm.MethodName)) ∈ lw_all := lw_g (lw_at lw_m2 225 rfl) rfl
theorem q581 : (Jvm.Cond.selects "HadForVoice$Town" ({ cls := "HadForVoice$Town", name := "whole", desc := "()I" } : Jvm.MethodName) ({ cls := "HadForVoice$Town", name := "whole", desc := "()I" } : Jvm.MethodName)) ∈ lw_all := lw_g (lw_at lw_m2 226 rfl) rfl
theorem q582 : (Jvm.Cond.code ({ cls := "HadForVoice$Town", name := "whole", desc := "()I" } : Jvm.MethodName) prog_21_method_4_code (3 : Nat) (Option.some Jvm.ClassFile.FieldType.int)) ∈ lw_all := lw_g (lw_at lw_m2 227 rfl) rfl
theorem q583 : (Jvm.Cond.methodLink "HadForVoice$Town" (79 : Nat) ({ cls := "HadForVoice$Town", name := "isWhole", desc := "(I)Z" } : Jvm.MethodName)) ∈ lw_all := lw_g (lw_at lw_m2 228 rfl) rfl
theorem q584 : (Jvm.Cond.instanceMethod ({ cls := "HadForVoice$Town", name := "isWhole", desc := "(I)Z" } : Jvm.MethodName)) ∈ lw_all := lw_g (lw_at lw_m2 229 rfl) rfl
theorem q585 : (Jvm.Cond.selects "HadForVoice$Town" ({ cls := "HadForVoice$Town", name := "isWhole", desc := "(I)Z" } : Jvm.MethodName) ({ cls := "HadForVoice$Town", name := "isWhole", desc := "(I)Z" } : Jvm.MethodName)) ∈ lw_all := lw_g (lw_at lw_m2 230 rfl) rfl
theorem q586 : (Jvm.Cond.code ({ cls := "HadForVoice$Town", name := "isWhole", desc := "(I)Z" } : Jvm.MethodName) prog_21_method_3_code (2 : Nat) (Option.some Jvm.ClassFile.FieldType.boolean)) ∈ lw_all := lw_g (lw_at lw_m2 231 rfl) rfl
theorem q699 : (Jvm.Cond.instanceMethod ({ cls := "HadForVoice$Town", name := "purse", desc := "()I" } : Jvm.MethodName)) ∈ lw_all := lw_g (lw_at lw_m3 104 rfl) rfl
theorem q700 : (Jvm.Cond.selects "HadForVoice$Town" ({ cls := "HadForVoice$Town", name := "purse", desc := "()I" } : Jvm.MethodName) ({ cls := "HadForVoice$Town", name := "purse", desc := "()I" } : Jvm.MethodName)) ∈ lw_all := lw_g (lw_at lw_m3 105 rfl) rfl
theorem q701 : (Jvm.Cond.code ({ cls := "HadForVoice$Town", name := "purse", desc := "()I" } : Jvm.MethodName) prog_21_method_5_code (3 : Nat) (Option.some Jvm.ClassFile.FieldType.int)) ∈ lw_all := lw_g (lw_at lw_m3 106 rfl) rfl
theorem q960 : (Jvm.Cond.instanceMethod ({ cls := "HadForVoice$Town", name := "trades", desc := "(III)V" } : Jvm.MethodName)) ∈ lw_all := lw_g (lw_at lw_m4 125 rfl) rfl
theorem q961 : (Jvm.Cond.selects "HadForVoice$Town" ({ cls := "HadForVoice$Town", name := "trades", desc := "(III)V" } : Jvm.MethodName) ({ cls := "HadForVoice$Town", name := "trades", desc := "(III)V" } : Jvm.MethodName)) ∈ lw_all := lw_g (lw_at lw_m4 126 rfl) rfl
theorem q962 : (Jvm.Cond.code ({ cls := "HadForVoice$Town", name := "trades", desc := "(III)V" } : Jvm.MethodName) prog_21_method_7_code (4 : Nat) (Option.none : Option Jvm.ClassFile.FieldType)) ∈ lw_all := lw_g (lw_at lw_m4 127 rfl) rfl
theorem q964 : (Jvm.Cond.instanceMethod ({ cls := "HadForVoice$Town", name := "exchange", desc := "(II)V" } : Jvm.MethodName)) ∈ lw_all := lw_g (lw_at lw_m4 129 rfl) rfl
theorem q965 : (Jvm.Cond.selects "HadForVoice$Town" ({ cls := "HadForVoice$Town", name := "exchange", desc := "(II)V" } : Jvm.MethodName) ({ cls := "HadForVoice$Town", name := "exchange", desc := "(II)V" } : Jvm.MethodName)) ∈ lw_all := lw_g (lw_at lw_m4 130 rfl) rfl
theorem q966 : (Jvm.Cond.code ({ cls := "HadForVoice$Town", name := "exchange", desc := "(II)V" } : Jvm.MethodName) prog_21_method_6_code (4 : Nat) (Option.none : Option Jvm.ClassFile.FieldType)) ∈ lw_all := lw_g (lw_at lw_m4 131 rfl) rfl
theorem q968 : (Jvm.Cond.instanceMethod ({ cls := "HadForVoice$Town", name := "enters", desc := "(III)V" } : Jvm.MethodName)) ∈ lw_all := lw_g (lw_at lw_m4 133 rfl) rfl
theorem q969 : (Jvm.Cond.selects "HadForVoice$Town" ({ cls := "HadForVoice$Town", name := "enters", desc := "(III)V" } : Jvm.MethodName) ({ cls := "HadForVoice$Town", name := "enters", desc := "(III)V" } : Jvm.MethodName)) ∈ lw_all := lw_g (lw_at lw_m4 134 rfl) rfl
theorem q970 : (Jvm.Cond.code ({ cls := "HadForVoice$Town", name := "enters", desc := "(III)V" } : Jvm.MethodName) prog_21_method_8_code (4 : Nat) (Option.none : Option Jvm.ClassFile.FieldType)) ∈ lw_all := lw_g (lw_at lw_m4 135 rfl) rfl
theorem q971 : (Jvm.Cond.methodLink "HadForVoice$Town" (73 : Nat) ({ cls := "java/lang/System", name := "arraycopy", desc := "(Ljava/lang/Object;ILjava/lang/Object;II)V" } : Jvm.MethodName)) ∈ lw_all := lw_g (lw_at lw_m4 136 rfl) rfl
theorem q1135 : (Jvm.Cond.instanceMethod ({ cls := "HadForVoice$Town", name := "become", desc := "(LHadForVoice$Town;)V" } : Jvm.MethodName)) ∈ lw_all := lw_g (lw_at lw_m5 60 rfl) rfl
theorem q1136 : (Jvm.Cond.selects "HadForVoice$Town" ({ cls := "HadForVoice$Town", name := "become", desc := "(LHadForVoice$Town;)V" } : Jvm.MethodName) ({ cls := "HadForVoice$Town", name := "become", desc := "(LHadForVoice$Town;)V" } : Jvm.MethodName)) ∈ lw_all := lw_g (lw_at lw_m5 61 rfl) rfl
theorem q1137 : (Jvm.Cond.code ({ cls := "HadForVoice$Town", name := "become", desc := "(LHadForVoice$Town;)V" } : Jvm.MethodName) prog_21_method_2_code (2 : Nat) (Option.none : Option Jvm.ClassFile.FieldType)) ∈ lw_all := lw_g (lw_at lw_m5 62 rfl) rfl
theorem in_X3 : ∀ w ∈ wsX30, w ∈ lw_all := lw_in wsX30 [310, 312, 314, 316, 318, 320, 322, 324, 326, 328, 330, 332, 334, 336, 338, 340, 342, 344, 346] (by decide +kernel) (by decide +kernel)
/-! HadForVoice$Trace -/
set_option maxRecDepth 100000
def RX4 : String := "HadForVoice$Trace"
def TX4 : u_T := fun k => match k with
  | 0 => ("HadForVoice$Trace", "bodies", "[I", true)
  | _ => ("HadForVoice$Trace", "many", "I", false)
def tyX4 : Nat → FieldType := fun k => match k with
  | 0 => .array .int
  | _ => .int
abbrev wsX40 : List Cond := u_ws RX4 TX4 2
theorem nmX4 : ∀ a, a < 2 → ∀ b, b < 2 → a ≠ b → (TX4 a).2.1 ≠ (TX4 b).2.1 := by decide +kernel
theorem tyX4_ok : ∀ k, k < 2 → parseFieldDescriptor (TX4 k).2.2.1 = some (tyX4 k) := by decide +kernel
abbrev cX4_init : ByteArray := prog_22_method_1_code
def yX4_init : MethodName := ⟨RX4, "<init>", "()V"⟩
def dkwX4_init_0 : List UInt8 := [42, 183, 0, 1, 42, 16, 30, 188, 10, 181, 0, 7, 177]
abbrev dktX4_init_0 : List UInt8 := dkwX4_init_0 ++ []
theorem dksX4_init_0 : cX4_init.data.toList.drop 0 = dktX4_init_0 := by decide +kernel
theorem dX4_init_0 : decode cX4_init 0 = .ok (.aload_n 0, 1) := dk_42 (dk_at dksX4_init_0 0 rfl rfl)
theorem dX4_init_1 : decode cX4_init 1 = .ok (.invokespecial 1, 3) := dk_183 0 1 (dk_at dksX4_init_0 1 rfl rfl)
theorem dX4_init_4 : decode cX4_init 4 = .ok (.aload_n 0, 1) := dk_42 (dk_at dksX4_init_0 4 rfl rfl)
theorem dX4_init_5 : decode cX4_init 5 = .ok (.bipush 30, 2) := dk_16 30 (dk_at dksX4_init_0 5 rfl rfl)
theorem dX4_init_7 : decode cX4_init 7 = .ok (.newarray .int, 2) := dk_188_10 (dk_at dksX4_init_0 7 rfl rfl)
theorem dX4_init_9 : decode cX4_init 9 = .ok (.putfield 7, 3) := dk_181 0 7 (dk_at dksX4_init_0 9 rfl rfl)
theorem dX4_init_12 : decode cX4_init 12 = .ok (.return_, 1) := dk_177 (dk_at dksX4_init_0 12 rfl rfl)
abbrev cX4_ran : ByteArray := prog_22_method_2_code
def yX4_ran : MethodName := ⟨RX4, "ran", "(I)V"⟩
def dkwX4_ran_1 : List UInt8 := [89, 180, 0, 13, 4, 96, 181, 0, 13, 177]
abbrev dktX4_ran_1 : List UInt8 := dkwX4_ran_1 ++ []
def dkwX4_ran_0 : List UInt8 := [42, 180, 0, 13, 42, 180, 0, 7, 190, 160, 0, 4, 177, 42, 180, 0, 7, 42, 180, 0, 13, 27, 79, 42]
abbrev dktX4_ran_0 : List UInt8 := dkwX4_ran_0 ++ dktX4_ran_1
theorem dksX4_ran_0 : cX4_ran.data.toList.drop 0 = dktX4_ran_0 := by decide +kernel
theorem dksX4_ran_1 : cX4_ran.data.toList.drop 24 = dktX4_ran_1 := dk_seg dksX4_ran_0 24 rfl rfl
theorem dX4_ran_0 : decode cX4_ran 0 = .ok (.aload_n 0, 1) := dk_42 (dk_at dksX4_ran_0 0 rfl rfl)
theorem dX4_ran_1 : decode cX4_ran 1 = .ok (.getfield 13, 3) := dk_180 0 13 (dk_at dksX4_ran_0 1 rfl rfl)
theorem dX4_ran_4 : decode cX4_ran 4 = .ok (.aload_n 0, 1) := dk_42 (dk_at dksX4_ran_0 4 rfl rfl)
theorem dX4_ran_5 : decode cX4_ran 5 = .ok (.getfield 7, 3) := dk_180 0 7 (dk_at dksX4_ran_0 5 rfl rfl)
theorem dX4_ran_8 : decode cX4_ran 8 = .ok (.arraylength, 1) := dk_190 (dk_at dksX4_ran_0 8 rfl rfl)
theorem dX4_ran_9 : decode cX4_ran 9 = .ok (.if_icmp .ne 4, 3) := dk_160 0 4 (dk_at dksX4_ran_0 9 rfl rfl)
theorem dX4_ran_12 : decode cX4_ran 12 = .ok (.return_, 1) := dk_177 (dk_at dksX4_ran_0 12 rfl rfl)
theorem dX4_ran_13 : decode cX4_ran 13 = .ok (.aload_n 0, 1) := dk_42 (dk_at dksX4_ran_0 13 rfl rfl)
theorem dX4_ran_14 : decode cX4_ran 14 = .ok (.getfield 7, 3) := dk_180 0 7 (dk_at dksX4_ran_0 14 rfl rfl)
theorem dX4_ran_17 : decode cX4_ran 17 = .ok (.aload_n 0, 1) := dk_42 (dk_at dksX4_ran_0 17 rfl rfl)
theorem dX4_ran_18 : decode cX4_ran 18 = .ok (.getfield 13, 3) := dk_180 0 13 (dk_at dksX4_ran_0 18 rfl rfl)
theorem dX4_ran_21 : decode cX4_ran 21 = .ok (.iload_n 1, 1) := dk_27 (dk_at dksX4_ran_0 21 rfl rfl)
theorem dX4_ran_22 : decode cX4_ran 22 = .ok (.iastore, 1) := dk_79 (dk_at dksX4_ran_0 22 rfl rfl)
theorem dX4_ran_23 : decode cX4_ran 23 = .ok (.aload_n 0, 1) := dk_42 (dk_at dksX4_ran_0 23 rfl rfl)
theorem dX4_ran_24 : decode cX4_ran 24 = .ok (.dup, 1) := dk_89 (dk_at dksX4_ran_1 0 rfl rfl)
theorem dX4_ran_25 : decode cX4_ran 25 = .ok (.getfield 13, 3) := dk_180 0 13 (dk_at dksX4_ran_1 1 rfl rfl)
theorem dX4_ran_28 : decode cX4_ran 28 = .ok (.iconst 1, 1) := dk_4 (dk_at dksX4_ran_1 4 rfl rfl)
theorem dX4_ran_29 : decode cX4_ran 29 = .ok (.iadd, 1) := dk_96 (dk_at dksX4_ran_1 5 rfl rfl)
theorem dX4_ran_30 : decode cX4_ran 30 = .ok (.putfield 13, 3) := dk_181 0 13 (dk_at dksX4_ran_1 6 rfl rfl)
theorem dX4_ran_33 : decode cX4_ran 33 = .ok (.return_, 1) := dk_177 (dk_at dksX4_ran_1 9 rfl rfl)
theorem q123 : (Jvm.Cond.initialized "HadForVoice$Trace") ∈ lw_all := lw_g (lw_at lw_m1 8 rfl) rfl
theorem q371 : (Jvm.Cond.instantiable "HadForVoice$Trace" (2 : Nat)) ∈ lw_all := lw_g (lw_at lw_m2 16 rfl) rfl
theorem q373 : (Jvm.Cond.instanceMethod ({ cls := "HadForVoice$Trace", name := "<init>", desc := "()V" } : Jvm.MethodName)) ∈ lw_all := lw_g (lw_at lw_m2 18 rfl) rfl
theorem q374 : (Jvm.Cond.code ({ cls := "HadForVoice$Trace", name := "<init>", desc := "()V" } : Jvm.MethodName) prog_22_method_1_code (1 : Nat) (Option.none : Option Jvm.ClassFile.FieldType)) ∈ lw_all := lw_g (lw_at lw_m2 19 rfl) rfl
theorem q375 : (Jvm.Cond.methodLink "HadForVoice$Trace" (1 : Nat) ({ cls := "java/lang/Object", name := "<init>", desc := "()V" } : Jvm.MethodName)) ∈ lw_all := lw_g (lw_at lw_m2 20 rfl) rfl
theorem q376 : (Jvm.Cond.fieldLink "HadForVoice$Trace" (7 : Nat) "HadForVoice$Trace" "bodies" "[I") ∈ lw_all := lw_g (lw_at lw_m2 21 rfl) rfl
theorem q378 : (Jvm.Cond.fieldLink "HadForVoice$Trace" (13 : Nat) "HadForVoice$Trace" "many" "I") ∈ lw_all := lw_g (lw_at lw_m2 23 rfl) rfl
theorem q380 : (Jvm.Cond.laysFinal "HadForVoice$Trace" "HadForVoice$Trace" "bodies" "[I") ∈ lw_all := lw_g (lw_at lw_m2 25 rfl) rfl
theorem q381 : (Jvm.Cond.soleField "HadForVoice$Trace" "bodies") ∈ lw_all := lw_g (lw_at lw_m2 26 rfl) rfl
theorem q382 : (Jvm.Cond.lays "HadForVoice$Trace" "HadForVoice$Trace" "many" "I") ∈ lw_all := lw_g (lw_at lw_m2 27 rfl) rfl
theorem q383 : (Jvm.Cond.soleField "HadForVoice$Trace" "many") ∈ lw_all := lw_g (lw_at lw_m2 28 rfl) rfl
theorem q384 : (Jvm.Cond.superclass "HadForVoice$Trace" "java/lang/Object") ∈ lw_all := lw_g (lw_at lw_m2 29 rfl) rfl
theorem q1345 : (Jvm.Cond.instanceMethod ({ cls := "HadForVoice$Trace", name := "ran", desc := "(I)V" } : Jvm.MethodName)) ∈ lw_all := lw_g (lw_at lw_m6 30 rfl) rfl
theorem q1346 : (Jvm.Cond.selects "HadForVoice$Trace" ({ cls := "HadForVoice$Trace", name := "ran", desc := "(I)V" } : Jvm.MethodName) ({ cls := "HadForVoice$Trace", name := "ran", desc := "(I)V" } : Jvm.MethodName)) ∈ lw_all := lw_g (lw_at lw_m6 31 rfl) rfl
theorem q1347 : (Jvm.Cond.code ({ cls := "HadForVoice$Trace", name := "ran", desc := "(I)V" } : Jvm.MethodName) prog_22_method_2_code (2 : Nat) (Option.none : Option Jvm.ClassFile.FieldType)) ∈ lw_all := lw_g (lw_at lw_m6 32 rfl) rfl
theorem in_X4 : ∀ w ∈ wsX40, w ∈ lw_all := lw_in wsX40 [380, 382] (by decide +kernel) (by decide +kernel)
/-! HadForVoice$Shelf -/
set_option maxRecDepth 100000
def RX5 : String := "HadForVoice$Shelf"
def TX5 : u_T := fun k => match k with
  | _ => ("HadForVoice$Shelf", "held", "Ljava/lang/Object;", false)
def tyX5 : Nat → FieldType := fun k => match k with
  | _ => .object "java/lang/Object"
abbrev wsX50 : List Cond := u_ws RX5 TX5 1
theorem nmX5 : ∀ a, a < 1 → ∀ b, b < 1 → a ≠ b → (TX5 a).2.1 ≠ (TX5 b).2.1 := by decide +kernel
theorem tyX5_ok : ∀ k, k < 1 → parseFieldDescriptor (TX5 k).2.2.1 = some (tyX5 k) := by decide +kernel
abbrev cX5_init : ByteArray := prog_17_method_1_code
def yX5_init : MethodName := ⟨RX5, "<init>", "()V"⟩
theorem dX5_init_0 : decode cX5_init 0 = .ok (.aload_n 0, 1) := by decide +kernel
theorem dX5_init_1 : decode cX5_init 1 = .ok (.invokespecial 1, 3) := by decide +kernel
theorem dX5_init_4 : decode cX5_init 4 = .ok (.return_, 1) := by decide +kernel
theorem q124 : (Jvm.Cond.initialized "HadForVoice$Shelf") ∈ lw_all := lw_g (lw_at lw_m1 9 rfl) rfl
theorem q386 : (Jvm.Cond.instantiable "HadForVoice$Shelf" (1 : Nat)) ∈ lw_all := lw_g (lw_at lw_m2 31 rfl) rfl
theorem q388 : (Jvm.Cond.instanceMethod ({ cls := "HadForVoice$Shelf", name := "<init>", desc := "()V" } : Jvm.MethodName)) ∈ lw_all := lw_g (lw_at lw_m2 33 rfl) rfl
theorem q389 : (Jvm.Cond.code ({ cls := "HadForVoice$Shelf", name := "<init>", desc := "()V" } : Jvm.MethodName) prog_17_method_1_code (1 : Nat) (Option.none : Option Jvm.ClassFile.FieldType)) ∈ lw_all := lw_g (lw_at lw_m2 34 rfl) rfl
theorem q390 : (Jvm.Cond.methodLink "HadForVoice$Shelf" (1 : Nat) ({ cls := "java/lang/Object", name := "<init>", desc := "()V" } : Jvm.MethodName)) ∈ lw_all := lw_g (lw_at lw_m2 35 rfl) rfl
theorem q392 : (Jvm.Cond.lays "HadForVoice$Shelf" "HadForVoice$Shelf" "held" "Ljava/lang/Object;") ∈ lw_all := lw_g (lw_at lw_m2 37 rfl) rfl
theorem q393 : (Jvm.Cond.soleField "HadForVoice$Shelf" "held") ∈ lw_all := lw_g (lw_at lw_m2 38 rfl) rfl
theorem q394 : (Jvm.Cond.superclass "HadForVoice$Shelf" "java/lang/Object") ∈ lw_all := lw_g (lw_at lw_m2 39 rfl) rfl
theorem in_X5 : ∀ w ∈ wsX50, w ∈ lw_all := lw_in wsX50 [392] (by decide +kernel) (by decide +kernel)
/-! HadForVoice$Person -/
set_option maxRecDepth 100000
def RX7 : String := "HadForVoice$Person"
abbrev cX7_init : ByteArray := prog_13_method_1_code
def yX7_init : MethodName := ⟨RX7, "<init>", "(II)V"⟩
def dkwX7_init_0 : List UInt8 := [42, 183, 0, 1, 42, 27, 181, 0, 7, 42, 28, 181, 0, 13, 177]
abbrev dktX7_init_0 : List UInt8 := dkwX7_init_0 ++ []
theorem dksX7_init_0 : cX7_init.data.toList.drop 0 = dktX7_init_0 := by decide +kernel
theorem dX7_init_0 : decode cX7_init 0 = .ok (.aload_n 0, 1) := dk_42 (dk_at dksX7_init_0 0 rfl rfl)
theorem dX7_init_1 : decode cX7_init 1 = .ok (.invokespecial 1, 3) := dk_183 0 1 (dk_at dksX7_init_0 1 rfl rfl)
theorem dX7_init_4 : decode cX7_init 4 = .ok (.aload_n 0, 1) := dk_42 (dk_at dksX7_init_0 4 rfl rfl)
theorem dX7_init_5 : decode cX7_init 5 = .ok (.iload_n 1, 1) := dk_27 (dk_at dksX7_init_0 5 rfl rfl)
theorem dX7_init_6 : decode cX7_init 6 = .ok (.putfield 7, 3) := dk_181 0 7 (dk_at dksX7_init_0 6 rfl rfl)
theorem dX7_init_9 : decode cX7_init 9 = .ok (.aload_n 0, 1) := dk_42 (dk_at dksX7_init_0 9 rfl rfl)
theorem dX7_init_10 : decode cX7_init 10 = .ok (.iload_n 2, 1) := dk_28 (dk_at dksX7_init_0 10 rfl rfl)
theorem dX7_init_11 : decode cX7_init 11 = .ok (.putfield 13, 3) := dk_181 0 13 (dk_at dksX7_init_0 11 rfl rfl)
theorem dX7_init_14 : decode cX7_init 14 = .ok (.return_, 1) := dk_177 (dk_at dksX7_init_0 14 rfl rfl)
abbrev cX7_asks : ByteArray := prog_13_method_4_code
def yX7_asks : MethodName := ⟨RX7, "asks", "(III)I"⟩
theorem dX7_asks_0 : decode cX7_asks 0 = .ok (.iload_n 1, 1) := by decide +kernel
theorem dX7_asks_1 : decode cX7_asks 1 = .ok (.ireturn, 1) := by decide +kernel
abbrev cX7_number : ByteArray := prog_13_method_2_code
def yX7_number : MethodName := ⟨RX7, "number", "()I"⟩
theorem dX7_number_0 : decode cX7_number 0 = .ok (.aload_n 0, 1) := by decide +kernel
theorem dX7_number_1 : decode cX7_number 1 = .ok (.getfield 7, 3) := by decide +kernel
theorem dX7_number_4 : decode cX7_number 4 = .ok (.ireturn, 1) := by decide +kernel
abbrev cX7_needs : ByteArray := prog_13_method_3_code
def yX7_needs : MethodName := ⟨RX7, "needs", "()I"⟩
theorem dX7_needs_0 : decode cX7_needs 0 = .ok (.aload_n 0, 1) := by decide +kernel
theorem dX7_needs_1 : decode cX7_needs 1 = .ok (.getfield 13, 3) := by decide +kernel
theorem dX7_needs_4 : decode cX7_needs 4 = .ok (.ireturn, 1) := by decide +kernel
theorem q126 : (Jvm.Cond.initialized "HadForVoice$Person") ∈ lw_all := lw_g (lw_at lw_m1 11 rfl) rfl
theorem q521 : (Jvm.Cond.instanceMethod ({ cls := "HadForVoice$Person", name := "<init>", desc := "(II)V" } : Jvm.MethodName)) ∈ lw_all := lw_g (lw_at lw_m2 166 rfl) rfl
theorem q522 : (Jvm.Cond.code ({ cls := "HadForVoice$Person", name := "<init>", desc := "(II)V" } : Jvm.MethodName) prog_13_method_1_code (3 : Nat) (Option.none : Option Jvm.ClassFile.FieldType)) ∈ lw_all := lw_g (lw_at lw_m2 167 rfl) rfl
theorem q523 : (Jvm.Cond.methodLink "HadForVoice$Person" (1 : Nat) ({ cls := "java/lang/Object", name := "<init>", desc := "()V" } : Jvm.MethodName)) ∈ lw_all := lw_g (lw_at lw_m2 168 rfl) rfl
theorem q524 : (Jvm.Cond.fieldLink "HadForVoice$Person" (7 : Nat) "HadForVoice$Person" "number" "I") ∈ lw_all := lw_g (lw_at lw_m2 169 rfl) rfl
theorem q525 : (Jvm.Cond.fieldLink "HadForVoice$Person" (13 : Nat) "HadForVoice$Person" "needs" "I") ∈ lw_all := lw_g (lw_at lw_m2 170 rfl) rfl
theorem q527 : (Jvm.Cond.soleField "HadForVoice$Person" "number") ∈ lw_all := lw_g (lw_at lw_m2 172 rfl) rfl
theorem q529 : (Jvm.Cond.soleField "HadForVoice$Person" "needs") ∈ lw_all := lw_g (lw_at lw_m2 174 rfl) rfl
theorem q635 : (Jvm.Cond.instanceMethod ({ cls := "HadForVoice$Person", name := "asks", desc := "(III)I" } : Jvm.MethodName)) ∈ lw_all := lw_g (lw_at lw_m3 40 rfl) rfl
theorem q636 : (Jvm.Cond.sameMethod "HadForVoice$Person" "HadForVoice$Person" "asks" "(III)I") ∈ lw_all := lw_g (lw_at lw_m3 41 rfl) rfl
theorem q656 : (Jvm.Cond.code ({ cls := "HadForVoice$Person", name := "asks", desc := "(III)I" } : Jvm.MethodName) prog_13_method_4_code (4 : Nat) (Option.some Jvm.ClassFile.FieldType.int)) ∈ lw_all := lw_g (lw_at lw_m3 61 rfl) rfl
theorem q1310 : (Jvm.Cond.instanceMethod ({ cls := "HadForVoice$Person", name := "number", desc := "()I" } : Jvm.MethodName)) ∈ lw_all := lw_g (lw_at lw_m5 235 rfl) rfl
theorem q1311 : (Jvm.Cond.sameMethod "HadForVoice$Person" "HadForVoice$Person" "number" "()I") ∈ lw_all := lw_g (lw_at lw_m5 236 rfl) rfl
theorem q1317 : (Jvm.Cond.code ({ cls := "HadForVoice$Person", name := "number", desc := "()I" } : Jvm.MethodName) prog_13_method_2_code (1 : Nat) (Option.some Jvm.ClassFile.FieldType.int)) ∈ lw_all := lw_g (lw_at lw_m6 2 rfl) rfl
theorem q1355 : (Jvm.Cond.instanceMethod ({ cls := "HadForVoice$Person", name := "needs", desc := "()I" } : Jvm.MethodName)) ∈ lw_all := lw_g (lw_at lw_m6 40 rfl) rfl
theorem q1356 : (Jvm.Cond.publicMethod ({ cls := "HadForVoice$Person", name := "needs", desc := "()I" } : Jvm.MethodName)) ∈ lw_tbl := lw_at lw_m6 41 rfl
theorem q1357 : (Jvm.Cond.code ({ cls := "HadForVoice$Person", name := "needs", desc := "()I" } : Jvm.MethodName) prog_13_method_3_code (1 : Nat) (Option.some Jvm.ClassFile.FieldType.int)) ∈ lw_all := lw_g (lw_at lw_m6 42 rfl) rfl
theorem q1377 : (Jvm.Cond.superclass "HadForVoice$Person" "java/lang/Object") ∈ lw_all := lw_g (lw_at lw_m6 62 rfl) rfl
theorem q1410 : (Jvm.Cond.publicMethod ({ cls := "HadForVoice$Person", name := "number", desc := "()I" } : Jvm.MethodName)) ∈ lw_tbl := lw_at lw_m6 95 rfl
theorem q1429 : (Jvm.Cond.declares ({ cls := "HadForVoice$Person", name := "number", desc := "()I" } : Jvm.MethodName)) ∈ lw_tbl := lw_at lw_m6 114 rfl
theorem q1487 : (Jvm.Cond.declares ({ cls := "HadForVoice$Person", name := "needs", desc := "()I" } : Jvm.MethodName)) ∈ lw_tbl := lw_at lw_m6 172 rfl
/-! HadForVoice$Maid -/
set_option maxRecDepth 100000
def RX8 : String := "HadForVoice$Maid"
def TX8 : u_T := fun k => match k with
  | 0 => ("HadForVoice$Person", "number", "I", true)
  | _ => ("HadForVoice$Person", "needs", "I", true)
def tyX8 : Nat → FieldType := fun k => match k with
  | 0 => .int
  | _ => .int
abbrev wsX80 : List Cond := u_ws RX8 TX8 2
theorem nmX8 : ∀ a, a < 2 → ∀ b, b < 2 → a ≠ b → (TX8 a).2.1 ≠ (TX8 b).2.1 := by decide +kernel
theorem tyX8_ok : ∀ k, k < 2 → parseFieldDescriptor (TX8 k).2.2.1 = some (tyX8 k) := by decide +kernel
abbrev cX8_init : ByteArray := prog_9_method_1_code
def yX8_init : MethodName := ⟨RX8, "<init>", "(II)V"⟩
def dkwX8_init_0 : List UInt8 := [42, 27, 28, 183, 0, 1, 177]
abbrev dktX8_init_0 : List UInt8 := dkwX8_init_0 ++ []
theorem dksX8_init_0 : cX8_init.data.toList.drop 0 = dktX8_init_0 := by decide +kernel
theorem dX8_init_0 : decode cX8_init 0 = .ok (.aload_n 0, 1) := dk_42 (dk_at dksX8_init_0 0 rfl rfl)
theorem dX8_init_1 : decode cX8_init 1 = .ok (.iload_n 1, 1) := dk_27 (dk_at dksX8_init_0 1 rfl rfl)
theorem dX8_init_2 : decode cX8_init 2 = .ok (.iload_n 2, 1) := dk_28 (dk_at dksX8_init_0 2 rfl rfl)
theorem dX8_init_3 : decode cX8_init 3 = .ok (.invokespecial 1, 3) := dk_183 0 1 (dk_at dksX8_init_0 3 rfl rfl)
theorem dX8_init_6 : decode cX8_init 6 = .ok (.return_, 1) := dk_177 (dk_at dksX8_init_0 6 rfl rfl)
abbrev cX8_gives : ByteArray := prog_9_method_2_code
def yX8_gives : MethodName := ⟨RX8, "gives", "(ILHadForVoice$Trace;)I"⟩
def dkwX8_gives_0 : List UInt8 := [44, 16, 20, 182, 0, 7, 42, 27, 44, 183, 0, 13, 5, 104, 172]
abbrev dktX8_gives_0 : List UInt8 := dkwX8_gives_0 ++ []
theorem dksX8_gives_0 : cX8_gives.data.toList.drop 0 = dktX8_gives_0 := by decide +kernel
theorem dX8_gives_0 : decode cX8_gives 0 = .ok (.aload_n 2, 1) := dk_44 (dk_at dksX8_gives_0 0 rfl rfl)
theorem dX8_gives_1 : decode cX8_gives 1 = .ok (.bipush 20, 2) := dk_16 20 (dk_at dksX8_gives_0 1 rfl rfl)
theorem dX8_gives_3 : decode cX8_gives 3 = .ok (.invokevirtual 7, 3) := dk_182 0 7 (dk_at dksX8_gives_0 3 rfl rfl)
theorem dX8_gives_6 : decode cX8_gives 6 = .ok (.aload_n 0, 1) := dk_42 (dk_at dksX8_gives_0 6 rfl rfl)
theorem dX8_gives_7 : decode cX8_gives 7 = .ok (.iload_n 1, 1) := dk_27 (dk_at dksX8_gives_0 7 rfl rfl)
theorem dX8_gives_8 : decode cX8_gives 8 = .ok (.aload_n 2, 1) := dk_44 (dk_at dksX8_gives_0 8 rfl rfl)
theorem dX8_gives_9 : decode cX8_gives 9 = .ok (.invokespecial 13, 3) := dk_183 0 13 (dk_at dksX8_gives_0 9 rfl rfl)
theorem dX8_gives_12 : decode cX8_gives 12 = .ok (.iconst 2, 1) := dk_5 (dk_at dksX8_gives_0 12 rfl rfl)
theorem dX8_gives_13 : decode cX8_gives 13 = .ok (.imul, 1) := dk_104 (dk_at dksX8_gives_0 13 rfl rfl)
theorem dX8_gives_14 : decode cX8_gives 14 = .ok (.ireturn, 1) := dk_172 (dk_at dksX8_gives_0 14 rfl rfl)
theorem q127 : (Jvm.Cond.initialized "HadForVoice$Maid") ∈ lw_all := lw_g (lw_at lw_m1 12 rfl) rfl
theorem q516 : (Jvm.Cond.instantiable "HadForVoice$Maid" (2 : Nat)) ∈ lw_all := lw_g (lw_at lw_m2 161 rfl) rfl
theorem q518 : (Jvm.Cond.instanceMethod ({ cls := "HadForVoice$Maid", name := "<init>", desc := "(II)V" } : Jvm.MethodName)) ∈ lw_all := lw_g (lw_at lw_m2 163 rfl) rfl
theorem q519 : (Jvm.Cond.code ({ cls := "HadForVoice$Maid", name := "<init>", desc := "(II)V" } : Jvm.MethodName) prog_9_method_1_code (3 : Nat) (Option.none : Option Jvm.ClassFile.FieldType)) ∈ lw_all := lw_g (lw_at lw_m2 164 rfl) rfl
theorem q520 : (Jvm.Cond.methodLink "HadForVoice$Maid" (1 : Nat) ({ cls := "HadForVoice$Person", name := "<init>", desc := "(II)V" } : Jvm.MethodName)) ∈ lw_all := lw_g (lw_at lw_m2 165 rfl) rfl
theorem q526 : (Jvm.Cond.laysFinal "HadForVoice$Maid" "HadForVoice$Person" "number" "I") ∈ lw_all := lw_g (lw_at lw_m2 171 rfl) rfl
theorem q528 : (Jvm.Cond.laysFinal "HadForVoice$Maid" "HadForVoice$Person" "needs" "I") ∈ lw_all := lw_g (lw_at lw_m2 173 rfl) rfl
theorem q530 : (Jvm.Cond.superclass "HadForVoice$Maid" "HadForVoice$Person") ∈ lw_all := lw_g (lw_at lw_m2 175 rfl) rfl
theorem q645 : (Jvm.Cond.selects "HadForVoice$Maid" ({ cls := "HadForVoice$Person", name := "asks", desc := "(III)I" } : Jvm.MethodName) ({ cls := "HadForVoice$Person", name := "asks", desc := "(III)I" } : Jvm.MethodName)) ∈ lw_all := lw_g (lw_at lw_m3 50 rfl) rfl
theorem q1313 : (Jvm.Cond.selects "HadForVoice$Maid" ({ cls := "HadForVoice$Person", name := "number", desc := "()I" } : Jvm.MethodName) ({ cls := "HadForVoice$Person", name := "number", desc := "()I" } : Jvm.MethodName)) ∈ lw_all := lw_g (lw_at lw_m5 238 rfl) rfl
theorem q1358 : (Jvm.Cond.castable "HadForVoice$Maid" "HadForVoice$Gives") ∈ lw_tbl := lw_at lw_m6 43 rfl
theorem q1359 : (Jvm.Cond.selects "HadForVoice$Maid" ({ cls := "HadForVoice$Gives", name := "needs", desc := "()I" } : Jvm.MethodName) ({ cls := "HadForVoice$Person", name := "needs", desc := "()I" } : Jvm.MethodName)) ∈ lw_all := lw_g (lw_at lw_m6 44 rfl) rfl
theorem q1360 : (Jvm.Cond.unhidden "HadForVoice$Maid" "needs" "()I") ∈ lw_tbl := lw_at lw_m6 45 rfl
theorem q1370 : (Jvm.Cond.castable "HadForVoice$Maid" "HadForVoice$Owes") ∈ lw_tbl := lw_at lw_m6 55 rfl
theorem q1371 : (Jvm.Cond.selects "HadForVoice$Maid" ({ cls := "HadForVoice$Gives", name := "gives", desc := "(ILHadForVoice$Trace;)I" } : Jvm.MethodName) ({ cls := "HadForVoice$Maid", name := "gives", desc := "(ILHadForVoice$Trace;)I" } : Jvm.MethodName)) ∈ lw_all := lw_g (lw_at lw_m6 56 rfl) rfl
theorem q1372 : (Jvm.Cond.unhidden "HadForVoice$Maid" "gives" "(ILHadForVoice$Trace;)I") ∈ lw_tbl := lw_at lw_m6 57 rfl
theorem q1373 : (Jvm.Cond.instanceMethod ({ cls := "HadForVoice$Maid", name := "gives", desc := "(ILHadForVoice$Trace;)I" } : Jvm.MethodName)) ∈ lw_all := lw_g (lw_at lw_m6 58 rfl) rfl
theorem q1374 : (Jvm.Cond.publicMethod ({ cls := "HadForVoice$Maid", name := "gives", desc := "(ILHadForVoice$Trace;)I" } : Jvm.MethodName)) ∈ lw_tbl := lw_at lw_m6 59 rfl
theorem q1375 : (Jvm.Cond.code ({ cls := "HadForVoice$Maid", name := "gives", desc := "(ILHadForVoice$Trace;)I" } : Jvm.MethodName) prog_9_method_2_code (3 : Nat) (Option.some Jvm.ClassFile.FieldType.int)) ∈ lw_all := lw_g (lw_at lw_m6 60 rfl) rfl
theorem q1376 : (Jvm.Cond.methodLink "HadForVoice$Maid" (7 : Nat) ({ cls := "HadForVoice$Trace", name := "ran", desc := "(I)V" } : Jvm.MethodName)) ∈ lw_all := lw_g (lw_at lw_m6 61 rfl) rfl
theorem q1402 : (Jvm.Cond.castable "HadForVoice$Maid" "HadForVoice$Takes") ∈ lw_tbl := lw_at lw_m6 87 rfl
theorem q1411 : (Jvm.Cond.selects "HadForVoice$Maid" ({ cls := "HadForVoice$Gives", name := "number", desc := "()I" } : Jvm.MethodName) ({ cls := "HadForVoice$Person", name := "number", desc := "()I" } : Jvm.MethodName)) ∈ lw_all := lw_g (lw_at lw_m6 96 rfl) rfl
theorem q1412 : (Jvm.Cond.unhidden "HadForVoice$Maid" "number" "()I") ∈ lw_tbl := lw_at lw_m6 97 rfl
theorem q1419 : (Jvm.Cond.unhidden "HadForVoice$Maid" "takes" "(ILHadForVoice$Trace;)I") ∈ lw_tbl := lw_at lw_m6 104 rfl
theorem q1451 : (Jvm.Cond.castable "HadForVoice$Maid" "HadForVoice$Halves") ∈ lw_tbl := lw_at lw_m6 136 rfl
theorem q1459 : (Jvm.Cond.unhidden "HadForVoice$Maid" "halves" "(ILHadForVoice$Trace;)I") ∈ lw_tbl := lw_at lw_m6 144 rfl
theorem q1477 : (Jvm.Cond.unhidden "HadForVoice$Maid" "owes" "(ILHadForVoice$Trace;)I") ∈ lw_tbl := lw_at lw_m6 162 rfl
theorem q2218 : (Jvm.Cond.castable "HadForVoice$Maid" "HadForVoice$Person") ∈ lw_tbl := lw_at lw_m9 183 rfl
theorem in_X8 : ∀ w ∈ wsX80, w ∈ lw_all := lw_in wsX80 [526, 528] (by decide +kernel) (by decide +kernel)
/-! HadForVoice$Miser -/
set_option maxRecDepth 100000
def RX9 : String := "HadForVoice$Miser"
def TX9 : u_T := fun k => match k with
  | 0 => ("HadForVoice$Person", "number", "I", true)
  | _ => ("HadForVoice$Person", "needs", "I", true)
def tyX9 : Nat → FieldType := fun k => match k with
  | 0 => .int
  | _ => .int
abbrev wsX90 : List Cond := u_ws RX9 TX9 2
theorem nmX9 : ∀ a, a < 2 → ∀ b, b < 2 → a ≠ b → (TX9 a).2.1 ≠ (TX9 b).2.1 := by decide +kernel
theorem tyX9_ok : ∀ k, k < 2 → parseFieldDescriptor (TX9 k).2.2.1 = some (tyX9 k) := by decide +kernel
abbrev cX9_init : ByteArray := prog_10_method_1_code
def yX9_init : MethodName := ⟨RX9, "<init>", "(II)V"⟩
def dkwX9_init_0 : List UInt8 := [42, 27, 28, 183, 0, 1, 177]
abbrev dktX9_init_0 : List UInt8 := dkwX9_init_0 ++ []
theorem dksX9_init_0 : cX9_init.data.toList.drop 0 = dktX9_init_0 := by decide +kernel
theorem dX9_init_0 : decode cX9_init 0 = .ok (.aload_n 0, 1) := dk_42 (dk_at dksX9_init_0 0 rfl rfl)
theorem dX9_init_1 : decode cX9_init 1 = .ok (.iload_n 1, 1) := dk_27 (dk_at dksX9_init_0 1 rfl rfl)
theorem dX9_init_2 : decode cX9_init 2 = .ok (.iload_n 2, 1) := dk_28 (dk_at dksX9_init_0 2 rfl rfl)
theorem dX9_init_3 : decode cX9_init 3 = .ok (.invokespecial 1, 3) := dk_183 0 1 (dk_at dksX9_init_0 3 rfl rfl)
theorem dX9_init_6 : decode cX9_init 6 = .ok (.return_, 1) := dk_177 (dk_at dksX9_init_0 6 rfl rfl)
abbrev cX9_asks : ByteArray := prog_10_method_2_code
def yX9_asks : MethodName := ⟨RX9, "asks", "(III)I"⟩
def dkwX9_asks_0 : List UInt8 := [3, 42, 27, 28, 29, 183, 0, 7, 28, 16, 10, 108, 100, 184, 0, 11, 172]
abbrev dktX9_asks_0 : List UInt8 := dkwX9_asks_0 ++ []
theorem dksX9_asks_0 : cX9_asks.data.toList.drop 0 = dktX9_asks_0 := by decide +kernel
theorem dX9_asks_0 : decode cX9_asks 0 = .ok (.iconst 0, 1) := dk_3 (dk_at dksX9_asks_0 0 rfl rfl)
theorem dX9_asks_1 : decode cX9_asks 1 = .ok (.aload_n 0, 1) := dk_42 (dk_at dksX9_asks_0 1 rfl rfl)
theorem dX9_asks_2 : decode cX9_asks 2 = .ok (.iload_n 1, 1) := dk_27 (dk_at dksX9_asks_0 2 rfl rfl)
theorem dX9_asks_3 : decode cX9_asks 3 = .ok (.iload_n 2, 1) := dk_28 (dk_at dksX9_asks_0 3 rfl rfl)
theorem dX9_asks_4 : decode cX9_asks 4 = .ok (.iload_n 3, 1) := dk_29 (dk_at dksX9_asks_0 4 rfl rfl)
theorem dX9_asks_5 : decode cX9_asks 5 = .ok (.invokespecial 7, 3) := dk_183 0 7 (dk_at dksX9_asks_0 5 rfl rfl)
theorem dX9_asks_8 : decode cX9_asks 8 = .ok (.iload_n 2, 1) := dk_28 (dk_at dksX9_asks_0 8 rfl rfl)
theorem dX9_asks_9 : decode cX9_asks 9 = .ok (.bipush 10, 2) := dk_16 10 (dk_at dksX9_asks_0 9 rfl rfl)
theorem dX9_asks_11 : decode cX9_asks 11 = .ok (.idiv, 1) := dk_108 (dk_at dksX9_asks_0 11 rfl rfl)
theorem dX9_asks_12 : decode cX9_asks 12 = .ok (.isub, 1) := dk_100 (dk_at dksX9_asks_0 12 rfl rfl)
theorem dX9_asks_13 : decode cX9_asks 13 = .ok (.invokestatic 11, 3) := dk_184 0 11 (dk_at dksX9_asks_0 13 rfl rfl)
theorem dX9_asks_16 : decode cX9_asks 16 = .ok (.ireturn, 1) := dk_172 (dk_at dksX9_asks_0 16 rfl rfl)
abbrev cX9_takes : ByteArray := prog_10_method_3_code
def yX9_takes : MethodName := ⟨RX9, "takes", "(ILHadForVoice$Trace;)I"⟩
def dkwX9_takes_0 : List UInt8 := [44, 16, 30, 182, 0, 17, 42, 27, 44, 183, 0, 23, 42, 182, 0, 27, 130, 172]
abbrev dktX9_takes_0 : List UInt8 := dkwX9_takes_0 ++ []
theorem dksX9_takes_0 : cX9_takes.data.toList.drop 0 = dktX9_takes_0 := by decide +kernel
theorem dX9_takes_0 : decode cX9_takes 0 = .ok (.aload_n 2, 1) := dk_44 (dk_at dksX9_takes_0 0 rfl rfl)
theorem dX9_takes_1 : decode cX9_takes 1 = .ok (.bipush 30, 2) := dk_16 30 (dk_at dksX9_takes_0 1 rfl rfl)
theorem dX9_takes_3 : decode cX9_takes 3 = .ok (.invokevirtual 17, 3) := dk_182 0 17 (dk_at dksX9_takes_0 3 rfl rfl)
theorem dX9_takes_6 : decode cX9_takes 6 = .ok (.aload_n 0, 1) := dk_42 (dk_at dksX9_takes_0 6 rfl rfl)
theorem dX9_takes_7 : decode cX9_takes 7 = .ok (.iload_n 1, 1) := dk_27 (dk_at dksX9_takes_0 7 rfl rfl)
theorem dX9_takes_8 : decode cX9_takes 8 = .ok (.aload_n 2, 1) := dk_44 (dk_at dksX9_takes_0 8 rfl rfl)
theorem dX9_takes_9 : decode cX9_takes 9 = .ok (.invokespecial 23, 3) := dk_183 0 23 (dk_at dksX9_takes_0 9 rfl rfl)
theorem dX9_takes_12 : decode cX9_takes 12 = .ok (.aload_n 0, 1) := dk_42 (dk_at dksX9_takes_0 12 rfl rfl)
theorem dX9_takes_13 : decode cX9_takes 13 = .ok (.invokevirtual 27, 3) := dk_182 0 27 (dk_at dksX9_takes_0 13 rfl rfl)
theorem dX9_takes_16 : decode cX9_takes 16 = .ok (.ixor, 1) := dk_130 (dk_at dksX9_takes_0 16 rfl rfl)
theorem dX9_takes_17 : decode cX9_takes 17 = .ok (.ireturn, 1) := dk_172 (dk_at dksX9_takes_0 17 rfl rfl)
theorem q128 : (Jvm.Cond.initialized "HadForVoice$Miser") ∈ lw_all := lw_g (lw_at lw_m1 13 rfl) rfl
theorem q532 : (Jvm.Cond.instantiable "HadForVoice$Miser" (2 : Nat)) ∈ lw_all := lw_g (lw_at lw_m2 177 rfl) rfl
theorem q534 : (Jvm.Cond.instanceMethod ({ cls := "HadForVoice$Miser", name := "<init>", desc := "(II)V" } : Jvm.MethodName)) ∈ lw_all := lw_g (lw_at lw_m2 179 rfl) rfl
theorem q535 : (Jvm.Cond.code ({ cls := "HadForVoice$Miser", name := "<init>", desc := "(II)V" } : Jvm.MethodName) prog_10_method_1_code (3 : Nat) (Option.none : Option Jvm.ClassFile.FieldType)) ∈ lw_all := lw_g (lw_at lw_m2 180 rfl) rfl
theorem q536 : (Jvm.Cond.methodLink "HadForVoice$Miser" (1 : Nat) ({ cls := "HadForVoice$Person", name := "<init>", desc := "(II)V" } : Jvm.MethodName)) ∈ lw_all := lw_g (lw_at lw_m2 181 rfl) rfl
theorem q537 : (Jvm.Cond.laysFinal "HadForVoice$Miser" "HadForVoice$Person" "number" "I") ∈ lw_all := lw_g (lw_at lw_m2 182 rfl) rfl
theorem q538 : (Jvm.Cond.laysFinal "HadForVoice$Miser" "HadForVoice$Person" "needs" "I") ∈ lw_all := lw_g (lw_at lw_m2 183 rfl) rfl
theorem q539 : (Jvm.Cond.superclass "HadForVoice$Miser" "HadForVoice$Person") ∈ lw_all := lw_g (lw_at lw_m2 184 rfl) rfl
theorem q646 : (Jvm.Cond.selects "HadForVoice$Miser" ({ cls := "HadForVoice$Person", name := "asks", desc := "(III)I" } : Jvm.MethodName) ({ cls := "HadForVoice$Miser", name := "asks", desc := "(III)I" } : Jvm.MethodName)) ∈ lw_all := lw_g (lw_at lw_m3 51 rfl) rfl
theorem q647 : (Jvm.Cond.instanceMethod ({ cls := "HadForVoice$Miser", name := "asks", desc := "(III)I" } : Jvm.MethodName)) ∈ lw_all := lw_g (lw_at lw_m3 52 rfl) rfl
theorem q648 : (Jvm.Cond.code ({ cls := "HadForVoice$Miser", name := "asks", desc := "(III)I" } : Jvm.MethodName) prog_10_method_2_code (4 : Nat) (Option.some Jvm.ClassFile.FieldType.int)) ∈ lw_all := lw_g (lw_at lw_m3 53 rfl) rfl
theorem q649 : (Jvm.Cond.methodLink "HadForVoice$Miser" (7 : Nat) ({ cls := "HadForVoice$Person", name := "asks", desc := "(III)I" } : Jvm.MethodName)) ∈ lw_all := lw_g (lw_at lw_m3 54 rfl) rfl
theorem q650 : (Jvm.Cond.methodLink "HadForVoice$Miser" (11 : Nat) ({ cls := "java/lang/Math", name := "max", desc := "(II)I" } : Jvm.MethodName)) ∈ lw_all := lw_g (lw_at lw_m3 55 rfl) rfl
theorem q1314 : (Jvm.Cond.selects "HadForVoice$Miser" ({ cls := "HadForVoice$Person", name := "number", desc := "()I" } : Jvm.MethodName) ({ cls := "HadForVoice$Person", name := "number", desc := "()I" } : Jvm.MethodName)) ∈ lw_all := lw_g (lw_at lw_m5 239 rfl) rfl
theorem q1361 : (Jvm.Cond.castable "HadForVoice$Miser" "HadForVoice$Gives") ∈ lw_tbl := lw_at lw_m6 46 rfl
theorem q1362 : (Jvm.Cond.selects "HadForVoice$Miser" ({ cls := "HadForVoice$Gives", name := "needs", desc := "()I" } : Jvm.MethodName) ({ cls := "HadForVoice$Person", name := "needs", desc := "()I" } : Jvm.MethodName)) ∈ lw_all := lw_g (lw_at lw_m6 47 rfl) rfl
theorem q1363 : (Jvm.Cond.unhidden "HadForVoice$Miser" "needs" "()I") ∈ lw_tbl := lw_at lw_m6 48 rfl
theorem q1378 : (Jvm.Cond.castable "HadForVoice$Miser" "HadForVoice$Owes") ∈ lw_tbl := lw_at lw_m6 63 rfl
theorem q1379 : (Jvm.Cond.unhidden "HadForVoice$Miser" "gives" "(ILHadForVoice$Trace;)I") ∈ lw_tbl := lw_at lw_m6 64 rfl
theorem q1403 : (Jvm.Cond.castable "HadForVoice$Miser" "HadForVoice$Takes") ∈ lw_tbl := lw_at lw_m6 88 rfl
theorem q1413 : (Jvm.Cond.selects "HadForVoice$Miser" ({ cls := "HadForVoice$Gives", name := "number", desc := "()I" } : Jvm.MethodName) ({ cls := "HadForVoice$Person", name := "number", desc := "()I" } : Jvm.MethodName)) ∈ lw_all := lw_g (lw_at lw_m6 98 rfl) rfl
theorem q1414 : (Jvm.Cond.unhidden "HadForVoice$Miser" "number" "()I") ∈ lw_tbl := lw_at lw_m6 99 rfl
theorem q1421 : (Jvm.Cond.selects "HadForVoice$Miser" ({ cls := "HadForVoice$Takes", name := "takes", desc := "(ILHadForVoice$Trace;)I" } : Jvm.MethodName) ({ cls := "HadForVoice$Miser", name := "takes", desc := "(ILHadForVoice$Trace;)I" } : Jvm.MethodName)) ∈ lw_all := lw_g (lw_at lw_m6 106 rfl) rfl
theorem q1422 : (Jvm.Cond.unhidden "HadForVoice$Miser" "takes" "(ILHadForVoice$Trace;)I") ∈ lw_tbl := lw_at lw_m6 107 rfl
theorem q1423 : (Jvm.Cond.instanceMethod ({ cls := "HadForVoice$Miser", name := "takes", desc := "(ILHadForVoice$Trace;)I" } : Jvm.MethodName)) ∈ lw_all := lw_g (lw_at lw_m6 108 rfl) rfl
theorem q1424 : (Jvm.Cond.publicMethod ({ cls := "HadForVoice$Miser", name := "takes", desc := "(ILHadForVoice$Trace;)I" } : Jvm.MethodName)) ∈ lw_tbl := lw_at lw_m6 109 rfl
theorem q1425 : (Jvm.Cond.code ({ cls := "HadForVoice$Miser", name := "takes", desc := "(ILHadForVoice$Trace;)I" } : Jvm.MethodName) prog_10_method_3_code (3 : Nat) (Option.some Jvm.ClassFile.FieldType.int)) ∈ lw_all := lw_g (lw_at lw_m6 110 rfl) rfl
theorem q1426 : (Jvm.Cond.methodLink "HadForVoice$Miser" (17 : Nat) ({ cls := "HadForVoice$Trace", name := "ran", desc := "(I)V" } : Jvm.MethodName)) ∈ lw_all := lw_g (lw_at lw_m6 111 rfl) rfl
theorem q1427 : (Jvm.Cond.methodLink "HadForVoice$Miser" (27 : Nat) ({ cls := "HadForVoice$Miser", name := "number", desc := "()I" } : Jvm.MethodName)) ∈ lw_all := lw_g (lw_at lw_m6 112 rfl) rfl
theorem q1428 : (Jvm.Cond.sameMethod "HadForVoice$Miser" "HadForVoice$Person" "number" "()I") ∈ lw_all := lw_g (lw_at lw_m6 113 rfl) rfl
theorem q1430 : (Jvm.Cond.selects "HadForVoice$Miser" ({ cls := "HadForVoice$Miser", name := "number", desc := "()I" } : Jvm.MethodName) ({ cls := "HadForVoice$Person", name := "number", desc := "()I" } : Jvm.MethodName)) ∈ lw_all := lw_g (lw_at lw_m6 115 rfl) rfl
theorem q1452 : (Jvm.Cond.castable "HadForVoice$Miser" "HadForVoice$Halves") ∈ lw_tbl := lw_at lw_m6 137 rfl
theorem q1461 : (Jvm.Cond.unhidden "HadForVoice$Miser" "halves" "(ILHadForVoice$Trace;)I") ∈ lw_tbl := lw_at lw_m6 146 rfl
theorem q1478 : (Jvm.Cond.unhidden "HadForVoice$Miser" "owes" "(ILHadForVoice$Trace;)I") ∈ lw_tbl := lw_at lw_m6 163 rfl
theorem q2211 : (Jvm.Cond.sameMethod "HadForVoice$Miser" "HadForVoice$Miser" "asks" "(III)I") ∈ lw_all := lw_g (lw_at lw_m9 176 rfl) rfl
theorem q2219 : (Jvm.Cond.castable "HadForVoice$Miser" "HadForVoice$Person") ∈ lw_tbl := lw_at lw_m9 184 rfl
theorem in_X9 : ∀ w ∈ wsX90, w ∈ lw_all := lw_in wsX90 [537, 538] (by decide +kernel) (by decide +kernel)
/-! HadForVoice$Widow -/
set_option maxRecDepth 100000
def RX10 : String := "HadForVoice$Widow"
def TX10 : u_T := fun k => match k with
  | 0 => ("HadForVoice$Person", "number", "I", true)
  | _ => ("HadForVoice$Person", "needs", "I", true)
def tyX10 : Nat → FieldType := fun k => match k with
  | 0 => .int
  | _ => .int
abbrev wsX100 : List Cond := u_ws RX10 TX10 2
theorem nmX10 : ∀ a, a < 2 → ∀ b, b < 2 → a ≠ b → (TX10 a).2.1 ≠ (TX10 b).2.1 := by decide +kernel
theorem tyX10_ok : ∀ k, k < 2 → parseFieldDescriptor (TX10 k).2.2.1 = some (tyX10 k) := by decide +kernel
abbrev cX10_init : ByteArray := prog_24_method_1_code
def yX10_init : MethodName := ⟨RX10, "<init>", "(II)V"⟩
def dkwX10_init_0 : List UInt8 := [42, 27, 28, 183, 0, 1, 177]
abbrev dktX10_init_0 : List UInt8 := dkwX10_init_0 ++ []
theorem dksX10_init_0 : cX10_init.data.toList.drop 0 = dktX10_init_0 := by decide +kernel
theorem dX10_init_0 : decode cX10_init 0 = .ok (.aload_n 0, 1) := dk_42 (dk_at dksX10_init_0 0 rfl rfl)
theorem dX10_init_1 : decode cX10_init 1 = .ok (.iload_n 1, 1) := dk_27 (dk_at dksX10_init_0 1 rfl rfl)
theorem dX10_init_2 : decode cX10_init 2 = .ok (.iload_n 2, 1) := dk_28 (dk_at dksX10_init_0 2 rfl rfl)
theorem dX10_init_3 : decode cX10_init 3 = .ok (.invokespecial 1, 3) := dk_183 0 1 (dk_at dksX10_init_0 3 rfl rfl)
theorem dX10_init_6 : decode cX10_init 6 = .ok (.return_, 1) := dk_177 (dk_at dksX10_init_0 6 rfl rfl)
abbrev cX10_asks : ByteArray := prog_24_method_2_code
def yX10_asks : MethodName := ⟨RX10, "asks", "(III)I"⟩
def dkwX10_asks_0 : List UInt8 := [29, 154, 0, 15, 42, 27, 28, 29, 183, 0, 7, 5, 108, 167, 0, 10, 42, 27, 28, 29, 183, 0, 7, 172]
abbrev dktX10_asks_0 : List UInt8 := dkwX10_asks_0 ++ []
theorem dksX10_asks_0 : cX10_asks.data.toList.drop 0 = dktX10_asks_0 := by decide +kernel
theorem dX10_asks_0 : decode cX10_asks 0 = .ok (.iload_n 3, 1) := dk_29 (dk_at dksX10_asks_0 0 rfl rfl)
theorem dX10_asks_1 : decode cX10_asks 1 = .ok (.ifCond .ne 15, 3) := dk_154 0 15 (dk_at dksX10_asks_0 1 rfl rfl)
theorem dX10_asks_4 : decode cX10_asks 4 = .ok (.aload_n 0, 1) := dk_42 (dk_at dksX10_asks_0 4 rfl rfl)
theorem dX10_asks_5 : decode cX10_asks 5 = .ok (.iload_n 1, 1) := dk_27 (dk_at dksX10_asks_0 5 rfl rfl)
theorem dX10_asks_6 : decode cX10_asks 6 = .ok (.iload_n 2, 1) := dk_28 (dk_at dksX10_asks_0 6 rfl rfl)
theorem dX10_asks_7 : decode cX10_asks 7 = .ok (.iload_n 3, 1) := dk_29 (dk_at dksX10_asks_0 7 rfl rfl)
theorem dX10_asks_8 : decode cX10_asks 8 = .ok (.invokespecial 7, 3) := dk_183 0 7 (dk_at dksX10_asks_0 8 rfl rfl)
theorem dX10_asks_11 : decode cX10_asks 11 = .ok (.iconst 2, 1) := dk_5 (dk_at dksX10_asks_0 11 rfl rfl)
theorem dX10_asks_12 : decode cX10_asks 12 = .ok (.idiv, 1) := dk_108 (dk_at dksX10_asks_0 12 rfl rfl)
theorem dX10_asks_13 : decode cX10_asks 13 = .ok (.goto 10, 3) := dk_167 0 10 (dk_at dksX10_asks_0 13 rfl rfl)
theorem dX10_asks_16 : decode cX10_asks 16 = .ok (.aload_n 0, 1) := dk_42 (dk_at dksX10_asks_0 16 rfl rfl)
theorem dX10_asks_17 : decode cX10_asks 17 = .ok (.iload_n 1, 1) := dk_27 (dk_at dksX10_asks_0 17 rfl rfl)
theorem dX10_asks_18 : decode cX10_asks 18 = .ok (.iload_n 2, 1) := dk_28 (dk_at dksX10_asks_0 18 rfl rfl)
theorem dX10_asks_19 : decode cX10_asks 19 = .ok (.iload_n 3, 1) := dk_29 (dk_at dksX10_asks_0 19 rfl rfl)
theorem dX10_asks_20 : decode cX10_asks 20 = .ok (.invokespecial 7, 3) := dk_183 0 7 (dk_at dksX10_asks_0 20 rfl rfl)
theorem dX10_asks_23 : decode cX10_asks 23 = .ok (.ireturn, 1) := dk_172 (dk_at dksX10_asks_0 23 rfl rfl)
abbrev cX10_gives : ByteArray := prog_24_method_3_code
def yX10_gives : MethodName := ⟨RX10, "gives", "(ILHadForVoice$Trace;)I"⟩
def dkwX10_gives_0 : List UInt8 := [44, 16, 50, 182, 0, 11, 42, 27, 44, 183, 0, 17, 4, 100, 172]
abbrev dktX10_gives_0 : List UInt8 := dkwX10_gives_0 ++ []
theorem dksX10_gives_0 : cX10_gives.data.toList.drop 0 = dktX10_gives_0 := by decide +kernel
theorem dX10_gives_0 : decode cX10_gives 0 = .ok (.aload_n 2, 1) := dk_44 (dk_at dksX10_gives_0 0 rfl rfl)
theorem dX10_gives_1 : decode cX10_gives 1 = .ok (.bipush 50, 2) := dk_16 50 (dk_at dksX10_gives_0 1 rfl rfl)
theorem dX10_gives_3 : decode cX10_gives 3 = .ok (.invokevirtual 11, 3) := dk_182 0 11 (dk_at dksX10_gives_0 3 rfl rfl)
theorem dX10_gives_6 : decode cX10_gives 6 = .ok (.aload_n 0, 1) := dk_42 (dk_at dksX10_gives_0 6 rfl rfl)
theorem dX10_gives_7 : decode cX10_gives 7 = .ok (.iload_n 1, 1) := dk_27 (dk_at dksX10_gives_0 7 rfl rfl)
theorem dX10_gives_8 : decode cX10_gives 8 = .ok (.aload_n 2, 1) := dk_44 (dk_at dksX10_gives_0 8 rfl rfl)
theorem dX10_gives_9 : decode cX10_gives 9 = .ok (.invokespecial 17, 3) := dk_183 0 17 (dk_at dksX10_gives_0 9 rfl rfl)
theorem dX10_gives_12 : decode cX10_gives 12 = .ok (.iconst 1, 1) := dk_4 (dk_at dksX10_gives_0 12 rfl rfl)
theorem dX10_gives_13 : decode cX10_gives 13 = .ok (.isub, 1) := dk_100 (dk_at dksX10_gives_0 13 rfl rfl)
theorem dX10_gives_14 : decode cX10_gives 14 = .ok (.ireturn, 1) := dk_172 (dk_at dksX10_gives_0 14 rfl rfl)
abbrev cX10_owes : ByteArray := prog_24_method_4_code
def yX10_owes : MethodName := ⟨RX10, "owes", "(ILHadForVoice$Trace;)I"⟩
def dkwX10_owes_1 : List UInt8 := [172]
abbrev dktX10_owes_1 : List UInt8 := dkwX10_owes_1 ++ []
def dkwX10_owes_0 : List UInt8 := [44, 16, 51, 182, 0, 11, 42, 27, 44, 183, 0, 21, 62, 29, 42, 42, 182, 0, 24, 44, 182, 0, 30, 96]
abbrev dktX10_owes_0 : List UInt8 := dkwX10_owes_0 ++ dktX10_owes_1
theorem dksX10_owes_0 : cX10_owes.data.toList.drop 0 = dktX10_owes_0 := by decide +kernel
theorem dksX10_owes_1 : cX10_owes.data.toList.drop 24 = dktX10_owes_1 := dk_seg dksX10_owes_0 24 rfl rfl
theorem dX10_owes_0 : decode cX10_owes 0 = .ok (.aload_n 2, 1) := dk_44 (dk_at dksX10_owes_0 0 rfl rfl)
theorem dX10_owes_1 : decode cX10_owes 1 = .ok (.bipush 51, 2) := dk_16 51 (dk_at dksX10_owes_0 1 rfl rfl)
theorem dX10_owes_3 : decode cX10_owes 3 = .ok (.invokevirtual 11, 3) := dk_182 0 11 (dk_at dksX10_owes_0 3 rfl rfl)
theorem dX10_owes_6 : decode cX10_owes 6 = .ok (.aload_n 0, 1) := dk_42 (dk_at dksX10_owes_0 6 rfl rfl)
theorem dX10_owes_7 : decode cX10_owes 7 = .ok (.iload_n 1, 1) := dk_27 (dk_at dksX10_owes_0 7 rfl rfl)
theorem dX10_owes_8 : decode cX10_owes 8 = .ok (.aload_n 2, 1) := dk_44 (dk_at dksX10_owes_0 8 rfl rfl)
theorem dX10_owes_9 : decode cX10_owes 9 = .ok (.invokespecial 21, 3) := dk_183 0 21 (dk_at dksX10_owes_0 9 rfl rfl)
theorem dX10_owes_12 : decode cX10_owes 12 = .ok (.istore_n 3, 1) := dk_62 (dk_at dksX10_owes_0 12 rfl rfl)
theorem dX10_owes_13 : decode cX10_owes 13 = .ok (.iload_n 3, 1) := dk_29 (dk_at dksX10_owes_0 13 rfl rfl)
theorem dX10_owes_14 : decode cX10_owes 14 = .ok (.aload_n 0, 1) := dk_42 (dk_at dksX10_owes_0 14 rfl rfl)
theorem dX10_owes_15 : decode cX10_owes 15 = .ok (.aload_n 0, 1) := dk_42 (dk_at dksX10_owes_0 15 rfl rfl)
theorem dX10_owes_16 : decode cX10_owes 16 = .ok (.invokevirtual 24, 3) := dk_182 0 24 (dk_at dksX10_owes_0 16 rfl rfl)
theorem dX10_owes_19 : decode cX10_owes 19 = .ok (.aload_n 2, 1) := dk_44 (dk_at dksX10_owes_0 19 rfl rfl)
theorem dX10_owes_20 : decode cX10_owes 20 = .ok (.invokevirtual 30, 3) := dk_182 0 30 (dk_at dksX10_owes_0 20 rfl rfl)
theorem dX10_owes_23 : decode cX10_owes 23 = .ok (.iadd, 1) := dk_96 (dk_at dksX10_owes_0 23 rfl rfl)
theorem dX10_owes_24 : decode cX10_owes 24 = .ok (.ireturn, 1) := dk_172 (dk_at dksX10_owes_1 0 rfl rfl)
theorem q129 : (Jvm.Cond.initialized "HadForVoice$Widow") ∈ lw_all := lw_g (lw_at lw_m1 14 rfl) rfl
theorem q541 : (Jvm.Cond.instantiable "HadForVoice$Widow" (2 : Nat)) ∈ lw_all := lw_g (lw_at lw_m2 186 rfl) rfl
theorem q543 : (Jvm.Cond.instanceMethod ({ cls := "HadForVoice$Widow", name := "<init>", desc := "(II)V" } : Jvm.MethodName)) ∈ lw_all := lw_g (lw_at lw_m2 188 rfl) rfl
theorem q544 : (Jvm.Cond.code ({ cls := "HadForVoice$Widow", name := "<init>", desc := "(II)V" } : Jvm.MethodName) prog_24_method_1_code (3 : Nat) (Option.none : Option Jvm.ClassFile.FieldType)) ∈ lw_all := lw_g (lw_at lw_m2 189 rfl) rfl
theorem q545 : (Jvm.Cond.methodLink "HadForVoice$Widow" (1 : Nat) ({ cls := "HadForVoice$Miser", name := "<init>", desc := "(II)V" } : Jvm.MethodName)) ∈ lw_all := lw_g (lw_at lw_m2 190 rfl) rfl
theorem q546 : (Jvm.Cond.laysFinal "HadForVoice$Widow" "HadForVoice$Person" "number" "I") ∈ lw_all := lw_g (lw_at lw_m2 191 rfl) rfl
theorem q547 : (Jvm.Cond.laysFinal "HadForVoice$Widow" "HadForVoice$Person" "needs" "I") ∈ lw_all := lw_g (lw_at lw_m2 192 rfl) rfl
theorem q548 : (Jvm.Cond.superclass "HadForVoice$Widow" "HadForVoice$Miser") ∈ lw_all := lw_g (lw_at lw_m2 193 rfl) rfl
theorem q652 : (Jvm.Cond.selects "HadForVoice$Widow" ({ cls := "HadForVoice$Person", name := "asks", desc := "(III)I" } : Jvm.MethodName) ({ cls := "HadForVoice$Widow", name := "asks", desc := "(III)I" } : Jvm.MethodName)) ∈ lw_all := lw_g (lw_at lw_m3 57 rfl) rfl
theorem q653 : (Jvm.Cond.instanceMethod ({ cls := "HadForVoice$Widow", name := "asks", desc := "(III)I" } : Jvm.MethodName)) ∈ lw_all := lw_g (lw_at lw_m3 58 rfl) rfl
theorem q654 : (Jvm.Cond.code ({ cls := "HadForVoice$Widow", name := "asks", desc := "(III)I" } : Jvm.MethodName) prog_24_method_2_code (4 : Nat) (Option.some Jvm.ClassFile.FieldType.int)) ∈ lw_all := lw_g (lw_at lw_m3 59 rfl) rfl
theorem q655 : (Jvm.Cond.methodLink "HadForVoice$Widow" (7 : Nat) ({ cls := "HadForVoice$Miser", name := "asks", desc := "(III)I" } : Jvm.MethodName)) ∈ lw_all := lw_g (lw_at lw_m3 60 rfl) rfl
theorem q1316 : (Jvm.Cond.selects "HadForVoice$Widow" ({ cls := "HadForVoice$Person", name := "number", desc := "()I" } : Jvm.MethodName) ({ cls := "HadForVoice$Person", name := "number", desc := "()I" } : Jvm.MethodName)) ∈ lw_all := lw_g (lw_at lw_m6 1 rfl) rfl
theorem q1367 : (Jvm.Cond.castable "HadForVoice$Widow" "HadForVoice$Gives") ∈ lw_tbl := lw_at lw_m6 52 rfl
theorem q1368 : (Jvm.Cond.selects "HadForVoice$Widow" ({ cls := "HadForVoice$Gives", name := "needs", desc := "()I" } : Jvm.MethodName) ({ cls := "HadForVoice$Person", name := "needs", desc := "()I" } : Jvm.MethodName)) ∈ lw_all := lw_g (lw_at lw_m6 53 rfl) rfl
theorem q1369 : (Jvm.Cond.unhidden "HadForVoice$Widow" "needs" "()I") ∈ lw_tbl := lw_at lw_m6 54 rfl
theorem q1382 : (Jvm.Cond.castable "HadForVoice$Widow" "HadForVoice$Owes") ∈ lw_tbl := lw_at lw_m6 67 rfl
theorem q1383 : (Jvm.Cond.selects "HadForVoice$Widow" ({ cls := "HadForVoice$Gives", name := "gives", desc := "(ILHadForVoice$Trace;)I" } : Jvm.MethodName) ({ cls := "HadForVoice$Widow", name := "gives", desc := "(ILHadForVoice$Trace;)I" } : Jvm.MethodName)) ∈ lw_all := lw_g (lw_at lw_m6 68 rfl) rfl
theorem q1384 : (Jvm.Cond.unhidden "HadForVoice$Widow" "gives" "(ILHadForVoice$Trace;)I") ∈ lw_tbl := lw_at lw_m6 69 rfl
theorem q1385 : (Jvm.Cond.instanceMethod ({ cls := "HadForVoice$Widow", name := "gives", desc := "(ILHadForVoice$Trace;)I" } : Jvm.MethodName)) ∈ lw_all := lw_g (lw_at lw_m6 70 rfl) rfl
theorem q1386 : (Jvm.Cond.publicMethod ({ cls := "HadForVoice$Widow", name := "gives", desc := "(ILHadForVoice$Trace;)I" } : Jvm.MethodName)) ∈ lw_tbl := lw_at lw_m6 71 rfl
theorem q1387 : (Jvm.Cond.code ({ cls := "HadForVoice$Widow", name := "gives", desc := "(ILHadForVoice$Trace;)I" } : Jvm.MethodName) prog_24_method_3_code (3 : Nat) (Option.some Jvm.ClassFile.FieldType.int)) ∈ lw_all := lw_g (lw_at lw_m6 72 rfl) rfl
theorem q1388 : (Jvm.Cond.methodLink "HadForVoice$Widow" (11 : Nat) ({ cls := "HadForVoice$Trace", name := "ran", desc := "(I)V" } : Jvm.MethodName)) ∈ lw_all := lw_g (lw_at lw_m6 73 rfl) rfl
theorem q1405 : (Jvm.Cond.castable "HadForVoice$Widow" "HadForVoice$Takes") ∈ lw_tbl := lw_at lw_m6 90 rfl
theorem q1417 : (Jvm.Cond.selects "HadForVoice$Widow" ({ cls := "HadForVoice$Gives", name := "number", desc := "()I" } : Jvm.MethodName) ({ cls := "HadForVoice$Person", name := "number", desc := "()I" } : Jvm.MethodName)) ∈ lw_all := lw_g (lw_at lw_m6 102 rfl) rfl
theorem q1418 : (Jvm.Cond.unhidden "HadForVoice$Widow" "number" "()I") ∈ lw_tbl := lw_at lw_m6 103 rfl
theorem q1431 : (Jvm.Cond.selects "HadForVoice$Widow" ({ cls := "HadForVoice$Miser", name := "number", desc := "()I" } : Jvm.MethodName) ({ cls := "HadForVoice$Person", name := "number", desc := "()I" } : Jvm.MethodName)) ∈ lw_all := lw_g (lw_at lw_m6 116 rfl) rfl
theorem q1433 : (Jvm.Cond.selects "HadForVoice$Widow" ({ cls := "HadForVoice$Takes", name := "takes", desc := "(ILHadForVoice$Trace;)I" } : Jvm.MethodName) ({ cls := "HadForVoice$Miser", name := "takes", desc := "(ILHadForVoice$Trace;)I" } : Jvm.MethodName)) ∈ lw_all := lw_g (lw_at lw_m6 118 rfl) rfl
theorem q1434 : (Jvm.Cond.unhidden "HadForVoice$Widow" "takes" "(ILHadForVoice$Trace;)I") ∈ lw_tbl := lw_at lw_m6 119 rfl
theorem q1454 : (Jvm.Cond.castable "HadForVoice$Widow" "HadForVoice$Halves") ∈ lw_tbl := lw_at lw_m6 139 rfl
theorem q1465 : (Jvm.Cond.unhidden "HadForVoice$Widow" "halves" "(ILHadForVoice$Trace;)I") ∈ lw_tbl := lw_at lw_m6 150 rfl
theorem q1480 : (Jvm.Cond.selects "HadForVoice$Widow" ({ cls := "HadForVoice$Owes", name := "owes", desc := "(ILHadForVoice$Trace;)I" } : Jvm.MethodName) ({ cls := "HadForVoice$Widow", name := "owes", desc := "(ILHadForVoice$Trace;)I" } : Jvm.MethodName)) ∈ lw_all := lw_g (lw_at lw_m6 165 rfl) rfl
theorem q1481 : (Jvm.Cond.unhidden "HadForVoice$Widow" "owes" "(ILHadForVoice$Trace;)I") ∈ lw_tbl := lw_at lw_m6 166 rfl
theorem q1482 : (Jvm.Cond.instanceMethod ({ cls := "HadForVoice$Widow", name := "owes", desc := "(ILHadForVoice$Trace;)I" } : Jvm.MethodName)) ∈ lw_all := lw_g (lw_at lw_m6 167 rfl) rfl
theorem q1483 : (Jvm.Cond.publicMethod ({ cls := "HadForVoice$Widow", name := "owes", desc := "(ILHadForVoice$Trace;)I" } : Jvm.MethodName)) ∈ lw_tbl := lw_at lw_m6 168 rfl
theorem q1484 : (Jvm.Cond.code ({ cls := "HadForVoice$Widow", name := "owes", desc := "(ILHadForVoice$Trace;)I" } : Jvm.MethodName) prog_24_method_4_code (4 : Nat) (Option.some Jvm.ClassFile.FieldType.int)) ∈ lw_all := lw_g (lw_at lw_m6 169 rfl) rfl
theorem q1485 : (Jvm.Cond.methodLink "HadForVoice$Widow" (24 : Nat) ({ cls := "HadForVoice$Widow", name := "needs", desc := "()I" } : Jvm.MethodName)) ∈ lw_all := lw_g (lw_at lw_m6 170 rfl) rfl
theorem q1486 : (Jvm.Cond.sameMethod "HadForVoice$Widow" "HadForVoice$Person" "needs" "()I") ∈ lw_all := lw_g (lw_at lw_m6 171 rfl) rfl
theorem q1488 : (Jvm.Cond.selects "HadForVoice$Widow" ({ cls := "HadForVoice$Widow", name := "needs", desc := "()I" } : Jvm.MethodName) ({ cls := "HadForVoice$Person", name := "needs", desc := "()I" } : Jvm.MethodName)) ∈ lw_all := lw_g (lw_at lw_m6 173 rfl) rfl
theorem q2221 : (Jvm.Cond.castable "HadForVoice$Widow" "HadForVoice$Person") ∈ lw_tbl := lw_at lw_m9 186 rfl
theorem q2222 : (Jvm.Cond.castable "HadForVoice$Widow" "HadForVoice$Miser") ∈ lw_tbl := lw_at lw_m9 187 rfl
theorem in_X10 : ∀ w ∈ wsX100, w ∈ lw_all := lw_in wsX100 [546, 547] (by decide +kernel) (by decide +kernel)
/-! HadForVoice$Prince -/
set_option maxRecDepth 100000
def RX11 : String := "HadForVoice$Prince"
def TX11 : u_T := fun k => match k with
  | 0 => ("HadForVoice$Person", "number", "I", true)
  | _ => ("HadForVoice$Person", "needs", "I", true)
def tyX11 : Nat → FieldType := fun k => match k with
  | 0 => .int
  | _ => .int
abbrev wsX110 : List Cond := u_ws RX11 TX11 2
theorem nmX11 : ∀ a, a < 2 → ∀ b, b < 2 → a ≠ b → (TX11 a).2.1 ≠ (TX11 b).2.1 := by decide +kernel
theorem tyX11_ok : ∀ k, k < 2 → parseFieldDescriptor (TX11 k).2.2.1 = some (tyX11 k) := by decide +kernel
abbrev cX11_init : ByteArray := prog_14_method_1_code
def yX11_init : MethodName := ⟨RX11, "<init>", "(II)V"⟩
def dkwX11_init_0 : List UInt8 := [42, 27, 28, 183, 0, 1, 177]
abbrev dktX11_init_0 : List UInt8 := dkwX11_init_0 ++ []
theorem dksX11_init_0 : cX11_init.data.toList.drop 0 = dktX11_init_0 := by decide +kernel
theorem dX11_init_0 : decode cX11_init 0 = .ok (.aload_n 0, 1) := dk_42 (dk_at dksX11_init_0 0 rfl rfl)
theorem dX11_init_1 : decode cX11_init 1 = .ok (.iload_n 1, 1) := dk_27 (dk_at dksX11_init_0 1 rfl rfl)
theorem dX11_init_2 : decode cX11_init 2 = .ok (.iload_n 2, 1) := dk_28 (dk_at dksX11_init_0 2 rfl rfl)
theorem dX11_init_3 : decode cX11_init 3 = .ok (.invokespecial 1, 3) := dk_183 0 1 (dk_at dksX11_init_0 3 rfl rfl)
theorem dX11_init_6 : decode cX11_init 6 = .ok (.return_, 1) := dk_177 (dk_at dksX11_init_0 6 rfl rfl)
abbrev cX11_asks : ByteArray := prog_14_method_2_code
def yX11_asks : MethodName := ⟨RX11, "asks", "(III)I"⟩
def dkwX11_asks_0 : List UInt8 := [5, 42, 27, 28, 29, 183, 0, 7, 104, 172]
abbrev dktX11_asks_0 : List UInt8 := dkwX11_asks_0 ++ []
theorem dksX11_asks_0 : cX11_asks.data.toList.drop 0 = dktX11_asks_0 := by decide +kernel
theorem dX11_asks_0 : decode cX11_asks 0 = .ok (.iconst 2, 1) := dk_5 (dk_at dksX11_asks_0 0 rfl rfl)
theorem dX11_asks_1 : decode cX11_asks 1 = .ok (.aload_n 0, 1) := dk_42 (dk_at dksX11_asks_0 1 rfl rfl)
theorem dX11_asks_2 : decode cX11_asks 2 = .ok (.iload_n 1, 1) := dk_27 (dk_at dksX11_asks_0 2 rfl rfl)
theorem dX11_asks_3 : decode cX11_asks 3 = .ok (.iload_n 2, 1) := dk_28 (dk_at dksX11_asks_0 3 rfl rfl)
theorem dX11_asks_4 : decode cX11_asks 4 = .ok (.iload_n 3, 1) := dk_29 (dk_at dksX11_asks_0 4 rfl rfl)
theorem dX11_asks_5 : decode cX11_asks 5 = .ok (.invokespecial 7, 3) := dk_183 0 7 (dk_at dksX11_asks_0 5 rfl rfl)
theorem dX11_asks_8 : decode cX11_asks 8 = .ok (.imul, 1) := dk_104 (dk_at dksX11_asks_0 8 rfl rfl)
theorem dX11_asks_9 : decode cX11_asks 9 = .ok (.ireturn, 1) := dk_172 (dk_at dksX11_asks_0 9 rfl rfl)
abbrev cX11_halves : ByteArray := prog_14_method_3_code
def yX11_halves : MethodName := ⟨RX11, "halves", "(ILHadForVoice$Trace;)I"⟩
def dkwX11_halves_0 : List UInt8 := [44, 16, 40, 182, 0, 11, 42, 27, 6, 100, 44, 183, 0, 17, 172]
abbrev dktX11_halves_0 : List UInt8 := dkwX11_halves_0 ++ []
theorem dksX11_halves_0 : cX11_halves.data.toList.drop 0 = dktX11_halves_0 := by decide +kernel
theorem dX11_halves_0 : decode cX11_halves 0 = .ok (.aload_n 2, 1) := dk_44 (dk_at dksX11_halves_0 0 rfl rfl)
theorem dX11_halves_1 : decode cX11_halves 1 = .ok (.bipush 40, 2) := dk_16 40 (dk_at dksX11_halves_0 1 rfl rfl)
theorem dX11_halves_3 : decode cX11_halves 3 = .ok (.invokevirtual 11, 3) := dk_182 0 11 (dk_at dksX11_halves_0 3 rfl rfl)
theorem dX11_halves_6 : decode cX11_halves 6 = .ok (.aload_n 0, 1) := dk_42 (dk_at dksX11_halves_0 6 rfl rfl)
theorem dX11_halves_7 : decode cX11_halves 7 = .ok (.iload_n 1, 1) := dk_27 (dk_at dksX11_halves_0 7 rfl rfl)
theorem dX11_halves_8 : decode cX11_halves 8 = .ok (.iconst 3, 1) := dk_6 (dk_at dksX11_halves_0 8 rfl rfl)
theorem dX11_halves_9 : decode cX11_halves 9 = .ok (.isub, 1) := dk_100 (dk_at dksX11_halves_0 9 rfl rfl)
theorem dX11_halves_10 : decode cX11_halves 10 = .ok (.aload_n 2, 1) := dk_44 (dk_at dksX11_halves_0 10 rfl rfl)
theorem dX11_halves_11 : decode cX11_halves 11 = .ok (.invokespecial 17, 3) := dk_183 0 17 (dk_at dksX11_halves_0 11 rfl rfl)
theorem dX11_halves_14 : decode cX11_halves 14 = .ok (.ireturn, 1) := dk_172 (dk_at dksX11_halves_0 14 rfl rfl)
theorem q130 : (Jvm.Cond.initialized "HadForVoice$Prince") ∈ lw_all := lw_g (lw_at lw_m1 15 rfl) rfl
theorem q550 : (Jvm.Cond.instantiable "HadForVoice$Prince" (2 : Nat)) ∈ lw_all := lw_g (lw_at lw_m2 195 rfl) rfl
theorem q552 : (Jvm.Cond.instanceMethod ({ cls := "HadForVoice$Prince", name := "<init>", desc := "(II)V" } : Jvm.MethodName)) ∈ lw_all := lw_g (lw_at lw_m2 197 rfl) rfl
theorem q553 : (Jvm.Cond.code ({ cls := "HadForVoice$Prince", name := "<init>", desc := "(II)V" } : Jvm.MethodName) prog_14_method_1_code (3 : Nat) (Option.none : Option Jvm.ClassFile.FieldType)) ∈ lw_all := lw_g (lw_at lw_m2 198 rfl) rfl
theorem q554 : (Jvm.Cond.methodLink "HadForVoice$Prince" (1 : Nat) ({ cls := "HadForVoice$Person", name := "<init>", desc := "(II)V" } : Jvm.MethodName)) ∈ lw_all := lw_g (lw_at lw_m2 199 rfl) rfl
theorem q555 : (Jvm.Cond.laysFinal "HadForVoice$Prince" "HadForVoice$Person" "number" "I") ∈ lw_all := lw_g (lw_at lw_m2 200 rfl) rfl
theorem q556 : (Jvm.Cond.laysFinal "HadForVoice$Prince" "HadForVoice$Person" "needs" "I") ∈ lw_all := lw_g (lw_at lw_m2 201 rfl) rfl
theorem q557 : (Jvm.Cond.superclass "HadForVoice$Prince" "HadForVoice$Person") ∈ lw_all := lw_g (lw_at lw_m2 202 rfl) rfl
theorem q641 : (Jvm.Cond.instanceMethod ({ cls := "HadForVoice$Prince", name := "asks", desc := "(III)I" } : Jvm.MethodName)) ∈ lw_all := lw_g (lw_at lw_m3 46 rfl) rfl
theorem q642 : (Jvm.Cond.code ({ cls := "HadForVoice$Prince", name := "asks", desc := "(III)I" } : Jvm.MethodName) prog_14_method_2_code (4 : Nat) (Option.some Jvm.ClassFile.FieldType.int)) ∈ lw_all := lw_g (lw_at lw_m3 47 rfl) rfl
theorem q643 : (Jvm.Cond.methodLink "HadForVoice$Prince" (7 : Nat) ({ cls := "HadForVoice$Person", name := "asks", desc := "(III)I" } : Jvm.MethodName)) ∈ lw_all := lw_g (lw_at lw_m3 48 rfl) rfl
theorem q651 : (Jvm.Cond.selects "HadForVoice$Prince" ({ cls := "HadForVoice$Person", name := "asks", desc := "(III)I" } : Jvm.MethodName) ({ cls := "HadForVoice$Prince", name := "asks", desc := "(III)I" } : Jvm.MethodName)) ∈ lw_all := lw_g (lw_at lw_m3 56 rfl) rfl
theorem q1315 : (Jvm.Cond.selects "HadForVoice$Prince" ({ cls := "HadForVoice$Person", name := "number", desc := "()I" } : Jvm.MethodName) ({ cls := "HadForVoice$Person", name := "number", desc := "()I" } : Jvm.MethodName)) ∈ lw_all := lw_g (lw_at lw_m6 0 rfl) rfl
theorem q1364 : (Jvm.Cond.castable "HadForVoice$Prince" "HadForVoice$Gives") ∈ lw_tbl := lw_at lw_m6 49 rfl
theorem q1365 : (Jvm.Cond.selects "HadForVoice$Prince" ({ cls := "HadForVoice$Gives", name := "needs", desc := "()I" } : Jvm.MethodName) ({ cls := "HadForVoice$Person", name := "needs", desc := "()I" } : Jvm.MethodName)) ∈ lw_all := lw_g (lw_at lw_m6 50 rfl) rfl
theorem q1366 : (Jvm.Cond.unhidden "HadForVoice$Prince" "needs" "()I") ∈ lw_tbl := lw_at lw_m6 51 rfl
theorem q1380 : (Jvm.Cond.castable "HadForVoice$Prince" "HadForVoice$Owes") ∈ lw_tbl := lw_at lw_m6 65 rfl
theorem q1381 : (Jvm.Cond.unhidden "HadForVoice$Prince" "gives" "(ILHadForVoice$Trace;)I") ∈ lw_tbl := lw_at lw_m6 66 rfl
theorem q1404 : (Jvm.Cond.castable "HadForVoice$Prince" "HadForVoice$Takes") ∈ lw_tbl := lw_at lw_m6 89 rfl
theorem q1415 : (Jvm.Cond.selects "HadForVoice$Prince" ({ cls := "HadForVoice$Gives", name := "number", desc := "()I" } : Jvm.MethodName) ({ cls := "HadForVoice$Person", name := "number", desc := "()I" } : Jvm.MethodName)) ∈ lw_all := lw_g (lw_at lw_m6 100 rfl) rfl
theorem q1416 : (Jvm.Cond.unhidden "HadForVoice$Prince" "number" "()I") ∈ lw_tbl := lw_at lw_m6 101 rfl
theorem q1432 : (Jvm.Cond.unhidden "HadForVoice$Prince" "takes" "(ILHadForVoice$Trace;)I") ∈ lw_tbl := lw_at lw_m6 117 rfl
theorem q1443 : (Jvm.Cond.instanceMethod ({ cls := "HadForVoice$Prince", name := "halves", desc := "(ILHadForVoice$Trace;)I" } : Jvm.MethodName)) ∈ lw_all := lw_g (lw_at lw_m6 128 rfl) rfl
theorem q1444 : (Jvm.Cond.code ({ cls := "HadForVoice$Prince", name := "halves", desc := "(ILHadForVoice$Trace;)I" } : Jvm.MethodName) prog_14_method_3_code (3 : Nat) (Option.some Jvm.ClassFile.FieldType.int)) ∈ lw_all := lw_g (lw_at lw_m6 129 rfl) rfl
theorem q1445 : (Jvm.Cond.methodLink "HadForVoice$Prince" (11 : Nat) ({ cls := "HadForVoice$Trace", name := "ran", desc := "(I)V" } : Jvm.MethodName)) ∈ lw_all := lw_g (lw_at lw_m6 130 rfl) rfl
theorem q1453 : (Jvm.Cond.castable "HadForVoice$Prince" "HadForVoice$Halves") ∈ lw_tbl := lw_at lw_m6 138 rfl
theorem q1462 : (Jvm.Cond.selects "HadForVoice$Prince" ({ cls := "HadForVoice$Halves", name := "halves", desc := "(ILHadForVoice$Trace;)I" } : Jvm.MethodName) ({ cls := "HadForVoice$Prince", name := "halves", desc := "(ILHadForVoice$Trace;)I" } : Jvm.MethodName)) ∈ lw_all := lw_g (lw_at lw_m6 147 rfl) rfl
theorem q1463 : (Jvm.Cond.unhidden "HadForVoice$Prince" "halves" "(ILHadForVoice$Trace;)I") ∈ lw_tbl := lw_at lw_m6 148 rfl
theorem q1464 : (Jvm.Cond.publicMethod ({ cls := "HadForVoice$Prince", name := "halves", desc := "(ILHadForVoice$Trace;)I" } : Jvm.MethodName)) ∈ lw_tbl := lw_at lw_m6 149 rfl
theorem q1479 : (Jvm.Cond.unhidden "HadForVoice$Prince" "owes" "(ILHadForVoice$Trace;)I") ∈ lw_tbl := lw_at lw_m6 164 rfl
theorem q2210 : (Jvm.Cond.sameMethod "HadForVoice$Prince" "HadForVoice$Prince" "asks" "(III)I") ∈ lw_all := lw_g (lw_at lw_m9 175 rfl) rfl
theorem q2215 : (Jvm.Cond.sameMethod "HadForVoice$Prince" "HadForVoice$Prince" "halves" "(ILHadForVoice$Trace;)I") ∈ lw_all := lw_g (lw_at lw_m9 180 rfl) rfl
theorem q2220 : (Jvm.Cond.castable "HadForVoice$Prince" "HadForVoice$Person") ∈ lw_tbl := lw_at lw_m9 185 rfl
theorem in_X11 : ∀ w ∈ wsX110, w ∈ lw_all := lw_in wsX110 [555, 556] (by decide +kernel) (by decide +kernel)
/-! HadForVoice$Beast -/
set_option maxRecDepth 100000
def RX12 : String := "HadForVoice$Beast"
def TX12 : u_T := fun k => match k with
  | 0 => ("HadForVoice$Person", "number", "I", true)
  | _ => ("HadForVoice$Person", "needs", "I", true)
def tyX12 : Nat → FieldType := fun k => match k with
  | 0 => .int
  | _ => .int
abbrev wsX120 : List Cond := u_ws RX12 TX12 2
theorem nmX12 : ∀ a, a < 2 → ∀ b, b < 2 → a ≠ b → (TX12 a).2.1 ≠ (TX12 b).2.1 := by decide +kernel
theorem tyX12_ok : ∀ k, k < 2 → parseFieldDescriptor (TX12 k).2.2.1 = some (tyX12 k) := by decide +kernel
abbrev cX12_init : ByteArray := prog_4_method_1_code
def yX12_init : MethodName := ⟨RX12, "<init>", "(II)V"⟩
def dkwX12_init_0 : List UInt8 := [42, 27, 28, 183, 0, 1, 177]
abbrev dktX12_init_0 : List UInt8 := dkwX12_init_0 ++ []
theorem dksX12_init_0 : cX12_init.data.toList.drop 0 = dktX12_init_0 := by decide +kernel
theorem dX12_init_0 : decode cX12_init 0 = .ok (.aload_n 0, 1) := dk_42 (dk_at dksX12_init_0 0 rfl rfl)
theorem dX12_init_1 : decode cX12_init 1 = .ok (.iload_n 1, 1) := dk_27 (dk_at dksX12_init_0 1 rfl rfl)
theorem dX12_init_2 : decode cX12_init 2 = .ok (.iload_n 2, 1) := dk_28 (dk_at dksX12_init_0 2 rfl rfl)
theorem dX12_init_3 : decode cX12_init 3 = .ok (.invokespecial 1, 3) := dk_183 0 1 (dk_at dksX12_init_0 3 rfl rfl)
theorem dX12_init_6 : decode cX12_init 6 = .ok (.return_, 1) := dk_177 (dk_at dksX12_init_0 6 rfl rfl)
abbrev cX12_asks : ByteArray := prog_4_method_2_code
def yX12_asks : MethodName := ⟨RX12, "asks", "(III)I"⟩
def dkwX12_asks_0 : List UInt8 := [3, 42, 27, 28, 29, 183, 0, 7, 16, 7, 100, 184, 0, 11, 172]
abbrev dktX12_asks_0 : List UInt8 := dkwX12_asks_0 ++ []
theorem dksX12_asks_0 : cX12_asks.data.toList.drop 0 = dktX12_asks_0 := by decide +kernel
theorem dX12_asks_0 : decode cX12_asks 0 = .ok (.iconst 0, 1) := dk_3 (dk_at dksX12_asks_0 0 rfl rfl)
theorem dX12_asks_1 : decode cX12_asks 1 = .ok (.aload_n 0, 1) := dk_42 (dk_at dksX12_asks_0 1 rfl rfl)
theorem dX12_asks_2 : decode cX12_asks 2 = .ok (.iload_n 1, 1) := dk_27 (dk_at dksX12_asks_0 2 rfl rfl)
theorem dX12_asks_3 : decode cX12_asks 3 = .ok (.iload_n 2, 1) := dk_28 (dk_at dksX12_asks_0 3 rfl rfl)
theorem dX12_asks_4 : decode cX12_asks 4 = .ok (.iload_n 3, 1) := dk_29 (dk_at dksX12_asks_0 4 rfl rfl)
theorem dX12_asks_5 : decode cX12_asks 5 = .ok (.invokespecial 7, 3) := dk_183 0 7 (dk_at dksX12_asks_0 5 rfl rfl)
theorem dX12_asks_8 : decode cX12_asks 8 = .ok (.bipush 7, 2) := dk_16 7 (dk_at dksX12_asks_0 8 rfl rfl)
theorem dX12_asks_10 : decode cX12_asks 10 = .ok (.isub, 1) := dk_100 (dk_at dksX12_asks_0 10 rfl rfl)
theorem dX12_asks_11 : decode cX12_asks 11 = .ok (.invokestatic 11, 3) := dk_184 0 11 (dk_at dksX12_asks_0 11 rfl rfl)
theorem dX12_asks_14 : decode cX12_asks 14 = .ok (.ireturn, 1) := dk_172 (dk_at dksX12_asks_0 14 rfl rfl)
abbrev cX12_takes : ByteArray := prog_4_method_3_code
def yX12_takes : MethodName := ⟨RX12, "takes", "(ILHadForVoice$Trace;)I"⟩
def dkwX12_takes_0 : List UInt8 := [44, 16, 60, 182, 0, 17, 3, 42, 27, 44, 183, 0, 23, 100, 172]
abbrev dktX12_takes_0 : List UInt8 := dkwX12_takes_0 ++ []
theorem dksX12_takes_0 : cX12_takes.data.toList.drop 0 = dktX12_takes_0 := by decide +kernel
theorem dX12_takes_0 : decode cX12_takes 0 = .ok (.aload_n 2, 1) := dk_44 (dk_at dksX12_takes_0 0 rfl rfl)
theorem dX12_takes_1 : decode cX12_takes 1 = .ok (.bipush 60, 2) := dk_16 60 (dk_at dksX12_takes_0 1 rfl rfl)
theorem dX12_takes_3 : decode cX12_takes 3 = .ok (.invokevirtual 17, 3) := dk_182 0 17 (dk_at dksX12_takes_0 3 rfl rfl)
theorem dX12_takes_6 : decode cX12_takes 6 = .ok (.iconst 0, 1) := dk_3 (dk_at dksX12_takes_0 6 rfl rfl)
theorem dX12_takes_7 : decode cX12_takes 7 = .ok (.aload_n 0, 1) := dk_42 (dk_at dksX12_takes_0 7 rfl rfl)
theorem dX12_takes_8 : decode cX12_takes 8 = .ok (.iload_n 1, 1) := dk_27 (dk_at dksX12_takes_0 8 rfl rfl)
theorem dX12_takes_9 : decode cX12_takes 9 = .ok (.aload_n 2, 1) := dk_44 (dk_at dksX12_takes_0 9 rfl rfl)
theorem dX12_takes_10 : decode cX12_takes 10 = .ok (.invokespecial 23, 3) := dk_183 0 23 (dk_at dksX12_takes_0 10 rfl rfl)
theorem dX12_takes_13 : decode cX12_takes 13 = .ok (.isub, 1) := dk_100 (dk_at dksX12_takes_0 13 rfl rfl)
theorem dX12_takes_14 : decode cX12_takes 14 = .ok (.ireturn, 1) := dk_172 (dk_at dksX12_takes_0 14 rfl rfl)
abbrev cX12_halves : ByteArray := prog_4_method_4_code
def yX12_halves : MethodName := ⟨RX12, "halves", "(ILHadForVoice$Trace;)I"⟩
def dkwX12_halves_1 : List UInt8 := [172]
abbrev dktX12_halves_1 : List UInt8 := dkwX12_halves_1 ++ []
def dkwX12_halves_0 : List UInt8 := [44, 16, 61, 182, 0, 17, 42, 27, 44, 183, 0, 27, 62, 29, 42, 42, 182, 0, 30, 44, 182, 0, 36, 100]
abbrev dktX12_halves_0 : List UInt8 := dkwX12_halves_0 ++ dktX12_halves_1
theorem dksX12_halves_0 : cX12_halves.data.toList.drop 0 = dktX12_halves_0 := by decide +kernel
theorem dksX12_halves_1 : cX12_halves.data.toList.drop 24 = dktX12_halves_1 := dk_seg dksX12_halves_0 24 rfl rfl
theorem dX12_halves_0 : decode cX12_halves 0 = .ok (.aload_n 2, 1) := dk_44 (dk_at dksX12_halves_0 0 rfl rfl)
theorem dX12_halves_1 : decode cX12_halves 1 = .ok (.bipush 61, 2) := dk_16 61 (dk_at dksX12_halves_0 1 rfl rfl)
theorem dX12_halves_3 : decode cX12_halves 3 = .ok (.invokevirtual 17, 3) := dk_182 0 17 (dk_at dksX12_halves_0 3 rfl rfl)
theorem dX12_halves_6 : decode cX12_halves 6 = .ok (.aload_n 0, 1) := dk_42 (dk_at dksX12_halves_0 6 rfl rfl)
theorem dX12_halves_7 : decode cX12_halves 7 = .ok (.iload_n 1, 1) := dk_27 (dk_at dksX12_halves_0 7 rfl rfl)
theorem dX12_halves_8 : decode cX12_halves 8 = .ok (.aload_n 2, 1) := dk_44 (dk_at dksX12_halves_0 8 rfl rfl)
theorem dX12_halves_9 : decode cX12_halves 9 = .ok (.invokespecial 27, 3) := dk_183 0 27 (dk_at dksX12_halves_0 9 rfl rfl)
theorem dX12_halves_12 : decode cX12_halves 12 = .ok (.istore_n 3, 1) := dk_62 (dk_at dksX12_halves_0 12 rfl rfl)
theorem dX12_halves_13 : decode cX12_halves 13 = .ok (.iload_n 3, 1) := dk_29 (dk_at dksX12_halves_0 13 rfl rfl)
theorem dX12_halves_14 : decode cX12_halves 14 = .ok (.aload_n 0, 1) := dk_42 (dk_at dksX12_halves_0 14 rfl rfl)
theorem dX12_halves_15 : decode cX12_halves 15 = .ok (.aload_n 0, 1) := dk_42 (dk_at dksX12_halves_0 15 rfl rfl)
theorem dX12_halves_16 : decode cX12_halves 16 = .ok (.invokevirtual 30, 3) := dk_182 0 30 (dk_at dksX12_halves_0 16 rfl rfl)
theorem dX12_halves_19 : decode cX12_halves 19 = .ok (.aload_n 2, 1) := dk_44 (dk_at dksX12_halves_0 19 rfl rfl)
theorem dX12_halves_20 : decode cX12_halves 20 = .ok (.invokevirtual 36, 3) := dk_182 0 36 (dk_at dksX12_halves_0 20 rfl rfl)
theorem dX12_halves_23 : decode cX12_halves 23 = .ok (.isub, 1) := dk_100 (dk_at dksX12_halves_0 23 rfl rfl)
theorem dX12_halves_24 : decode cX12_halves 24 = .ok (.ireturn, 1) := dk_172 (dk_at dksX12_halves_1 0 rfl rfl)
theorem q131 : (Jvm.Cond.initialized "HadForVoice$Beast") ∈ lw_all := lw_g (lw_at lw_m1 16 rfl) rfl
theorem q559 : (Jvm.Cond.instantiable "HadForVoice$Beast" (2 : Nat)) ∈ lw_all := lw_g (lw_at lw_m2 204 rfl) rfl
theorem q561 : (Jvm.Cond.instanceMethod ({ cls := "HadForVoice$Beast", name := "<init>", desc := "(II)V" } : Jvm.MethodName)) ∈ lw_all := lw_g (lw_at lw_m2 206 rfl) rfl
theorem q562 : (Jvm.Cond.code ({ cls := "HadForVoice$Beast", name := "<init>", desc := "(II)V" } : Jvm.MethodName) prog_4_method_1_code (3 : Nat) (Option.none : Option Jvm.ClassFile.FieldType)) ∈ lw_all := lw_g (lw_at lw_m2 207 rfl) rfl
theorem q563 : (Jvm.Cond.methodLink "HadForVoice$Beast" (1 : Nat) ({ cls := "HadForVoice$Prince", name := "<init>", desc := "(II)V" } : Jvm.MethodName)) ∈ lw_all := lw_g (lw_at lw_m2 208 rfl) rfl
theorem q564 : (Jvm.Cond.laysFinal "HadForVoice$Beast" "HadForVoice$Person" "number" "I") ∈ lw_all := lw_g (lw_at lw_m2 209 rfl) rfl
theorem q565 : (Jvm.Cond.laysFinal "HadForVoice$Beast" "HadForVoice$Person" "needs" "I") ∈ lw_all := lw_g (lw_at lw_m2 210 rfl) rfl
theorem q566 : (Jvm.Cond.superclass "HadForVoice$Beast" "HadForVoice$Prince") ∈ lw_all := lw_g (lw_at lw_m2 211 rfl) rfl
theorem q637 : (Jvm.Cond.selects "HadForVoice$Beast" ({ cls := "HadForVoice$Person", name := "asks", desc := "(III)I" } : Jvm.MethodName) ({ cls := "HadForVoice$Beast", name := "asks", desc := "(III)I" } : Jvm.MethodName)) ∈ lw_all := lw_g (lw_at lw_m3 42 rfl) rfl
theorem q638 : (Jvm.Cond.instanceMethod ({ cls := "HadForVoice$Beast", name := "asks", desc := "(III)I" } : Jvm.MethodName)) ∈ lw_all := lw_g (lw_at lw_m3 43 rfl) rfl
theorem q639 : (Jvm.Cond.code ({ cls := "HadForVoice$Beast", name := "asks", desc := "(III)I" } : Jvm.MethodName) prog_4_method_2_code (4 : Nat) (Option.some Jvm.ClassFile.FieldType.int)) ∈ lw_all := lw_g (lw_at lw_m3 44 rfl) rfl
theorem q640 : (Jvm.Cond.methodLink "HadForVoice$Beast" (7 : Nat) ({ cls := "HadForVoice$Prince", name := "asks", desc := "(III)I" } : Jvm.MethodName)) ∈ lw_all := lw_g (lw_at lw_m3 45 rfl) rfl
theorem q644 : (Jvm.Cond.methodLink "HadForVoice$Beast" (11 : Nat) ({ cls := "java/lang/Math", name := "max", desc := "(II)I" } : Jvm.MethodName)) ∈ lw_all := lw_g (lw_at lw_m3 49 rfl) rfl
theorem q1312 : (Jvm.Cond.selects "HadForVoice$Beast" ({ cls := "HadForVoice$Person", name := "number", desc := "()I" } : Jvm.MethodName) ({ cls := "HadForVoice$Person", name := "number", desc := "()I" } : Jvm.MethodName)) ∈ lw_all := lw_g (lw_at lw_m5 237 rfl) rfl
theorem q1339 : (Jvm.Cond.castable "HadForVoice$Beast" "HadForVoice$Owes") ∈ lw_tbl := lw_at lw_m6 24 rfl
theorem q1340 : (Jvm.Cond.unhidden "HadForVoice$Beast" "gives" "(ILHadForVoice$Trace;)I") ∈ lw_tbl := lw_at lw_m6 25 rfl
theorem q1352 : (Jvm.Cond.castable "HadForVoice$Beast" "HadForVoice$Gives") ∈ lw_tbl := lw_at lw_m6 37 rfl
theorem q1353 : (Jvm.Cond.selects "HadForVoice$Beast" ({ cls := "HadForVoice$Gives", name := "needs", desc := "()I" } : Jvm.MethodName) ({ cls := "HadForVoice$Person", name := "needs", desc := "()I" } : Jvm.MethodName)) ∈ lw_all := lw_g (lw_at lw_m6 38 rfl) rfl
theorem q1354 : (Jvm.Cond.unhidden "HadForVoice$Beast" "needs" "()I") ∈ lw_tbl := lw_at lw_m6 39 rfl
theorem q1391 : (Jvm.Cond.selects "HadForVoice$Beast" ({ cls := "HadForVoice$Takes", name := "takes", desc := "(ILHadForVoice$Trace;)I" } : Jvm.MethodName) ({ cls := "HadForVoice$Beast", name := "takes", desc := "(ILHadForVoice$Trace;)I" } : Jvm.MethodName)) ∈ lw_all := lw_g (lw_at lw_m6 76 rfl) rfl
theorem q1392 : (Jvm.Cond.unhidden "HadForVoice$Beast" "takes" "(ILHadForVoice$Trace;)I") ∈ lw_tbl := lw_at lw_m6 77 rfl
theorem q1393 : (Jvm.Cond.instanceMethod ({ cls := "HadForVoice$Beast", name := "takes", desc := "(ILHadForVoice$Trace;)I" } : Jvm.MethodName)) ∈ lw_all := lw_g (lw_at lw_m6 78 rfl) rfl
theorem q1394 : (Jvm.Cond.publicMethod ({ cls := "HadForVoice$Beast", name := "takes", desc := "(ILHadForVoice$Trace;)I" } : Jvm.MethodName)) ∈ lw_tbl := lw_at lw_m6 79 rfl
theorem q1395 : (Jvm.Cond.code ({ cls := "HadForVoice$Beast", name := "takes", desc := "(ILHadForVoice$Trace;)I" } : Jvm.MethodName) prog_4_method_3_code (3 : Nat) (Option.some Jvm.ClassFile.FieldType.int)) ∈ lw_all := lw_g (lw_at lw_m6 80 rfl) rfl
theorem q1396 : (Jvm.Cond.methodLink "HadForVoice$Beast" (17 : Nat) ({ cls := "HadForVoice$Trace", name := "ran", desc := "(I)V" } : Jvm.MethodName)) ∈ lw_all := lw_g (lw_at lw_m6 81 rfl) rfl
theorem q1401 : (Jvm.Cond.castable "HadForVoice$Beast" "HadForVoice$Takes") ∈ lw_tbl := lw_at lw_m6 86 rfl
theorem q1408 : (Jvm.Cond.selects "HadForVoice$Beast" ({ cls := "HadForVoice$Gives", name := "number", desc := "()I" } : Jvm.MethodName) ({ cls := "HadForVoice$Person", name := "number", desc := "()I" } : Jvm.MethodName)) ∈ lw_all := lw_g (lw_at lw_m6 93 rfl) rfl
theorem q1409 : (Jvm.Cond.unhidden "HadForVoice$Beast" "number" "()I") ∈ lw_tbl := lw_at lw_m6 94 rfl
theorem q1437 : (Jvm.Cond.selects "HadForVoice$Beast" ({ cls := "HadForVoice$Halves", name := "halves", desc := "(ILHadForVoice$Trace;)I" } : Jvm.MethodName) ({ cls := "HadForVoice$Beast", name := "halves", desc := "(ILHadForVoice$Trace;)I" } : Jvm.MethodName)) ∈ lw_all := lw_g (lw_at lw_m6 122 rfl) rfl
theorem q1438 : (Jvm.Cond.unhidden "HadForVoice$Beast" "halves" "(ILHadForVoice$Trace;)I") ∈ lw_tbl := lw_at lw_m6 123 rfl
theorem q1439 : (Jvm.Cond.instanceMethod ({ cls := "HadForVoice$Beast", name := "halves", desc := "(ILHadForVoice$Trace;)I" } : Jvm.MethodName)) ∈ lw_all := lw_g (lw_at lw_m6 124 rfl) rfl
theorem q1440 : (Jvm.Cond.publicMethod ({ cls := "HadForVoice$Beast", name := "halves", desc := "(ILHadForVoice$Trace;)I" } : Jvm.MethodName)) ∈ lw_tbl := lw_at lw_m6 125 rfl
theorem q1441 : (Jvm.Cond.code ({ cls := "HadForVoice$Beast", name := "halves", desc := "(ILHadForVoice$Trace;)I" } : Jvm.MethodName) prog_4_method_4_code (4 : Nat) (Option.some Jvm.ClassFile.FieldType.int)) ∈ lw_all := lw_g (lw_at lw_m6 126 rfl) rfl
theorem q1442 : (Jvm.Cond.methodLink "HadForVoice$Beast" (27 : Nat) ({ cls := "HadForVoice$Prince", name := "halves", desc := "(ILHadForVoice$Trace;)I" } : Jvm.MethodName)) ∈ lw_all := lw_g (lw_at lw_m6 127 rfl) rfl
theorem q1450 : (Jvm.Cond.castable "HadForVoice$Beast" "HadForVoice$Halves") ∈ lw_tbl := lw_at lw_m6 135 rfl
theorem q1456 : (Jvm.Cond.methodLink "HadForVoice$Beast" (30 : Nat) ({ cls := "HadForVoice$Beast", name := "number", desc := "()I" } : Jvm.MethodName)) ∈ lw_all := lw_g (lw_at lw_m6 141 rfl) rfl
theorem q1457 : (Jvm.Cond.sameMethod "HadForVoice$Beast" "HadForVoice$Person" "number" "()I") ∈ lw_all := lw_g (lw_at lw_m6 142 rfl) rfl
theorem q1458 : (Jvm.Cond.selects "HadForVoice$Beast" ({ cls := "HadForVoice$Beast", name := "number", desc := "()I" } : Jvm.MethodName) ({ cls := "HadForVoice$Person", name := "number", desc := "()I" } : Jvm.MethodName)) ∈ lw_all := lw_g (lw_at lw_m6 143 rfl) rfl
theorem q1470 : (Jvm.Cond.unhidden "HadForVoice$Beast" "owes" "(ILHadForVoice$Trace;)I") ∈ lw_tbl := lw_at lw_m6 155 rfl
theorem q2217 : (Jvm.Cond.castable "HadForVoice$Beast" "HadForVoice$Person") ∈ lw_tbl := lw_at lw_m9 182 rfl
theorem q2223 : (Jvm.Cond.castable "HadForVoice$Beast" "HadForVoice$Prince") ∈ lw_tbl := lw_at lw_m9 188 rfl
theorem in_X12 : ∀ w ∈ wsX120, w ∈ lw_all := lw_in wsX120 [564, 565] (by decide +kernel) (by decide +kernel)
/-! HadForVoice$Cond -/
set_option maxRecDepth 100000
def RX13 : String := "HadForVoice$Cond"
abbrev cX13_init : ByteArray := prog_5_method_1_code
def yX13_init : MethodName := ⟨RX13, "<init>", "()V"⟩
theorem dX13_init_0 : decode cX13_init 0 = .ok (.aload_n 0, 1) := by decide +kernel
theorem dX13_init_1 : decode cX13_init 1 = .ok (.invokespecial 1, 3) := by decide +kernel
theorem dX13_init_4 : decode cX13_init 4 = .ok (.return_, 1) := by decide +kernel
theorem q138 : (Jvm.Cond.initialized "HadForVoice$Cond") ∈ lw_all := lw_g (lw_at lw_m1 23 rfl) rfl
theorem q608 : (Jvm.Cond.declares ({ cls := "HadForVoice$Cond", name := "holds", desc := "([I)Z" } : Jvm.MethodName)) ∈ lw_tbl := lw_at lw_m3 13 rfl
theorem q609 : (Jvm.Cond.sameMethod "HadForVoice$Cond" "HadForVoice$Cond" "holds" "([I)Z") ∈ lw_all := lw_g (lw_at lw_m3 14 rfl) rfl
theorem q819 : (Jvm.Cond.instanceMethod ({ cls := "HadForVoice$Cond", name := "<init>", desc := "()V" } : Jvm.MethodName)) ∈ lw_all := lw_g (lw_at lw_m3 224 rfl) rfl
theorem q820 : (Jvm.Cond.code ({ cls := "HadForVoice$Cond", name := "<init>", desc := "()V" } : Jvm.MethodName) prog_5_method_1_code (1 : Nat) (Option.none : Option Jvm.ClassFile.FieldType)) ∈ lw_all := lw_g (lw_at lw_m3 225 rfl) rfl
theorem q821 : (Jvm.Cond.methodLink "HadForVoice$Cond" (1 : Nat) ({ cls := "java/lang/Object", name := "<init>", desc := "()V" } : Jvm.MethodName)) ∈ lw_all := lw_g (lw_at lw_m3 226 rfl) rfl
/-! HadForVoice$Not -/
set_option maxRecDepth 100000
def RX14 : String := "HadForVoice$Not"
def TX14 : u_T := fun k => match k with
  | _ => ("HadForVoice$Not", "of", "LHadForVoice$Cond;", true)
def tyX14 : Nat → FieldType := fun k => match k with
  | _ => .object "HadForVoice$Cond"
abbrev wsX140 : List Cond := u_ws RX14 TX14 1
theorem nmX14 : ∀ a, a < 1 → ∀ b, b < 1 → a ≠ b → (TX14 a).2.1 ≠ (TX14 b).2.1 := by decide +kernel
theorem tyX14_ok : ∀ k, k < 1 → parseFieldDescriptor (TX14 k).2.2.1 = some (tyX14 k) := by decide +kernel
abbrev cX14_holds : ByteArray := prog_11_method_2_code
def yX14_holds : MethodName := ⟨RX14, "holds", "([I)Z"⟩
def dkwX14_holds_0 : List UInt8 := [42, 180, 0, 7, 43, 182, 0, 13, 154, 0, 7, 4, 167, 0, 4, 3, 172]
abbrev dktX14_holds_0 : List UInt8 := dkwX14_holds_0 ++ []
theorem dksX14_holds_0 : cX14_holds.data.toList.drop 0 = dktX14_holds_0 := by decide +kernel
theorem dX14_holds_0 : decode cX14_holds 0 = .ok (.aload_n 0, 1) := dk_42 (dk_at dksX14_holds_0 0 rfl rfl)
theorem dX14_holds_1 : decode cX14_holds 1 = .ok (.getfield 7, 3) := dk_180 0 7 (dk_at dksX14_holds_0 1 rfl rfl)
theorem dX14_holds_4 : decode cX14_holds 4 = .ok (.aload_n 1, 1) := dk_43 (dk_at dksX14_holds_0 4 rfl rfl)
theorem dX14_holds_5 : decode cX14_holds 5 = .ok (.invokevirtual 13, 3) := dk_182 0 13 (dk_at dksX14_holds_0 5 rfl rfl)
theorem dX14_holds_8 : decode cX14_holds 8 = .ok (.ifCond .ne 7, 3) := dk_154 0 7 (dk_at dksX14_holds_0 8 rfl rfl)
theorem dX14_holds_11 : decode cX14_holds 11 = .ok (.iconst 1, 1) := dk_4 (dk_at dksX14_holds_0 11 rfl rfl)
theorem dX14_holds_12 : decode cX14_holds 12 = .ok (.goto 4, 3) := dk_167 0 4 (dk_at dksX14_holds_0 12 rfl rfl)
theorem dX14_holds_15 : decode cX14_holds 15 = .ok (.iconst 0, 1) := dk_3 (dk_at dksX14_holds_0 15 rfl rfl)
theorem dX14_holds_16 : decode cX14_holds 16 = .ok (.ireturn, 1) := dk_172 (dk_at dksX14_holds_0 16 rfl rfl)
abbrev cX14_init : ByteArray := prog_11_method_1_code
def yX14_init : MethodName := ⟨RX14, "<init>", "(LHadForVoice$Cond;)V"⟩
def dkwX14_init_0 : List UInt8 := [42, 183, 0, 1, 42, 43, 181, 0, 7, 177]
abbrev dktX14_init_0 : List UInt8 := dkwX14_init_0 ++ []
theorem dksX14_init_0 : cX14_init.data.toList.drop 0 = dktX14_init_0 := by decide +kernel
theorem dX14_init_0 : decode cX14_init 0 = .ok (.aload_n 0, 1) := dk_42 (dk_at dksX14_init_0 0 rfl rfl)
theorem dX14_init_1 : decode cX14_init 1 = .ok (.invokespecial 1, 3) := dk_183 0 1 (dk_at dksX14_init_0 1 rfl rfl)
theorem dX14_init_4 : decode cX14_init 4 = .ok (.aload_n 0, 1) := dk_42 (dk_at dksX14_init_0 4 rfl rfl)
theorem dX14_init_5 : decode cX14_init 5 = .ok (.aload_n 1, 1) := dk_43 (dk_at dksX14_init_0 5 rfl rfl)
theorem dX14_init_6 : decode cX14_init 6 = .ok (.putfield 7, 3) := dk_181 0 7 (dk_at dksX14_init_0 6 rfl rfl)
theorem dX14_init_9 : decode cX14_init 9 = .ok (.return_, 1) := dk_177 (dk_at dksX14_init_0 9 rfl rfl)
theorem q139 : (Jvm.Cond.initialized "HadForVoice$Not") ∈ lw_all := lw_g (lw_at lw_m1 24 rfl) rfl
theorem q620 : (Jvm.Cond.instanceMethod ({ cls := "HadForVoice$Not", name := "holds", desc := "([I)Z" } : Jvm.MethodName)) ∈ lw_all := lw_g (lw_at lw_m3 25 rfl) rfl
theorem q621 : (Jvm.Cond.code ({ cls := "HadForVoice$Not", name := "holds", desc := "([I)Z" } : Jvm.MethodName) prog_11_method_2_code (2 : Nat) (Option.some Jvm.ClassFile.FieldType.boolean)) ∈ lw_all := lw_g (lw_at lw_m3 26 rfl) rfl
theorem q622 : (Jvm.Cond.methodLink "HadForVoice$Not" (13 : Nat) ({ cls := "HadForVoice$Cond", name := "holds", desc := "([I)Z" } : Jvm.MethodName)) ∈ lw_all := lw_g (lw_at lw_m3 27 rfl) rfl
theorem q627 : (Jvm.Cond.selects "HadForVoice$Not" ({ cls := "HadForVoice$Cond", name := "holds", desc := "([I)Z" } : Jvm.MethodName) ({ cls := "HadForVoice$Not", name := "holds", desc := "([I)Z" } : Jvm.MethodName)) ∈ lw_all := lw_g (lw_at lw_m3 32 rfl) rfl
theorem q814 : (Jvm.Cond.instantiable "HadForVoice$Not" (1 : Nat)) ∈ lw_all := lw_g (lw_at lw_m3 219 rfl) rfl
theorem q816 : (Jvm.Cond.instanceMethod ({ cls := "HadForVoice$Not", name := "<init>", desc := "(LHadForVoice$Cond;)V" } : Jvm.MethodName)) ∈ lw_all := lw_g (lw_at lw_m3 221 rfl) rfl
theorem q817 : (Jvm.Cond.code ({ cls := "HadForVoice$Not", name := "<init>", desc := "(LHadForVoice$Cond;)V" } : Jvm.MethodName) prog_11_method_1_code (2 : Nat) (Option.none : Option Jvm.ClassFile.FieldType)) ∈ lw_all := lw_g (lw_at lw_m3 222 rfl) rfl
theorem q818 : (Jvm.Cond.methodLinkNest "HadForVoice$Not" (1 : Nat) ({ cls := "HadForVoice$Cond", name := "<init>", desc := "()V" } : Jvm.MethodName) "HadForVoice") ∈ lw_tbl := lw_at lw_m3 223 rfl
theorem q822 : (Jvm.Cond.fieldLink "HadForVoice$Not" (7 : Nat) "HadForVoice$Not" "of" "LHadForVoice$Cond;") ∈ lw_all := lw_g (lw_at lw_m3 227 rfl) rfl
theorem q823 : (Jvm.Cond.laysFinal "HadForVoice$Not" "HadForVoice$Not" "of" "LHadForVoice$Cond;") ∈ lw_all := lw_g (lw_at lw_m3 228 rfl) rfl
theorem q824 : (Jvm.Cond.soleField "HadForVoice$Not" "of") ∈ lw_all := lw_g (lw_at lw_m3 229 rfl) rfl
theorem q825 : (Jvm.Cond.superclass "HadForVoice$Not" "HadForVoice$Cond") ∈ lw_all := lw_g (lw_at lw_m3 230 rfl) rfl
theorem in_X14 : ∀ w ∈ wsX140, w ∈ lw_all := lw_in wsX140 [823] (by decide +kernel) (by decide +kernel)
/-! HadForVoice$Value -/
set_option maxRecDepth 100000
def RX15 : String := "HadForVoice$Value"
def TX15 : u_T := fun k => match k with
  | 0 => ("HadForVoice$Value", "fact", "I", true)
  | _ => ("HadForVoice$Value", "n", "I", true)
def tyX15 : Nat → FieldType := fun k => match k with
  | 0 => .int
  | _ => .int
abbrev wsX150 : List Cond := u_ws RX15 TX15 2
theorem nmX15 : ∀ a, a < 2 → ∀ b, b < 2 → a ≠ b → (TX15 a).2.1 ≠ (TX15 b).2.1 := by decide +kernel
theorem tyX15_ok : ∀ k, k < 2 → parseFieldDescriptor (TX15 k).2.2.1 = some (tyX15 k) := by decide +kernel
abbrev cX15_of : ByteArray := prog_23_method_2_code
def yX15_of : MethodName := ⟨RX15, "of", "([I)I"⟩
def dkwX15_of_0 : List UInt8 := [42, 180, 0, 7, 156, 0, 10, 42, 180, 0, 13, 167, 0, 9, 43, 42, 180, 0, 7, 46, 172]
abbrev dktX15_of_0 : List UInt8 := dkwX15_of_0 ++ []
theorem dksX15_of_0 : cX15_of.data.toList.drop 0 = dktX15_of_0 := by decide +kernel
theorem dX15_of_0 : decode cX15_of 0 = .ok (.aload_n 0, 1) := dk_42 (dk_at dksX15_of_0 0 rfl rfl)
theorem dX15_of_1 : decode cX15_of 1 = .ok (.getfield 7, 3) := dk_180 0 7 (dk_at dksX15_of_0 1 rfl rfl)
theorem dX15_of_4 : decode cX15_of 4 = .ok (.ifCond .ge 10, 3) := dk_156 0 10 (dk_at dksX15_of_0 4 rfl rfl)
theorem dX15_of_7 : decode cX15_of 7 = .ok (.aload_n 0, 1) := dk_42 (dk_at dksX15_of_0 7 rfl rfl)
theorem dX15_of_8 : decode cX15_of 8 = .ok (.getfield 13, 3) := dk_180 0 13 (dk_at dksX15_of_0 8 rfl rfl)
theorem dX15_of_11 : decode cX15_of 11 = .ok (.goto 9, 3) := dk_167 0 9 (dk_at dksX15_of_0 11 rfl rfl)
theorem dX15_of_14 : decode cX15_of 14 = .ok (.aload_n 1, 1) := dk_43 (dk_at dksX15_of_0 14 rfl rfl)
theorem dX15_of_15 : decode cX15_of 15 = .ok (.aload_n 0, 1) := dk_42 (dk_at dksX15_of_0 15 rfl rfl)
theorem dX15_of_16 : decode cX15_of 16 = .ok (.getfield 7, 3) := dk_180 0 7 (dk_at dksX15_of_0 16 rfl rfl)
theorem dX15_of_19 : decode cX15_of 19 = .ok (.iaload, 1) := dk_46 (dk_at dksX15_of_0 19 rfl rfl)
theorem dX15_of_20 : decode cX15_of 20 = .ok (.ireturn, 1) := dk_172 (dk_at dksX15_of_0 20 rfl rfl)
abbrev cX15_init : ByteArray := prog_23_method_1_code
def yX15_init : MethodName := ⟨RX15, "<init>", "(II)V"⟩
def dkwX15_init_0 : List UInt8 := [42, 183, 0, 1, 42, 27, 181, 0, 7, 42, 28, 181, 0, 13, 177]
abbrev dktX15_init_0 : List UInt8 := dkwX15_init_0 ++ []
theorem dksX15_init_0 : cX15_init.data.toList.drop 0 = dktX15_init_0 := by decide +kernel
theorem dX15_init_0 : decode cX15_init 0 = .ok (.aload_n 0, 1) := dk_42 (dk_at dksX15_init_0 0 rfl rfl)
theorem dX15_init_1 : decode cX15_init 1 = .ok (.invokespecial 1, 3) := dk_183 0 1 (dk_at dksX15_init_0 1 rfl rfl)
theorem dX15_init_4 : decode cX15_init 4 = .ok (.aload_n 0, 1) := dk_42 (dk_at dksX15_init_0 4 rfl rfl)
theorem dX15_init_5 : decode cX15_init 5 = .ok (.iload_n 1, 1) := dk_27 (dk_at dksX15_init_0 5 rfl rfl)
theorem dX15_init_6 : decode cX15_init 6 = .ok (.putfield 7, 3) := dk_181 0 7 (dk_at dksX15_init_0 6 rfl rfl)
theorem dX15_init_9 : decode cX15_init 9 = .ok (.aload_n 0, 1) := dk_42 (dk_at dksX15_init_0 9 rfl rfl)
theorem dX15_init_10 : decode cX15_init 10 = .ok (.iload_n 2, 1) := dk_28 (dk_at dksX15_init_0 10 rfl rfl)
theorem dX15_init_11 : decode cX15_init 11 = .ok (.putfield 13, 3) := dk_181 0 13 (dk_at dksX15_init_0 11 rfl rfl)
theorem dX15_init_14 : decode cX15_init 14 = .ok (.return_, 1) := dk_177 (dk_at dksX15_init_0 14 rfl rfl)
theorem q140 : (Jvm.Cond.initialized "HadForVoice$Value") ∈ lw_all := lw_g (lw_at lw_m1 25 rfl) rfl
theorem q617 : (Jvm.Cond.instanceMethod ({ cls := "HadForVoice$Value", name := "of", desc := "([I)I" } : Jvm.MethodName)) ∈ lw_all := lw_g (lw_at lw_m3 22 rfl) rfl
theorem q618 : (Jvm.Cond.selects "HadForVoice$Value" ({ cls := "HadForVoice$Value", name := "of", desc := "([I)I" } : Jvm.MethodName) ({ cls := "HadForVoice$Value", name := "of", desc := "([I)I" } : Jvm.MethodName)) ∈ lw_all := lw_g (lw_at lw_m3 23 rfl) rfl
theorem q619 : (Jvm.Cond.code ({ cls := "HadForVoice$Value", name := "of", desc := "([I)I" } : Jvm.MethodName) prog_23_method_2_code (2 : Nat) (Option.some Jvm.ClassFile.FieldType.int)) ∈ lw_all := lw_g (lw_at lw_m3 24 rfl) rfl
theorem q837 : (Jvm.Cond.instantiable "HadForVoice$Value" (2 : Nat)) ∈ lw_all := lw_g (lw_at lw_m4 2 rfl) rfl
theorem q839 : (Jvm.Cond.instanceMethod ({ cls := "HadForVoice$Value", name := "<init>", desc := "(II)V" } : Jvm.MethodName)) ∈ lw_all := lw_g (lw_at lw_m4 4 rfl) rfl
theorem q840 : (Jvm.Cond.code ({ cls := "HadForVoice$Value", name := "<init>", desc := "(II)V" } : Jvm.MethodName) prog_23_method_1_code (3 : Nat) (Option.none : Option Jvm.ClassFile.FieldType)) ∈ lw_all := lw_g (lw_at lw_m4 5 rfl) rfl
theorem q841 : (Jvm.Cond.methodLink "HadForVoice$Value" (1 : Nat) ({ cls := "java/lang/Object", name := "<init>", desc := "()V" } : Jvm.MethodName)) ∈ lw_all := lw_g (lw_at lw_m4 6 rfl) rfl
theorem q842 : (Jvm.Cond.fieldLink "HadForVoice$Value" (7 : Nat) "HadForVoice$Value" "fact" "I") ∈ lw_all := lw_g (lw_at lw_m4 7 rfl) rfl
theorem q843 : (Jvm.Cond.fieldLink "HadForVoice$Value" (13 : Nat) "HadForVoice$Value" "n" "I") ∈ lw_all := lw_g (lw_at lw_m4 8 rfl) rfl
theorem q844 : (Jvm.Cond.laysFinal "HadForVoice$Value" "HadForVoice$Value" "fact" "I") ∈ lw_all := lw_g (lw_at lw_m4 9 rfl) rfl
theorem q845 : (Jvm.Cond.soleField "HadForVoice$Value" "fact") ∈ lw_all := lw_g (lw_at lw_m4 10 rfl) rfl
theorem q846 : (Jvm.Cond.laysFinal "HadForVoice$Value" "HadForVoice$Value" "n" "I") ∈ lw_all := lw_g (lw_at lw_m4 11 rfl) rfl
theorem q847 : (Jvm.Cond.soleField "HadForVoice$Value" "n") ∈ lw_all := lw_g (lw_at lw_m4 12 rfl) rfl
theorem q848 : (Jvm.Cond.superclass "HadForVoice$Value" "java/lang/Object") ∈ lw_all := lw_g (lw_at lw_m4 13 rfl) rfl
theorem in_X15 : ∀ w ∈ wsX150, w ∈ lw_all := lw_in wsX150 [844, 846] (by decide +kernel) (by decide +kernel)
/-! HadForVoice$Asks -/
set_option maxRecDepth 100000
def RX16 : String := "HadForVoice$Asks"
def TX16 : u_T := fun k => match k with
  | 0 => ("HadForVoice$Asks", "first", "LHadForVoice$Value;", true)
  | 1 => ("HadForVoice$Asks", "second", "LHadForVoice$Value;", true)
  | _ => ("HadForVoice$Asks", "sign", "I", true)
def tyX16 : Nat → FieldType := fun k => match k with
  | 0 => .object "HadForVoice$Value"
  | 1 => .object "HadForVoice$Value"
  | _ => .int
abbrev wsX160 : List Cond := u_ws RX16 TX16 3
theorem nmX16 : ∀ a, a < 3 → ∀ b, b < 3 → a ≠ b → (TX16 a).2.1 ≠ (TX16 b).2.1 := by decide +kernel
theorem tyX16_ok : ∀ k, k < 3 → parseFieldDescriptor (TX16 k).2.2.1 = some (tyX16 k) := by decide +kernel
abbrev cX16_holds : ByteArray := prog_3_method_2_code
def yX16_holds : MethodName := ⟨RX16, "holds", "([I)Z"⟩
def dkwX16_holds_3 : List UInt8 := [167, 0, 4, 3, 172]
abbrev dktX16_holds_3 : List UInt8 := dkwX16_holds_3 ++ []
def dkwX16_holds_2 : List UInt8 := [160, 0, 16, 28, 29, 160, 0, 7, 4, 167, 0, 17, 3, 167, 0, 13, 28, 29, 164, 0, 7, 4]
abbrev dktX16_holds_2 : List UInt8 := dkwX16_holds_2 ++ dktX16_holds_3
def dkwX16_holds_1 : List UInt8 := [160, 0, 16, 28, 29, 162, 0, 7, 4, 167, 0, 39, 3, 167, 0, 35, 42, 180, 0, 13, 16, 61]
abbrev dktX16_holds_1 : List UInt8 := dkwX16_holds_1 ++ dktX16_holds_2
def dkwX16_holds_0 : List UInt8 := [42, 180, 0, 7, 43, 182, 0, 20, 61, 42, 180, 0, 17, 43, 182, 0, 20, 62, 42, 180, 0, 13, 16, 60]
abbrev dktX16_holds_0 : List UInt8 := dkwX16_holds_0 ++ dktX16_holds_1
theorem dksX16_holds_0 : cX16_holds.data.toList.drop 0 = dktX16_holds_0 := by decide +kernel
theorem dksX16_holds_1 : cX16_holds.data.toList.drop 24 = dktX16_holds_1 := dk_seg dksX16_holds_0 24 rfl rfl
theorem dksX16_holds_2 : cX16_holds.data.toList.drop 46 = dktX16_holds_2 := dk_seg dksX16_holds_1 22 rfl rfl
theorem dksX16_holds_3 : cX16_holds.data.toList.drop 68 = dktX16_holds_3 := dk_seg dksX16_holds_2 22 rfl rfl
theorem dX16_holds_0 : decode cX16_holds 0 = .ok (.aload_n 0, 1) := dk_42 (dk_at dksX16_holds_0 0 rfl rfl)
theorem dX16_holds_1 : decode cX16_holds 1 = .ok (.getfield 7, 3) := dk_180 0 7 (dk_at dksX16_holds_0 1 rfl rfl)
theorem dX16_holds_4 : decode cX16_holds 4 = .ok (.aload_n 1, 1) := dk_43 (dk_at dksX16_holds_0 4 rfl rfl)
theorem dX16_holds_5 : decode cX16_holds 5 = .ok (.invokevirtual 20, 3) := dk_182 0 20 (dk_at dksX16_holds_0 5 rfl rfl)
theorem dX16_holds_8 : decode cX16_holds 8 = .ok (.istore_n 2, 1) := dk_61 (dk_at dksX16_holds_0 8 rfl rfl)
theorem dX16_holds_9 : decode cX16_holds 9 = .ok (.aload_n 0, 1) := dk_42 (dk_at dksX16_holds_0 9 rfl rfl)
theorem dX16_holds_10 : decode cX16_holds 10 = .ok (.getfield 17, 3) := dk_180 0 17 (dk_at dksX16_holds_0 10 rfl rfl)
theorem dX16_holds_13 : decode cX16_holds 13 = .ok (.aload_n 1, 1) := dk_43 (dk_at dksX16_holds_0 13 rfl rfl)
theorem dX16_holds_14 : decode cX16_holds 14 = .ok (.invokevirtual 20, 3) := dk_182 0 20 (dk_at dksX16_holds_0 14 rfl rfl)
theorem dX16_holds_17 : decode cX16_holds 17 = .ok (.istore_n 3, 1) := dk_62 (dk_at dksX16_holds_0 17 rfl rfl)
theorem dX16_holds_18 : decode cX16_holds 18 = .ok (.aload_n 0, 1) := dk_42 (dk_at dksX16_holds_0 18 rfl rfl)
theorem dX16_holds_19 : decode cX16_holds 19 = .ok (.getfield 13, 3) := dk_180 0 13 (dk_at dksX16_holds_0 19 rfl rfl)
theorem dX16_holds_22 : decode cX16_holds 22 = .ok (.bipush 60, 2) := dk_16 60 (dk_at dksX16_holds_0 22 rfl rfl)
theorem dX16_holds_24 : decode cX16_holds 24 = .ok (.if_icmp .ne 16, 3) := dk_160 0 16 (dk_at dksX16_holds_1 0 rfl rfl)
theorem dX16_holds_27 : decode cX16_holds 27 = .ok (.iload_n 2, 1) := dk_28 (dk_at dksX16_holds_1 3 rfl rfl)
theorem dX16_holds_28 : decode cX16_holds 28 = .ok (.iload_n 3, 1) := dk_29 (dk_at dksX16_holds_1 4 rfl rfl)
theorem dX16_holds_29 : decode cX16_holds 29 = .ok (.if_icmp .ge 7, 3) := dk_162 0 7 (dk_at dksX16_holds_1 5 rfl rfl)
theorem dX16_holds_32 : decode cX16_holds 32 = .ok (.iconst 1, 1) := dk_4 (dk_at dksX16_holds_1 8 rfl rfl)
theorem dX16_holds_33 : decode cX16_holds 33 = .ok (.goto 39, 3) := dk_167 0 39 (dk_at dksX16_holds_1 9 rfl rfl)
theorem dX16_holds_36 : decode cX16_holds 36 = .ok (.iconst 0, 1) := dk_3 (dk_at dksX16_holds_1 12 rfl rfl)
theorem dX16_holds_37 : decode cX16_holds 37 = .ok (.goto 35, 3) := dk_167 0 35 (dk_at dksX16_holds_1 13 rfl rfl)
theorem dX16_holds_40 : decode cX16_holds 40 = .ok (.aload_n 0, 1) := dk_42 (dk_at dksX16_holds_1 16 rfl rfl)
theorem dX16_holds_41 : decode cX16_holds 41 = .ok (.getfield 13, 3) := dk_180 0 13 (dk_at dksX16_holds_1 17 rfl rfl)
theorem dX16_holds_44 : decode cX16_holds 44 = .ok (.bipush 61, 2) := dk_16 61 (dk_at dksX16_holds_1 20 rfl rfl)
theorem dX16_holds_46 : decode cX16_holds 46 = .ok (.if_icmp .ne 16, 3) := dk_160 0 16 (dk_at dksX16_holds_2 0 rfl rfl)
theorem dX16_holds_49 : decode cX16_holds 49 = .ok (.iload_n 2, 1) := dk_28 (dk_at dksX16_holds_2 3 rfl rfl)
theorem dX16_holds_50 : decode cX16_holds 50 = .ok (.iload_n 3, 1) := dk_29 (dk_at dksX16_holds_2 4 rfl rfl)
theorem dX16_holds_51 : decode cX16_holds 51 = .ok (.if_icmp .ne 7, 3) := dk_160 0 7 (dk_at dksX16_holds_2 5 rfl rfl)
theorem dX16_holds_54 : decode cX16_holds 54 = .ok (.iconst 1, 1) := dk_4 (dk_at dksX16_holds_2 8 rfl rfl)
theorem dX16_holds_55 : decode cX16_holds 55 = .ok (.goto 17, 3) := dk_167 0 17 (dk_at dksX16_holds_2 9 rfl rfl)
theorem dX16_holds_58 : decode cX16_holds 58 = .ok (.iconst 0, 1) := dk_3 (dk_at dksX16_holds_2 12 rfl rfl)
theorem dX16_holds_59 : decode cX16_holds 59 = .ok (.goto 13, 3) := dk_167 0 13 (dk_at dksX16_holds_2 13 rfl rfl)
theorem dX16_holds_62 : decode cX16_holds 62 = .ok (.iload_n 2, 1) := dk_28 (dk_at dksX16_holds_2 16 rfl rfl)
theorem dX16_holds_63 : decode cX16_holds 63 = .ok (.iload_n 3, 1) := dk_29 (dk_at dksX16_holds_2 17 rfl rfl)
theorem dX16_holds_64 : decode cX16_holds 64 = .ok (.if_icmp .le 7, 3) := dk_164 0 7 (dk_at dksX16_holds_2 18 rfl rfl)
theorem dX16_holds_67 : decode cX16_holds 67 = .ok (.iconst 1, 1) := dk_4 (dk_at dksX16_holds_2 21 rfl rfl)
theorem dX16_holds_68 : decode cX16_holds 68 = .ok (.goto 4, 3) := dk_167 0 4 (dk_at dksX16_holds_3 0 rfl rfl)
theorem dX16_holds_71 : decode cX16_holds 71 = .ok (.iconst 0, 1) := dk_3 (dk_at dksX16_holds_3 3 rfl rfl)
theorem dX16_holds_72 : decode cX16_holds 72 = .ok (.ireturn, 1) := dk_172 (dk_at dksX16_holds_3 4 rfl rfl)
abbrev cX16_init : ByteArray := prog_3_method_1_code
def yX16_init : MethodName := ⟨RX16, "<init>", "(LHadForVoice$Value;ILHadForVoice$Value;)V"⟩
def dkwX16_init_0 : List UInt8 := [42, 183, 0, 1, 42, 43, 181, 0, 7, 42, 28, 181, 0, 13, 42, 45, 181, 0, 17, 177]
abbrev dktX16_init_0 : List UInt8 := dkwX16_init_0 ++ []
theorem dksX16_init_0 : cX16_init.data.toList.drop 0 = dktX16_init_0 := by decide +kernel
theorem dX16_init_0 : decode cX16_init 0 = .ok (.aload_n 0, 1) := dk_42 (dk_at dksX16_init_0 0 rfl rfl)
theorem dX16_init_1 : decode cX16_init 1 = .ok (.invokespecial 1, 3) := dk_183 0 1 (dk_at dksX16_init_0 1 rfl rfl)
theorem dX16_init_4 : decode cX16_init 4 = .ok (.aload_n 0, 1) := dk_42 (dk_at dksX16_init_0 4 rfl rfl)
theorem dX16_init_5 : decode cX16_init 5 = .ok (.aload_n 1, 1) := dk_43 (dk_at dksX16_init_0 5 rfl rfl)
theorem dX16_init_6 : decode cX16_init 6 = .ok (.putfield 7, 3) := dk_181 0 7 (dk_at dksX16_init_0 6 rfl rfl)
theorem dX16_init_9 : decode cX16_init 9 = .ok (.aload_n 0, 1) := dk_42 (dk_at dksX16_init_0 9 rfl rfl)
theorem dX16_init_10 : decode cX16_init 10 = .ok (.iload_n 2, 1) := dk_28 (dk_at dksX16_init_0 10 rfl rfl)
theorem dX16_init_11 : decode cX16_init 11 = .ok (.putfield 13, 3) := dk_181 0 13 (dk_at dksX16_init_0 11 rfl rfl)
theorem dX16_init_14 : decode cX16_init 14 = .ok (.aload_n 0, 1) := dk_42 (dk_at dksX16_init_0 14 rfl rfl)
theorem dX16_init_15 : decode cX16_init 15 = .ok (.aload_n 3, 1) := dk_45 (dk_at dksX16_init_0 15 rfl rfl)
theorem dX16_init_16 : decode cX16_init 16 = .ok (.putfield 17, 3) := dk_181 0 17 (dk_at dksX16_init_0 16 rfl rfl)
theorem dX16_init_19 : decode cX16_init 19 = .ok (.return_, 1) := dk_177 (dk_at dksX16_init_0 19 rfl rfl)
theorem q141 : (Jvm.Cond.initialized "HadForVoice$Asks") ∈ lw_all := lw_g (lw_at lw_m1 26 rfl) rfl
theorem q614 : (Jvm.Cond.instanceMethod ({ cls := "HadForVoice$Asks", name := "holds", desc := "([I)Z" } : Jvm.MethodName)) ∈ lw_all := lw_g (lw_at lw_m3 19 rfl) rfl
theorem q615 : (Jvm.Cond.code ({ cls := "HadForVoice$Asks", name := "holds", desc := "([I)Z" } : Jvm.MethodName) prog_3_method_2_code (4 : Nat) (Option.some Jvm.ClassFile.FieldType.boolean)) ∈ lw_all := lw_g (lw_at lw_m3 20 rfl) rfl
theorem q616 : (Jvm.Cond.methodLink "HadForVoice$Asks" (20 : Nat) ({ cls := "HadForVoice$Value", name := "of", desc := "([I)I" } : Jvm.MethodName)) ∈ lw_all := lw_g (lw_at lw_m3 21 rfl) rfl
theorem q626 : (Jvm.Cond.selects "HadForVoice$Asks" ({ cls := "HadForVoice$Cond", name := "holds", desc := "([I)Z" } : Jvm.MethodName) ({ cls := "HadForVoice$Asks", name := "holds", desc := "([I)Z" } : Jvm.MethodName)) ∈ lw_all := lw_g (lw_at lw_m3 31 rfl) rfl
theorem q854 : (Jvm.Cond.instantiable "HadForVoice$Asks" (3 : Nat)) ∈ lw_all := lw_g (lw_at lw_m4 19 rfl) rfl
theorem q856 : (Jvm.Cond.instanceMethod ({ cls := "HadForVoice$Asks", name := "<init>", desc := "(LHadForVoice$Value;ILHadForVoice$Value;)V" } : Jvm.MethodName)) ∈ lw_all := lw_g (lw_at lw_m4 21 rfl) rfl
theorem q857 : (Jvm.Cond.code ({ cls := "HadForVoice$Asks", name := "<init>", desc := "(LHadForVoice$Value;ILHadForVoice$Value;)V" } : Jvm.MethodName) prog_3_method_1_code (4 : Nat) (Option.none : Option Jvm.ClassFile.FieldType)) ∈ lw_all := lw_g (lw_at lw_m4 22 rfl) rfl
theorem q858 : (Jvm.Cond.methodLinkNest "HadForVoice$Asks" (1 : Nat) ({ cls := "HadForVoice$Cond", name := "<init>", desc := "()V" } : Jvm.MethodName) "HadForVoice") ∈ lw_tbl := lw_at lw_m4 23 rfl
theorem q859 : (Jvm.Cond.fieldLink "HadForVoice$Asks" (7 : Nat) "HadForVoice$Asks" "first" "LHadForVoice$Value;") ∈ lw_all := lw_g (lw_at lw_m4 24 rfl) rfl
theorem q860 : (Jvm.Cond.fieldLink "HadForVoice$Asks" (17 : Nat) "HadForVoice$Asks" "second" "LHadForVoice$Value;") ∈ lw_all := lw_g (lw_at lw_m4 25 rfl) rfl
theorem q861 : (Jvm.Cond.fieldLink "HadForVoice$Asks" (13 : Nat) "HadForVoice$Asks" "sign" "I") ∈ lw_all := lw_g (lw_at lw_m4 26 rfl) rfl
theorem q862 : (Jvm.Cond.laysFinal "HadForVoice$Asks" "HadForVoice$Asks" "first" "LHadForVoice$Value;") ∈ lw_all := lw_g (lw_at lw_m4 27 rfl) rfl
theorem q863 : (Jvm.Cond.soleField "HadForVoice$Asks" "first") ∈ lw_all := lw_g (lw_at lw_m4 28 rfl) rfl
theorem q864 : (Jvm.Cond.laysFinal "HadForVoice$Asks" "HadForVoice$Asks" "second" "LHadForVoice$Value;") ∈ lw_all := lw_g (lw_at lw_m4 29 rfl) rfl
theorem q865 : (Jvm.Cond.soleField "HadForVoice$Asks" "second") ∈ lw_all := lw_g (lw_at lw_m4 30 rfl) rfl
theorem q866 : (Jvm.Cond.laysFinal "HadForVoice$Asks" "HadForVoice$Asks" "sign" "I") ∈ lw_all := lw_g (lw_at lw_m4 31 rfl) rfl
theorem q867 : (Jvm.Cond.soleField "HadForVoice$Asks" "sign") ∈ lw_all := lw_g (lw_at lw_m4 32 rfl) rfl
theorem q868 : (Jvm.Cond.superclass "HadForVoice$Asks" "HadForVoice$Cond") ∈ lw_all := lw_g (lw_at lw_m4 33 rfl) rfl
theorem in_X16 : ∀ w ∈ wsX160, w ∈ lw_all := lw_in wsX160 [862, 864, 866] (by decide +kernel) (by decide +kernel)
/-! HadForVoice$All -/
set_option maxRecDepth 100000
def RX17 : String := "HadForVoice$All"
def TX17 : u_T := fun k => match k with
  | 0 => ("HadForVoice$All", "first", "LHadForVoice$Cond;", true)
  | _ => ("HadForVoice$All", "second", "LHadForVoice$Cond;", true)
def tyX17 : Nat → FieldType := fun k => match k with
  | 0 => .object "HadForVoice$Cond"
  | _ => .object "HadForVoice$Cond"
abbrev wsX170 : List Cond := u_ws RX17 TX17 2
theorem nmX17 : ∀ a, a < 2 → ∀ b, b < 2 → a ≠ b → (TX17 a).2.1 ≠ (TX17 b).2.1 := by decide +kernel
theorem tyX17_ok : ∀ k, k < 2 → parseFieldDescriptor (TX17 k).2.2.1 = some (tyX17 k) := by decide +kernel
abbrev cX17_holds : ByteArray := prog_2_method_2_code
def yX17_holds : MethodName := ⟨RX17, "holds", "([I)Z"⟩
def dkwX17_holds_1 : List UInt8 := [167, 0, 4, 3, 172]
abbrev dktX17_holds_1 : List UInt8 := dkwX17_holds_1 ++ []
def dkwX17_holds_0 : List UInt8 := [42, 180, 0, 7, 43, 182, 0, 16, 153, 0, 18, 42, 180, 0, 13, 43, 182, 0, 16, 153, 0, 7, 4]
abbrev dktX17_holds_0 : List UInt8 := dkwX17_holds_0 ++ dktX17_holds_1
theorem dksX17_holds_0 : cX17_holds.data.toList.drop 0 = dktX17_holds_0 := by decide +kernel
theorem dksX17_holds_1 : cX17_holds.data.toList.drop 23 = dktX17_holds_1 := dk_seg dksX17_holds_0 23 rfl rfl
theorem dX17_holds_0 : decode cX17_holds 0 = .ok (.aload_n 0, 1) := dk_42 (dk_at dksX17_holds_0 0 rfl rfl)
theorem dX17_holds_1 : decode cX17_holds 1 = .ok (.getfield 7, 3) := dk_180 0 7 (dk_at dksX17_holds_0 1 rfl rfl)
theorem dX17_holds_4 : decode cX17_holds 4 = .ok (.aload_n 1, 1) := dk_43 (dk_at dksX17_holds_0 4 rfl rfl)
theorem dX17_holds_5 : decode cX17_holds 5 = .ok (.invokevirtual 16, 3) := dk_182 0 16 (dk_at dksX17_holds_0 5 rfl rfl)
theorem dX17_holds_8 : decode cX17_holds 8 = .ok (.ifCond .eq 18, 3) := dk_153 0 18 (dk_at dksX17_holds_0 8 rfl rfl)
theorem dX17_holds_11 : decode cX17_holds 11 = .ok (.aload_n 0, 1) := dk_42 (dk_at dksX17_holds_0 11 rfl rfl)
theorem dX17_holds_12 : decode cX17_holds 12 = .ok (.getfield 13, 3) := dk_180 0 13 (dk_at dksX17_holds_0 12 rfl rfl)
theorem dX17_holds_15 : decode cX17_holds 15 = .ok (.aload_n 1, 1) := dk_43 (dk_at dksX17_holds_0 15 rfl rfl)
theorem dX17_holds_16 : decode cX17_holds 16 = .ok (.invokevirtual 16, 3) := dk_182 0 16 (dk_at dksX17_holds_0 16 rfl rfl)
theorem dX17_holds_19 : decode cX17_holds 19 = .ok (.ifCond .eq 7, 3) := dk_153 0 7 (dk_at dksX17_holds_0 19 rfl rfl)
theorem dX17_holds_22 : decode cX17_holds 22 = .ok (.iconst 1, 1) := dk_4 (dk_at dksX17_holds_0 22 rfl rfl)
theorem dX17_holds_23 : decode cX17_holds 23 = .ok (.goto 4, 3) := dk_167 0 4 (dk_at dksX17_holds_1 0 rfl rfl)
theorem dX17_holds_26 : decode cX17_holds 26 = .ok (.iconst 0, 1) := dk_3 (dk_at dksX17_holds_1 3 rfl rfl)
theorem dX17_holds_27 : decode cX17_holds 27 = .ok (.ireturn, 1) := dk_172 (dk_at dksX17_holds_1 4 rfl rfl)
abbrev cX17_init : ByteArray := prog_2_method_1_code
def yX17_init : MethodName := ⟨RX17, "<init>", "(LHadForVoice$Cond;LHadForVoice$Cond;)V"⟩
def dkwX17_init_0 : List UInt8 := [42, 183, 0, 1, 42, 43, 181, 0, 7, 42, 44, 181, 0, 13, 177]
abbrev dktX17_init_0 : List UInt8 := dkwX17_init_0 ++ []
theorem dksX17_init_0 : cX17_init.data.toList.drop 0 = dktX17_init_0 := by decide +kernel
theorem dX17_init_0 : decode cX17_init 0 = .ok (.aload_n 0, 1) := dk_42 (dk_at dksX17_init_0 0 rfl rfl)
theorem dX17_init_1 : decode cX17_init 1 = .ok (.invokespecial 1, 3) := dk_183 0 1 (dk_at dksX17_init_0 1 rfl rfl)
theorem dX17_init_4 : decode cX17_init 4 = .ok (.aload_n 0, 1) := dk_42 (dk_at dksX17_init_0 4 rfl rfl)
theorem dX17_init_5 : decode cX17_init 5 = .ok (.aload_n 1, 1) := dk_43 (dk_at dksX17_init_0 5 rfl rfl)
theorem dX17_init_6 : decode cX17_init 6 = .ok (.putfield 7, 3) := dk_181 0 7 (dk_at dksX17_init_0 6 rfl rfl)
theorem dX17_init_9 : decode cX17_init 9 = .ok (.aload_n 0, 1) := dk_42 (dk_at dksX17_init_0 9 rfl rfl)
theorem dX17_init_10 : decode cX17_init 10 = .ok (.aload_n 2, 1) := dk_44 (dk_at dksX17_init_0 10 rfl rfl)
theorem dX17_init_11 : decode cX17_init 11 = .ok (.putfield 13, 3) := dk_181 0 13 (dk_at dksX17_init_0 11 rfl rfl)
theorem dX17_init_14 : decode cX17_init 14 = .ok (.return_, 1) := dk_177 (dk_at dksX17_init_0 14 rfl rfl)
theorem q142 : (Jvm.Cond.initialized "HadForVoice$All") ∈ lw_all := lw_g (lw_at lw_m1 27 rfl) rfl
theorem q610 : (Jvm.Cond.selects "HadForVoice$All" ({ cls := "HadForVoice$Cond", name := "holds", desc := "([I)Z" } : Jvm.MethodName) ({ cls := "HadForVoice$All", name := "holds", desc := "([I)Z" } : Jvm.MethodName)) ∈ lw_all := lw_g (lw_at lw_m3 15 rfl) rfl
theorem q611 : (Jvm.Cond.instanceMethod ({ cls := "HadForVoice$All", name := "holds", desc := "([I)Z" } : Jvm.MethodName)) ∈ lw_all := lw_g (lw_at lw_m3 16 rfl) rfl
theorem q612 : (Jvm.Cond.code ({ cls := "HadForVoice$All", name := "holds", desc := "([I)Z" } : Jvm.MethodName) prog_2_method_2_code (2 : Nat) (Option.some Jvm.ClassFile.FieldType.boolean)) ∈ lw_all := lw_g (lw_at lw_m3 17 rfl) rfl
theorem q613 : (Jvm.Cond.methodLink "HadForVoice$All" (16 : Nat) ({ cls := "HadForVoice$Cond", name := "holds", desc := "([I)Z" } : Jvm.MethodName)) ∈ lw_all := lw_g (lw_at lw_m3 18 rfl) rfl
theorem q871 : (Jvm.Cond.instantiable "HadForVoice$All" (2 : Nat)) ∈ lw_all := lw_g (lw_at lw_m4 36 rfl) rfl
theorem q873 : (Jvm.Cond.instanceMethod ({ cls := "HadForVoice$All", name := "<init>", desc := "(LHadForVoice$Cond;LHadForVoice$Cond;)V" } : Jvm.MethodName)) ∈ lw_all := lw_g (lw_at lw_m4 38 rfl) rfl
theorem q874 : (Jvm.Cond.code ({ cls := "HadForVoice$All", name := "<init>", desc := "(LHadForVoice$Cond;LHadForVoice$Cond;)V" } : Jvm.MethodName) prog_2_method_1_code (3 : Nat) (Option.none : Option Jvm.ClassFile.FieldType)) ∈ lw_all := lw_g (lw_at lw_m4 39 rfl) rfl
theorem q875 : (Jvm.Cond.methodLinkNest "HadForVoice$All" (1 : Nat) ({ cls := "HadForVoice$Cond", name := "<init>", desc := "()V" } : Jvm.MethodName) "HadForVoice") ∈ lw_tbl := lw_at lw_m4 40 rfl
theorem q876 : (Jvm.Cond.fieldLink "HadForVoice$All" (7 : Nat) "HadForVoice$All" "first" "LHadForVoice$Cond;") ∈ lw_all := lw_g (lw_at lw_m4 41 rfl) rfl
theorem q879 : (Jvm.Cond.fieldLink "HadForVoice$All" (13 : Nat) "HadForVoice$All" "second" "LHadForVoice$Cond;") ∈ lw_all := lw_g (lw_at lw_m4 44 rfl) rfl
theorem q882 : (Jvm.Cond.laysFinal "HadForVoice$All" "HadForVoice$All" "first" "LHadForVoice$Cond;") ∈ lw_all := lw_g (lw_at lw_m4 47 rfl) rfl
theorem q883 : (Jvm.Cond.soleField "HadForVoice$All" "first") ∈ lw_all := lw_g (lw_at lw_m4 48 rfl) rfl
theorem q884 : (Jvm.Cond.laysFinal "HadForVoice$All" "HadForVoice$All" "second" "LHadForVoice$Cond;") ∈ lw_all := lw_g (lw_at lw_m4 49 rfl) rfl
theorem q885 : (Jvm.Cond.soleField "HadForVoice$All" "second") ∈ lw_all := lw_g (lw_at lw_m4 50 rfl) rfl
theorem q886 : (Jvm.Cond.superclass "HadForVoice$All" "HadForVoice$Cond") ∈ lw_all := lw_g (lw_at lw_m4 51 rfl) rfl
theorem in_X17 : ∀ w ∈ wsX170, w ∈ lw_all := lw_in wsX170 [882, 884] (by decide +kernel) (by decide +kernel)
/-! HadForVoice$Some -/
set_option maxRecDepth 100000
def RX18 : String := "HadForVoice$Some"
def TX18 : u_T := fun k => match k with
  | 0 => ("HadForVoice$All", "first", "LHadForVoice$Cond;", true)
  | _ => ("HadForVoice$All", "second", "LHadForVoice$Cond;", true)
def tyX18 : Nat → FieldType := fun k => match k with
  | 0 => .object "HadForVoice$Cond"
  | _ => .object "HadForVoice$Cond"
abbrev wsX180 : List Cond := u_ws RX18 TX18 2
theorem nmX18 : ∀ a, a < 2 → ∀ b, b < 2 → a ≠ b → (TX18 a).2.1 ≠ (TX18 b).2.1 := by decide +kernel
theorem tyX18_ok : ∀ k, k < 2 → parseFieldDescriptor (TX18 k).2.2.1 = some (tyX18 k) := by decide +kernel
abbrev cX18_holds : ByteArray := prog_18_method_2_code
def yX18_holds : MethodName := ⟨RX18, "holds", "([I)Z"⟩
def dkwX18_holds_1 : List UInt8 := [167, 0, 4, 3, 172]
abbrev dktX18_holds_1 : List UInt8 := dkwX18_holds_1 ++ []
def dkwX18_holds_0 : List UInt8 := [42, 180, 0, 7, 43, 182, 0, 13, 154, 0, 14, 42, 180, 0, 19, 43, 182, 0, 13, 153, 0, 7, 4]
abbrev dktX18_holds_0 : List UInt8 := dkwX18_holds_0 ++ dktX18_holds_1
theorem dksX18_holds_0 : cX18_holds.data.toList.drop 0 = dktX18_holds_0 := by decide +kernel
theorem dksX18_holds_1 : cX18_holds.data.toList.drop 23 = dktX18_holds_1 := dk_seg dksX18_holds_0 23 rfl rfl
theorem dX18_holds_0 : decode cX18_holds 0 = .ok (.aload_n 0, 1) := dk_42 (dk_at dksX18_holds_0 0 rfl rfl)
theorem dX18_holds_1 : decode cX18_holds 1 = .ok (.getfield 7, 3) := dk_180 0 7 (dk_at dksX18_holds_0 1 rfl rfl)
theorem dX18_holds_4 : decode cX18_holds 4 = .ok (.aload_n 1, 1) := dk_43 (dk_at dksX18_holds_0 4 rfl rfl)
theorem dX18_holds_5 : decode cX18_holds 5 = .ok (.invokevirtual 13, 3) := dk_182 0 13 (dk_at dksX18_holds_0 5 rfl rfl)
theorem dX18_holds_8 : decode cX18_holds 8 = .ok (.ifCond .ne 14, 3) := dk_154 0 14 (dk_at dksX18_holds_0 8 rfl rfl)
theorem dX18_holds_11 : decode cX18_holds 11 = .ok (.aload_n 0, 1) := dk_42 (dk_at dksX18_holds_0 11 rfl rfl)
theorem dX18_holds_12 : decode cX18_holds 12 = .ok (.getfield 19, 3) := dk_180 0 19 (dk_at dksX18_holds_0 12 rfl rfl)
theorem dX18_holds_15 : decode cX18_holds 15 = .ok (.aload_n 1, 1) := dk_43 (dk_at dksX18_holds_0 15 rfl rfl)
theorem dX18_holds_16 : decode cX18_holds 16 = .ok (.invokevirtual 13, 3) := dk_182 0 13 (dk_at dksX18_holds_0 16 rfl rfl)
theorem dX18_holds_19 : decode cX18_holds 19 = .ok (.ifCond .eq 7, 3) := dk_153 0 7 (dk_at dksX18_holds_0 19 rfl rfl)
theorem dX18_holds_22 : decode cX18_holds 22 = .ok (.iconst 1, 1) := dk_4 (dk_at dksX18_holds_0 22 rfl rfl)
theorem dX18_holds_23 : decode cX18_holds 23 = .ok (.goto 4, 3) := dk_167 0 4 (dk_at dksX18_holds_1 0 rfl rfl)
theorem dX18_holds_26 : decode cX18_holds 26 = .ok (.iconst 0, 1) := dk_3 (dk_at dksX18_holds_1 3 rfl rfl)
theorem dX18_holds_27 : decode cX18_holds 27 = .ok (.ireturn, 1) := dk_172 (dk_at dksX18_holds_1 4 rfl rfl)
abbrev cX18_init : ByteArray := prog_18_method_1_code
def yX18_init : MethodName := ⟨RX18, "<init>", "(LHadForVoice$Cond;LHadForVoice$Cond;)V"⟩
def dkwX18_init_0 : List UInt8 := [42, 43, 44, 183, 0, 1, 177]
abbrev dktX18_init_0 : List UInt8 := dkwX18_init_0 ++ []
theorem dksX18_init_0 : cX18_init.data.toList.drop 0 = dktX18_init_0 := by decide +kernel
theorem dX18_init_0 : decode cX18_init 0 = .ok (.aload_n 0, 1) := dk_42 (dk_at dksX18_init_0 0 rfl rfl)
theorem dX18_init_1 : decode cX18_init 1 = .ok (.aload_n 1, 1) := dk_43 (dk_at dksX18_init_0 1 rfl rfl)
theorem dX18_init_2 : decode cX18_init 2 = .ok (.aload_n 2, 1) := dk_44 (dk_at dksX18_init_0 2 rfl rfl)
theorem dX18_init_3 : decode cX18_init 3 = .ok (.invokespecial 1, 3) := dk_183 0 1 (dk_at dksX18_init_0 3 rfl rfl)
theorem dX18_init_6 : decode cX18_init 6 = .ok (.return_, 1) := dk_177 (dk_at dksX18_init_0 6 rfl rfl)
theorem q143 : (Jvm.Cond.initialized "HadForVoice$Some") ∈ lw_all := lw_g (lw_at lw_m1 28 rfl) rfl
theorem q623 : (Jvm.Cond.instanceMethod ({ cls := "HadForVoice$Some", name := "holds", desc := "([I)Z" } : Jvm.MethodName)) ∈ lw_all := lw_g (lw_at lw_m3 28 rfl) rfl
theorem q624 : (Jvm.Cond.code ({ cls := "HadForVoice$Some", name := "holds", desc := "([I)Z" } : Jvm.MethodName) prog_18_method_2_code (2 : Nat) (Option.some Jvm.ClassFile.FieldType.boolean)) ∈ lw_all := lw_g (lw_at lw_m3 29 rfl) rfl
theorem q625 : (Jvm.Cond.methodLink "HadForVoice$Some" (13 : Nat) ({ cls := "HadForVoice$Cond", name := "holds", desc := "([I)Z" } : Jvm.MethodName)) ∈ lw_all := lw_g (lw_at lw_m3 30 rfl) rfl
theorem q628 : (Jvm.Cond.selects "HadForVoice$Some" ({ cls := "HadForVoice$Cond", name := "holds", desc := "([I)Z" } : Jvm.MethodName) ({ cls := "HadForVoice$Some", name := "holds", desc := "([I)Z" } : Jvm.MethodName)) ∈ lw_all := lw_g (lw_at lw_m3 33 rfl) rfl
theorem q877 : (Jvm.Cond.fieldLink "HadForVoice$Some" (7 : Nat) "HadForVoice$Some" "first" "LHadForVoice$Cond;") ∈ lw_all := lw_g (lw_at lw_m4 42 rfl) rfl
theorem q878 : (Jvm.Cond.sameField "HadForVoice$Some" "HadForVoice$All" "first" "LHadForVoice$Cond;") ∈ lw_all := lw_g (lw_at lw_m4 43 rfl) rfl
theorem q880 : (Jvm.Cond.fieldLink "HadForVoice$Some" (19 : Nat) "HadForVoice$Some" "second" "LHadForVoice$Cond;") ∈ lw_all := lw_g (lw_at lw_m4 45 rfl) rfl
theorem q881 : (Jvm.Cond.sameField "HadForVoice$Some" "HadForVoice$All" "second" "LHadForVoice$Cond;") ∈ lw_all := lw_g (lw_at lw_m4 46 rfl) rfl
theorem q889 : (Jvm.Cond.instantiable "HadForVoice$Some" (2 : Nat)) ∈ lw_all := lw_g (lw_at lw_m4 54 rfl) rfl
theorem q891 : (Jvm.Cond.instanceMethod ({ cls := "HadForVoice$Some", name := "<init>", desc := "(LHadForVoice$Cond;LHadForVoice$Cond;)V" } : Jvm.MethodName)) ∈ lw_all := lw_g (lw_at lw_m4 56 rfl) rfl
theorem q892 : (Jvm.Cond.code ({ cls := "HadForVoice$Some", name := "<init>", desc := "(LHadForVoice$Cond;LHadForVoice$Cond;)V" } : Jvm.MethodName) prog_18_method_1_code (3 : Nat) (Option.none : Option Jvm.ClassFile.FieldType)) ∈ lw_all := lw_g (lw_at lw_m4 57 rfl) rfl
theorem q893 : (Jvm.Cond.methodLink "HadForVoice$Some" (1 : Nat) ({ cls := "HadForVoice$All", name := "<init>", desc := "(LHadForVoice$Cond;LHadForVoice$Cond;)V" } : Jvm.MethodName)) ∈ lw_all := lw_g (lw_at lw_m4 58 rfl) rfl
theorem q894 : (Jvm.Cond.laysFinal "HadForVoice$Some" "HadForVoice$All" "first" "LHadForVoice$Cond;") ∈ lw_all := lw_g (lw_at lw_m4 59 rfl) rfl
theorem q895 : (Jvm.Cond.laysFinal "HadForVoice$Some" "HadForVoice$All" "second" "LHadForVoice$Cond;") ∈ lw_all := lw_g (lw_at lw_m4 60 rfl) rfl
theorem q896 : (Jvm.Cond.superclass "HadForVoice$Some" "HadForVoice$All") ∈ lw_all := lw_g (lw_at lw_m4 61 rfl) rfl
theorem in_X18 : ∀ w ∈ wsX180, w ∈ lw_all := lw_in wsX180 [894, 895] (by decide +kernel) (by decide +kernel)
/-! HadForVoice$Rule -/
set_option maxRecDepth 100000
def RX19 : String := "HadForVoice$Rule"
def TX19 : u_T := fun k => match k with
  | 0 => ("HadForVoice$Rule", "kind", "I", true)
  | 1 => ("HadForVoice$Rule", "does", "I", true)
  | 2 => ("HadForVoice$Rule", "n", "I", true)
  | _ => ("HadForVoice$Rule", "cond", "LHadForVoice$Cond;", true)
def tyX19 : Nat → FieldType := fun k => match k with
  | 0 => .int
  | 1 => .int
  | 2 => .int
  | _ => .object "HadForVoice$Cond"
abbrev wsX190 : List Cond := u_ws RX19 TX19 4
theorem nmX19 : ∀ a, a < 4 → ∀ b, b < 4 → a ≠ b → (TX19 a).2.1 ≠ (TX19 b).2.1 := by decide +kernel
theorem tyX19_ok : ∀ k, k < 4 → parseFieldDescriptor (TX19 k).2.2.1 = some (tyX19 k) := by decide +kernel
abbrev cX19_isFor : ByteArray := prog_16_method_2_code
def yX19_isFor : MethodName := ⟨RX19, "isFor", "(I[I)Z"⟩
def dkwX19_isFor_1 : List UInt8 := [182, 0, 29, 153, 0, 7, 4, 167, 0, 4, 3, 172]
abbrev dktX19_isFor_1 : List UInt8 := dkwX19_isFor_1 ++ []
def dkwX19_isFor_0 : List UInt8 := [27, 42, 180, 0, 9, 184, 0, 25, 153, 0, 25, 42, 180, 0, 15, 198, 0, 14, 42, 180, 0, 15, 44]
abbrev dktX19_isFor_0 : List UInt8 := dkwX19_isFor_0 ++ dktX19_isFor_1
theorem dksX19_isFor_0 : cX19_isFor.data.toList.drop 0 = dktX19_isFor_0 := by decide +kernel
theorem dksX19_isFor_1 : cX19_isFor.data.toList.drop 23 = dktX19_isFor_1 := dk_seg dksX19_isFor_0 23 rfl rfl
theorem dX19_isFor_0 : decode cX19_isFor 0 = .ok (.iload_n 1, 1) := dk_27 (dk_at dksX19_isFor_0 0 rfl rfl)
theorem dX19_isFor_1 : decode cX19_isFor 1 = .ok (.aload_n 0, 1) := dk_42 (dk_at dksX19_isFor_0 1 rfl rfl)
theorem dX19_isFor_2 : decode cX19_isFor 2 = .ok (.getfield 9, 3) := dk_180 0 9 (dk_at dksX19_isFor_0 2 rfl rfl)
theorem dX19_isFor_5 : decode cX19_isFor 5 = .ok (.invokestatic 25, 3) := dk_184 0 25 (dk_at dksX19_isFor_0 5 rfl rfl)
theorem dX19_isFor_8 : decode cX19_isFor 8 = .ok (.ifCond .eq 25, 3) := dk_153 0 25 (dk_at dksX19_isFor_0 8 rfl rfl)
theorem dX19_isFor_11 : decode cX19_isFor 11 = .ok (.aload_n 0, 1) := dk_42 (dk_at dksX19_isFor_0 11 rfl rfl)
theorem dX19_isFor_12 : decode cX19_isFor 12 = .ok (.getfield 15, 3) := dk_180 0 15 (dk_at dksX19_isFor_0 12 rfl rfl)
theorem dX19_isFor_15 : decode cX19_isFor 15 = .ok (.ifnull 14, 3) := dk_198 0 14 (dk_at dksX19_isFor_0 15 rfl rfl)
theorem dX19_isFor_18 : decode cX19_isFor 18 = .ok (.aload_n 0, 1) := dk_42 (dk_at dksX19_isFor_0 18 rfl rfl)
theorem dX19_isFor_19 : decode cX19_isFor 19 = .ok (.getfield 15, 3) := dk_180 0 15 (dk_at dksX19_isFor_0 19 rfl rfl)
theorem dX19_isFor_22 : decode cX19_isFor 22 = .ok (.aload_n 2, 1) := dk_44 (dk_at dksX19_isFor_0 22 rfl rfl)
theorem dX19_isFor_23 : decode cX19_isFor 23 = .ok (.invokevirtual 29, 3) := dk_182 0 29 (dk_at dksX19_isFor_1 0 rfl rfl)
theorem dX19_isFor_26 : decode cX19_isFor 26 = .ok (.ifCond .eq 7, 3) := dk_153 0 7 (dk_at dksX19_isFor_1 3 rfl rfl)
theorem dX19_isFor_29 : decode cX19_isFor 29 = .ok (.iconst 1, 1) := dk_4 (dk_at dksX19_isFor_1 6 rfl rfl)
theorem dX19_isFor_30 : decode cX19_isFor 30 = .ok (.goto 4, 3) := dk_167 0 4 (dk_at dksX19_isFor_1 7 rfl rfl)
theorem dX19_isFor_33 : decode cX19_isFor 33 = .ok (.iconst 0, 1) := dk_3 (dk_at dksX19_isFor_1 10 rfl rfl)
theorem dX19_isFor_34 : decode cX19_isFor 34 = .ok (.ireturn, 1) := dk_172 (dk_at dksX19_isFor_1 11 rfl rfl)
abbrev cX19_changes : ByteArray := prog_16_method_3_code
def yX19_changes : MethodName := ⟨RX19, "changes", "(I)I"⟩
def dkwX19_changes_1 : List UInt8 := [3, 27, 42, 180, 0, 22, 100, 184, 0, 35, 167, 0, 4, 3, 172]
abbrev dktX19_changes_1 : List UInt8 := dkwX19_changes_1 ++ []
def dkwX19_changes_0 : List UInt8 := [42, 180, 0, 19, 154, 0, 12, 27, 42, 180, 0, 22, 96, 167, 0, 25, 42, 180, 0, 19, 4, 160, 0, 16]
abbrev dktX19_changes_0 : List UInt8 := dkwX19_changes_0 ++ dktX19_changes_1
theorem dksX19_changes_0 : cX19_changes.data.toList.drop 0 = dktX19_changes_0 := by decide +kernel
theorem dksX19_changes_1 : cX19_changes.data.toList.drop 24 = dktX19_changes_1 := dk_seg dksX19_changes_0 24 rfl rfl
theorem dX19_changes_0 : decode cX19_changes 0 = .ok (.aload_n 0, 1) := dk_42 (dk_at dksX19_changes_0 0 rfl rfl)
theorem dX19_changes_1 : decode cX19_changes 1 = .ok (.getfield 19, 3) := dk_180 0 19 (dk_at dksX19_changes_0 1 rfl rfl)
theorem dX19_changes_4 : decode cX19_changes 4 = .ok (.ifCond .ne 12, 3) := dk_154 0 12 (dk_at dksX19_changes_0 4 rfl rfl)
theorem dX19_changes_7 : decode cX19_changes 7 = .ok (.iload_n 1, 1) := dk_27 (dk_at dksX19_changes_0 7 rfl rfl)
theorem dX19_changes_8 : decode cX19_changes 8 = .ok (.aload_n 0, 1) := dk_42 (dk_at dksX19_changes_0 8 rfl rfl)
theorem dX19_changes_9 : decode cX19_changes 9 = .ok (.getfield 22, 3) := dk_180 0 22 (dk_at dksX19_changes_0 9 rfl rfl)
theorem dX19_changes_12 : decode cX19_changes 12 = .ok (.iadd, 1) := dk_96 (dk_at dksX19_changes_0 12 rfl rfl)
theorem dX19_changes_13 : decode cX19_changes 13 = .ok (.goto 25, 3) := dk_167 0 25 (dk_at dksX19_changes_0 13 rfl rfl)
theorem dX19_changes_16 : decode cX19_changes 16 = .ok (.aload_n 0, 1) := dk_42 (dk_at dksX19_changes_0 16 rfl rfl)
theorem dX19_changes_17 : decode cX19_changes 17 = .ok (.getfield 19, 3) := dk_180 0 19 (dk_at dksX19_changes_0 17 rfl rfl)
theorem dX19_changes_20 : decode cX19_changes 20 = .ok (.iconst 1, 1) := dk_4 (dk_at dksX19_changes_0 20 rfl rfl)
theorem dX19_changes_21 : decode cX19_changes 21 = .ok (.if_icmp .ne 16, 3) := dk_160 0 16 (dk_at dksX19_changes_0 21 rfl rfl)
theorem dX19_changes_24 : decode cX19_changes 24 = .ok (.iconst 0, 1) := dk_3 (dk_at dksX19_changes_1 0 rfl rfl)
theorem dX19_changes_25 : decode cX19_changes 25 = .ok (.iload_n 1, 1) := dk_27 (dk_at dksX19_changes_1 1 rfl rfl)
theorem dX19_changes_26 : decode cX19_changes 26 = .ok (.aload_n 0, 1) := dk_42 (dk_at dksX19_changes_1 2 rfl rfl)
theorem dX19_changes_27 : decode cX19_changes 27 = .ok (.getfield 22, 3) := dk_180 0 22 (dk_at dksX19_changes_1 3 rfl rfl)
theorem dX19_changes_30 : decode cX19_changes 30 = .ok (.isub, 1) := dk_100 (dk_at dksX19_changes_1 6 rfl rfl)
theorem dX19_changes_31 : decode cX19_changes 31 = .ok (.invokestatic 35, 3) := dk_184 0 35 (dk_at dksX19_changes_1 7 rfl rfl)
theorem dX19_changes_34 : decode cX19_changes 34 = .ok (.goto 4, 3) := dk_167 0 4 (dk_at dksX19_changes_1 10 rfl rfl)
theorem dX19_changes_37 : decode cX19_changes 37 = .ok (.iconst 0, 1) := dk_3 (dk_at dksX19_changes_1 13 rfl rfl)
theorem dX19_changes_38 : decode cX19_changes 38 = .ok (.ireturn, 1) := dk_172 (dk_at dksX19_changes_1 14 rfl rfl)
abbrev cX19_init : ByteArray := prog_16_method_1_code
def yX19_init : MethodName := ⟨RX19, "<init>", "(ILHadForVoice$Cond;II)V"⟩
def dkwX19_init_1 : List UInt8 := [181, 0, 22, 177]
abbrev dktX19_init_1 : List UInt8 := dkwX19_init_1 ++ []
def dkwX19_init_0 : List UInt8 := [42, 183, 0, 3, 42, 27, 181, 0, 9, 42, 44, 181, 0, 15, 42, 29, 181, 0, 19, 42, 21, 4]
abbrev dktX19_init_0 : List UInt8 := dkwX19_init_0 ++ dktX19_init_1
theorem dksX19_init_0 : cX19_init.data.toList.drop 0 = dktX19_init_0 := by decide +kernel
theorem dksX19_init_1 : cX19_init.data.toList.drop 22 = dktX19_init_1 := dk_seg dksX19_init_0 22 rfl rfl
theorem dX19_init_0 : decode cX19_init 0 = .ok (.aload_n 0, 1) := dk_42 (dk_at dksX19_init_0 0 rfl rfl)
theorem dX19_init_1 : decode cX19_init 1 = .ok (.invokespecial 3, 3) := dk_183 0 3 (dk_at dksX19_init_0 1 rfl rfl)
theorem dX19_init_4 : decode cX19_init 4 = .ok (.aload_n 0, 1) := dk_42 (dk_at dksX19_init_0 4 rfl rfl)
theorem dX19_init_5 : decode cX19_init 5 = .ok (.iload_n 1, 1) := dk_27 (dk_at dksX19_init_0 5 rfl rfl)
theorem dX19_init_6 : decode cX19_init 6 = .ok (.putfield 9, 3) := dk_181 0 9 (dk_at dksX19_init_0 6 rfl rfl)
theorem dX19_init_9 : decode cX19_init 9 = .ok (.aload_n 0, 1) := dk_42 (dk_at dksX19_init_0 9 rfl rfl)
theorem dX19_init_10 : decode cX19_init 10 = .ok (.aload_n 2, 1) := dk_44 (dk_at dksX19_init_0 10 rfl rfl)
theorem dX19_init_11 : decode cX19_init 11 = .ok (.putfield 15, 3) := dk_181 0 15 (dk_at dksX19_init_0 11 rfl rfl)
theorem dX19_init_14 : decode cX19_init 14 = .ok (.aload_n 0, 1) := dk_42 (dk_at dksX19_init_0 14 rfl rfl)
theorem dX19_init_15 : decode cX19_init 15 = .ok (.iload_n 3, 1) := dk_29 (dk_at dksX19_init_0 15 rfl rfl)
theorem dX19_init_16 : decode cX19_init 16 = .ok (.putfield 19, 3) := dk_181 0 19 (dk_at dksX19_init_0 16 rfl rfl)
theorem dX19_init_19 : decode cX19_init 19 = .ok (.aload_n 0, 1) := dk_42 (dk_at dksX19_init_0 19 rfl rfl)
theorem dX19_init_20 : decode cX19_init 20 = .ok (.iload 4, 2) := dk_21 4 (dk_at dksX19_init_0 20 rfl rfl)
theorem dX19_init_22 : decode cX19_init 22 = .ok (.putfield 22, 3) := dk_181 0 22 (dk_at dksX19_init_1 0 rfl rfl)
theorem dX19_init_25 : decode cX19_init 25 = .ok (.return_, 1) := dk_177 (dk_at dksX19_init_1 3 rfl rfl)
theorem q144 : (Jvm.Cond.initialized "HadForVoice$Rule") ∈ lw_all := lw_g (lw_at lw_m1 29 rfl) rfl
theorem q601 : (Jvm.Cond.instanceMethod ({ cls := "HadForVoice$Rule", name := "isFor", desc := "(I[I)Z" } : Jvm.MethodName)) ∈ lw_all := lw_g (lw_at lw_m3 6 rfl) rfl
theorem q602 : (Jvm.Cond.selects "HadForVoice$Rule" ({ cls := "HadForVoice$Rule", name := "isFor", desc := "(I[I)Z" } : Jvm.MethodName) ({ cls := "HadForVoice$Rule", name := "isFor", desc := "(I[I)Z" } : Jvm.MethodName)) ∈ lw_all := lw_g (lw_at lw_m3 7 rfl) rfl
theorem q603 : (Jvm.Cond.code ({ cls := "HadForVoice$Rule", name := "isFor", desc := "(I[I)Z" } : Jvm.MethodName) prog_16_method_2_code (3 : Nat) (Option.some Jvm.ClassFile.FieldType.boolean)) ∈ lw_all := lw_g (lw_at lw_m3 8 rfl) rfl
theorem q604 : (Jvm.Cond.methodLinkNest "HadForVoice$Rule" (25 : Nat) ({ cls := "HadForVoice", name := "isOf", desc := "(II)Z" } : Jvm.MethodName) "HadForVoice") ∈ lw_tbl := lw_at lw_m3 9 rfl
theorem q607 : (Jvm.Cond.methodLink "HadForVoice$Rule" (29 : Nat) ({ cls := "HadForVoice$Cond", name := "holds", desc := "([I)Z" } : Jvm.MethodName)) ∈ lw_all := lw_g (lw_at lw_m3 12 rfl) rfl
theorem q630 : (Jvm.Cond.instanceMethod ({ cls := "HadForVoice$Rule", name := "changes", desc := "(I)I" } : Jvm.MethodName)) ∈ lw_all := lw_g (lw_at lw_m3 35 rfl) rfl
theorem q631 : (Jvm.Cond.selects "HadForVoice$Rule" ({ cls := "HadForVoice$Rule", name := "changes", desc := "(I)I" } : Jvm.MethodName) ({ cls := "HadForVoice$Rule", name := "changes", desc := "(I)I" } : Jvm.MethodName)) ∈ lw_all := lw_g (lw_at lw_m3 36 rfl) rfl
theorem q632 : (Jvm.Cond.code ({ cls := "HadForVoice$Rule", name := "changes", desc := "(I)I" } : Jvm.MethodName) prog_16_method_3_code (2 : Nat) (Option.some Jvm.ClassFile.FieldType.int)) ∈ lw_all := lw_g (lw_at lw_m3 37 rfl) rfl
theorem q633 : (Jvm.Cond.methodLink "HadForVoice$Rule" (35 : Nat) ({ cls := "java/lang/Math", name := "max", desc := "(II)I" } : Jvm.MethodName)) ∈ lw_all := lw_g (lw_at lw_m3 38 rfl) rfl
theorem q902 : (Jvm.Cond.instantiable "HadForVoice$Rule" (4 : Nat)) ∈ lw_all := lw_g (lw_at lw_m4 67 rfl) rfl
theorem q904 : (Jvm.Cond.instanceMethod ({ cls := "HadForVoice$Rule", name := "<init>", desc := "(ILHadForVoice$Cond;II)V" } : Jvm.MethodName)) ∈ lw_all := lw_g (lw_at lw_m4 69 rfl) rfl
theorem q905 : (Jvm.Cond.code ({ cls := "HadForVoice$Rule", name := "<init>", desc := "(ILHadForVoice$Cond;II)V" } : Jvm.MethodName) prog_16_method_1_code (5 : Nat) (Option.none : Option Jvm.ClassFile.FieldType)) ∈ lw_all := lw_g (lw_at lw_m4 70 rfl) rfl
theorem q906 : (Jvm.Cond.methodLink "HadForVoice$Rule" (3 : Nat) ({ cls := "java/lang/Object", name := "<init>", desc := "()V" } : Jvm.MethodName)) ∈ lw_all := lw_g (lw_at lw_m4 71 rfl) rfl
theorem q907 : (Jvm.Cond.fieldLink "HadForVoice$Rule" (9 : Nat) "HadForVoice$Rule" "kind" "I") ∈ lw_all := lw_g (lw_at lw_m4 72 rfl) rfl
theorem q908 : (Jvm.Cond.fieldLink "HadForVoice$Rule" (19 : Nat) "HadForVoice$Rule" "does" "I") ∈ lw_all := lw_g (lw_at lw_m4 73 rfl) rfl
theorem q909 : (Jvm.Cond.fieldLink "HadForVoice$Rule" (22 : Nat) "HadForVoice$Rule" "n" "I") ∈ lw_all := lw_g (lw_at lw_m4 74 rfl) rfl
theorem q910 : (Jvm.Cond.fieldLink "HadForVoice$Rule" (15 : Nat) "HadForVoice$Rule" "cond" "LHadForVoice$Cond;") ∈ lw_all := lw_g (lw_at lw_m4 75 rfl) rfl
theorem q911 : (Jvm.Cond.laysFinal "HadForVoice$Rule" "HadForVoice$Rule" "kind" "I") ∈ lw_all := lw_g (lw_at lw_m4 76 rfl) rfl
theorem q912 : (Jvm.Cond.soleField "HadForVoice$Rule" "kind") ∈ lw_all := lw_g (lw_at lw_m4 77 rfl) rfl
theorem q913 : (Jvm.Cond.laysFinal "HadForVoice$Rule" "HadForVoice$Rule" "does" "I") ∈ lw_all := lw_g (lw_at lw_m4 78 rfl) rfl
theorem q914 : (Jvm.Cond.soleField "HadForVoice$Rule" "does") ∈ lw_all := lw_g (lw_at lw_m4 79 rfl) rfl
theorem q915 : (Jvm.Cond.laysFinal "HadForVoice$Rule" "HadForVoice$Rule" "n" "I") ∈ lw_all := lw_g (lw_at lw_m4 80 rfl) rfl
theorem q916 : (Jvm.Cond.soleField "HadForVoice$Rule" "n") ∈ lw_all := lw_g (lw_at lw_m4 81 rfl) rfl
theorem q917 : (Jvm.Cond.laysFinal "HadForVoice$Rule" "HadForVoice$Rule" "cond" "LHadForVoice$Cond;") ∈ lw_all := lw_g (lw_at lw_m4 82 rfl) rfl
theorem q918 : (Jvm.Cond.soleField "HadForVoice$Rule" "cond") ∈ lw_all := lw_g (lw_at lw_m4 83 rfl) rfl
theorem q919 : (Jvm.Cond.superclass "HadForVoice$Rule" "java/lang/Object") ∈ lw_all := lw_g (lw_at lw_m4 84 rfl) rfl
theorem in_X19 : ∀ w ∈ wsX190, w ∈ lw_all := lw_in wsX190 [911, 913, 915, 917] (by decide +kernel) (by decide +kernel)
/-! HadForVoice$Ticket -/
set_option maxRecDepth 100000
def RX20 : String := "HadForVoice$Ticket"
def TX20 : u_T := fun k => match k with
  | _ => ("HadForVoice$Ticket", "number", "I", true)
def tyX20 : Nat → FieldType := fun k => match k with
  | _ => .int
abbrev wsX200 : List Cond := u_ws RX20 TX20 1
theorem nmX20 : ∀ a, a < 1 → ∀ b, b < 1 → a ≠ b → (TX20 a).2.1 ≠ (TX20 b).2.1 := by decide +kernel
theorem tyX20_ok : ∀ k, k < 1 → parseFieldDescriptor (TX20 k).2.2.1 = some (tyX20 k) := by decide +kernel
abbrev cX20_init : ByteArray := prog_20_method_1_code
def yX20_init : MethodName := ⟨RX20, "<init>", "(I)V"⟩
def dkwX20_init_0 : List UInt8 := [42, 183, 0, 1, 42, 27, 181, 0, 7, 177]
abbrev dktX20_init_0 : List UInt8 := dkwX20_init_0 ++ []
theorem dksX20_init_0 : cX20_init.data.toList.drop 0 = dktX20_init_0 := by decide +kernel
theorem dX20_init_0 : decode cX20_init 0 = .ok (.aload_n 0, 1) := dk_42 (dk_at dksX20_init_0 0 rfl rfl)
theorem dX20_init_1 : decode cX20_init 1 = .ok (.invokespecial 1, 3) := dk_183 0 1 (dk_at dksX20_init_0 1 rfl rfl)
theorem dX20_init_4 : decode cX20_init 4 = .ok (.aload_n 0, 1) := dk_42 (dk_at dksX20_init_0 4 rfl rfl)
theorem dX20_init_5 : decode cX20_init 5 = .ok (.iload_n 1, 1) := dk_27 (dk_at dksX20_init_0 5 rfl rfl)
theorem dX20_init_6 : decode cX20_init 6 = .ok (.putfield 7, 3) := dk_181 0 7 (dk_at dksX20_init_0 6 rfl rfl)
theorem dX20_init_9 : decode cX20_init 9 = .ok (.return_, 1) := dk_177 (dk_at dksX20_init_0 9 rfl rfl)
theorem q149 : (Jvm.Cond.initialized "HadForVoice$Ticket") ∈ lw_all := lw_g (lw_at lw_m1 34 rfl) rfl
theorem q1285 : (Jvm.Cond.instantiable "HadForVoice$Ticket" (1 : Nat)) ∈ lw_all := lw_g (lw_at lw_m5 210 rfl) rfl
theorem q1287 : (Jvm.Cond.instanceMethod ({ cls := "HadForVoice$Ticket", name := "<init>", desc := "(I)V" } : Jvm.MethodName)) ∈ lw_all := lw_g (lw_at lw_m5 212 rfl) rfl
theorem q1288 : (Jvm.Cond.code ({ cls := "HadForVoice$Ticket", name := "<init>", desc := "(I)V" } : Jvm.MethodName) prog_20_method_1_code (2 : Nat) (Option.none : Option Jvm.ClassFile.FieldType)) ∈ lw_all := lw_g (lw_at lw_m5 213 rfl) rfl
theorem q1289 : (Jvm.Cond.methodLink "HadForVoice$Ticket" (1 : Nat) ({ cls := "java/lang/Object", name := "<init>", desc := "()V" } : Jvm.MethodName)) ∈ lw_all := lw_g (lw_at lw_m5 214 rfl) rfl
theorem q1290 : (Jvm.Cond.fieldLink "HadForVoice$Ticket" (7 : Nat) "HadForVoice$Ticket" "number" "I") ∈ lw_all := lw_g (lw_at lw_m5 215 rfl) rfl
theorem q1292 : (Jvm.Cond.laysFinal "HadForVoice$Ticket" "HadForVoice$Ticket" "number" "I") ∈ lw_all := lw_g (lw_at lw_m5 217 rfl) rfl
theorem q1293 : (Jvm.Cond.soleField "HadForVoice$Ticket" "number") ∈ lw_all := lw_g (lw_at lw_m5 218 rfl) rfl
theorem q1294 : (Jvm.Cond.superclass "HadForVoice$Ticket" "java/lang/Object") ∈ lw_all := lw_g (lw_at lw_m5 219 rfl) rfl
theorem in_X20 : ∀ w ∈ wsX200, w ∈ lw_all := lw_in wsX200 [1292] (by decide +kernel) (by decide +kernel)
/-! HadForVoice$Gives -/
set_option maxRecDepth 100000
def RX21 : String := "HadForVoice$Gives"
abbrev cX21_gives : ByteArray := prog_7_method_3_code
def yX21_gives : MethodName := ⟨RX21, "gives", "(ILHadForVoice$Trace;)I"⟩
def dkwX21_gives_0 : List UInt8 := [44, 16, 10, 182, 0, 1, 27, 42, 185, 0, 7, 1, 0, 96, 172]
abbrev dktX21_gives_0 : List UInt8 := dkwX21_gives_0 ++ []
theorem dksX21_gives_0 : cX21_gives.data.toList.drop 0 = dktX21_gives_0 := by decide +kernel
theorem dX21_gives_0 : decode cX21_gives 0 = .ok (.aload_n 2, 1) := dk_44 (dk_at dksX21_gives_0 0 rfl rfl)
theorem dX21_gives_1 : decode cX21_gives 1 = .ok (.bipush 10, 2) := dk_16 10 (dk_at dksX21_gives_0 1 rfl rfl)
theorem dX21_gives_3 : decode cX21_gives 3 = .ok (.invokevirtual 1, 3) := dk_182 0 1 (dk_at dksX21_gives_0 3 rfl rfl)
theorem dX21_gives_6 : decode cX21_gives 6 = .ok (.iload_n 1, 1) := dk_27 (dk_at dksX21_gives_0 6 rfl rfl)
theorem dX21_gives_7 : decode cX21_gives 7 = .ok (.aload_n 0, 1) := dk_42 (dk_at dksX21_gives_0 7 rfl rfl)
theorem dX21_gives_8 : decode cX21_gives 8 = .ok (.invokeinterface 7 1, 5) := by decide +kernel
theorem dX21_gives_13 : decode cX21_gives 13 = .ok (.iadd, 1) := dk_96 (dk_at dksX21_gives_0 13 rfl rfl)
theorem dX21_gives_14 : decode cX21_gives 14 = .ok (.ireturn, 1) := dk_172 (dk_at dksX21_gives_0 14 rfl rfl)
theorem q1338 : (Jvm.Cond.declares ({ cls := "HadForVoice$Gives", name := "gives", desc := "(ILHadForVoice$Trace;)I" } : Jvm.MethodName)) ∈ lw_tbl := lw_at lw_m6 23 rfl
theorem q1341 : (Jvm.Cond.instanceMethod ({ cls := "HadForVoice$Gives", name := "gives", desc := "(ILHadForVoice$Trace;)I" } : Jvm.MethodName)) ∈ lw_all := lw_g (lw_at lw_m6 26 rfl) rfl
theorem q1342 : (Jvm.Cond.publicMethod ({ cls := "HadForVoice$Gives", name := "gives", desc := "(ILHadForVoice$Trace;)I" } : Jvm.MethodName)) ∈ lw_tbl := lw_at lw_m6 27 rfl
theorem q1343 : (Jvm.Cond.code ({ cls := "HadForVoice$Gives", name := "gives", desc := "(ILHadForVoice$Trace;)I" } : Jvm.MethodName) prog_7_method_3_code (3 : Nat) (Option.some Jvm.ClassFile.FieldType.int)) ∈ lw_all := lw_g (lw_at lw_m6 28 rfl) rfl
theorem q1344 : (Jvm.Cond.methodLink "HadForVoice$Gives" (1 : Nat) ({ cls := "HadForVoice$Trace", name := "ran", desc := "(I)V" } : Jvm.MethodName)) ∈ lw_all := lw_g (lw_at lw_m6 29 rfl) rfl
theorem q1348 : (Jvm.Cond.interfaceEntry "HadForVoice$Gives" (7 : Nat)) ∈ lw_tbl := lw_at lw_m6 33 rfl
theorem q1349 : (Jvm.Cond.methodLink "HadForVoice$Gives" (7 : Nat) ({ cls := "HadForVoice$Gives", name := "needs", desc := "()I" } : Jvm.MethodName)) ∈ lw_all := lw_g (lw_at lw_m6 34 rfl) rfl
theorem q1350 : (Jvm.Cond.interfaceMethod "HadForVoice$Gives" "HadForVoice$Gives" "needs" "()I") ∈ lw_tbl := lw_at lw_m6 35 rfl
theorem q1351 : (Jvm.Cond.declares ({ cls := "HadForVoice$Gives", name := "needs", desc := "()I" } : Jvm.MethodName)) ∈ lw_tbl := lw_at lw_m6 36 rfl
theorem q1407 : (Jvm.Cond.declares ({ cls := "HadForVoice$Gives", name := "number", desc := "()I" } : Jvm.MethodName)) ∈ lw_tbl := lw_at lw_m6 92 rfl
/-! HadForVoice$Takes -/
set_option maxRecDepth 100000
def RX22 : String := "HadForVoice$Takes"
abbrev cX22_takes : ByteArray := prog_19_method_1_code
def yX22_takes : MethodName := ⟨RX22, "takes", "(ILHadForVoice$Trace;)I"⟩
def dkwX22_takes_0 : List UInt8 := [44, 16, 11, 182, 0, 1, 42, 27, 44, 185, 0, 7, 3, 0, 42, 185, 0, 13, 1, 0, 100, 172]
abbrev dktX22_takes_0 : List UInt8 := dkwX22_takes_0 ++ []
theorem dksX22_takes_0 : cX22_takes.data.toList.drop 0 = dktX22_takes_0 := by decide +kernel
theorem dX22_takes_0 : decode cX22_takes 0 = .ok (.aload_n 2, 1) := dk_44 (dk_at dksX22_takes_0 0 rfl rfl)
theorem dX22_takes_1 : decode cX22_takes 1 = .ok (.bipush 11, 2) := dk_16 11 (dk_at dksX22_takes_0 1 rfl rfl)
theorem dX22_takes_3 : decode cX22_takes 3 = .ok (.invokevirtual 1, 3) := dk_182 0 1 (dk_at dksX22_takes_0 3 rfl rfl)
theorem dX22_takes_6 : decode cX22_takes 6 = .ok (.aload_n 0, 1) := dk_42 (dk_at dksX22_takes_0 6 rfl rfl)
theorem dX22_takes_7 : decode cX22_takes 7 = .ok (.iload_n 1, 1) := dk_27 (dk_at dksX22_takes_0 7 rfl rfl)
theorem dX22_takes_8 : decode cX22_takes 8 = .ok (.aload_n 2, 1) := dk_44 (dk_at dksX22_takes_0 8 rfl rfl)
theorem dX22_takes_9 : decode cX22_takes 9 = .ok (.invokeinterface 7 3, 5) := by decide +kernel
theorem dX22_takes_14 : decode cX22_takes 14 = .ok (.aload_n 0, 1) := dk_42 (dk_at dksX22_takes_0 14 rfl rfl)
theorem dX22_takes_15 : decode cX22_takes 15 = .ok (.invokeinterface 13 1, 5) := by decide +kernel
theorem dX22_takes_20 : decode cX22_takes 20 = .ok (.isub, 1) := dk_100 (dk_at dksX22_takes_0 20 rfl rfl)
theorem dX22_takes_21 : decode cX22_takes 21 = .ok (.ireturn, 1) := dk_172 (dk_at dksX22_takes_0 21 rfl rfl)
theorem q1390 : (Jvm.Cond.declares ({ cls := "HadForVoice$Takes", name := "takes", desc := "(ILHadForVoice$Trace;)I" } : Jvm.MethodName)) ∈ lw_tbl := lw_at lw_m6 75 rfl
theorem q1397 : (Jvm.Cond.instanceMethod ({ cls := "HadForVoice$Takes", name := "takes", desc := "(ILHadForVoice$Trace;)I" } : Jvm.MethodName)) ∈ lw_all := lw_g (lw_at lw_m6 82 rfl) rfl
theorem q1398 : (Jvm.Cond.code ({ cls := "HadForVoice$Takes", name := "takes", desc := "(ILHadForVoice$Trace;)I" } : Jvm.MethodName) prog_19_method_1_code (3 : Nat) (Option.some Jvm.ClassFile.FieldType.int)) ∈ lw_all := lw_g (lw_at lw_m6 83 rfl) rfl
theorem q1399 : (Jvm.Cond.methodLink "HadForVoice$Takes" (1 : Nat) ({ cls := "HadForVoice$Trace", name := "ran", desc := "(I)V" } : Jvm.MethodName)) ∈ lw_all := lw_g (lw_at lw_m6 84 rfl) rfl
theorem q1400 : (Jvm.Cond.interfaceEntry "HadForVoice$Takes" (7 : Nat)) ∈ lw_tbl := lw_at lw_m6 85 rfl
theorem q1406 : (Jvm.Cond.interfaceEntry "HadForVoice$Takes" (13 : Nat)) ∈ lw_tbl := lw_at lw_m6 91 rfl
theorem q1420 : (Jvm.Cond.publicMethod ({ cls := "HadForVoice$Takes", name := "takes", desc := "(ILHadForVoice$Trace;)I" } : Jvm.MethodName)) ∈ lw_tbl := lw_at lw_m6 105 rfl
/-! HadForVoice$Halves -/
set_option maxRecDepth 100000
def RX23 : String := "HadForVoice$Halves"
abbrev cX23_halves : ByteArray := prog_8_method_1_code
def yX23_halves : MethodName := ⟨RX23, "halves", "(ILHadForVoice$Trace;)I"⟩
def dkwX23_halves_0 : List UInt8 := [44, 16, 12, 182, 0, 1, 27, 42, 185, 0, 7, 1, 0, 42, 185, 0, 13, 1, 0, 100, 108, 172]
abbrev dktX23_halves_0 : List UInt8 := dkwX23_halves_0 ++ []
theorem dksX23_halves_0 : cX23_halves.data.toList.drop 0 = dktX23_halves_0 := by decide +kernel
theorem dX23_halves_0 : decode cX23_halves 0 = .ok (.aload_n 2, 1) := dk_44 (dk_at dksX23_halves_0 0 rfl rfl)
theorem dX23_halves_1 : decode cX23_halves 1 = .ok (.bipush 12, 2) := dk_16 12 (dk_at dksX23_halves_0 1 rfl rfl)
theorem dX23_halves_3 : decode cX23_halves 3 = .ok (.invokevirtual 1, 3) := dk_182 0 1 (dk_at dksX23_halves_0 3 rfl rfl)
theorem dX23_halves_6 : decode cX23_halves 6 = .ok (.iload_n 1, 1) := dk_27 (dk_at dksX23_halves_0 6 rfl rfl)
theorem dX23_halves_7 : decode cX23_halves 7 = .ok (.aload_n 0, 1) := dk_42 (dk_at dksX23_halves_0 7 rfl rfl)
theorem dX23_halves_8 : decode cX23_halves 8 = .ok (.invokeinterface 7 1, 5) := by decide +kernel
theorem dX23_halves_13 : decode cX23_halves 13 = .ok (.aload_n 0, 1) := dk_42 (dk_at dksX23_halves_0 13 rfl rfl)
theorem dX23_halves_14 : decode cX23_halves 14 = .ok (.invokeinterface 13 1, 5) := by decide +kernel
theorem dX23_halves_19 : decode cX23_halves 19 = .ok (.isub, 1) := dk_100 (dk_at dksX23_halves_0 19 rfl rfl)
theorem dX23_halves_20 : decode cX23_halves 20 = .ok (.idiv, 1) := dk_108 (dk_at dksX23_halves_0 20 rfl rfl)
theorem dX23_halves_21 : decode cX23_halves 21 = .ok (.ireturn, 1) := dk_172 (dk_at dksX23_halves_0 21 rfl rfl)
theorem q1436 : (Jvm.Cond.declares ({ cls := "HadForVoice$Halves", name := "halves", desc := "(ILHadForVoice$Trace;)I" } : Jvm.MethodName)) ∈ lw_tbl := lw_at lw_m6 121 rfl
theorem q1446 : (Jvm.Cond.instanceMethod ({ cls := "HadForVoice$Halves", name := "halves", desc := "(ILHadForVoice$Trace;)I" } : Jvm.MethodName)) ∈ lw_all := lw_g (lw_at lw_m6 131 rfl) rfl
theorem q1447 : (Jvm.Cond.code ({ cls := "HadForVoice$Halves", name := "halves", desc := "(ILHadForVoice$Trace;)I" } : Jvm.MethodName) prog_8_method_1_code (3 : Nat) (Option.some Jvm.ClassFile.FieldType.int)) ∈ lw_all := lw_g (lw_at lw_m6 132 rfl) rfl
theorem q1448 : (Jvm.Cond.methodLink "HadForVoice$Halves" (1 : Nat) ({ cls := "HadForVoice$Trace", name := "ran", desc := "(I)V" } : Jvm.MethodName)) ∈ lw_all := lw_g (lw_at lw_m6 133 rfl) rfl
theorem q1449 : (Jvm.Cond.interfaceEntry "HadForVoice$Halves" (7 : Nat)) ∈ lw_tbl := lw_at lw_m6 134 rfl
theorem q1455 : (Jvm.Cond.interfaceEntry "HadForVoice$Halves" (13 : Nat)) ∈ lw_tbl := lw_at lw_m6 140 rfl
theorem q1460 : (Jvm.Cond.publicMethod ({ cls := "HadForVoice$Halves", name := "halves", desc := "(ILHadForVoice$Trace;)I" } : Jvm.MethodName)) ∈ lw_tbl := lw_at lw_m6 145 rfl
/-! HadForVoice$Owes -/
set_option maxRecDepth 100000
def RX24 : String := "HadForVoice$Owes"
abbrev cX24_owes : ByteArray := prog_12_method_1_code
def yX24_owes : MethodName := ⟨RX24, "owes", "(ILHadForVoice$Trace;)I"⟩
def dkwX24_owes_0 : List UInt8 := [44, 16, 13, 182, 0, 1, 42, 27, 44, 185, 0, 7, 3, 0, 42, 185, 0, 13, 1, 0, 130, 172]
abbrev dktX24_owes_0 : List UInt8 := dkwX24_owes_0 ++ []
theorem dksX24_owes_0 : cX24_owes.data.toList.drop 0 = dktX24_owes_0 := by decide +kernel
theorem dX24_owes_0 : decode cX24_owes 0 = .ok (.aload_n 2, 1) := dk_44 (dk_at dksX24_owes_0 0 rfl rfl)
theorem dX24_owes_1 : decode cX24_owes 1 = .ok (.bipush 13, 2) := dk_16 13 (dk_at dksX24_owes_0 1 rfl rfl)
theorem dX24_owes_3 : decode cX24_owes 3 = .ok (.invokevirtual 1, 3) := dk_182 0 1 (dk_at dksX24_owes_0 3 rfl rfl)
theorem dX24_owes_6 : decode cX24_owes 6 = .ok (.aload_n 0, 1) := dk_42 (dk_at dksX24_owes_0 6 rfl rfl)
theorem dX24_owes_7 : decode cX24_owes 7 = .ok (.iload_n 1, 1) := dk_27 (dk_at dksX24_owes_0 7 rfl rfl)
theorem dX24_owes_8 : decode cX24_owes 8 = .ok (.aload_n 2, 1) := dk_44 (dk_at dksX24_owes_0 8 rfl rfl)
theorem dX24_owes_9 : decode cX24_owes 9 = .ok (.invokeinterface 7 3, 5) := by decide +kernel
theorem dX24_owes_14 : decode cX24_owes 14 = .ok (.aload_n 0, 1) := dk_42 (dk_at dksX24_owes_0 14 rfl rfl)
theorem dX24_owes_15 : decode cX24_owes 15 = .ok (.invokeinterface 13 1, 5) := by decide +kernel
theorem dX24_owes_20 : decode cX24_owes 20 = .ok (.ixor, 1) := dk_130 (dk_at dksX24_owes_0 20 rfl rfl)
theorem dX24_owes_21 : decode cX24_owes 21 = .ok (.ireturn, 1) := dk_172 (dk_at dksX24_owes_0 21 rfl rfl)
theorem q1468 : (Jvm.Cond.interfaceMethod "HadForVoice$Owes" "HadForVoice$Owes" "owes" "(ILHadForVoice$Trace;)I") ∈ lw_tbl := lw_at lw_m6 153 rfl
theorem q1469 : (Jvm.Cond.declares ({ cls := "HadForVoice$Owes", name := "owes", desc := "(ILHadForVoice$Trace;)I" } : Jvm.MethodName)) ∈ lw_tbl := lw_at lw_m6 154 rfl
theorem q1471 : (Jvm.Cond.instanceMethod ({ cls := "HadForVoice$Owes", name := "owes", desc := "(ILHadForVoice$Trace;)I" } : Jvm.MethodName)) ∈ lw_all := lw_g (lw_at lw_m6 156 rfl) rfl
theorem q1472 : (Jvm.Cond.publicMethod ({ cls := "HadForVoice$Owes", name := "owes", desc := "(ILHadForVoice$Trace;)I" } : Jvm.MethodName)) ∈ lw_tbl := lw_at lw_m6 157 rfl
theorem q1473 : (Jvm.Cond.code ({ cls := "HadForVoice$Owes", name := "owes", desc := "(ILHadForVoice$Trace;)I" } : Jvm.MethodName) prog_12_method_1_code (3 : Nat) (Option.some Jvm.ClassFile.FieldType.int)) ∈ lw_all := lw_g (lw_at lw_m6 158 rfl) rfl
theorem q1474 : (Jvm.Cond.methodLink "HadForVoice$Owes" (1 : Nat) ({ cls := "HadForVoice$Trace", name := "ran", desc := "(I)V" } : Jvm.MethodName)) ∈ lw_all := lw_g (lw_at lw_m6 159 rfl) rfl
theorem q1475 : (Jvm.Cond.interfaceEntry "HadForVoice$Owes" (7 : Nat)) ∈ lw_tbl := lw_at lw_m6 160 rfl
theorem q1476 : (Jvm.Cond.interfaceEntry "HadForVoice$Owes" (13 : Nat)) ∈ lw_tbl := lw_at lw_m6 161 rfl
/-! java/lang/Throwable -/
set_option maxRecDepth 100000
def RJ0 : String := "java/lang/Throwable"
def TJ0 : u_T := fun k => match k with
  | 0 => ("java/lang/Throwable", "cause", "Ljava/lang/Throwable;", false)
  | 1 => ("java/lang/Throwable", "stackTrace", "[Ljava/lang/StackTraceElement;", false)
  | 2 => ("java/lang/Throwable", "suppressedExceptions", "Ljava/util/List;", false)
  | 3 => ("java/lang/Throwable", "detailMessage", "Ljava/lang/String;", false)
  | _ => ("java/lang/Throwable", "backtrace", "Ljava/lang/Object;", false)
def tyJ0 : Nat → FieldType := fun k => match k with
  | 0 => .object "java/lang/Throwable"
  | 1 => .array (.object "java/lang/StackTraceElement")
  | 2 => .object "java/util/List"
  | 3 => .object "java/lang/String"
  | _ => .object "java/lang/Object"
abbrev wsJ00 : List Cond := u_ws RJ0 TJ0 5
theorem nmJ0 : ∀ a, a < 5 → ∀ b, b < 5 → a ≠ b → (TJ0 a).2.1 ≠ (TJ0 b).2.1 := by decide +kernel
theorem tyJ0_ok : ∀ k, k < 5 → parseFieldDescriptor (TJ0 k).2.2.1 = some (tyJ0 k) := by decide +kernel
abbrev cJ0_init : ByteArray := prog_39_method_1_code
def yJ0_init : MethodName := ⟨RJ0, "<init>", "()V"⟩
def dkwJ0_init_1 : List UInt8 := [182, 0, 27, 87, 177]
abbrev dktJ0_init_1 : List UInt8 := dkwJ0_init_1 ++ []
def dkwJ0_init_0 : List UInt8 := [42, 183, 0, 1, 42, 42, 181, 0, 7, 42, 178, 0, 13, 181, 0, 17, 42, 178, 0, 20, 181, 0, 24, 42]
abbrev dktJ0_init_0 : List UInt8 := dkwJ0_init_0 ++ dktJ0_init_1
theorem dksJ0_init_0 : cJ0_init.data.toList.drop 0 = dktJ0_init_0 := by decide +kernel
theorem dksJ0_init_1 : cJ0_init.data.toList.drop 24 = dktJ0_init_1 := dk_seg dksJ0_init_0 24 rfl rfl
theorem dJ0_init_0 : decode cJ0_init 0 = .ok (.aload_n 0, 1) := dk_42 (dk_at dksJ0_init_0 0 rfl rfl)
theorem dJ0_init_1 : decode cJ0_init 1 = .ok (.invokespecial 1, 3) := dk_183 0 1 (dk_at dksJ0_init_0 1 rfl rfl)
theorem dJ0_init_4 : decode cJ0_init 4 = .ok (.aload_n 0, 1) := dk_42 (dk_at dksJ0_init_0 4 rfl rfl)
theorem dJ0_init_5 : decode cJ0_init 5 = .ok (.aload_n 0, 1) := dk_42 (dk_at dksJ0_init_0 5 rfl rfl)
theorem dJ0_init_6 : decode cJ0_init 6 = .ok (.putfield 7, 3) := dk_181 0 7 (dk_at dksJ0_init_0 6 rfl rfl)
theorem dJ0_init_9 : decode cJ0_init 9 = .ok (.aload_n 0, 1) := dk_42 (dk_at dksJ0_init_0 9 rfl rfl)
theorem dJ0_init_10 : decode cJ0_init 10 = .ok (.getstatic 13, 3) := dk_178 0 13 (dk_at dksJ0_init_0 10 rfl rfl)
theorem dJ0_init_13 : decode cJ0_init 13 = .ok (.putfield 17, 3) := dk_181 0 17 (dk_at dksJ0_init_0 13 rfl rfl)
theorem dJ0_init_16 : decode cJ0_init 16 = .ok (.aload_n 0, 1) := dk_42 (dk_at dksJ0_init_0 16 rfl rfl)
theorem dJ0_init_17 : decode cJ0_init 17 = .ok (.getstatic 20, 3) := dk_178 0 20 (dk_at dksJ0_init_0 17 rfl rfl)
theorem dJ0_init_20 : decode cJ0_init 20 = .ok (.putfield 24, 3) := dk_181 0 24 (dk_at dksJ0_init_0 20 rfl rfl)
theorem dJ0_init_23 : decode cJ0_init 23 = .ok (.aload_n 0, 1) := dk_42 (dk_at dksJ0_init_0 23 rfl rfl)
theorem dJ0_init_24 : decode cJ0_init 24 = .ok (.invokevirtual 27, 3) := dk_182 0 27 (dk_at dksJ0_init_1 0 rfl rfl)
theorem dJ0_init_27 : decode cJ0_init 27 = .ok (.pop, 1) := dk_87 (dk_at dksJ0_init_1 3 rfl rfl)
theorem dJ0_init_28 : decode cJ0_init 28 = .ok (.return_, 1) := dk_177 (dk_at dksJ0_init_1 4 rfl rfl)
abbrev cJ0_init_2 : ByteArray := prog_39_method_5_code
def yJ0_init_2 : MethodName := ⟨RJ0, "<init>", "(Ljava/lang/String;Ljava/lang/Throwable;ZZ)V"⟩
def dkwJ0_init_2_2 : List UInt8 := [44, 181, 0, 7, 29, 154, 0, 8, 42, 1, 181, 0, 24, 177]
abbrev dktJ0_init_2_2 : List UInt8 := dkwJ0_init_2_2 ++ []
def dkwJ0_init_2_1 : List UInt8 := [21, 4, 153, 0, 11, 42, 182, 0, 27, 87, 167, 0, 8, 42, 1, 181, 0, 17, 42, 43, 181, 0, 31, 42]
abbrev dktJ0_init_2_1 : List UInt8 := dkwJ0_init_2_1 ++ dktJ0_init_2_2
def dkwJ0_init_2_0 : List UInt8 := [42, 183, 0, 1, 42, 42, 181, 0, 7, 42, 178, 0, 13, 181, 0, 17, 42, 178, 0, 20, 181, 0, 24]
abbrev dktJ0_init_2_0 : List UInt8 := dkwJ0_init_2_0 ++ dktJ0_init_2_1
theorem dksJ0_init_2_0 : cJ0_init_2.data.toList.drop 0 = dktJ0_init_2_0 := by decide +kernel
theorem dksJ0_init_2_1 : cJ0_init_2.data.toList.drop 23 = dktJ0_init_2_1 := dk_seg dksJ0_init_2_0 23 rfl rfl
theorem dksJ0_init_2_2 : cJ0_init_2.data.toList.drop 47 = dktJ0_init_2_2 := dk_seg dksJ0_init_2_1 24 rfl rfl
theorem dJ0_init_2_0 : decode cJ0_init_2 0 = .ok (.aload_n 0, 1) := dk_42 (dk_at dksJ0_init_2_0 0 rfl rfl)
theorem dJ0_init_2_1 : decode cJ0_init_2 1 = .ok (.invokespecial 1, 3) := dk_183 0 1 (dk_at dksJ0_init_2_0 1 rfl rfl)
theorem dJ0_init_2_4 : decode cJ0_init_2 4 = .ok (.aload_n 0, 1) := dk_42 (dk_at dksJ0_init_2_0 4 rfl rfl)
theorem dJ0_init_2_5 : decode cJ0_init_2 5 = .ok (.aload_n 0, 1) := dk_42 (dk_at dksJ0_init_2_0 5 rfl rfl)
theorem dJ0_init_2_6 : decode cJ0_init_2 6 = .ok (.putfield 7, 3) := dk_181 0 7 (dk_at dksJ0_init_2_0 6 rfl rfl)
theorem dJ0_init_2_9 : decode cJ0_init_2 9 = .ok (.aload_n 0, 1) := dk_42 (dk_at dksJ0_init_2_0 9 rfl rfl)
theorem dJ0_init_2_10 : decode cJ0_init_2 10 = .ok (.getstatic 13, 3) := dk_178 0 13 (dk_at dksJ0_init_2_0 10 rfl rfl)
theorem dJ0_init_2_13 : decode cJ0_init_2 13 = .ok (.putfield 17, 3) := dk_181 0 17 (dk_at dksJ0_init_2_0 13 rfl rfl)
theorem dJ0_init_2_16 : decode cJ0_init_2 16 = .ok (.aload_n 0, 1) := dk_42 (dk_at dksJ0_init_2_0 16 rfl rfl)
theorem dJ0_init_2_17 : decode cJ0_init_2 17 = .ok (.getstatic 20, 3) := dk_178 0 20 (dk_at dksJ0_init_2_0 17 rfl rfl)
theorem dJ0_init_2_20 : decode cJ0_init_2 20 = .ok (.putfield 24, 3) := dk_181 0 24 (dk_at dksJ0_init_2_0 20 rfl rfl)
theorem dJ0_init_2_23 : decode cJ0_init_2 23 = .ok (.iload 4, 2) := dk_21 4 (dk_at dksJ0_init_2_1 0 rfl rfl)
theorem dJ0_init_2_25 : decode cJ0_init_2 25 = .ok (.ifCond .eq 11, 3) := dk_153 0 11 (dk_at dksJ0_init_2_1 2 rfl rfl)
theorem dJ0_init_2_28 : decode cJ0_init_2 28 = .ok (.aload_n 0, 1) := dk_42 (dk_at dksJ0_init_2_1 5 rfl rfl)
theorem dJ0_init_2_29 : decode cJ0_init_2 29 = .ok (.invokevirtual 27, 3) := dk_182 0 27 (dk_at dksJ0_init_2_1 6 rfl rfl)
theorem dJ0_init_2_32 : decode cJ0_init_2 32 = .ok (.pop, 1) := dk_87 (dk_at dksJ0_init_2_1 9 rfl rfl)
theorem dJ0_init_2_33 : decode cJ0_init_2 33 = .ok (.goto 8, 3) := dk_167 0 8 (dk_at dksJ0_init_2_1 10 rfl rfl)
theorem dJ0_init_2_36 : decode cJ0_init_2 36 = .ok (.aload_n 0, 1) := dk_42 (dk_at dksJ0_init_2_1 13 rfl rfl)
theorem dJ0_init_2_37 : decode cJ0_init_2 37 = .ok (.aconst_null, 1) := dk_1 (dk_at dksJ0_init_2_1 14 rfl rfl)
theorem dJ0_init_2_38 : decode cJ0_init_2 38 = .ok (.putfield 17, 3) := dk_181 0 17 (dk_at dksJ0_init_2_1 15 rfl rfl)
theorem dJ0_init_2_41 : decode cJ0_init_2 41 = .ok (.aload_n 0, 1) := dk_42 (dk_at dksJ0_init_2_1 18 rfl rfl)
theorem dJ0_init_2_42 : decode cJ0_init_2 42 = .ok (.aload_n 1, 1) := dk_43 (dk_at dksJ0_init_2_1 19 rfl rfl)
theorem dJ0_init_2_43 : decode cJ0_init_2 43 = .ok (.putfield 31, 3) := dk_181 0 31 (dk_at dksJ0_init_2_1 20 rfl rfl)
theorem dJ0_init_2_46 : decode cJ0_init_2 46 = .ok (.aload_n 0, 1) := dk_42 (dk_at dksJ0_init_2_1 23 rfl rfl)
theorem dJ0_init_2_47 : decode cJ0_init_2 47 = .ok (.aload_n 2, 1) := dk_44 (dk_at dksJ0_init_2_2 0 rfl rfl)
theorem dJ0_init_2_48 : decode cJ0_init_2 48 = .ok (.putfield 7, 3) := dk_181 0 7 (dk_at dksJ0_init_2_2 1 rfl rfl)
theorem dJ0_init_2_51 : decode cJ0_init_2 51 = .ok (.iload_n 3, 1) := dk_29 (dk_at dksJ0_init_2_2 4 rfl rfl)
theorem dJ0_init_2_52 : decode cJ0_init_2 52 = .ok (.ifCond .ne 8, 3) := dk_154 0 8 (dk_at dksJ0_init_2_2 5 rfl rfl)
theorem dJ0_init_2_55 : decode cJ0_init_2 55 = .ok (.aload_n 0, 1) := dk_42 (dk_at dksJ0_init_2_2 8 rfl rfl)
theorem dJ0_init_2_56 : decode cJ0_init_2 56 = .ok (.aconst_null, 1) := dk_1 (dk_at dksJ0_init_2_2 9 rfl rfl)
theorem dJ0_init_2_57 : decode cJ0_init_2 57 = .ok (.putfield 24, 3) := dk_181 0 24 (dk_at dksJ0_init_2_2 10 rfl rfl)
theorem dJ0_init_2_60 : decode cJ0_init_2 60 = .ok (.return_, 1) := dk_177 (dk_at dksJ0_init_2_2 13 rfl rfl)
abbrev cJ0_init_3 : ByteArray := prog_39_method_2_code
def yJ0_init_3 : MethodName := ⟨RJ0, "<init>", "(Ljava/lang/String;)V"⟩
def dkwJ0_init_3_1 : List UInt8 := [182, 0, 27, 87, 42, 43, 181, 0, 31, 177]
abbrev dktJ0_init_3_1 : List UInt8 := dkwJ0_init_3_1 ++ []
def dkwJ0_init_3_0 : List UInt8 := [42, 183, 0, 1, 42, 42, 181, 0, 7, 42, 178, 0, 13, 181, 0, 17, 42, 178, 0, 20, 181, 0, 24, 42]
abbrev dktJ0_init_3_0 : List UInt8 := dkwJ0_init_3_0 ++ dktJ0_init_3_1
theorem dksJ0_init_3_0 : cJ0_init_3.data.toList.drop 0 = dktJ0_init_3_0 := by decide +kernel
theorem dksJ0_init_3_1 : cJ0_init_3.data.toList.drop 24 = dktJ0_init_3_1 := dk_seg dksJ0_init_3_0 24 rfl rfl
theorem dJ0_init_3_0 : decode cJ0_init_3 0 = .ok (.aload_n 0, 1) := dk_42 (dk_at dksJ0_init_3_0 0 rfl rfl)
theorem dJ0_init_3_1 : decode cJ0_init_3 1 = .ok (.invokespecial 1, 3) := dk_183 0 1 (dk_at dksJ0_init_3_0 1 rfl rfl)
theorem dJ0_init_3_4 : decode cJ0_init_3 4 = .ok (.aload_n 0, 1) := dk_42 (dk_at dksJ0_init_3_0 4 rfl rfl)
theorem dJ0_init_3_5 : decode cJ0_init_3 5 = .ok (.aload_n 0, 1) := dk_42 (dk_at dksJ0_init_3_0 5 rfl rfl)
theorem dJ0_init_3_6 : decode cJ0_init_3 6 = .ok (.putfield 7, 3) := dk_181 0 7 (dk_at dksJ0_init_3_0 6 rfl rfl)
theorem dJ0_init_3_9 : decode cJ0_init_3 9 = .ok (.aload_n 0, 1) := dk_42 (dk_at dksJ0_init_3_0 9 rfl rfl)
theorem dJ0_init_3_10 : decode cJ0_init_3 10 = .ok (.getstatic 13, 3) := dk_178 0 13 (dk_at dksJ0_init_3_0 10 rfl rfl)
theorem dJ0_init_3_13 : decode cJ0_init_3 13 = .ok (.putfield 17, 3) := dk_181 0 17 (dk_at dksJ0_init_3_0 13 rfl rfl)
theorem dJ0_init_3_16 : decode cJ0_init_3 16 = .ok (.aload_n 0, 1) := dk_42 (dk_at dksJ0_init_3_0 16 rfl rfl)
theorem dJ0_init_3_17 : decode cJ0_init_3 17 = .ok (.getstatic 20, 3) := dk_178 0 20 (dk_at dksJ0_init_3_0 17 rfl rfl)
theorem dJ0_init_3_20 : decode cJ0_init_3 20 = .ok (.putfield 24, 3) := dk_181 0 24 (dk_at dksJ0_init_3_0 20 rfl rfl)
theorem dJ0_init_3_23 : decode cJ0_init_3 23 = .ok (.aload_n 0, 1) := dk_42 (dk_at dksJ0_init_3_0 23 rfl rfl)
theorem dJ0_init_3_24 : decode cJ0_init_3 24 = .ok (.invokevirtual 27, 3) := dk_182 0 27 (dk_at dksJ0_init_3_1 0 rfl rfl)
theorem dJ0_init_3_27 : decode cJ0_init_3 27 = .ok (.pop, 1) := dk_87 (dk_at dksJ0_init_3_1 3 rfl rfl)
theorem dJ0_init_3_28 : decode cJ0_init_3 28 = .ok (.aload_n 0, 1) := dk_42 (dk_at dksJ0_init_3_1 4 rfl rfl)
theorem dJ0_init_3_29 : decode cJ0_init_3 29 = .ok (.aload_n 1, 1) := dk_43 (dk_at dksJ0_init_3_1 5 rfl rfl)
theorem dJ0_init_3_30 : decode cJ0_init_3 30 = .ok (.putfield 31, 3) := dk_181 0 31 (dk_at dksJ0_init_3_1 6 rfl rfl)
theorem dJ0_init_3_33 : decode cJ0_init_3 33 = .ok (.return_, 1) := dk_177 (dk_at dksJ0_init_3_1 9 rfl rfl)
theorem q117 : (Jvm.Cond.initialized "java/lang/Throwable") ∈ lw_all := lw_g (lw_at lw_m1 2 rfl) rfl
theorem q166 : (Jvm.Cond.declares ({ cls := "java/lang/Throwable", name := "<init>", desc := "()V" } : Jvm.MethodName)) ∈ lw_tbl := lw_at lw_m1 51 rfl
theorem q167 : (Jvm.Cond.declares ({ cls := "java/lang/Throwable", name := "<init>", desc := "(Ljava/lang/String;)V" } : Jvm.MethodName)) ∈ lw_tbl := lw_at lw_m1 52 rfl
theorem q171 : (Jvm.Cond.lays "java/lang/Throwable" "java/lang/Throwable" "cause" "Ljava/lang/Throwable;") ∈ lw_all := lw_g (lw_at lw_m1 56 rfl) rfl
theorem q173 : (Jvm.Cond.lays "java/lang/Throwable" "java/lang/Throwable" "stackTrace" "[Ljava/lang/StackTraceElement;") ∈ lw_all := lw_g (lw_at lw_m1 58 rfl) rfl
theorem q175 : (Jvm.Cond.lays "java/lang/Throwable" "java/lang/Throwable" "suppressedExceptions" "Ljava/util/List;") ∈ lw_all := lw_g (lw_at lw_m1 60 rfl) rfl
theorem q177 : (Jvm.Cond.lays "java/lang/Throwable" "java/lang/Throwable" "detailMessage" "Ljava/lang/String;") ∈ lw_all := lw_g (lw_at lw_m1 62 rfl) rfl
theorem q179 : (Jvm.Cond.lays "java/lang/Throwable" "java/lang/Throwable" "backtrace" "Ljava/lang/Object;") ∈ lw_all := lw_g (lw_at lw_m1 64 rfl) rfl
theorem q180 : (Jvm.Cond.fieldLink "java/lang/Throwable" (198 : Nat) "java/lang/Throwable" "backtrace" "Ljava/lang/Object;") ∈ lw_all := lw_g (lw_at lw_m1 65 rfl) rfl
theorem q181 : (Jvm.Cond.superclass "java/lang/Throwable" "java/lang/Object") ∈ lw_all := lw_g (lw_at lw_m1 66 rfl) rfl
theorem q182 : (Jvm.Cond.instanceMethod ({ cls := "java/lang/Throwable", name := "<init>", desc := "()V" } : Jvm.MethodName)) ∈ lw_all := lw_g (lw_at lw_m1 67 rfl) rfl
theorem q183 : (Jvm.Cond.code ({ cls := "java/lang/Throwable", name := "<init>", desc := "()V" } : Jvm.MethodName) prog_39_method_1_code (1 : Nat) (Option.none : Option Jvm.ClassFile.FieldType)) ∈ lw_all := lw_g (lw_at lw_m1 68 rfl) rfl
theorem q184 : (Jvm.Cond.methodLink "java/lang/Throwable" (1 : Nat) ({ cls := "java/lang/Object", name := "<init>", desc := "()V" } : Jvm.MethodName)) ∈ lw_all := lw_g (lw_at lw_m1 69 rfl) rfl
theorem q185 : (Jvm.Cond.fieldLink "java/lang/Throwable" (13 : Nat) "java/lang/Throwable" "UNASSIGNED_STACK" "[Ljava/lang/StackTraceElement;") ∈ lw_all := lw_g (lw_at lw_m1 70 rfl) rfl
theorem q186 : (Jvm.Cond.laysStatic "java/lang/Throwable" "UNASSIGNED_STACK" "[Ljava/lang/StackTraceElement;") ∈ lw_tbl := lw_at lw_m1 71 rfl
theorem q187 : (Jvm.Cond.fieldLink "java/lang/Throwable" (20 : Nat) "java/lang/Throwable" "SUPPRESSED_SENTINEL" "Ljava/util/List;") ∈ lw_all := lw_g (lw_at lw_m1 72 rfl) rfl
theorem q188 : (Jvm.Cond.laysStatic "java/lang/Throwable" "SUPPRESSED_SENTINEL" "Ljava/util/List;") ∈ lw_tbl := lw_at lw_m1 73 rfl
theorem q189 : (Jvm.Cond.methodLink "java/lang/Throwable" (27 : Nat) ({ cls := "java/lang/Throwable", name := "fillInStackTrace", desc := "()Ljava/lang/Throwable;" } : Jvm.MethodName)) ∈ lw_all := lw_g (lw_at lw_m1 74 rfl) rfl
theorem q190 : (Jvm.Cond.instanceMethod ({ cls := "java/lang/Throwable", name := "fillInStackTrace", desc := "()Ljava/lang/Throwable;" } : Jvm.MethodName)) ∈ lw_all := lw_g (lw_at lw_m1 75 rfl) rfl
theorem q191 : (Jvm.Cond.sameMethod "java/lang/Throwable" "java/lang/Throwable" "fillInStackTrace" "()Ljava/lang/Throwable;") ∈ lw_all := lw_g (lw_at lw_m1 76 rfl) rfl
theorem q206 : (Jvm.Cond.declares ({ cls := "java/lang/Throwable", name := "fillInStackTrace", desc := "()Ljava/lang/Throwable;" } : Jvm.MethodName)) ∈ lw_tbl := lw_at lw_m1 91 rfl
theorem q210 : (Jvm.Cond.codeSync ({ cls := "java/lang/Throwable", name := "fillInStackTrace", desc := "()Ljava/lang/Throwable;" } : Jvm.MethodName) prog_39_method_18_code (1 : Nat) (Option.some (Jvm.ClassFile.FieldType.object "java/lang/Throwable"))) ∈ lw_all := lw_g (lw_at lw_m1 95 rfl) rfl
theorem q211 : (Jvm.Cond.methodLink "java/lang/Throwable" (202 : Nat) ({ cls := "java/lang/Throwable", name := "fillInStackTrace", desc := "(I)Ljava/lang/Throwable;" } : Jvm.MethodName)) ∈ lw_all := lw_g (lw_at lw_m1 96 rfl) rfl
theorem q212 : (Jvm.Cond.privateMethod ({ cls := "java/lang/Throwable", name := "fillInStackTrace", desc := "(I)Ljava/lang/Throwable;" } : Jvm.MethodName)) ∈ lw_tbl := lw_at lw_m1 97 rfl
theorem q213 : (Jvm.Cond.instanceMethod ({ cls := "java/lang/Throwable", name := "fillInStackTrace", desc := "(I)Ljava/lang/Throwable;" } : Jvm.MethodName)) ∈ lw_all := lw_g (lw_at lw_m1 98 rfl) rfl
theorem q214 : (Jvm.Cond.instantiable "java/lang/Throwable" (6 : Nat)) ∈ lw_all := lw_g (lw_at lw_m1 99 rfl) rfl
theorem q215 : (Jvm.Cond.native ({ cls := "java/lang/Throwable", name := "fillInStackTrace", desc := "(I)Ljava/lang/Throwable;" } : Jvm.MethodName)) ∈ lw_all := lw_g (lw_at lw_m1 100 rfl) rfl
theorem q226 : (Jvm.Cond.instanceMethod ({ cls := "java/lang/Throwable", name := "<init>", desc := "(Ljava/lang/String;Ljava/lang/Throwable;ZZ)V" } : Jvm.MethodName)) ∈ lw_all := lw_g (lw_at lw_m1 111 rfl) rfl
theorem q227 : (Jvm.Cond.code ({ cls := "java/lang/Throwable", name := "<init>", desc := "(Ljava/lang/String;Ljava/lang/Throwable;ZZ)V" } : Jvm.MethodName) prog_39_method_5_code (5 : Nat) (Option.none : Option Jvm.ClassFile.FieldType)) ∈ lw_all := lw_g (lw_at lw_m1 112 rfl) rfl
theorem q232 : (Jvm.Cond.fieldLink "java/lang/Throwable" (198 : Nat) "java/lang/Throwable" "backtrace" "Ljava/lang/Object;") ∈ lw_all := lw_g (lw_at lw_m1 117 rfl) rfl
theorem q233 : (Jvm.Cond.fieldLink "java/lang/Throwable" (31 : Nat) "java/lang/Throwable" "detailMessage" "Ljava/lang/String;") ∈ lw_all := lw_g (lw_at lw_m1 118 rfl) rfl
theorem q234 : (Jvm.Cond.fieldLink "java/lang/Throwable" (7 : Nat) "java/lang/Throwable" "cause" "Ljava/lang/Throwable;") ∈ lw_all := lw_g (lw_at lw_m1 119 rfl) rfl
theorem q235 : (Jvm.Cond.fieldLink "java/lang/Throwable" (17 : Nat) "java/lang/Throwable" "stackTrace" "[Ljava/lang/StackTraceElement;") ∈ lw_all := lw_g (lw_at lw_m1 120 rfl) rfl
theorem q236 : (Jvm.Cond.fieldLink "java/lang/Throwable" (24 : Nat) "java/lang/Throwable" "suppressedExceptions" "Ljava/util/List;") ∈ lw_all := lw_g (lw_at lw_m1 121 rfl) rfl
theorem q239 : (Jvm.Cond.soleField "java/lang/Throwable" "backtrace") ∈ lw_all := lw_g (lw_at lw_m1 124 rfl) rfl
theorem q240 : (Jvm.Cond.soleField "java/lang/Throwable" "detailMessage") ∈ lw_all := lw_g (lw_at lw_m1 125 rfl) rfl
theorem q241 : (Jvm.Cond.soleField "java/lang/Throwable" "cause") ∈ lw_all := lw_g (lw_at lw_m1 126 rfl) rfl
theorem q242 : (Jvm.Cond.soleField "java/lang/Throwable" "stackTrace") ∈ lw_all := lw_g (lw_at lw_m1 127 rfl) rfl
theorem q244 : (Jvm.Cond.soleField "java/lang/Throwable" "depth") ∈ lw_all := lw_g (lw_at lw_m1 129 rfl) rfl
theorem q245 : (Jvm.Cond.soleField "java/lang/Throwable" "suppressedExceptions") ∈ lw_all := lw_g (lw_at lw_m1 130 rfl) rfl
theorem q1177 : (Jvm.Cond.instanceMethod ({ cls := "java/lang/Throwable", name := "<init>", desc := "(Ljava/lang/String;)V" } : Jvm.MethodName)) ∈ lw_all := lw_g (lw_at lw_m5 102 rfl) rfl
theorem q1178 : (Jvm.Cond.code ({ cls := "java/lang/Throwable", name := "<init>", desc := "(Ljava/lang/String;)V" } : Jvm.MethodName) prog_39_method_2_code (2 : Nat) (Option.none : Option Jvm.ClassFile.FieldType)) ∈ lw_all := lw_g (lw_at lw_m5 103 rfl) rfl
theorem q2209 : (Jvm.Cond.sameMethod "java/lang/Throwable" "java/lang/Throwable" "fillInStackTrace" "(I)Ljava/lang/Throwable;") ∈ lw_all := lw_g (lw_at lw_m9 174 rfl) rfl
theorem in_J0 : ∀ w ∈ wsJ00, w ∈ lw_all := lw_in wsJ00 [171, 173, 175, 177, 179] (by decide +kernel) (by decide +kernel)
/-! java/lang/Exception -/
set_option maxRecDepth 100000
def RJ1 : String := "java/lang/Exception"
abbrev cJ1_init : ByteArray := prog_29_method_5_code
def yJ1_init : MethodName := ⟨RJ1, "<init>", "(Ljava/lang/String;Ljava/lang/Throwable;ZZ)V"⟩
def dkwJ1_init_0 : List UInt8 := [42, 43, 44, 29, 21, 4, 183, 0, 16, 177]
abbrev dktJ1_init_0 : List UInt8 := dkwJ1_init_0 ++ []
theorem dksJ1_init_0 : cJ1_init.data.toList.drop 0 = dktJ1_init_0 := by decide +kernel
theorem dJ1_init_0 : decode cJ1_init 0 = .ok (.aload_n 0, 1) := dk_42 (dk_at dksJ1_init_0 0 rfl rfl)
theorem dJ1_init_1 : decode cJ1_init 1 = .ok (.aload_n 1, 1) := dk_43 (dk_at dksJ1_init_0 1 rfl rfl)
theorem dJ1_init_2 : decode cJ1_init 2 = .ok (.aload_n 2, 1) := dk_44 (dk_at dksJ1_init_0 2 rfl rfl)
theorem dJ1_init_3 : decode cJ1_init 3 = .ok (.iload_n 3, 1) := dk_29 (dk_at dksJ1_init_0 3 rfl rfl)
theorem dJ1_init_4 : decode cJ1_init 4 = .ok (.iload 4, 2) := dk_21 4 (dk_at dksJ1_init_0 4 rfl rfl)
theorem dJ1_init_6 : decode cJ1_init 6 = .ok (.invokespecial 16, 3) := dk_183 0 16 (dk_at dksJ1_init_0 6 rfl rfl)
theorem dJ1_init_9 : decode cJ1_init 9 = .ok (.return_, 1) := dk_177 (dk_at dksJ1_init_0 9 rfl rfl)
abbrev cJ1_init_2 : ByteArray := prog_29_method_2_code
def yJ1_init_2 : MethodName := ⟨RJ1, "<init>", "(Ljava/lang/String;)V"⟩
def dkwJ1_init_2_0 : List UInt8 := [42, 43, 183, 0, 7, 177]
abbrev dktJ1_init_2_0 : List UInt8 := dkwJ1_init_2_0 ++ []
theorem dksJ1_init_2_0 : cJ1_init_2.data.toList.drop 0 = dktJ1_init_2_0 := by decide +kernel
theorem dJ1_init_2_0 : decode cJ1_init_2 0 = .ok (.aload_n 0, 1) := dk_42 (dk_at dksJ1_init_2_0 0 rfl rfl)
theorem dJ1_init_2_1 : decode cJ1_init_2 1 = .ok (.aload_n 1, 1) := dk_43 (dk_at dksJ1_init_2_0 1 rfl rfl)
theorem dJ1_init_2_2 : decode cJ1_init_2 2 = .ok (.invokespecial 7, 3) := dk_183 0 7 (dk_at dksJ1_init_2_0 2 rfl rfl)
theorem dJ1_init_2_5 : decode cJ1_init_2 5 = .ok (.return_, 1) := dk_177 (dk_at dksJ1_init_2_0 5 rfl rfl)
abbrev cJ1_init_3 : ByteArray := prog_29_method_1_code
def yJ1_init_3 : MethodName := ⟨RJ1, "<init>", "()V"⟩
theorem dJ1_init_3_0 : decode cJ1_init_3 0 = .ok (.aload_n 0, 1) := by decide +kernel
theorem dJ1_init_3_1 : decode cJ1_init_3 1 = .ok (.invokespecial 1, 3) := by decide +kernel
theorem dJ1_init_3_4 : decode cJ1_init_3 4 = .ok (.return_, 1) := by decide +kernel
theorem q118 : (Jvm.Cond.initialized "java/lang/Exception") ∈ lw_all := lw_g (lw_at lw_m1 3 rfl) rfl
theorem q164 : (Jvm.Cond.declares ({ cls := "java/lang/Exception", name := "<init>", desc := "()V" } : Jvm.MethodName)) ∈ lw_tbl := lw_at lw_m1 49 rfl
theorem q165 : (Jvm.Cond.declares ({ cls := "java/lang/Exception", name := "<init>", desc := "(Ljava/lang/String;)V" } : Jvm.MethodName)) ∈ lw_tbl := lw_at lw_m1 50 rfl
theorem q209 : (Jvm.Cond.superclass "java/lang/Exception" "java/lang/Throwable") ∈ lw_all := lw_g (lw_at lw_m1 94 rfl) rfl
theorem q223 : (Jvm.Cond.instanceMethod ({ cls := "java/lang/Exception", name := "<init>", desc := "(Ljava/lang/String;Ljava/lang/Throwable;ZZ)V" } : Jvm.MethodName)) ∈ lw_all := lw_g (lw_at lw_m1 108 rfl) rfl
theorem q224 : (Jvm.Cond.code ({ cls := "java/lang/Exception", name := "<init>", desc := "(Ljava/lang/String;Ljava/lang/Throwable;ZZ)V" } : Jvm.MethodName) prog_29_method_5_code (5 : Nat) (Option.none : Option Jvm.ClassFile.FieldType)) ∈ lw_all := lw_g (lw_at lw_m1 109 rfl) rfl
theorem q225 : (Jvm.Cond.methodLink "java/lang/Exception" (16 : Nat) ({ cls := "java/lang/Throwable", name := "<init>", desc := "(Ljava/lang/String;Ljava/lang/Throwable;ZZ)V" } : Jvm.MethodName)) ∈ lw_all := lw_g (lw_at lw_m1 110 rfl) rfl
theorem q1174 : (Jvm.Cond.instanceMethod ({ cls := "java/lang/Exception", name := "<init>", desc := "(Ljava/lang/String;)V" } : Jvm.MethodName)) ∈ lw_all := lw_g (lw_at lw_m5 99 rfl) rfl
theorem q1175 : (Jvm.Cond.code ({ cls := "java/lang/Exception", name := "<init>", desc := "(Ljava/lang/String;)V" } : Jvm.MethodName) prog_29_method_2_code (2 : Nat) (Option.none : Option Jvm.ClassFile.FieldType)) ∈ lw_all := lw_g (lw_at lw_m5 100 rfl) rfl
theorem q1176 : (Jvm.Cond.methodLink "java/lang/Exception" (7 : Nat) ({ cls := "java/lang/Throwable", name := "<init>", desc := "(Ljava/lang/String;)V" } : Jvm.MethodName)) ∈ lw_all := lw_g (lw_at lw_m5 101 rfl) rfl
theorem q1247 : (Jvm.Cond.instanceMethod ({ cls := "java/lang/Exception", name := "<init>", desc := "()V" } : Jvm.MethodName)) ∈ lw_all := lw_g (lw_at lw_m5 172 rfl) rfl
theorem q1248 : (Jvm.Cond.code ({ cls := "java/lang/Exception", name := "<init>", desc := "()V" } : Jvm.MethodName) prog_29_method_1_code (1 : Nat) (Option.none : Option Jvm.ClassFile.FieldType)) ∈ lw_all := lw_g (lw_at lw_m5 173 rfl) rfl
theorem q1249 : (Jvm.Cond.methodLink "java/lang/Exception" (1 : Nat) ({ cls := "java/lang/Throwable", name := "<init>", desc := "()V" } : Jvm.MethodName)) ∈ lw_all := lw_g (lw_at lw_m5 174 rfl) rfl
/-! java/lang/RuntimeException -/
set_option maxRecDepth 100000
def RJ2 : String := "java/lang/RuntimeException"
abbrev cJ2_init : ByteArray := prog_34_method_5_code
def yJ2_init : MethodName := ⟨RJ2, "<init>", "(Ljava/lang/String;Ljava/lang/Throwable;ZZ)V"⟩
def dkwJ2_init_0 : List UInt8 := [42, 43, 44, 29, 21, 4, 183, 0, 16, 177]
abbrev dktJ2_init_0 : List UInt8 := dkwJ2_init_0 ++ []
theorem dksJ2_init_0 : cJ2_init.data.toList.drop 0 = dktJ2_init_0 := by decide +kernel
theorem dJ2_init_0 : decode cJ2_init 0 = .ok (.aload_n 0, 1) := dk_42 (dk_at dksJ2_init_0 0 rfl rfl)
theorem dJ2_init_1 : decode cJ2_init 1 = .ok (.aload_n 1, 1) := dk_43 (dk_at dksJ2_init_0 1 rfl rfl)
theorem dJ2_init_2 : decode cJ2_init 2 = .ok (.aload_n 2, 1) := dk_44 (dk_at dksJ2_init_0 2 rfl rfl)
theorem dJ2_init_3 : decode cJ2_init 3 = .ok (.iload_n 3, 1) := dk_29 (dk_at dksJ2_init_0 3 rfl rfl)
theorem dJ2_init_4 : decode cJ2_init 4 = .ok (.iload 4, 2) := dk_21 4 (dk_at dksJ2_init_0 4 rfl rfl)
theorem dJ2_init_6 : decode cJ2_init 6 = .ok (.invokespecial 16, 3) := dk_183 0 16 (dk_at dksJ2_init_0 6 rfl rfl)
theorem dJ2_init_9 : decode cJ2_init 9 = .ok (.return_, 1) := dk_177 (dk_at dksJ2_init_0 9 rfl rfl)
abbrev cJ2_init_2 : ByteArray := prog_34_method_2_code
def yJ2_init_2 : MethodName := ⟨RJ2, "<init>", "(Ljava/lang/String;)V"⟩
def dkwJ2_init_2_0 : List UInt8 := [42, 43, 183, 0, 7, 177]
abbrev dktJ2_init_2_0 : List UInt8 := dkwJ2_init_2_0 ++ []
theorem dksJ2_init_2_0 : cJ2_init_2.data.toList.drop 0 = dktJ2_init_2_0 := by decide +kernel
theorem dJ2_init_2_0 : decode cJ2_init_2 0 = .ok (.aload_n 0, 1) := dk_42 (dk_at dksJ2_init_2_0 0 rfl rfl)
theorem dJ2_init_2_1 : decode cJ2_init_2 1 = .ok (.aload_n 1, 1) := dk_43 (dk_at dksJ2_init_2_0 1 rfl rfl)
theorem dJ2_init_2_2 : decode cJ2_init_2 2 = .ok (.invokespecial 7, 3) := dk_183 0 7 (dk_at dksJ2_init_2_0 2 rfl rfl)
theorem dJ2_init_2_5 : decode cJ2_init_2 5 = .ok (.return_, 1) := dk_177 (dk_at dksJ2_init_2_0 5 rfl rfl)
abbrev cJ2_init_3 : ByteArray := prog_34_method_1_code
def yJ2_init_3 : MethodName := ⟨RJ2, "<init>", "()V"⟩
theorem dJ2_init_3_0 : decode cJ2_init_3 0 = .ok (.aload_n 0, 1) := by decide +kernel
theorem dJ2_init_3_1 : decode cJ2_init_3 1 = .ok (.invokespecial 1, 3) := by decide +kernel
theorem dJ2_init_3_4 : decode cJ2_init_3 4 = .ok (.return_, 1) := by decide +kernel
theorem q119 : (Jvm.Cond.initialized "java/lang/RuntimeException") ∈ lw_all := lw_g (lw_at lw_m1 4 rfl) rfl
theorem q162 : (Jvm.Cond.declares ({ cls := "java/lang/RuntimeException", name := "<init>", desc := "()V" } : Jvm.MethodName)) ∈ lw_tbl := lw_at lw_m1 47 rfl
theorem q163 : (Jvm.Cond.declares ({ cls := "java/lang/RuntimeException", name := "<init>", desc := "(Ljava/lang/String;)V" } : Jvm.MethodName)) ∈ lw_tbl := lw_at lw_m1 48 rfl
theorem q205 : (Jvm.Cond.sameMethod "java/lang/RuntimeException" "java/lang/Throwable" "fillInStackTrace" "()Ljava/lang/Throwable;") ∈ lw_all := lw_g (lw_at lw_m1 90 rfl) rfl
theorem q208 : (Jvm.Cond.superclass "java/lang/RuntimeException" "java/lang/Exception") ∈ lw_all := lw_g (lw_at lw_m1 93 rfl) rfl
theorem q220 : (Jvm.Cond.instanceMethod ({ cls := "java/lang/RuntimeException", name := "<init>", desc := "(Ljava/lang/String;Ljava/lang/Throwable;ZZ)V" } : Jvm.MethodName)) ∈ lw_all := lw_g (lw_at lw_m1 105 rfl) rfl
theorem q221 : (Jvm.Cond.code ({ cls := "java/lang/RuntimeException", name := "<init>", desc := "(Ljava/lang/String;Ljava/lang/Throwable;ZZ)V" } : Jvm.MethodName) prog_34_method_5_code (5 : Nat) (Option.none : Option Jvm.ClassFile.FieldType)) ∈ lw_all := lw_g (lw_at lw_m1 106 rfl) rfl
theorem q222 : (Jvm.Cond.methodLink "java/lang/RuntimeException" (16 : Nat) ({ cls := "java/lang/Exception", name := "<init>", desc := "(Ljava/lang/String;Ljava/lang/Throwable;ZZ)V" } : Jvm.MethodName)) ∈ lw_all := lw_g (lw_at lw_m1 107 rfl) rfl
theorem q1171 : (Jvm.Cond.instanceMethod ({ cls := "java/lang/RuntimeException", name := "<init>", desc := "(Ljava/lang/String;)V" } : Jvm.MethodName)) ∈ lw_all := lw_g (lw_at lw_m5 96 rfl) rfl
theorem q1172 : (Jvm.Cond.code ({ cls := "java/lang/RuntimeException", name := "<init>", desc := "(Ljava/lang/String;)V" } : Jvm.MethodName) prog_34_method_2_code (2 : Nat) (Option.none : Option Jvm.ClassFile.FieldType)) ∈ lw_all := lw_g (lw_at lw_m5 97 rfl) rfl
theorem q1173 : (Jvm.Cond.methodLink "java/lang/RuntimeException" (7 : Nat) ({ cls := "java/lang/Exception", name := "<init>", desc := "(Ljava/lang/String;)V" } : Jvm.MethodName)) ∈ lw_all := lw_g (lw_at lw_m5 98 rfl) rfl
theorem q1244 : (Jvm.Cond.instanceMethod ({ cls := "java/lang/RuntimeException", name := "<init>", desc := "()V" } : Jvm.MethodName)) ∈ lw_all := lw_g (lw_at lw_m5 169 rfl) rfl
theorem q1245 : (Jvm.Cond.code ({ cls := "java/lang/RuntimeException", name := "<init>", desc := "()V" } : Jvm.MethodName) prog_34_method_1_code (1 : Nat) (Option.none : Option Jvm.ClassFile.FieldType)) ∈ lw_all := lw_g (lw_at lw_m5 170 rfl) rfl
theorem q1246 : (Jvm.Cond.methodLink "java/lang/RuntimeException" (1 : Nat) ({ cls := "java/lang/Exception", name := "<init>", desc := "()V" } : Jvm.MethodName)) ∈ lw_all := lw_g (lw_at lw_m5 171 rfl) rfl
theorem q1264 : (Jvm.Cond.castable "java/lang/RuntimeException" "java/lang/Throwable") ∈ lw_tbl := lw_at lw_m5 189 rfl
/-! java/lang/Integer -/
set_option maxRecDepth 100000
def RJ3 : String := "java/lang/Integer"
abbrev cJ3_bitCount : ByteArray := prog_30_method_49_code
def yJ3_bitCount : MethodName := ⟨RJ3, "bitCount", "(I)I"⟩
def dkwJ3_bitCount_2 : List UInt8 := [26, 16, 63, 126, 172]
abbrev dktJ3_bitCount_2 : List UInt8 := dkwJ3_bitCount_2 ++ []
def dkwJ3_bitCount_1 : List UInt8 := [26, 26, 7, 124, 96, 19, 1, 11, 126, 59, 26, 26, 16, 8, 124, 96, 59, 26, 26, 16, 16, 124, 96, 59]
abbrev dktJ3_bitCount_1 : List UInt8 := dkwJ3_bitCount_1 ++ dktJ3_bitCount_2
def dkwJ3_bitCount_0 : List UInt8 := [26, 26, 4, 124, 19, 1, 9, 126, 100, 59, 26, 19, 1, 10, 126, 26, 5, 124, 19, 1, 10, 126, 96, 59]
abbrev dktJ3_bitCount_0 : List UInt8 := dkwJ3_bitCount_0 ++ dktJ3_bitCount_1
theorem dksJ3_bitCount_0 : cJ3_bitCount.data.toList.drop 0 = dktJ3_bitCount_0 := by decide +kernel
theorem dksJ3_bitCount_1 : cJ3_bitCount.data.toList.drop 24 = dktJ3_bitCount_1 := dk_seg dksJ3_bitCount_0 24 rfl rfl
theorem dksJ3_bitCount_2 : cJ3_bitCount.data.toList.drop 48 = dktJ3_bitCount_2 := dk_seg dksJ3_bitCount_1 24 rfl rfl
theorem dJ3_bitCount_0 : decode cJ3_bitCount 0 = .ok (.iload_n 0, 1) := dk_26 (dk_at dksJ3_bitCount_0 0 rfl rfl)
theorem dJ3_bitCount_1 : decode cJ3_bitCount 1 = .ok (.iload_n 0, 1) := dk_26 (dk_at dksJ3_bitCount_0 1 rfl rfl)
theorem dJ3_bitCount_2 : decode cJ3_bitCount 2 = .ok (.iconst 1, 1) := dk_4 (dk_at dksJ3_bitCount_0 2 rfl rfl)
theorem dJ3_bitCount_3 : decode cJ3_bitCount 3 = .ok (.iushr, 1) := dk_124 (dk_at dksJ3_bitCount_0 3 rfl rfl)
theorem dJ3_bitCount_4 : decode cJ3_bitCount 4 = .ok (.ldc_w 265, 3) := dk_19 1 9 (dk_at dksJ3_bitCount_0 4 rfl rfl)
theorem dJ3_bitCount_7 : decode cJ3_bitCount 7 = .ok (.iand, 1) := dk_126 (dk_at dksJ3_bitCount_0 7 rfl rfl)
theorem dJ3_bitCount_8 : decode cJ3_bitCount 8 = .ok (.isub, 1) := dk_100 (dk_at dksJ3_bitCount_0 8 rfl rfl)
theorem dJ3_bitCount_9 : decode cJ3_bitCount 9 = .ok (.istore_n 0, 1) := dk_59 (dk_at dksJ3_bitCount_0 9 rfl rfl)
theorem dJ3_bitCount_10 : decode cJ3_bitCount 10 = .ok (.iload_n 0, 1) := dk_26 (dk_at dksJ3_bitCount_0 10 rfl rfl)
theorem dJ3_bitCount_11 : decode cJ3_bitCount 11 = .ok (.ldc_w 266, 3) := dk_19 1 10 (dk_at dksJ3_bitCount_0 11 rfl rfl)
theorem dJ3_bitCount_14 : decode cJ3_bitCount 14 = .ok (.iand, 1) := dk_126 (dk_at dksJ3_bitCount_0 14 rfl rfl)
theorem dJ3_bitCount_15 : decode cJ3_bitCount 15 = .ok (.iload_n 0, 1) := dk_26 (dk_at dksJ3_bitCount_0 15 rfl rfl)
theorem dJ3_bitCount_16 : decode cJ3_bitCount 16 = .ok (.iconst 2, 1) := dk_5 (dk_at dksJ3_bitCount_0 16 rfl rfl)
theorem dJ3_bitCount_17 : decode cJ3_bitCount 17 = .ok (.iushr, 1) := dk_124 (dk_at dksJ3_bitCount_0 17 rfl rfl)
theorem dJ3_bitCount_18 : decode cJ3_bitCount 18 = .ok (.ldc_w 266, 3) := dk_19 1 10 (dk_at dksJ3_bitCount_0 18 rfl rfl)
theorem dJ3_bitCount_21 : decode cJ3_bitCount 21 = .ok (.iand, 1) := dk_126 (dk_at dksJ3_bitCount_0 21 rfl rfl)
theorem dJ3_bitCount_22 : decode cJ3_bitCount 22 = .ok (.iadd, 1) := dk_96 (dk_at dksJ3_bitCount_0 22 rfl rfl)
theorem dJ3_bitCount_23 : decode cJ3_bitCount 23 = .ok (.istore_n 0, 1) := dk_59 (dk_at dksJ3_bitCount_0 23 rfl rfl)
theorem dJ3_bitCount_24 : decode cJ3_bitCount 24 = .ok (.iload_n 0, 1) := dk_26 (dk_at dksJ3_bitCount_1 0 rfl rfl)
theorem dJ3_bitCount_25 : decode cJ3_bitCount 25 = .ok (.iload_n 0, 1) := dk_26 (dk_at dksJ3_bitCount_1 1 rfl rfl)
theorem dJ3_bitCount_26 : decode cJ3_bitCount 26 = .ok (.iconst 4, 1) := dk_7 (dk_at dksJ3_bitCount_1 2 rfl rfl)
theorem dJ3_bitCount_27 : decode cJ3_bitCount 27 = .ok (.iushr, 1) := dk_124 (dk_at dksJ3_bitCount_1 3 rfl rfl)
theorem dJ3_bitCount_28 : decode cJ3_bitCount 28 = .ok (.iadd, 1) := dk_96 (dk_at dksJ3_bitCount_1 4 rfl rfl)
theorem dJ3_bitCount_29 : decode cJ3_bitCount 29 = .ok (.ldc_w 267, 3) := dk_19 1 11 (dk_at dksJ3_bitCount_1 5 rfl rfl)
theorem dJ3_bitCount_32 : decode cJ3_bitCount 32 = .ok (.iand, 1) := dk_126 (dk_at dksJ3_bitCount_1 8 rfl rfl)
theorem dJ3_bitCount_33 : decode cJ3_bitCount 33 = .ok (.istore_n 0, 1) := dk_59 (dk_at dksJ3_bitCount_1 9 rfl rfl)
theorem dJ3_bitCount_34 : decode cJ3_bitCount 34 = .ok (.iload_n 0, 1) := dk_26 (dk_at dksJ3_bitCount_1 10 rfl rfl)
theorem dJ3_bitCount_35 : decode cJ3_bitCount 35 = .ok (.iload_n 0, 1) := dk_26 (dk_at dksJ3_bitCount_1 11 rfl rfl)
theorem dJ3_bitCount_36 : decode cJ3_bitCount 36 = .ok (.bipush 8, 2) := dk_16 8 (dk_at dksJ3_bitCount_1 12 rfl rfl)
theorem dJ3_bitCount_38 : decode cJ3_bitCount 38 = .ok (.iushr, 1) := dk_124 (dk_at dksJ3_bitCount_1 14 rfl rfl)
theorem dJ3_bitCount_39 : decode cJ3_bitCount 39 = .ok (.iadd, 1) := dk_96 (dk_at dksJ3_bitCount_1 15 rfl rfl)
theorem dJ3_bitCount_40 : decode cJ3_bitCount 40 = .ok (.istore_n 0, 1) := dk_59 (dk_at dksJ3_bitCount_1 16 rfl rfl)
theorem dJ3_bitCount_41 : decode cJ3_bitCount 41 = .ok (.iload_n 0, 1) := dk_26 (dk_at dksJ3_bitCount_1 17 rfl rfl)
theorem dJ3_bitCount_42 : decode cJ3_bitCount 42 = .ok (.iload_n 0, 1) := dk_26 (dk_at dksJ3_bitCount_1 18 rfl rfl)
theorem dJ3_bitCount_43 : decode cJ3_bitCount 43 = .ok (.bipush 16, 2) := dk_16 16 (dk_at dksJ3_bitCount_1 19 rfl rfl)
theorem dJ3_bitCount_45 : decode cJ3_bitCount 45 = .ok (.iushr, 1) := dk_124 (dk_at dksJ3_bitCount_1 21 rfl rfl)
theorem dJ3_bitCount_46 : decode cJ3_bitCount 46 = .ok (.iadd, 1) := dk_96 (dk_at dksJ3_bitCount_1 22 rfl rfl)
theorem dJ3_bitCount_47 : decode cJ3_bitCount 47 = .ok (.istore_n 0, 1) := dk_59 (dk_at dksJ3_bitCount_1 23 rfl rfl)
theorem dJ3_bitCount_48 : decode cJ3_bitCount 48 = .ok (.iload_n 0, 1) := dk_26 (dk_at dksJ3_bitCount_2 0 rfl rfl)
theorem dJ3_bitCount_49 : decode cJ3_bitCount 49 = .ok (.bipush 63, 2) := dk_16 63 (dk_at dksJ3_bitCount_2 1 rfl rfl)
theorem dJ3_bitCount_51 : decode cJ3_bitCount 51 = .ok (.iand, 1) := dk_126 (dk_at dksJ3_bitCount_2 3 rfl rfl)
theorem dJ3_bitCount_52 : decode cJ3_bitCount 52 = .ok (.ireturn, 1) := dk_172 (dk_at dksJ3_bitCount_2 4 rfl rfl)
theorem q132 : (Jvm.Cond.initialized "java/lang/Integer") ∈ lw_all := lw_g (lw_at lw_m1 17 rfl) rfl
theorem q592 : (Jvm.Cond.static ({ cls := "java/lang/Integer", name := "bitCount", desc := "(I)I" } : Jvm.MethodName)) ∈ lw_all := lw_g (lw_at lw_m2 237 rfl) rfl
theorem q593 : (Jvm.Cond.code ({ cls := "java/lang/Integer", name := "bitCount", desc := "(I)I" } : Jvm.MethodName) prog_30_method_49_code (1 : Nat) (Option.some Jvm.ClassFile.FieldType.int)) ∈ lw_all := lw_g (lw_at lw_m2 238 rfl) rfl
theorem q594 : (Jvm.Cond.constant "java/lang/Integer" (265 : Nat) (1431655765 : Int32)) ∈ lw_all := lw_g (lw_at lw_m2 239 rfl) rfl
theorem q595 : (Jvm.Cond.constant "java/lang/Integer" (266 : Nat) (858993459 : Int32)) ∈ lw_all := lw_g (lw_at lw_m3 0 rfl) rfl
theorem q596 : (Jvm.Cond.constant "java/lang/Integer" (267 : Nat) (252645135 : Int32)) ∈ lw_all := lw_g (lw_at lw_m3 1 rfl) rfl
/-! java/lang/Math -/
set_option maxRecDepth 100000
def RJ4 : String := "java/lang/Math"
abbrev cJ4_max : ByteArray := prog_31_method_65_code
def yJ4_max : MethodName := ⟨RJ4, "max", "(II)I"⟩
def dkwJ4_max_0 : List UInt8 := [26, 27, 161, 0, 7, 26, 167, 0, 4, 27, 172]
abbrev dktJ4_max_0 : List UInt8 := dkwJ4_max_0 ++ []
theorem dksJ4_max_0 : cJ4_max.data.toList.drop 0 = dktJ4_max_0 := by decide +kernel
theorem dJ4_max_0 : decode cJ4_max 0 = .ok (.iload_n 0, 1) := dk_26 (dk_at dksJ4_max_0 0 rfl rfl)
theorem dJ4_max_1 : decode cJ4_max 1 = .ok (.iload_n 1, 1) := dk_27 (dk_at dksJ4_max_0 1 rfl rfl)
theorem dJ4_max_2 : decode cJ4_max 2 = .ok (.if_icmp .lt 7, 3) := dk_161 0 7 (dk_at dksJ4_max_0 2 rfl rfl)
theorem dJ4_max_5 : decode cJ4_max 5 = .ok (.iload_n 0, 1) := dk_26 (dk_at dksJ4_max_0 5 rfl rfl)
theorem dJ4_max_6 : decode cJ4_max 6 = .ok (.goto 4, 3) := dk_167 0 4 (dk_at dksJ4_max_0 6 rfl rfl)
theorem dJ4_max_9 : decode cJ4_max 9 = .ok (.iload_n 1, 1) := dk_27 (dk_at dksJ4_max_0 9 rfl rfl)
theorem dJ4_max_10 : decode cJ4_max 10 = .ok (.ireturn, 1) := dk_172 (dk_at dksJ4_max_0 10 rfl rfl)
theorem q133 : (Jvm.Cond.initialized "java/lang/Math") ∈ lw_all := lw_g (lw_at lw_m1 18 rfl) rfl
theorem q598 : (Jvm.Cond.static ({ cls := "java/lang/Math", name := "max", desc := "(II)I" } : Jvm.MethodName)) ∈ lw_all := lw_g (lw_at lw_m3 3 rfl) rfl
theorem q599 : (Jvm.Cond.code ({ cls := "java/lang/Math", name := "max", desc := "(II)I" } : Jvm.MethodName) prog_31_method_65_code (2 : Nat) (Option.some Jvm.ClassFile.FieldType.int)) ∈ lw_all := lw_g (lw_at lw_m3 4 rfl) rfl
/-! java/lang/String -/
set_option maxRecDepth 100000
def RJ5 : String := "java/lang/String"
def TJ5 : u_T := fun k => match k with
  | 0 => ("java/lang/String", "value", "[B", true)
  | _ => ("java/lang/String", "coder", "B", true)
def tyJ5 : Nat → FieldType := fun k => match k with
  | 0 => .array .byte
  | _ => .byte
abbrev wsJ50 : List Cond := u_ws RJ5 TJ5 2
theorem nmJ5 : ∀ a, a < 2 → ∀ b, b < 2 → a ≠ b → (TJ5 a).2.1 ≠ (TJ5 b).2.1 := by decide +kernel
theorem tyJ5_ok : ∀ k, k < 2 → parseFieldDescriptor (TJ5 k).2.2.1 = some (tyJ5 k) := by decide +kernel
abbrev cJ5_length : ByteArray := prog_35_method_54_code
def yJ5_length : MethodName := ⟨RJ5, "length", "()I"⟩
def dkwJ5_length_0 : List UInt8 := [42, 180, 0, 9, 190, 42, 182, 1, 79, 122, 172]
abbrev dktJ5_length_0 : List UInt8 := dkwJ5_length_0 ++ []
theorem dksJ5_length_0 : cJ5_length.data.toList.drop 0 = dktJ5_length_0 := by decide +kernel
theorem dJ5_length_0 : decode cJ5_length 0 = .ok (.aload_n 0, 1) := dk_42 (dk_at dksJ5_length_0 0 rfl rfl)
theorem dJ5_length_1 : decode cJ5_length 1 = .ok (.getfield 9, 3) := dk_180 0 9 (dk_at dksJ5_length_0 1 rfl rfl)
theorem dJ5_length_4 : decode cJ5_length 4 = .ok (.arraylength, 1) := dk_190 (dk_at dksJ5_length_0 4 rfl rfl)
theorem dJ5_length_5 : decode cJ5_length 5 = .ok (.aload_n 0, 1) := dk_42 (dk_at dksJ5_length_0 5 rfl rfl)
theorem dJ5_length_6 : decode cJ5_length 6 = .ok (.invokevirtual 335, 3) := dk_182 1 79 (dk_at dksJ5_length_0 6 rfl rfl)
theorem dJ5_length_9 : decode cJ5_length 9 = .ok (.ishr, 1) := dk_122 (dk_at dksJ5_length_0 9 rfl rfl)
theorem dJ5_length_10 : decode cJ5_length 10 = .ok (.ireturn, 1) := dk_172 (dk_at dksJ5_length_0 10 rfl rfl)
abbrev cJ5_coder : ByteArray := prog_35_method_152_code
def yJ5_coder : MethodName := ⟨RJ5, "coder", "()B"⟩
def dkwJ5_coder_0 : List UInt8 := [178, 0, 38, 153, 0, 10, 42, 180, 0, 15, 167, 0, 4, 4, 172]
abbrev dktJ5_coder_0 : List UInt8 := dkwJ5_coder_0 ++ []
theorem dksJ5_coder_0 : cJ5_coder.data.toList.drop 0 = dktJ5_coder_0 := by decide +kernel
theorem dJ5_coder_0 : decode cJ5_coder 0 = .ok (.getstatic 38, 3) := dk_178 0 38 (dk_at dksJ5_coder_0 0 rfl rfl)
theorem dJ5_coder_3 : decode cJ5_coder 3 = .ok (.ifCond .eq 10, 3) := dk_153 0 10 (dk_at dksJ5_coder_0 3 rfl rfl)
theorem dJ5_coder_6 : decode cJ5_coder 6 = .ok (.aload_n 0, 1) := dk_42 (dk_at dksJ5_coder_0 6 rfl rfl)
theorem dJ5_coder_7 : decode cJ5_coder 7 = .ok (.getfield 15, 3) := dk_180 0 15 (dk_at dksJ5_coder_0 7 rfl rfl)
theorem dJ5_coder_10 : decode cJ5_coder 10 = .ok (.goto 4, 3) := dk_167 0 4 (dk_at dksJ5_coder_0 10 rfl rfl)
theorem dJ5_coder_13 : decode cJ5_coder 13 = .ok (.iconst 1, 1) := dk_4 (dk_at dksJ5_coder_0 13 rfl rfl)
theorem dJ5_coder_14 : decode cJ5_coder 14 = .ok (.ireturn, 1) := dk_172 (dk_at dksJ5_coder_0 14 rfl rfl)
abbrev cJ5_charAt : ByteArray := prog_35_method_56_code
def yJ5_charAt : MethodName := ⟨RJ5, "charAt", "(I)C"⟩
def dkwJ5_charAt_1 : List UInt8 := [172]
abbrev dktJ5_charAt_1 : List UInt8 := dkwJ5_charAt_1 ++ []
def dkwJ5_charAt_0 : List UInt8 := [42, 182, 1, 236, 153, 0, 12, 42, 180, 0, 9, 27, 184, 1, 239, 172, 42, 180, 0, 9, 27, 184, 1, 242]
abbrev dktJ5_charAt_0 : List UInt8 := dkwJ5_charAt_0 ++ dktJ5_charAt_1
theorem dksJ5_charAt_0 : cJ5_charAt.data.toList.drop 0 = dktJ5_charAt_0 := by decide +kernel
theorem dksJ5_charAt_1 : cJ5_charAt.data.toList.drop 24 = dktJ5_charAt_1 := dk_seg dksJ5_charAt_0 24 rfl rfl
theorem dJ5_charAt_0 : decode cJ5_charAt 0 = .ok (.aload_n 0, 1) := dk_42 (dk_at dksJ5_charAt_0 0 rfl rfl)
theorem dJ5_charAt_1 : decode cJ5_charAt 1 = .ok (.invokevirtual 492, 3) := dk_182 1 236 (dk_at dksJ5_charAt_0 1 rfl rfl)
theorem dJ5_charAt_4 : decode cJ5_charAt 4 = .ok (.ifCond .eq 12, 3) := dk_153 0 12 (dk_at dksJ5_charAt_0 4 rfl rfl)
theorem dJ5_charAt_7 : decode cJ5_charAt 7 = .ok (.aload_n 0, 1) := dk_42 (dk_at dksJ5_charAt_0 7 rfl rfl)
theorem dJ5_charAt_8 : decode cJ5_charAt 8 = .ok (.getfield 9, 3) := dk_180 0 9 (dk_at dksJ5_charAt_0 8 rfl rfl)
theorem dJ5_charAt_11 : decode cJ5_charAt 11 = .ok (.iload_n 1, 1) := dk_27 (dk_at dksJ5_charAt_0 11 rfl rfl)
theorem dJ5_charAt_12 : decode cJ5_charAt 12 = .ok (.invokestatic 495, 3) := dk_184 1 239 (dk_at dksJ5_charAt_0 12 rfl rfl)
theorem dJ5_charAt_15 : decode cJ5_charAt 15 = .ok (.ireturn, 1) := dk_172 (dk_at dksJ5_charAt_0 15 rfl rfl)
theorem dJ5_charAt_16 : decode cJ5_charAt 16 = .ok (.aload_n 0, 1) := dk_42 (dk_at dksJ5_charAt_0 16 rfl rfl)
theorem dJ5_charAt_17 : decode cJ5_charAt 17 = .ok (.getfield 9, 3) := dk_180 0 9 (dk_at dksJ5_charAt_0 17 rfl rfl)
theorem dJ5_charAt_20 : decode cJ5_charAt 20 = .ok (.iload_n 1, 1) := dk_27 (dk_at dksJ5_charAt_0 20 rfl rfl)
theorem dJ5_charAt_21 : decode cJ5_charAt 21 = .ok (.invokestatic 498, 3) := dk_184 1 242 (dk_at dksJ5_charAt_0 21 rfl rfl)
theorem dJ5_charAt_24 : decode cJ5_charAt 24 = .ok (.ireturn, 1) := dk_172 (dk_at dksJ5_charAt_1 0 rfl rfl)
abbrev cJ5_isLatin1 : ByteArray := prog_35_method_154_code
def yJ5_isLatin1 : MethodName := ⟨RJ5, "isLatin1", "()Z"⟩
def dkwJ5_isLatin1_0 : List UInt8 := [178, 0, 38, 153, 0, 14, 42, 180, 0, 15, 154, 0, 7, 4, 167, 0, 4, 3, 172]
abbrev dktJ5_isLatin1_0 : List UInt8 := dkwJ5_isLatin1_0 ++ []
theorem dksJ5_isLatin1_0 : cJ5_isLatin1.data.toList.drop 0 = dktJ5_isLatin1_0 := by decide +kernel
theorem dJ5_isLatin1_0 : decode cJ5_isLatin1 0 = .ok (.getstatic 38, 3) := dk_178 0 38 (dk_at dksJ5_isLatin1_0 0 rfl rfl)
theorem dJ5_isLatin1_3 : decode cJ5_isLatin1 3 = .ok (.ifCond .eq 14, 3) := dk_153 0 14 (dk_at dksJ5_isLatin1_0 3 rfl rfl)
theorem dJ5_isLatin1_6 : decode cJ5_isLatin1 6 = .ok (.aload_n 0, 1) := dk_42 (dk_at dksJ5_isLatin1_0 6 rfl rfl)
theorem dJ5_isLatin1_7 : decode cJ5_isLatin1 7 = .ok (.getfield 15, 3) := dk_180 0 15 (dk_at dksJ5_isLatin1_0 7 rfl rfl)
theorem dJ5_isLatin1_10 : decode cJ5_isLatin1 10 = .ok (.ifCond .ne 7, 3) := dk_154 0 7 (dk_at dksJ5_isLatin1_0 10 rfl rfl)
theorem dJ5_isLatin1_13 : decode cJ5_isLatin1 13 = .ok (.iconst 1, 1) := dk_4 (dk_at dksJ5_isLatin1_0 13 rfl rfl)
theorem dJ5_isLatin1_14 : decode cJ5_isLatin1 14 = .ok (.goto 4, 3) := dk_167 0 4 (dk_at dksJ5_isLatin1_0 14 rfl rfl)
theorem dJ5_isLatin1_17 : decode cJ5_isLatin1 17 = .ok (.iconst 0, 1) := dk_3 (dk_at dksJ5_isLatin1_0 17 rfl rfl)
theorem dJ5_isLatin1_18 : decode cJ5_isLatin1 18 = .ok (.ireturn, 1) := dk_172 (dk_at dksJ5_isLatin1_0 18 rfl rfl)
abbrev cJ5_checkIndex : ByteArray := prog_35_method_155_code
def yJ5_checkIndex : MethodName := ⟨RJ5, "checkIndex", "(II)V"⟩
def dkwJ5_checkIndex_0 : List UInt8 := [26, 27, 178, 4, 29, 184, 4, 35, 87, 177]
abbrev dktJ5_checkIndex_0 : List UInt8 := dkwJ5_checkIndex_0 ++ []
theorem dksJ5_checkIndex_0 : cJ5_checkIndex.data.toList.drop 0 = dktJ5_checkIndex_0 := by decide +kernel
theorem dJ5_checkIndex_0 : decode cJ5_checkIndex 0 = .ok (.iload_n 0, 1) := dk_26 (dk_at dksJ5_checkIndex_0 0 rfl rfl)
theorem dJ5_checkIndex_1 : decode cJ5_checkIndex 1 = .ok (.iload_n 1, 1) := dk_27 (dk_at dksJ5_checkIndex_0 1 rfl rfl)
theorem dJ5_checkIndex_2 : decode cJ5_checkIndex 2 = .ok (.getstatic 1053, 3) := dk_178 4 29 (dk_at dksJ5_checkIndex_0 2 rfl rfl)
theorem dJ5_checkIndex_5 : decode cJ5_checkIndex 5 = .ok (.invokestatic 1059, 3) := dk_184 4 35 (dk_at dksJ5_checkIndex_0 5 rfl rfl)
theorem dJ5_checkIndex_8 : decode cJ5_checkIndex 8 = .ok (.pop, 1) := dk_87 (dk_at dksJ5_checkIndex_0 8 rfl rfl)
theorem dJ5_checkIndex_9 : decode cJ5_checkIndex 9 = .ok (.return_, 1) := dk_177 (dk_at dksJ5_checkIndex_0 9 rfl rfl)
theorem q134 : (Jvm.Cond.initialized "java/lang/String") ∈ lw_all := lw_g (lw_at lw_m1 19 rfl) rfl
theorem q748 : (Jvm.Cond.instanceMethod ({ cls := "java/lang/String", name := "length", desc := "()I" } : Jvm.MethodName)) ∈ lw_all := lw_g (lw_at lw_m3 153 rfl) rfl
theorem q749 : (Jvm.Cond.selects "java/lang/String" ({ cls := "java/lang/String", name := "length", desc := "()I" } : Jvm.MethodName) ({ cls := "java/lang/String", name := "length", desc := "()I" } : Jvm.MethodName)) ∈ lw_all := lw_g (lw_at lw_m3 154 rfl) rfl
theorem q750 : (Jvm.Cond.code ({ cls := "java/lang/String", name := "length", desc := "()I" } : Jvm.MethodName) prog_35_method_54_code (1 : Nat) (Option.some Jvm.ClassFile.FieldType.int)) ∈ lw_all := lw_g (lw_at lw_m3 155 rfl) rfl
theorem q751 : (Jvm.Cond.methodLink "java/lang/String" (335 : Nat) ({ cls := "java/lang/String", name := "coder", desc := "()B" } : Jvm.MethodName)) ∈ lw_all := lw_g (lw_at lw_m3 156 rfl) rfl
theorem q752 : (Jvm.Cond.instanceMethod ({ cls := "java/lang/String", name := "coder", desc := "()B" } : Jvm.MethodName)) ∈ lw_all := lw_g (lw_at lw_m3 157 rfl) rfl
theorem q753 : (Jvm.Cond.selects "java/lang/String" ({ cls := "java/lang/String", name := "coder", desc := "()B" } : Jvm.MethodName) ({ cls := "java/lang/String", name := "coder", desc := "()B" } : Jvm.MethodName)) ∈ lw_all := lw_g (lw_at lw_m3 158 rfl) rfl
theorem q754 : (Jvm.Cond.code ({ cls := "java/lang/String", name := "coder", desc := "()B" } : Jvm.MethodName) prog_35_method_152_code (1 : Nat) (Option.some Jvm.ClassFile.FieldType.byte)) ∈ lw_all := lw_g (lw_at lw_m3 159 rfl) rfl
theorem q755 : (Jvm.Cond.fieldLink "java/lang/String" (38 : Nat) "java/lang/String" "COMPACT_STRINGS" "Z") ∈ lw_all := lw_g (lw_at lw_m3 160 rfl) rfl
theorem q756 : (Jvm.Cond.laysStatic "java/lang/String" "COMPACT_STRINGS" "Z") ∈ lw_tbl := lw_at lw_m3 161 rfl
theorem q758 : (Jvm.Cond.instanceMethod ({ cls := "java/lang/String", name := "charAt", desc := "(I)C" } : Jvm.MethodName)) ∈ lw_all := lw_g (lw_at lw_m3 163 rfl) rfl
theorem q759 : (Jvm.Cond.selects "java/lang/String" ({ cls := "java/lang/String", name := "charAt", desc := "(I)C" } : Jvm.MethodName) ({ cls := "java/lang/String", name := "charAt", desc := "(I)C" } : Jvm.MethodName)) ∈ lw_all := lw_g (lw_at lw_m3 164 rfl) rfl
theorem q760 : (Jvm.Cond.code ({ cls := "java/lang/String", name := "charAt", desc := "(I)C" } : Jvm.MethodName) prog_35_method_56_code (2 : Nat) (Option.some Jvm.ClassFile.FieldType.char)) ∈ lw_all := lw_g (lw_at lw_m3 165 rfl) rfl
theorem q761 : (Jvm.Cond.methodLink "java/lang/String" (492 : Nat) ({ cls := "java/lang/String", name := "isLatin1", desc := "()Z" } : Jvm.MethodName)) ∈ lw_all := lw_g (lw_at lw_m3 166 rfl) rfl
theorem q762 : (Jvm.Cond.instanceMethod ({ cls := "java/lang/String", name := "isLatin1", desc := "()Z" } : Jvm.MethodName)) ∈ lw_all := lw_g (lw_at lw_m3 167 rfl) rfl
theorem q763 : (Jvm.Cond.selects "java/lang/String" ({ cls := "java/lang/String", name := "isLatin1", desc := "()Z" } : Jvm.MethodName) ({ cls := "java/lang/String", name := "isLatin1", desc := "()Z" } : Jvm.MethodName)) ∈ lw_all := lw_g (lw_at lw_m3 168 rfl) rfl
theorem q764 : (Jvm.Cond.code ({ cls := "java/lang/String", name := "isLatin1", desc := "()Z" } : Jvm.MethodName) prog_35_method_154_code (1 : Nat) (Option.some Jvm.ClassFile.FieldType.boolean)) ∈ lw_all := lw_g (lw_at lw_m3 169 rfl) rfl
theorem q765 : (Jvm.Cond.methodLink "java/lang/String" (495 : Nat) ({ cls := "java/lang/StringLatin1", name := "charAt", desc := "([BI)C" } : Jvm.MethodName)) ∈ lw_all := lw_g (lw_at lw_m3 170 rfl) rfl
theorem q769 : (Jvm.Cond.static ({ cls := "java/lang/String", name := "checkIndex", desc := "(II)V" } : Jvm.MethodName)) ∈ lw_all := lw_g (lw_at lw_m3 174 rfl) rfl
theorem q770 : (Jvm.Cond.code ({ cls := "java/lang/String", name := "checkIndex", desc := "(II)V" } : Jvm.MethodName) prog_35_method_155_code (2 : Nat) (Option.none : Option Jvm.ClassFile.FieldType)) ∈ lw_all := lw_g (lw_at lw_m3 175 rfl) rfl
theorem q771 : (Jvm.Cond.fieldLink "java/lang/String" (1053 : Nat) "jdk/internal/util/Preconditions" "SIOOBE_FORMATTER" "Ljava/util/function/BiFunction;") ∈ lw_all := lw_g (lw_at lw_m3 176 rfl) rfl
theorem q773 : (Jvm.Cond.methodLink "java/lang/String" (1059 : Nat) ({ cls := "jdk/internal/util/Preconditions", name := "checkIndex", desc := "(IILjava/util/function/BiFunction;)I" } : Jvm.MethodName)) ∈ lw_all := lw_g (lw_at lw_m3 178 rfl) rfl
theorem q776 : (Jvm.Cond.methodLink "java/lang/String" (498 : Nat) ({ cls := "java/lang/StringUTF16", name := "charAt", desc := "([BI)C" } : Jvm.MethodName)) ∈ lw_all := lw_g (lw_at lw_m3 181 rfl) rfl
theorem q1188 : (Jvm.Cond.instantiable "java/lang/String" (4 : Nat)) ∈ lw_all := lw_g (lw_at lw_m5 113 rfl) rfl
theorem q1189 : (Jvm.Cond.laysFinal "java/lang/String" "java/lang/String" "value" "[B") ∈ lw_all := lw_g (lw_at lw_m5 114 rfl) rfl
theorem q1190 : (Jvm.Cond.soleField "java/lang/String" "value") ∈ lw_all := lw_g (lw_at lw_m5 115 rfl) rfl
theorem q1191 : (Jvm.Cond.laysFinal "java/lang/String" "java/lang/String" "coder" "B") ∈ lw_all := lw_g (lw_at lw_m5 116 rfl) rfl
theorem q1192 : (Jvm.Cond.soleField "java/lang/String" "coder") ∈ lw_all := lw_g (lw_at lw_m5 117 rfl) rfl
theorem q2224 : (Jvm.Cond.fieldLink "java/lang/String" (9 : Nat) "java/lang/String" "value" "[B") ∈ lw_all := lw_g (lw_at lw_m9 189 rfl) rfl
theorem q2225 : (Jvm.Cond.fieldLink "java/lang/String" (15 : Nat) "java/lang/String" "coder" "B") ∈ lw_all := lw_g (lw_at lw_m9 190 rfl) rfl
theorem in_J5 : ∀ w ∈ wsJ50, w ∈ lw_all := lw_in wsJ50 [1189, 1191] (by decide +kernel) (by decide +kernel)
/-! java/lang/StringLatin1 -/
set_option maxRecDepth 100000
def RJ6 : String := "java/lang/StringLatin1"
abbrev cJ6_charAt : ByteArray := prog_36_method_2_code
def yJ6_charAt : MethodName := ⟨RJ6, "charAt", "([BI)C"⟩
def dkwJ6_charAt_0 : List UInt8 := [27, 42, 190, 184, 0, 9, 42, 27, 51, 17, 0, 255, 126, 146, 172]
abbrev dktJ6_charAt_0 : List UInt8 := dkwJ6_charAt_0 ++ []
theorem dksJ6_charAt_0 : cJ6_charAt.data.toList.drop 0 = dktJ6_charAt_0 := by decide +kernel
theorem dJ6_charAt_0 : decode cJ6_charAt 0 = .ok (.iload_n 1, 1) := dk_27 (dk_at dksJ6_charAt_0 0 rfl rfl)
theorem dJ6_charAt_1 : decode cJ6_charAt 1 = .ok (.aload_n 0, 1) := dk_42 (dk_at dksJ6_charAt_0 1 rfl rfl)
theorem dJ6_charAt_2 : decode cJ6_charAt 2 = .ok (.arraylength, 1) := dk_190 (dk_at dksJ6_charAt_0 2 rfl rfl)
theorem dJ6_charAt_3 : decode cJ6_charAt 3 = .ok (.invokestatic 9, 3) := dk_184 0 9 (dk_at dksJ6_charAt_0 3 rfl rfl)
theorem dJ6_charAt_6 : decode cJ6_charAt 6 = .ok (.aload_n 0, 1) := dk_42 (dk_at dksJ6_charAt_0 6 rfl rfl)
theorem dJ6_charAt_7 : decode cJ6_charAt 7 = .ok (.iload_n 1, 1) := dk_27 (dk_at dksJ6_charAt_0 7 rfl rfl)
theorem dJ6_charAt_8 : decode cJ6_charAt 8 = .ok (.baload, 1) := dk_51 (dk_at dksJ6_charAt_0 8 rfl rfl)
theorem dJ6_charAt_9 : decode cJ6_charAt 9 = .ok (.sipush 255, 3) := dk_17 0 255 (dk_at dksJ6_charAt_0 9 rfl rfl)
theorem dJ6_charAt_12 : decode cJ6_charAt 12 = .ok (.iand, 1) := dk_126 (dk_at dksJ6_charAt_0 12 rfl rfl)
theorem dJ6_charAt_13 : decode cJ6_charAt 13 = .ok (.i2c, 1) := dk_146 (dk_at dksJ6_charAt_0 13 rfl rfl)
theorem dJ6_charAt_14 : decode cJ6_charAt 14 = .ok (.ireturn, 1) := dk_172 (dk_at dksJ6_charAt_0 14 rfl rfl)
theorem q135 : (Jvm.Cond.initialized "java/lang/StringLatin1") ∈ lw_all := lw_g (lw_at lw_m1 20 rfl) rfl
theorem q766 : (Jvm.Cond.static ({ cls := "java/lang/StringLatin1", name := "charAt", desc := "([BI)C" } : Jvm.MethodName)) ∈ lw_all := lw_g (lw_at lw_m3 171 rfl) rfl
theorem q767 : (Jvm.Cond.code ({ cls := "java/lang/StringLatin1", name := "charAt", desc := "([BI)C" } : Jvm.MethodName) prog_36_method_2_code (2 : Nat) (Option.some Jvm.ClassFile.FieldType.char)) ∈ lw_all := lw_g (lw_at lw_m3 172 rfl) rfl
theorem q768 : (Jvm.Cond.methodLink "java/lang/StringLatin1" (9 : Nat) ({ cls := "java/lang/String", name := "checkIndex", desc := "(II)V" } : Jvm.MethodName)) ∈ lw_all := lw_g (lw_at lw_m3 173 rfl) rfl
/-! jdk/internal/util/Preconditions -/
set_option maxRecDepth 100000
def RJ7 : String := "jdk/internal/util/Preconditions"
abbrev cJ7_checkIndex : ByteArray := prog_40_method_11_code
def yJ7_checkIndex : MethodName := ⟨RJ7, "checkIndex", "(IILjava/util/function/BiFunction;)I"⟩
def dkwJ7_checkIndex_0 : List UInt8 := [26, 155, 0, 8, 26, 27, 161, 0, 10, 44, 26, 27, 184, 0, 95, 191, 26, 172]
abbrev dktJ7_checkIndex_0 : List UInt8 := dkwJ7_checkIndex_0 ++ []
theorem dksJ7_checkIndex_0 : cJ7_checkIndex.data.toList.drop 0 = dktJ7_checkIndex_0 := by decide +kernel
theorem dJ7_checkIndex_0 : decode cJ7_checkIndex 0 = .ok (.iload_n 0, 1) := dk_26 (dk_at dksJ7_checkIndex_0 0 rfl rfl)
theorem dJ7_checkIndex_1 : decode cJ7_checkIndex 1 = .ok (.ifCond .lt 8, 3) := dk_155 0 8 (dk_at dksJ7_checkIndex_0 1 rfl rfl)
theorem dJ7_checkIndex_4 : decode cJ7_checkIndex 4 = .ok (.iload_n 0, 1) := dk_26 (dk_at dksJ7_checkIndex_0 4 rfl rfl)
theorem dJ7_checkIndex_5 : decode cJ7_checkIndex 5 = .ok (.iload_n 1, 1) := dk_27 (dk_at dksJ7_checkIndex_0 5 rfl rfl)
theorem dJ7_checkIndex_6 : decode cJ7_checkIndex 6 = .ok (.if_icmp .lt 10, 3) := dk_161 0 10 (dk_at dksJ7_checkIndex_0 6 rfl rfl)
theorem dJ7_checkIndex_9 : decode cJ7_checkIndex 9 = .ok (.aload_n 2, 1) := dk_44 (dk_at dksJ7_checkIndex_0 9 rfl rfl)
theorem dJ7_checkIndex_10 : decode cJ7_checkIndex 10 = .ok (.iload_n 0, 1) := dk_26 (dk_at dksJ7_checkIndex_0 10 rfl rfl)
theorem dJ7_checkIndex_11 : decode cJ7_checkIndex 11 = .ok (.iload_n 1, 1) := dk_27 (dk_at dksJ7_checkIndex_0 11 rfl rfl)
theorem dJ7_checkIndex_12 : decode cJ7_checkIndex 12 = .ok (.invokestatic 95, 3) := dk_184 0 95 (dk_at dksJ7_checkIndex_0 12 rfl rfl)
theorem dJ7_checkIndex_15 : decode cJ7_checkIndex 15 = .ok (.athrow, 1) := dk_191 (dk_at dksJ7_checkIndex_0 15 rfl rfl)
theorem dJ7_checkIndex_16 : decode cJ7_checkIndex 16 = .ok (.iload_n 0, 1) := dk_26 (dk_at dksJ7_checkIndex_0 16 rfl rfl)
theorem dJ7_checkIndex_17 : decode cJ7_checkIndex 17 = .ok (.ireturn, 1) := dk_172 (dk_at dksJ7_checkIndex_0 17 rfl rfl)
theorem q136 : (Jvm.Cond.initialized "jdk/internal/util/Preconditions") ∈ lw_all := lw_g (lw_at lw_m1 21 rfl) rfl
theorem q772 : (Jvm.Cond.laysStatic "jdk/internal/util/Preconditions" "SIOOBE_FORMATTER" "Ljava/util/function/BiFunction;") ∈ lw_tbl := lw_at lw_m3 177 rfl
theorem q774 : (Jvm.Cond.static ({ cls := "jdk/internal/util/Preconditions", name := "checkIndex", desc := "(IILjava/util/function/BiFunction;)I" } : Jvm.MethodName)) ∈ lw_all := lw_g (lw_at lw_m3 179 rfl) rfl
theorem q775 : (Jvm.Cond.code ({ cls := "jdk/internal/util/Preconditions", name := "checkIndex", desc := "(IILjava/util/function/BiFunction;)I" } : Jvm.MethodName) prog_40_method_11_code (3 : Nat) (Option.some Jvm.ClassFile.FieldType.int)) ∈ lw_all := lw_g (lw_at lw_m3 180 rfl) rfl
/-! java/lang/StringUTF16 -/
set_option maxRecDepth 100000
def RJ8 : String := "java/lang/StringUTF16"
abbrev cJ8_charAt : ByteArray := prog_37_method_83_code
def yJ8_charAt : MethodName := ⟨RJ8, "charAt", "([BI)C"⟩
def dkwJ8_charAt_0 : List UInt8 := [27, 42, 184, 0, 67, 42, 27, 184, 0, 71, 172]
abbrev dktJ8_charAt_0 : List UInt8 := dkwJ8_charAt_0 ++ []
theorem dksJ8_charAt_0 : cJ8_charAt.data.toList.drop 0 = dktJ8_charAt_0 := by decide +kernel
theorem dJ8_charAt_0 : decode cJ8_charAt 0 = .ok (.iload_n 1, 1) := dk_27 (dk_at dksJ8_charAt_0 0 rfl rfl)
theorem dJ8_charAt_1 : decode cJ8_charAt 1 = .ok (.aload_n 0, 1) := dk_42 (dk_at dksJ8_charAt_0 1 rfl rfl)
theorem dJ8_charAt_2 : decode cJ8_charAt 2 = .ok (.invokestatic 67, 3) := dk_184 0 67 (dk_at dksJ8_charAt_0 2 rfl rfl)
theorem dJ8_charAt_5 : decode cJ8_charAt 5 = .ok (.aload_n 0, 1) := dk_42 (dk_at dksJ8_charAt_0 5 rfl rfl)
theorem dJ8_charAt_6 : decode cJ8_charAt 6 = .ok (.iload_n 1, 1) := dk_27 (dk_at dksJ8_charAt_0 6 rfl rfl)
theorem dJ8_charAt_7 : decode cJ8_charAt 7 = .ok (.invokestatic 71, 3) := dk_184 0 71 (dk_at dksJ8_charAt_0 7 rfl rfl)
theorem dJ8_charAt_10 : decode cJ8_charAt 10 = .ok (.ireturn, 1) := dk_172 (dk_at dksJ8_charAt_0 10 rfl rfl)
abbrev cJ8_checkIndex : ByteArray := prog_37_method_91_code
def yJ8_checkIndex : MethodName := ⟨RJ8, "checkIndex", "(I[B)V"⟩
def dkwJ8_checkIndex_0 : List UInt8 := [26, 43, 184, 0, 48, 184, 1, 158, 177]
abbrev dktJ8_checkIndex_0 : List UInt8 := dkwJ8_checkIndex_0 ++ []
theorem dksJ8_checkIndex_0 : cJ8_checkIndex.data.toList.drop 0 = dktJ8_checkIndex_0 := by decide +kernel
theorem dJ8_checkIndex_0 : decode cJ8_checkIndex 0 = .ok (.iload_n 0, 1) := dk_26 (dk_at dksJ8_checkIndex_0 0 rfl rfl)
theorem dJ8_checkIndex_1 : decode cJ8_checkIndex 1 = .ok (.aload_n 1, 1) := dk_43 (dk_at dksJ8_checkIndex_0 1 rfl rfl)
theorem dJ8_checkIndex_2 : decode cJ8_checkIndex 2 = .ok (.invokestatic 48, 3) := dk_184 0 48 (dk_at dksJ8_checkIndex_0 2 rfl rfl)
theorem dJ8_checkIndex_5 : decode cJ8_checkIndex 5 = .ok (.invokestatic 414, 3) := dk_184 1 158 (dk_at dksJ8_checkIndex_0 5 rfl rfl)
theorem dJ8_checkIndex_8 : decode cJ8_checkIndex 8 = .ok (.return_, 1) := dk_177 (dk_at dksJ8_checkIndex_0 8 rfl rfl)
abbrev cJ8_length : ByteArray := prog_37_method_6_code
def yJ8_length : MethodName := ⟨RJ8, "length", "([B)I"⟩
def dkwJ8_length_0 : List UInt8 := [42, 190, 4, 122, 172]
abbrev dktJ8_length_0 : List UInt8 := dkwJ8_length_0 ++ []
theorem dksJ8_length_0 : cJ8_length.data.toList.drop 0 = dktJ8_length_0 := by decide +kernel
theorem dJ8_length_0 : decode cJ8_length 0 = .ok (.aload_n 0, 1) := dk_42 (dk_at dksJ8_length_0 0 rfl rfl)
theorem dJ8_length_1 : decode cJ8_length 1 = .ok (.arraylength, 1) := dk_190 (dk_at dksJ8_length_0 1 rfl rfl)
theorem dJ8_length_2 : decode cJ8_length 2 = .ok (.iconst 1, 1) := dk_4 (dk_at dksJ8_length_0 2 rfl rfl)
theorem dJ8_length_3 : decode cJ8_length 3 = .ok (.ishr, 1) := dk_122 (dk_at dksJ8_length_0 3 rfl rfl)
theorem dJ8_length_4 : decode cJ8_length 4 = .ok (.ireturn, 1) := dk_172 (dk_at dksJ8_length_0 4 rfl rfl)
abbrev cJ8_getChar : ByteArray := prog_37_method_5_code
def yJ8_getChar : MethodName := ⟨RJ8, "getChar", "([BI)C"⟩
def dkwJ8_getChar_2 : List UInt8 := [51, 17, 0, 255, 126, 178, 0, 63, 120, 128, 146, 172]
abbrev dktJ8_getChar_2 : List UInt8 := dkwJ8_getChar_2 ++ []
def dkwJ8_getChar_1 : List UInt8 := [183, 0, 56, 191, 27, 4, 120, 60, 42, 27, 132, 1, 1, 51, 17, 0, 255, 126, 178, 0, 59, 120, 42, 27]
abbrev dktJ8_getChar_1 : List UInt8 := dkwJ8_getChar_1 ++ dktJ8_getChar_2
def dkwJ8_getChar_0 : List UInt8 := [178, 0, 44, 154, 0, 25, 27, 155, 0, 11, 27, 42, 184, 0, 48, 161, 0, 13, 187, 0, 52, 89, 18, 54]
abbrev dktJ8_getChar_0 : List UInt8 := dkwJ8_getChar_0 ++ dktJ8_getChar_1
theorem dksJ8_getChar_0 : cJ8_getChar.data.toList.drop 0 = dktJ8_getChar_0 := by decide +kernel
theorem dksJ8_getChar_1 : cJ8_getChar.data.toList.drop 24 = dktJ8_getChar_1 := dk_seg dksJ8_getChar_0 24 rfl rfl
theorem dksJ8_getChar_2 : cJ8_getChar.data.toList.drop 48 = dktJ8_getChar_2 := dk_seg dksJ8_getChar_1 24 rfl rfl
theorem dJ8_getChar_0 : decode cJ8_getChar 0 = .ok (.getstatic 44, 3) := dk_178 0 44 (dk_at dksJ8_getChar_0 0 rfl rfl)
theorem dJ8_getChar_3 : decode cJ8_getChar 3 = .ok (.ifCond .ne 25, 3) := dk_154 0 25 (dk_at dksJ8_getChar_0 3 rfl rfl)
theorem dJ8_getChar_6 : decode cJ8_getChar 6 = .ok (.iload_n 1, 1) := dk_27 (dk_at dksJ8_getChar_0 6 rfl rfl)
theorem dJ8_getChar_7 : decode cJ8_getChar 7 = .ok (.ifCond .lt 11, 3) := dk_155 0 11 (dk_at dksJ8_getChar_0 7 rfl rfl)
theorem dJ8_getChar_10 : decode cJ8_getChar 10 = .ok (.iload_n 1, 1) := dk_27 (dk_at dksJ8_getChar_0 10 rfl rfl)
theorem dJ8_getChar_11 : decode cJ8_getChar 11 = .ok (.aload_n 0, 1) := dk_42 (dk_at dksJ8_getChar_0 11 rfl rfl)
theorem dJ8_getChar_12 : decode cJ8_getChar 12 = .ok (.invokestatic 48, 3) := dk_184 0 48 (dk_at dksJ8_getChar_0 12 rfl rfl)
theorem dJ8_getChar_15 : decode cJ8_getChar 15 = .ok (.if_icmp .lt 13, 3) := dk_161 0 13 (dk_at dksJ8_getChar_0 15 rfl rfl)
theorem dJ8_getChar_18 : decode cJ8_getChar 18 = .ok (.new 52, 3) := dk_187 0 52 (dk_at dksJ8_getChar_0 18 rfl rfl)
theorem dJ8_getChar_21 : decode cJ8_getChar 21 = .ok (.dup, 1) := dk_89 (dk_at dksJ8_getChar_0 21 rfl rfl)
theorem dJ8_getChar_22 : decode cJ8_getChar 22 = .ok (.ldc 54, 2) := dk_18 54 (dk_at dksJ8_getChar_0 22 rfl rfl)
theorem dJ8_getChar_24 : decode cJ8_getChar 24 = .ok (.invokespecial 56, 3) := dk_183 0 56 (dk_at dksJ8_getChar_1 0 rfl rfl)
theorem dJ8_getChar_27 : decode cJ8_getChar 27 = .ok (.athrow, 1) := dk_191 (dk_at dksJ8_getChar_1 3 rfl rfl)
theorem dJ8_getChar_28 : decode cJ8_getChar 28 = .ok (.iload_n 1, 1) := dk_27 (dk_at dksJ8_getChar_1 4 rfl rfl)
theorem dJ8_getChar_29 : decode cJ8_getChar 29 = .ok (.iconst 1, 1) := dk_4 (dk_at dksJ8_getChar_1 5 rfl rfl)
theorem dJ8_getChar_30 : decode cJ8_getChar 30 = .ok (.ishl, 1) := dk_120 (dk_at dksJ8_getChar_1 6 rfl rfl)
theorem dJ8_getChar_31 : decode cJ8_getChar 31 = .ok (.istore_n 1, 1) := dk_60 (dk_at dksJ8_getChar_1 7 rfl rfl)
theorem dJ8_getChar_32 : decode cJ8_getChar 32 = .ok (.aload_n 0, 1) := dk_42 (dk_at dksJ8_getChar_1 8 rfl rfl)
theorem dJ8_getChar_33 : decode cJ8_getChar 33 = .ok (.iload_n 1, 1) := dk_27 (dk_at dksJ8_getChar_1 9 rfl rfl)
theorem dJ8_getChar_34 : decode cJ8_getChar 34 = .ok (.iinc 1 1, 3) := dk_132 1 1 (dk_at dksJ8_getChar_1 10 rfl rfl)
theorem dJ8_getChar_37 : decode cJ8_getChar 37 = .ok (.baload, 1) := dk_51 (dk_at dksJ8_getChar_1 13 rfl rfl)
theorem dJ8_getChar_38 : decode cJ8_getChar 38 = .ok (.sipush 255, 3) := dk_17 0 255 (dk_at dksJ8_getChar_1 14 rfl rfl)
theorem dJ8_getChar_41 : decode cJ8_getChar 41 = .ok (.iand, 1) := dk_126 (dk_at dksJ8_getChar_1 17 rfl rfl)
theorem dJ8_getChar_42 : decode cJ8_getChar 42 = .ok (.getstatic 59, 3) := dk_178 0 59 (dk_at dksJ8_getChar_1 18 rfl rfl)
theorem dJ8_getChar_45 : decode cJ8_getChar 45 = .ok (.ishl, 1) := dk_120 (dk_at dksJ8_getChar_1 21 rfl rfl)
theorem dJ8_getChar_46 : decode cJ8_getChar 46 = .ok (.aload_n 0, 1) := dk_42 (dk_at dksJ8_getChar_1 22 rfl rfl)
theorem dJ8_getChar_47 : decode cJ8_getChar 47 = .ok (.iload_n 1, 1) := dk_27 (dk_at dksJ8_getChar_1 23 rfl rfl)
theorem dJ8_getChar_48 : decode cJ8_getChar 48 = .ok (.baload, 1) := dk_51 (dk_at dksJ8_getChar_2 0 rfl rfl)
theorem dJ8_getChar_49 : decode cJ8_getChar 49 = .ok (.sipush 255, 3) := dk_17 0 255 (dk_at dksJ8_getChar_2 1 rfl rfl)
theorem dJ8_getChar_52 : decode cJ8_getChar 52 = .ok (.iand, 1) := dk_126 (dk_at dksJ8_getChar_2 4 rfl rfl)
theorem dJ8_getChar_53 : decode cJ8_getChar 53 = .ok (.getstatic 63, 3) := dk_178 0 63 (dk_at dksJ8_getChar_2 5 rfl rfl)
theorem dJ8_getChar_56 : decode cJ8_getChar 56 = .ok (.ishl, 1) := dk_120 (dk_at dksJ8_getChar_2 8 rfl rfl)
theorem dJ8_getChar_57 : decode cJ8_getChar 57 = .ok (.ior, 1) := dk_128 (dk_at dksJ8_getChar_2 9 rfl rfl)
theorem dJ8_getChar_58 : decode cJ8_getChar 58 = .ok (.i2c, 1) := dk_146 (dk_at dksJ8_getChar_2 10 rfl rfl)
theorem dJ8_getChar_59 : decode cJ8_getChar 59 = .ok (.ireturn, 1) := dk_172 (dk_at dksJ8_getChar_2 11 rfl rfl)
theorem q137 : (Jvm.Cond.initialized "java/lang/StringUTF16") ∈ lw_all := lw_g (lw_at lw_m1 22 rfl) rfl
theorem q777 : (Jvm.Cond.static ({ cls := "java/lang/StringUTF16", name := "charAt", desc := "([BI)C" } : Jvm.MethodName)) ∈ lw_all := lw_g (lw_at lw_m3 182 rfl) rfl
theorem q778 : (Jvm.Cond.code ({ cls := "java/lang/StringUTF16", name := "charAt", desc := "([BI)C" } : Jvm.MethodName) prog_37_method_83_code (2 : Nat) (Option.some Jvm.ClassFile.FieldType.char)) ∈ lw_all := lw_g (lw_at lw_m3 183 rfl) rfl
theorem q779 : (Jvm.Cond.methodLink "java/lang/StringUTF16" (67 : Nat) ({ cls := "java/lang/StringUTF16", name := "checkIndex", desc := "(I[B)V" } : Jvm.MethodName)) ∈ lw_all := lw_g (lw_at lw_m3 184 rfl) rfl
theorem q780 : (Jvm.Cond.static ({ cls := "java/lang/StringUTF16", name := "checkIndex", desc := "(I[B)V" } : Jvm.MethodName)) ∈ lw_all := lw_g (lw_at lw_m3 185 rfl) rfl
theorem q781 : (Jvm.Cond.code ({ cls := "java/lang/StringUTF16", name := "checkIndex", desc := "(I[B)V" } : Jvm.MethodName) prog_37_method_91_code (2 : Nat) (Option.none : Option Jvm.ClassFile.FieldType)) ∈ lw_all := lw_g (lw_at lw_m3 186 rfl) rfl
theorem q782 : (Jvm.Cond.methodLink "java/lang/StringUTF16" (48 : Nat) ({ cls := "java/lang/StringUTF16", name := "length", desc := "([B)I" } : Jvm.MethodName)) ∈ lw_all := lw_g (lw_at lw_m3 187 rfl) rfl
theorem q783 : (Jvm.Cond.static ({ cls := "java/lang/StringUTF16", name := "length", desc := "([B)I" } : Jvm.MethodName)) ∈ lw_all := lw_g (lw_at lw_m3 188 rfl) rfl
theorem q784 : (Jvm.Cond.code ({ cls := "java/lang/StringUTF16", name := "length", desc := "([B)I" } : Jvm.MethodName) prog_37_method_6_code (1 : Nat) (Option.some Jvm.ClassFile.FieldType.int)) ∈ lw_all := lw_g (lw_at lw_m3 189 rfl) rfl
theorem q785 : (Jvm.Cond.methodLink "java/lang/StringUTF16" (414 : Nat) ({ cls := "java/lang/String", name := "checkIndex", desc := "(II)V" } : Jvm.MethodName)) ∈ lw_all := lw_g (lw_at lw_m3 190 rfl) rfl
theorem q786 : (Jvm.Cond.methodLink "java/lang/StringUTF16" (71 : Nat) ({ cls := "java/lang/StringUTF16", name := "getChar", desc := "([BI)C" } : Jvm.MethodName)) ∈ lw_all := lw_g (lw_at lw_m3 191 rfl) rfl
theorem q787 : (Jvm.Cond.static ({ cls := "java/lang/StringUTF16", name := "getChar", desc := "([BI)C" } : Jvm.MethodName)) ∈ lw_all := lw_g (lw_at lw_m3 192 rfl) rfl
theorem q788 : (Jvm.Cond.code ({ cls := "java/lang/StringUTF16", name := "getChar", desc := "([BI)C" } : Jvm.MethodName) prog_37_method_5_code (2 : Nat) (Option.some Jvm.ClassFile.FieldType.char)) ∈ lw_all := lw_g (lw_at lw_m3 193 rfl) rfl
theorem q789 : (Jvm.Cond.fieldLink "java/lang/StringUTF16" (44 : Nat) "java/lang/StringUTF16" "$assertionsDisabled" "Z") ∈ lw_all := lw_g (lw_at lw_m3 194 rfl) rfl
theorem q790 : (Jvm.Cond.laysStatic "java/lang/StringUTF16" "$assertionsDisabled" "Z") ∈ lw_tbl := lw_at lw_m3 195 rfl
theorem q791 : (Jvm.Cond.fieldLink "java/lang/StringUTF16" (59 : Nat) "java/lang/StringUTF16" "HI_BYTE_SHIFT" "I") ∈ lw_all := lw_g (lw_at lw_m3 196 rfl) rfl
theorem q792 : (Jvm.Cond.laysStatic "java/lang/StringUTF16" "HI_BYTE_SHIFT" "I") ∈ lw_tbl := lw_at lw_m3 197 rfl
theorem q793 : (Jvm.Cond.fieldLink "java/lang/StringUTF16" (63 : Nat) "java/lang/StringUTF16" "LO_BYTE_SHIFT" "I") ∈ lw_all := lw_g (lw_at lw_m3 198 rfl) rfl
theorem q794 : (Jvm.Cond.laysStatic "java/lang/StringUTF16" "LO_BYTE_SHIFT" "I") ∈ lw_tbl := lw_at lw_m3 199 rfl
/-! java/lang/NegativeArraySizeException -/
set_option maxRecDepth 100000
def RJ9 : String := "java/lang/NegativeArraySizeException"
def TJ9 : u_T := fun k => match k with
  | 0 => ("java/lang/Throwable", "backtrace", "Ljava/lang/Object;", false)
  | 1 => ("java/lang/Throwable", "detailMessage", "Ljava/lang/String;", false)
  | 2 => ("java/lang/Throwable", "cause", "Ljava/lang/Throwable;", false)
  | 3 => ("java/lang/Throwable", "stackTrace", "[Ljava/lang/StackTraceElement;", false)
  | 4 => ("java/lang/Throwable", "depth", "I", false)
  | _ => ("java/lang/Throwable", "suppressedExceptions", "Ljava/util/List;", false)
def tyJ9 : Nat → FieldType := fun k => match k with
  | 0 => .object "java/lang/Object"
  | 1 => .object "java/lang/String"
  | 2 => .object "java/lang/Throwable"
  | 3 => .array (.object "java/lang/StackTraceElement")
  | 4 => .int
  | _ => .object "java/util/List"
abbrev wsJ90 : List Cond := u_ws RJ9 TJ9 6
theorem nmJ9 : ∀ a, a < 6 → ∀ b, b < 6 → a ≠ b → (TJ9 a).2.1 ≠ (TJ9 b).2.1 := by decide +kernel
theorem tyJ9_ok : ∀ k, k < 6 → parseFieldDescriptor (TJ9 k).2.2.1 = some (tyJ9 k) := by decide +kernel
abbrev cJ9_init : ByteArray := prog_32_method_2_code
def yJ9_init : MethodName := ⟨RJ9, "<init>", "(Ljava/lang/String;)V"⟩
def dkwJ9_init_0 : List UInt8 := [42, 43, 183, 0, 7, 177]
abbrev dktJ9_init_0 : List UInt8 := dkwJ9_init_0 ++ []
theorem dksJ9_init_0 : cJ9_init.data.toList.drop 0 = dktJ9_init_0 := by decide +kernel
theorem dJ9_init_0 : decode cJ9_init 0 = .ok (.aload_n 0, 1) := dk_42 (dk_at dksJ9_init_0 0 rfl rfl)
theorem dJ9_init_1 : decode cJ9_init 1 = .ok (.aload_n 1, 1) := dk_43 (dk_at dksJ9_init_0 1 rfl rfl)
theorem dJ9_init_2 : decode cJ9_init 2 = .ok (.invokespecial 7, 3) := dk_183 0 7 (dk_at dksJ9_init_0 2 rfl rfl)
theorem dJ9_init_5 : decode cJ9_init 5 = .ok (.return_, 1) := dk_177 (dk_at dksJ9_init_0 5 rfl rfl)
theorem q146 : (Jvm.Cond.initialized "java/lang/NegativeArraySizeException") ∈ lw_all := lw_g (lw_at lw_m1 31 rfl) rfl
theorem q195 : (Jvm.Cond.selects "java/lang/NegativeArraySizeException" ({ cls := "java/lang/Throwable", name := "fillInStackTrace", desc := "()Ljava/lang/Throwable;" } : Jvm.MethodName) ({ cls := "java/lang/Throwable", name := "fillInStackTrace", desc := "()Ljava/lang/Throwable;" } : Jvm.MethodName)) ∈ lw_all := lw_g (lw_at lw_m1 80 rfl) rfl
theorem q1167 : (Jvm.Cond.instantiable "java/lang/NegativeArraySizeException" (6 : Nat)) ∈ lw_all := lw_g (lw_at lw_m5 92 rfl) rfl
theorem q1168 : (Jvm.Cond.instanceMethod ({ cls := "java/lang/NegativeArraySizeException", name := "<init>", desc := "(Ljava/lang/String;)V" } : Jvm.MethodName)) ∈ lw_all := lw_g (lw_at lw_m5 93 rfl) rfl
theorem q1169 : (Jvm.Cond.code ({ cls := "java/lang/NegativeArraySizeException", name := "<init>", desc := "(Ljava/lang/String;)V" } : Jvm.MethodName) prog_32_method_2_code (2 : Nat) (Option.none : Option Jvm.ClassFile.FieldType)) ∈ lw_all := lw_g (lw_at lw_m5 94 rfl) rfl
theorem q1170 : (Jvm.Cond.methodLink "java/lang/NegativeArraySizeException" (7 : Nat) ({ cls := "java/lang/RuntimeException", name := "<init>", desc := "(Ljava/lang/String;)V" } : Jvm.MethodName)) ∈ lw_all := lw_g (lw_at lw_m5 95 rfl) rfl
theorem q1179 : (Jvm.Cond.lays "java/lang/NegativeArraySizeException" "java/lang/Throwable" "backtrace" "Ljava/lang/Object;") ∈ lw_all := lw_g (lw_at lw_m5 104 rfl) rfl
theorem q1180 : (Jvm.Cond.lays "java/lang/NegativeArraySizeException" "java/lang/Throwable" "detailMessage" "Ljava/lang/String;") ∈ lw_all := lw_g (lw_at lw_m5 105 rfl) rfl
theorem q1181 : (Jvm.Cond.lays "java/lang/NegativeArraySizeException" "java/lang/Throwable" "cause" "Ljava/lang/Throwable;") ∈ lw_all := lw_g (lw_at lw_m5 106 rfl) rfl
theorem q1182 : (Jvm.Cond.lays "java/lang/NegativeArraySizeException" "java/lang/Throwable" "stackTrace" "[Ljava/lang/StackTraceElement;") ∈ lw_all := lw_g (lw_at lw_m5 107 rfl) rfl
theorem q1183 : (Jvm.Cond.lays "java/lang/NegativeArraySizeException" "java/lang/Throwable" "depth" "I") ∈ lw_all := lw_g (lw_at lw_m5 108 rfl) rfl
theorem q1184 : (Jvm.Cond.lays "java/lang/NegativeArraySizeException" "java/lang/Throwable" "suppressedExceptions" "Ljava/util/List;") ∈ lw_all := lw_g (lw_at lw_m5 109 rfl) rfl
theorem q1185 : (Jvm.Cond.superclass "java/lang/NegativeArraySizeException" "java/lang/RuntimeException") ∈ lw_all := lw_g (lw_at lw_m5 110 rfl) rfl
theorem q1186 : (Jvm.Cond.castable "java/lang/NegativeArraySizeException" "java/lang/NegativeArraySizeException") ∈ lw_tbl := lw_at lw_m5 111 rfl
theorem q1187 : (Jvm.Cond.selects "java/lang/NegativeArraySizeException" ({ cls := "java/lang/Throwable", name := "fillInStackTrace", desc := "(I)Ljava/lang/Throwable;" } : Jvm.MethodName) ({ cls := "java/lang/Throwable", name := "fillInStackTrace", desc := "(I)Ljava/lang/Throwable;" } : Jvm.MethodName)) ∈ lw_all := lw_g (lw_at lw_m5 112 rfl) rfl
theorem in_J9 : ∀ w ∈ wsJ90, w ∈ lw_all := lw_in wsJ90 [1179, 1180, 1181, 1182, 1183, 1184] (by decide +kernel) (by decide +kernel)
/-! java/lang/ClassCastException -/
set_option maxRecDepth 100000
def RJ10 : String := "java/lang/ClassCastException"
def TJ10 : u_T := fun k => match k with
  | 0 => ("java/lang/Throwable", "backtrace", "Ljava/lang/Object;", false)
  | 1 => ("java/lang/Throwable", "detailMessage", "Ljava/lang/String;", false)
  | 2 => ("java/lang/Throwable", "cause", "Ljava/lang/Throwable;", false)
  | 3 => ("java/lang/Throwable", "stackTrace", "[Ljava/lang/StackTraceElement;", false)
  | 4 => ("java/lang/Throwable", "depth", "I", false)
  | _ => ("java/lang/Throwable", "suppressedExceptions", "Ljava/util/List;", false)
def tyJ10 : Nat → FieldType := fun k => match k with
  | 0 => .object "java/lang/Object"
  | 1 => .object "java/lang/String"
  | 2 => .object "java/lang/Throwable"
  | 3 => .array (.object "java/lang/StackTraceElement")
  | 4 => .int
  | _ => .object "java/util/List"
abbrev wsJ100 : List Cond := u_ws RJ10 TJ10 6
theorem nmJ10 : ∀ a, a < 6 → ∀ b, b < 6 → a ≠ b → (TJ10 a).2.1 ≠ (TJ10 b).2.1 := by decide +kernel
theorem tyJ10_ok : ∀ k, k < 6 → parseFieldDescriptor (TJ10 k).2.2.1 = some (tyJ10 k) := by decide +kernel
abbrev cJ10_init : ByteArray := prog_28_method_2_code
def yJ10_init : MethodName := ⟨RJ10, "<init>", "(Ljava/lang/String;)V"⟩
def dkwJ10_init_0 : List UInt8 := [42, 43, 183, 0, 7, 177]
abbrev dktJ10_init_0 : List UInt8 := dkwJ10_init_0 ++ []
theorem dksJ10_init_0 : cJ10_init.data.toList.drop 0 = dktJ10_init_0 := by decide +kernel
theorem dJ10_init_0 : decode cJ10_init 0 = .ok (.aload_n 0, 1) := dk_42 (dk_at dksJ10_init_0 0 rfl rfl)
theorem dJ10_init_1 : decode cJ10_init 1 = .ok (.aload_n 1, 1) := dk_43 (dk_at dksJ10_init_0 1 rfl rfl)
theorem dJ10_init_2 : decode cJ10_init 2 = .ok (.invokespecial 7, 3) := dk_183 0 7 (dk_at dksJ10_init_0 2 rfl rfl)
theorem dJ10_init_5 : decode cJ10_init 5 = .ok (.return_, 1) := dk_177 (dk_at dksJ10_init_0 5 rfl rfl)
theorem q147 : (Jvm.Cond.initialized "java/lang/ClassCastException") ∈ lw_all := lw_g (lw_at lw_m1 32 rfl) rfl
theorem q194 : (Jvm.Cond.selects "java/lang/ClassCastException" ({ cls := "java/lang/Throwable", name := "fillInStackTrace", desc := "()Ljava/lang/Throwable;" } : Jvm.MethodName) ({ cls := "java/lang/Throwable", name := "fillInStackTrace", desc := "()Ljava/lang/Throwable;" } : Jvm.MethodName)) ∈ lw_all := lw_g (lw_at lw_m1 79 rfl) rfl
theorem q1227 : (Jvm.Cond.instantiable "java/lang/ClassCastException" (6 : Nat)) ∈ lw_all := lw_g (lw_at lw_m5 152 rfl) rfl
theorem q1228 : (Jvm.Cond.instanceMethod ({ cls := "java/lang/ClassCastException", name := "<init>", desc := "(Ljava/lang/String;)V" } : Jvm.MethodName)) ∈ lw_all := lw_g (lw_at lw_m5 153 rfl) rfl
theorem q1229 : (Jvm.Cond.code ({ cls := "java/lang/ClassCastException", name := "<init>", desc := "(Ljava/lang/String;)V" } : Jvm.MethodName) prog_28_method_2_code (2 : Nat) (Option.none : Option Jvm.ClassFile.FieldType)) ∈ lw_all := lw_g (lw_at lw_m5 154 rfl) rfl
theorem q1230 : (Jvm.Cond.methodLink "java/lang/ClassCastException" (7 : Nat) ({ cls := "java/lang/RuntimeException", name := "<init>", desc := "(Ljava/lang/String;)V" } : Jvm.MethodName)) ∈ lw_all := lw_g (lw_at lw_m5 155 rfl) rfl
theorem q1231 : (Jvm.Cond.lays "java/lang/ClassCastException" "java/lang/Throwable" "backtrace" "Ljava/lang/Object;") ∈ lw_all := lw_g (lw_at lw_m5 156 rfl) rfl
theorem q1232 : (Jvm.Cond.lays "java/lang/ClassCastException" "java/lang/Throwable" "detailMessage" "Ljava/lang/String;") ∈ lw_all := lw_g (lw_at lw_m5 157 rfl) rfl
theorem q1233 : (Jvm.Cond.lays "java/lang/ClassCastException" "java/lang/Throwable" "cause" "Ljava/lang/Throwable;") ∈ lw_all := lw_g (lw_at lw_m5 158 rfl) rfl
theorem q1234 : (Jvm.Cond.lays "java/lang/ClassCastException" "java/lang/Throwable" "stackTrace" "[Ljava/lang/StackTraceElement;") ∈ lw_all := lw_g (lw_at lw_m5 159 rfl) rfl
theorem q1235 : (Jvm.Cond.lays "java/lang/ClassCastException" "java/lang/Throwable" "depth" "I") ∈ lw_all := lw_g (lw_at lw_m5 160 rfl) rfl
theorem q1236 : (Jvm.Cond.lays "java/lang/ClassCastException" "java/lang/Throwable" "suppressedExceptions" "Ljava/util/List;") ∈ lw_all := lw_g (lw_at lw_m5 161 rfl) rfl
theorem q1237 : (Jvm.Cond.superclass "java/lang/ClassCastException" "java/lang/RuntimeException") ∈ lw_all := lw_g (lw_at lw_m5 162 rfl) rfl
theorem q1238 : (Jvm.Cond.castable "java/lang/ClassCastException" "java/lang/ClassCastException") ∈ lw_tbl := lw_at lw_m5 163 rfl
theorem q1239 : (Jvm.Cond.selects "java/lang/ClassCastException" ({ cls := "java/lang/Throwable", name := "fillInStackTrace", desc := "(I)Ljava/lang/Throwable;" } : Jvm.MethodName) ({ cls := "java/lang/Throwable", name := "fillInStackTrace", desc := "(I)Ljava/lang/Throwable;" } : Jvm.MethodName)) ∈ lw_all := lw_g (lw_at lw_m5 164 rfl) rfl
theorem in_J10 : ∀ w ∈ wsJ100, w ∈ lw_all := lw_in wsJ100 [1231, 1232, 1233, 1234, 1235, 1236] (by decide +kernel) (by decide +kernel)
/-! java/lang/NullPointerException -/
set_option maxRecDepth 100000
def RJ11 : String := "java/lang/NullPointerException"
def TJ11 : u_T := fun k => match k with
  | 0 => ("java/lang/Throwable", "backtrace", "Ljava/lang/Object;", false)
  | 1 => ("java/lang/Throwable", "detailMessage", "Ljava/lang/String;", false)
  | 2 => ("java/lang/Throwable", "cause", "Ljava/lang/Throwable;", false)
  | 3 => ("java/lang/Throwable", "stackTrace", "[Ljava/lang/StackTraceElement;", false)
  | 4 => ("java/lang/Throwable", "depth", "I", false)
  | 5 => ("java/lang/Throwable", "suppressedExceptions", "Ljava/util/List;", false)
  | 6 => ("java/lang/NullPointerException", "extendedMessageState", "I", false)
  | _ => ("java/lang/NullPointerException", "extendedMessage", "Ljava/lang/String;", false)
def tyJ11 : Nat → FieldType := fun k => match k with
  | 0 => .object "java/lang/Object"
  | 1 => .object "java/lang/String"
  | 2 => .object "java/lang/Throwable"
  | 3 => .array (.object "java/lang/StackTraceElement")
  | 4 => .int
  | 5 => .object "java/util/List"
  | 6 => .int
  | _ => .object "java/lang/String"
abbrev wsJ110 : List Cond := u_ws RJ11 TJ11 8
theorem nmJ11 : ∀ a, a < 8 → ∀ b, b < 8 → a ≠ b → (TJ11 a).2.1 ≠ (TJ11 b).2.1 := by decide +kernel
theorem tyJ11_ok : ∀ k, k < 8 → parseFieldDescriptor (TJ11 k).2.2.1 = some (tyJ11 k) := by decide +kernel
abbrev cJ11_init : ByteArray := prog_33_method_1_code
def yJ11_init : MethodName := ⟨RJ11, "<init>", "()V"⟩
theorem dJ11_init_0 : decode cJ11_init 0 = .ok (.aload_n 0, 1) := by decide +kernel
theorem dJ11_init_1 : decode cJ11_init 1 = .ok (.invokespecial 1, 3) := by decide +kernel
theorem dJ11_init_4 : decode cJ11_init 4 = .ok (.return_, 1) := by decide +kernel
theorem q148 : (Jvm.Cond.initialized "java/lang/NullPointerException") ∈ lw_all := lw_g (lw_at lw_m1 33 rfl) rfl
theorem q196 : (Jvm.Cond.selects "java/lang/NullPointerException" ({ cls := "java/lang/Throwable", name := "fillInStackTrace", desc := "()Ljava/lang/Throwable;" } : Jvm.MethodName) ({ cls := "java/lang/NullPointerException", name := "fillInStackTrace", desc := "()Ljava/lang/Throwable;" } : Jvm.MethodName)) ∈ lw_all := lw_g (lw_at lw_m1 81 rfl) rfl
theorem q197 : (Jvm.Cond.instanceMethod ({ cls := "java/lang/NullPointerException", name := "fillInStackTrace", desc := "()Ljava/lang/Throwable;" } : Jvm.MethodName)) ∈ lw_all := lw_g (lw_at lw_m1 82 rfl) rfl
theorem q198 : (Jvm.Cond.codeSync ({ cls := "java/lang/NullPointerException", name := "fillInStackTrace", desc := "()Ljava/lang/Throwable;" } : Jvm.MethodName) prog_33_method_3_code (1 : Nat) (Option.some (Jvm.ClassFile.FieldType.object "java/lang/Throwable"))) ∈ lw_all := lw_g (lw_at lw_m1 83 rfl) rfl
theorem q199 : (Jvm.Cond.methodLink "java/lang/NullPointerException" (16 : Nat) ({ cls := "java/lang/NullPointerException", name := "getExtendedNPEMessage", desc := "()Ljava/lang/String;" } : Jvm.MethodName)) ∈ lw_all := lw_g (lw_at lw_m1 84 rfl) rfl
theorem q200 : (Jvm.Cond.privateMethod ({ cls := "java/lang/NullPointerException", name := "getExtendedNPEMessage", desc := "()Ljava/lang/String;" } : Jvm.MethodName)) ∈ lw_tbl := lw_at lw_m1 85 rfl
theorem q201 : (Jvm.Cond.instanceMethod ({ cls := "java/lang/NullPointerException", name := "getExtendedNPEMessage", desc := "()Ljava/lang/String;" } : Jvm.MethodName)) ∈ lw_all := lw_g (lw_at lw_m1 86 rfl) rfl
theorem q202 : (Jvm.Cond.instantiable "java/lang/NullPointerException" (8 : Nat)) ∈ lw_all := lw_g (lw_at lw_m1 87 rfl) rfl
theorem q203 : (Jvm.Cond.native ({ cls := "java/lang/NullPointerException", name := "getExtendedNPEMessage", desc := "()Ljava/lang/String;" } : Jvm.MethodName)) ∈ lw_all := lw_g (lw_at lw_m1 88 rfl) rfl
theorem q204 : (Jvm.Cond.methodLink "java/lang/NullPointerException" (24 : Nat) ({ cls := "java/lang/RuntimeException", name := "fillInStackTrace", desc := "()Ljava/lang/Throwable;" } : Jvm.MethodName)) ∈ lw_all := lw_g (lw_at lw_m1 89 rfl) rfl
theorem q207 : (Jvm.Cond.superclass "java/lang/NullPointerException" "java/lang/RuntimeException") ∈ lw_all := lw_g (lw_at lw_m1 92 rfl) rfl
theorem q1241 : (Jvm.Cond.instanceMethod ({ cls := "java/lang/NullPointerException", name := "<init>", desc := "()V" } : Jvm.MethodName)) ∈ lw_all := lw_g (lw_at lw_m5 166 rfl) rfl
theorem q1242 : (Jvm.Cond.code ({ cls := "java/lang/NullPointerException", name := "<init>", desc := "()V" } : Jvm.MethodName) prog_33_method_1_code (1 : Nat) (Option.none : Option Jvm.ClassFile.FieldType)) ∈ lw_all := lw_g (lw_at lw_m5 167 rfl) rfl
theorem q1243 : (Jvm.Cond.methodLink "java/lang/NullPointerException" (1 : Nat) ({ cls := "java/lang/RuntimeException", name := "<init>", desc := "()V" } : Jvm.MethodName)) ∈ lw_all := lw_g (lw_at lw_m5 168 rfl) rfl
theorem q1250 : (Jvm.Cond.fieldLink "java/lang/NullPointerException" (10 : Nat) "java/lang/NullPointerException" "extendedMessageState" "I") ∈ lw_all := lw_g (lw_at lw_m5 175 rfl) rfl
theorem q1251 : (Jvm.Cond.fieldLink "java/lang/NullPointerException" (20 : Nat) "java/lang/NullPointerException" "extendedMessage" "Ljava/lang/String;") ∈ lw_all := lw_g (lw_at lw_m5 176 rfl) rfl
theorem q1252 : (Jvm.Cond.lays "java/lang/NullPointerException" "java/lang/NullPointerException" "extendedMessageState" "I") ∈ lw_all := lw_g (lw_at lw_m5 177 rfl) rfl
theorem q1253 : (Jvm.Cond.soleField "java/lang/NullPointerException" "extendedMessageState") ∈ lw_all := lw_g (lw_at lw_m5 178 rfl) rfl
theorem q1254 : (Jvm.Cond.lays "java/lang/NullPointerException" "java/lang/NullPointerException" "extendedMessage" "Ljava/lang/String;") ∈ lw_all := lw_g (lw_at lw_m5 179 rfl) rfl
theorem q1255 : (Jvm.Cond.soleField "java/lang/NullPointerException" "extendedMessage") ∈ lw_all := lw_g (lw_at lw_m5 180 rfl) rfl
theorem q1256 : (Jvm.Cond.lays "java/lang/NullPointerException" "java/lang/Throwable" "backtrace" "Ljava/lang/Object;") ∈ lw_all := lw_g (lw_at lw_m5 181 rfl) rfl
theorem q1257 : (Jvm.Cond.lays "java/lang/NullPointerException" "java/lang/Throwable" "detailMessage" "Ljava/lang/String;") ∈ lw_all := lw_g (lw_at lw_m5 182 rfl) rfl
theorem q1258 : (Jvm.Cond.lays "java/lang/NullPointerException" "java/lang/Throwable" "cause" "Ljava/lang/Throwable;") ∈ lw_all := lw_g (lw_at lw_m5 183 rfl) rfl
theorem q1259 : (Jvm.Cond.lays "java/lang/NullPointerException" "java/lang/Throwable" "stackTrace" "[Ljava/lang/StackTraceElement;") ∈ lw_all := lw_g (lw_at lw_m5 184 rfl) rfl
theorem q1260 : (Jvm.Cond.lays "java/lang/NullPointerException" "java/lang/Throwable" "depth" "I") ∈ lw_all := lw_g (lw_at lw_m5 185 rfl) rfl
theorem q1261 : (Jvm.Cond.lays "java/lang/NullPointerException" "java/lang/Throwable" "suppressedExceptions" "Ljava/util/List;") ∈ lw_all := lw_g (lw_at lw_m5 186 rfl) rfl
theorem q1262 : (Jvm.Cond.castable "java/lang/NullPointerException" "java/lang/NullPointerException") ∈ lw_tbl := lw_at lw_m5 187 rfl
theorem q1263 : (Jvm.Cond.selects "java/lang/NullPointerException" ({ cls := "java/lang/Throwable", name := "fillInStackTrace", desc := "(I)Ljava/lang/Throwable;" } : Jvm.MethodName) ({ cls := "java/lang/Throwable", name := "fillInStackTrace", desc := "(I)Ljava/lang/Throwable;" } : Jvm.MethodName)) ∈ lw_all := lw_g (lw_at lw_m5 188 rfl) rfl
theorem in_J11 : ∀ w ∈ wsJ110, w ∈ lw_all := lw_in wsJ110 [1256, 1257, 1258, 1259, 1260, 1261, 1252, 1254] (by decide +kernel) (by decide +kernel)
/-! java/lang/ArithmeticException -/
set_option maxRecDepth 100000
def RJ12 : String := "java/lang/ArithmeticException"
def TJ12 : u_T := fun k => match k with
  | 0 => ("java/lang/Throwable", "backtrace", "Ljava/lang/Object;", false)
  | 1 => ("java/lang/Throwable", "detailMessage", "Ljava/lang/String;", false)
  | 2 => ("java/lang/Throwable", "cause", "Ljava/lang/Throwable;", false)
  | 3 => ("java/lang/Throwable", "stackTrace", "[Ljava/lang/StackTraceElement;", false)
  | 4 => ("java/lang/Throwable", "depth", "I", false)
  | _ => ("java/lang/Throwable", "suppressedExceptions", "Ljava/util/List;", false)
def tyJ12 : Nat → FieldType := fun k => match k with
  | 0 => .object "java/lang/Object"
  | 1 => .object "java/lang/String"
  | 2 => .object "java/lang/Throwable"
  | 3 => .array (.object "java/lang/StackTraceElement")
  | 4 => .int
  | _ => .object "java/util/List"
abbrev wsJ120 : List Cond := u_ws RJ12 TJ12 6
theorem nmJ12 : ∀ a, a < 6 → ∀ b, b < 6 → a ≠ b → (TJ12 a).2.1 ≠ (TJ12 b).2.1 := by decide +kernel
theorem tyJ12_ok : ∀ k, k < 6 → parseFieldDescriptor (TJ12 k).2.2.1 = some (tyJ12 k) := by decide +kernel
abbrev cJ12_init : ByteArray := prog_27_method_2_code
def yJ12_init : MethodName := ⟨RJ12, "<init>", "(Ljava/lang/String;)V"⟩
def dkwJ12_init_0 : List UInt8 := [42, 43, 183, 0, 7, 177]
abbrev dktJ12_init_0 : List UInt8 := dkwJ12_init_0 ++ []
theorem dksJ12_init_0 : cJ12_init.data.toList.drop 0 = dktJ12_init_0 := by decide +kernel
theorem dJ12_init_0 : decode cJ12_init 0 = .ok (.aload_n 0, 1) := dk_42 (dk_at dksJ12_init_0 0 rfl rfl)
theorem dJ12_init_1 : decode cJ12_init 1 = .ok (.aload_n 1, 1) := dk_43 (dk_at dksJ12_init_0 1 rfl rfl)
theorem dJ12_init_2 : decode cJ12_init 2 = .ok (.invokespecial 7, 3) := dk_183 0 7 (dk_at dksJ12_init_0 2 rfl rfl)
theorem dJ12_init_5 : decode cJ12_init 5 = .ok (.return_, 1) := dk_177 (dk_at dksJ12_init_0 5 rfl rfl)
theorem q150 : (Jvm.Cond.initialized "java/lang/ArithmeticException") ∈ lw_all := lw_g (lw_at lw_m1 35 rfl) rfl
theorem q193 : (Jvm.Cond.selects "java/lang/ArithmeticException" ({ cls := "java/lang/Throwable", name := "fillInStackTrace", desc := "()Ljava/lang/Throwable;" } : Jvm.MethodName) ({ cls := "java/lang/Throwable", name := "fillInStackTrace", desc := "()Ljava/lang/Throwable;" } : Jvm.MethodName)) ∈ lw_all := lw_g (lw_at lw_m1 78 rfl) rfl
theorem q1323 : (Jvm.Cond.instantiable "java/lang/ArithmeticException" (6 : Nat)) ∈ lw_all := lw_g (lw_at lw_m6 8 rfl) rfl
theorem q1324 : (Jvm.Cond.instanceMethod ({ cls := "java/lang/ArithmeticException", name := "<init>", desc := "(Ljava/lang/String;)V" } : Jvm.MethodName)) ∈ lw_all := lw_g (lw_at lw_m6 9 rfl) rfl
theorem q1325 : (Jvm.Cond.code ({ cls := "java/lang/ArithmeticException", name := "<init>", desc := "(Ljava/lang/String;)V" } : Jvm.MethodName) prog_27_method_2_code (2 : Nat) (Option.none : Option Jvm.ClassFile.FieldType)) ∈ lw_all := lw_g (lw_at lw_m6 10 rfl) rfl
theorem q1326 : (Jvm.Cond.methodLink "java/lang/ArithmeticException" (7 : Nat) ({ cls := "java/lang/RuntimeException", name := "<init>", desc := "(Ljava/lang/String;)V" } : Jvm.MethodName)) ∈ lw_all := lw_g (lw_at lw_m6 11 rfl) rfl
theorem q1327 : (Jvm.Cond.lays "java/lang/ArithmeticException" "java/lang/Throwable" "backtrace" "Ljava/lang/Object;") ∈ lw_all := lw_g (lw_at lw_m6 12 rfl) rfl
theorem q1328 : (Jvm.Cond.lays "java/lang/ArithmeticException" "java/lang/Throwable" "detailMessage" "Ljava/lang/String;") ∈ lw_all := lw_g (lw_at lw_m6 13 rfl) rfl
theorem q1329 : (Jvm.Cond.lays "java/lang/ArithmeticException" "java/lang/Throwable" "cause" "Ljava/lang/Throwable;") ∈ lw_all := lw_g (lw_at lw_m6 14 rfl) rfl
theorem q1330 : (Jvm.Cond.lays "java/lang/ArithmeticException" "java/lang/Throwable" "stackTrace" "[Ljava/lang/StackTraceElement;") ∈ lw_all := lw_g (lw_at lw_m6 15 rfl) rfl
theorem q1331 : (Jvm.Cond.lays "java/lang/ArithmeticException" "java/lang/Throwable" "depth" "I") ∈ lw_all := lw_g (lw_at lw_m6 16 rfl) rfl
theorem q1332 : (Jvm.Cond.lays "java/lang/ArithmeticException" "java/lang/Throwable" "suppressedExceptions" "Ljava/util/List;") ∈ lw_all := lw_g (lw_at lw_m6 17 rfl) rfl
theorem q1333 : (Jvm.Cond.superclass "java/lang/ArithmeticException" "java/lang/RuntimeException") ∈ lw_all := lw_g (lw_at lw_m6 18 rfl) rfl
theorem q1334 : (Jvm.Cond.castable "java/lang/ArithmeticException" "java/lang/ArithmeticException") ∈ lw_tbl := lw_at lw_m6 19 rfl
theorem q1335 : (Jvm.Cond.selects "java/lang/ArithmeticException" ({ cls := "java/lang/Throwable", name := "fillInStackTrace", desc := "(I)Ljava/lang/Throwable;" } : Jvm.MethodName) ({ cls := "java/lang/Throwable", name := "fillInStackTrace", desc := "(I)Ljava/lang/Throwable;" } : Jvm.MethodName)) ∈ lw_all := lw_g (lw_at lw_m6 20 rfl) rfl
theorem in_J12 : ∀ w ∈ wsJ120, w ∈ lw_all := lw_in wsJ120 [1327, 1328, 1329, 1330, 1331, 1332] (by decide +kernel) (by decide +kernel)
/-! java/lang/Object -/
set_option maxRecDepth 100000
def RJ13 : String := "java/lang/Object"
abbrev cJ13_init : ByteArray := object_method_1_code
def yJ13_init : MethodName := ⟨RJ13, "<init>", "()V"⟩
theorem dJ13_init_0 : decode cJ13_init 0 = .ok (.return_, 1) := by decide +kernel
theorem q157 : (Jvm.Cond.instanceMethod ({ cls := "java/lang/Object", name := "<init>", desc := "()V" } : Jvm.MethodName)) ∈ lw_all := lw_g (lw_at lw_m1 42 rfl) rfl
theorem q158 : (Jvm.Cond.code ({ cls := "java/lang/Object", name := "<init>", desc := "()V" } : Jvm.MethodName) object_method_1_code (1 : Nat) (Option.none : Option Jvm.ClassFile.FieldType)) ∈ lw_all := lw_g (lw_at lw_m1 43 rfl) rfl
theorem q271 : (Jvm.Cond.arrayOver (Jvm.ClassFile.FieldType.object "HadForVoice$Rule")) ∈ lw_tbl := lw_at lw_m1 156 rfl
set_option maxRecDepth 100000
theorem q349 : (Jvm.Cond.arrayClass Jvm.ClassFile.FieldType.int) ∈ lw_all := lw_g (lw_at lw_m1 234 rfl) rfl
theorem q351 : (Jvm.Cond.arrayOver (Jvm.ClassFile.FieldType.object "HadForVoice$Person")) ∈ lw_tbl := lw_at lw_m1 236 rfl
theorem q353 : (Jvm.Cond.arrayOver (Jvm.ClassFile.FieldType.object "java/lang/String")) ∈ lw_tbl := lw_at lw_m1 238 rfl
theorem q369 : (Jvm.Cond.arrayOver (Jvm.ClassFile.FieldType.object "HadForVoice$Shelf")) ∈ lw_tbl := lw_at lw_m2 14 rfl
theorem q385 : (Jvm.Cond.arrayClass Jvm.ClassFile.FieldType.byte) ∈ lw_all := lw_g (lw_at lw_m2 30 rfl) rfl
theorem q1199 : (Jvm.Cond.arrayClass Jvm.ClassFile.FieldType.short) ∈ lw_all := lw_g (lw_at lw_m5 124 rfl) rfl
theorem q1200 : (Jvm.Cond.arrayClass Jvm.ClassFile.FieldType.long) ∈ lw_all := lw_g (lw_at lw_m5 125 rfl) rfl
theorem q1201 : (Jvm.Cond.arrayClass Jvm.ClassFile.FieldType.boolean) ∈ lw_all := lw_g (lw_at lw_m5 126 rfl) rfl
theorem q145 : (Jvm.Cond.initialized "java/lang/System") ∈ lw_all := lw_g (lw_at lw_m1 30 rfl) rfl
set_option maxRecDepth 100000
theorem q921 : (Jvm.Cond.static ({ cls := "java/lang/System", name := "arraycopy", desc := "(Ljava/lang/Object;ILjava/lang/Object;II)V" } : Jvm.MethodName)) ∈ lw_all := lw_g (lw_at lw_m4 86 rfl) rfl
theorem q922 : (Jvm.Cond.native ({ cls := "java/lang/System", name := "arraycopy", desc := "(Ljava/lang/Object;ILjava/lang/Object;II)V" } : Jvm.MethodName)) ∈ lw_all := lw_g (lw_at lw_m4 87 rfl) rfl
theorem q115 : (Jvm.Cond.initialized "HadForVoiceLaw") ∈ lw_all := lw_g (lw_at lw_m1 0 rfl) rfl
set_option maxRecDepth 100000
theorem q151 : (Jvm.Cond.classLink "HadForVoiceLaw" (7 : Nat) "HadForVoice") ∈ lw_all := lw_g (lw_at lw_m1 36 rfl) rfl
theorem q153 : (Jvm.Cond.methodLink "HadForVoiceLaw" (9 : Nat) ({ cls := "HadForVoice", name := "<init>", desc := "()V" } : Jvm.MethodName)) ∈ lw_all := lw_g (lw_at lw_m1 38 rfl) rfl
theorem q492 : (Jvm.Cond.methodLink "HadForVoiceLaw" (13 : Nat) ({ cls := "HadForVoice", name := "person", desc := "(IIII)I" } : Jvm.MethodName)) ∈ lw_all := lw_g (lw_at lw_m2 137 rfl) rfl
theorem q567 : (Jvm.Cond.methodLink "HadForVoiceLaw" (18 : Nat) ({ cls := "HadForVoice", name := "personOf", desc := "(II)I" } : Jvm.MethodName)) ∈ lw_all := lw_g (lw_at lw_m2 212 rfl) rfl
theorem q658 : (Jvm.Cond.methodLink "HadForVoiceLaw" (23 : Nat) ({ cls := "HadForVoice", name := "change", desc := "(III)I" } : Jvm.MethodName)) ∈ lw_all := lw_g (lw_at lw_m3 63 rfl) rfl
theorem q662 : (Jvm.Cond.methodLink "HadForVoiceLaw" (28 : Nat) ({ cls := "HadForVoice", name := "remake", desc := "(II)I" } : Jvm.MethodName)) ∈ lw_all := lw_g (lw_at lw_m3 67 rfl) rfl
theorem q666 : (Jvm.Cond.methodLink "HadForVoiceLaw" (32 : Nat) ({ cls := "HadForVoice", name := "meets", desc := "(IIZ)I" } : Jvm.MethodName)) ∈ lw_all := lw_g (lw_at lw_m3 71 rfl) rfl
theorem q674 : (Jvm.Cond.methodLink "HadForVoiceLaw" (37 : Nat) ({ cls := "HadForVoice", name := "worth", desc := "(II)I" } : Jvm.MethodName)) ∈ lw_all := lw_g (lw_at lw_m3 79 rfl) rfl
theorem q678 : (Jvm.Cond.methodLink "HadForVoiceLaw" (41 : Nat) ({ cls := "HadForVoice", name := "jar", desc := "(II)I" } : Jvm.MethodName)) ∈ lw_all := lw_g (lw_at lw_m3 83 rfl) rfl
theorem q682 : (Jvm.Cond.methodLink "HadForVoiceLaw" (45 : Nat) ({ cls := "HadForVoice", name := "fee", desc := "(I)I" } : Jvm.MethodName)) ∈ lw_all := lw_g (lw_at lw_m3 87 rfl) rfl
theorem q686 : (Jvm.Cond.methodLink "HadForVoiceLaw" (50 : Nat) ({ cls := "HadForVoice", name := "thing", desc := "(II)I" } : Jvm.MethodName)) ∈ lw_all := lw_g (lw_at lw_m3 91 rfl) rfl
theorem q694 : (Jvm.Cond.methodLink "HadForVoiceLaw" (54 : Nat) ({ cls := "HadForVoice", name := "state", desc := "(I)I" } : Jvm.MethodName)) ∈ lw_all := lw_g (lw_at lw_m3 99 rfl) rfl
theorem q702 : (Jvm.Cond.methodLink "HadForVoiceLaw" (60 : Nat) ({ cls := "HadForVoice", name := "feed", desc := "(JI)I" } : Jvm.MethodName)) ∈ lw_all := lw_g (lw_at lw_m3 107 rfl) rfl
theorem q706 : (Jvm.Cond.methodLink "HadForVoiceLaw" (65 : Nat) ({ cls := "HadForVoice", name := "rules", desc := "()I" } : Jvm.MethodName)) ∈ lw_all := lw_g (lw_at lw_m3 111 rfl) rfl
theorem q923 : (Jvm.Cond.methodLink "HadForVoiceLaw" (70 : Nat) ({ cls := "HadForVoice", name := "cans", desc := "(I)I" } : Jvm.MethodName)) ∈ lw_all := lw_g (lw_at lw_m4 88 rfl) rfl
theorem q947 : (Jvm.Cond.methodLink "HadForVoiceLaw" (74 : Nat) ({ cls := "HadForVoice", name := "make", desc := "(II)I" } : Jvm.MethodName)) ∈ lw_all := lw_g (lw_at lw_m4 112 rfl) rfl
theorem q972 : (Jvm.Cond.methodLink "HadForVoiceLaw" (78 : Nat) ({ cls := "HadForVoice", name := "back", desc := "()I" } : Jvm.MethodName)) ∈ lw_all := lw_g (lw_at lw_m4 137 rfl) rfl
theorem q984 : (Jvm.Cond.methodLink "HadForVoiceLaw" (82 : Nat) ({ cls := "HadForVoice", name := "fewest", desc := "()I" } : Jvm.MethodName)) ∈ lw_all := lw_g (lw_at lw_m4 149 rfl) rfl
theorem q1000 : (Jvm.Cond.methodLink "HadForVoiceLaw" (86 : Nat) ({ cls := "HadForVoice", name := "ith", desc := "(I)I" } : Jvm.MethodName)) ∈ lw_all := lw_g (lw_at lw_m4 165 rfl) rfl
theorem q1004 : (Jvm.Cond.methodLink "HadForVoiceLaw" (90 : Nat) ({ cls := "HadForVoice", name := "ways", desc := "(I)I" } : Jvm.MethodName)) ∈ lw_all := lw_g (lw_at lw_m4 169 rfl) rfl
theorem q1016 : (Jvm.Cond.methodLink "HadForVoiceLaw" (94 : Nat) ({ cls := "HadForVoice", name := "most", desc := "(I)I" } : Jvm.MethodName)) ∈ lw_all := lw_g (lw_at lw_m4 181 rfl) rfl
theorem q1020 : (Jvm.Cond.methodLink "HadForVoiceLaw" (98 : Nat) ({ cls := "HadForVoice", name := "cheapest", desc := "(I)I" } : Jvm.MethodName)) ∈ lw_all := lw_g (lw_at lw_m4 185 rfl) rfl
theorem q1024 : (Jvm.Cond.methodLink "HadForVoiceLaw" (102 : Nat) ({ cls := "HadForVoice", name := "cheaply", desc := "(II)I" } : Jvm.MethodName)) ∈ lw_all := lw_g (lw_at lw_m4 189 rfl) rfl
theorem q1028 : (Jvm.Cond.methodLink "HadForVoiceLaw" (106 : Nat) ({ cls := "HadForVoice", name := "bars", desc := "()I" } : Jvm.MethodName)) ∈ lw_all := lw_g (lw_at lw_m4 193 rfl) rfl
theorem q1032 : (Jvm.Cond.methodLink "HadForVoiceLaw" (110 : Nat) ({ cls := "HadForVoice", name := "jars", desc := "()I" } : Jvm.MethodName)) ∈ lw_all := lw_g (lw_at lw_m4 197 rfl) rfl
theorem q1036 : (Jvm.Cond.methodLink "HadForVoiceLaw" (114 : Nat) ({ cls := "HadForVoice", name := "feeFor", desc := "(I)I" } : Jvm.MethodName)) ∈ lw_all := lw_g (lw_at lw_m4 201 rfl) rfl
theorem q1040 : (Jvm.Cond.methodLink "HadForVoiceLaw" (118 : Nat) ({ cls := "HadForVoice", name := "rings", desc := "(I)I" } : Jvm.MethodName)) ∈ lw_all := lw_g (lw_at lw_m4 205 rfl) rfl
theorem q1052 : (Jvm.Cond.methodLink "HadForVoiceLaw" (122 : Nat) ({ cls := "HadForVoice", name := "ring", desc := "(II)I" } : Jvm.MethodName)) ∈ lw_all := lw_g (lw_at lw_m4 217 rfl) rfl
theorem q1056 : (Jvm.Cond.methodLink "HadForVoiceLaw" (126 : Nat) ({ cls := "HadForVoice", name := "comes", desc := "(II)I" } : Jvm.MethodName)) ∈ lw_all := lw_g (lw_at lw_m4 221 rfl) rfl
theorem q1068 : (Jvm.Cond.methodLink "HadForVoiceLaw" (130 : Nat) ({ cls := "HadForVoice", name := "dearest", desc := "(II)I" } : Jvm.MethodName)) ∈ lw_all := lw_g (lw_at lw_m4 233 rfl) rfl
theorem q1072 : (Jvm.Cond.methodLink "HadForVoiceLaw" (134 : Nat) ({ cls := "HadForVoice", name := "game", desc := "(I)I" } : Jvm.MethodName)) ∈ lw_all := lw_g (lw_at lw_m4 237 rfl) rfl
theorem q1084 : (Jvm.Cond.methodLink "HadForVoiceLaw" (138 : Nat) ({ cls := "HadForVoice", name := "play", desc := "(I)I" } : Jvm.MethodName)) ∈ lw_all := lw_g (lw_at lw_m5 9 rfl) rfl
theorem q1089 : (Jvm.Cond.methodLink "HadForVoiceLaw" (142 : Nat) ({ cls := "HadForVoice", name := "report", desc := "(III)I" } : Jvm.MethodName)) ∈ lw_all := lw_g (lw_at lw_m5 14 rfl) rfl
theorem q1093 : (Jvm.Cond.methodLink "HadForVoiceLaw" (146 : Nat) ({ cls := "HadForVoice", name := "forget", desc := "()I" } : Jvm.MethodName)) ∈ lw_all := lw_g (lw_at lw_m5 18 rfl) rfl
theorem q1097 : (Jvm.Cond.methodLink "HadForVoiceLaw" (150 : Nat) ({ cls := "HadForVoice", name := "span", desc := "(I)I" } : Jvm.MethodName)) ∈ lw_all := lw_g (lw_at lw_m5 22 rfl) rfl
theorem q1109 : (Jvm.Cond.methodLink "HadForVoiceLaw" (154 : Nat) ({ cls := "HadForVoice", name := "liar", desc := "()I" } : Jvm.MethodName)) ∈ lw_all := lw_g (lw_at lw_m5 34 rfl) rfl
theorem q1113 : (Jvm.Cond.methodLink "HadForVoiceLaw" (158 : Nat) ({ cls := "HadForVoice", name := "seed", desc := "(I)I" } : Jvm.MethodName)) ∈ lw_all := lw_g (lw_at lw_m5 38 rfl) rfl
theorem q1117 : (Jvm.Cond.methodLink "HadForVoiceLaw" (162 : Nat) ({ cls := "HadForVoice", name := "draw", desc := "()I" } : Jvm.MethodName)) ∈ lw_all := lw_g (lw_at lw_m5 42 rfl) rfl
theorem q1130 : (Jvm.Cond.methodLink "HadForVoiceLaw" (166 : Nat) ({ cls := "HadForVoice", name := "often", desc := "(I)I" } : Jvm.MethodName)) ∈ lw_all := lw_g (lw_at lw_m5 55 rfl) rfl
theorem q1142 : (Jvm.Cond.methodLink "HadForVoiceLaw" (170 : Nat) ({ cls := "HadForVoice", name := "prove", desc := "()I" } : Jvm.MethodName)) ∈ lw_all := lw_g (lw_at lw_m5 67 rfl) rfl
theorem q1146 : (Jvm.Cond.methodLink "HadForVoiceLaw" (174 : Nat) ({ cls := "HadForVoice", name := "row", desc := "(II)I" } : Jvm.MethodName)) ∈ lw_all := lw_g (lw_at lw_m5 71 rfl) rfl
theorem q1154 : (Jvm.Cond.methodLink "HadForVoiceLaw" (178 : Nat) ({ cls := "HadForVoice", name := "alterRow", desc := "(III)I" } : Jvm.MethodName)) ∈ lw_all := lw_g (lw_at lw_m5 79 rfl) rfl
theorem q1158 : (Jvm.Cond.methodLink "HadForVoiceLaw" (182 : Nat) ({ cls := "HadForVoice", name := "judge", desc := "()I" } : Jvm.MethodName)) ∈ lw_all := lw_g (lw_at lw_m5 83 rfl) rfl
theorem q1162 : (Jvm.Cond.methodLink "HadForVoiceLaw" (186 : Nat) ({ cls := "HadForVoice", name := "sheet", desc := "(III)I" } : Jvm.MethodName)) ∈ lw_all := lw_g (lw_at lw_m5 87 rfl) rfl
theorem q1202 : (Jvm.Cond.methodLink "HadForVoiceLaw" (190 : Nat) ({ cls := "HadForVoice", name := "write", desc := "(III)I" } : Jvm.MethodName)) ∈ lw_all := lw_g (lw_at lw_m5 127 rfl) rfl
theorem q1222 : (Jvm.Cond.methodLink "HadForVoiceLaw" (194 : Nat) ({ cls := "HadForVoice", name := "item", desc := "(III)I" } : Jvm.MethodName)) ∈ lw_all := lw_g (lw_at lw_m5 147 rfl) rfl
theorem q1272 : (Jvm.Cond.methodLink "HadForVoiceLaw" (198 : Nat) ({ cls := "HadForVoice", name := "makeAll", desc := "(III)I" } : Jvm.MethodName)) ∈ lw_all := lw_g (lw_at lw_m5 197 rfl) rfl
theorem q1276 : (Jvm.Cond.methodLink "HadForVoiceLaw" (202 : Nat) ({ cls := "HadForVoice", name := "wouldCost", desc := "(III)I" } : Jvm.MethodName)) ∈ lw_all := lw_g (lw_at lw_m5 201 rfl) rfl
theorem q1280 : (Jvm.Cond.methodLink "HadForVoiceLaw" (206 : Nat) ({ cls := "HadForVoice", name := "shelf", desc := "(III)I" } : Jvm.MethodName)) ∈ lw_all := lw_g (lw_at lw_m5 205 rfl) rfl
theorem q1295 : (Jvm.Cond.methodLink "HadForVoiceLaw" (210 : Nat) ({ cls := "HadForVoice", name := "taken", desc := "(II)I" } : Jvm.MethodName)) ∈ lw_all := lw_g (lw_at lw_m5 220 rfl) rfl
theorem q1318 : (Jvm.Cond.methodLink "HadForVoiceLaw" (214 : Nat) ({ cls := "HadForVoice", name := "act", desc := "(III)I" } : Jvm.MethodName)) ∈ lw_all := lw_g (lw_at lw_m6 3 rfl) rfl
theorem q1489 : (Jvm.Cond.methodLink "HadForVoiceLaw" (218 : Nat) ({ cls := "HadForVoice", name := "trace", desc := "(I)I" } : Jvm.MethodName)) ∈ lw_all := lw_g (lw_at lw_m6 174 rfl) rfl
theorem q1493 : (Jvm.Cond.methodLink "HadForVoiceLaw" (222 : Nat) ({ cls := "HadForVoice", name := "many", desc := "(I)I" } : Jvm.MethodName)) ∈ lw_all := lw_g (lw_at lw_m6 178 rfl) rfl
theorem q1497 : (Jvm.Cond.methodLink "HadForVoiceLaw" (226 : Nat) ({ cls := "HadForVoice", name := "keep", desc := "()I" } : Jvm.MethodName)) ∈ lw_all := lw_g (lw_at lw_m6 182 rfl) rfl
theorem q1501 : (Jvm.Cond.methodLink "HadForVoiceLaw" (230 : Nat) ({ cls := "HadForVoice", name := "again", desc := "()I" } : Jvm.MethodName)) ∈ lw_all := lw_g (lw_at lw_m6 186 rfl) rfl
theorem q1505 : (Jvm.Cond.classLink "HadForVoiceLaw" (10 : Nat) "HadForVoiceModel") ∈ lw_all := lw_g (lw_at lw_m6 190 rfl) rfl
theorem q1507 : (Jvm.Cond.methodLink "HadForVoiceLaw" (12 : Nat) ({ cls := "HadForVoiceModel", name := "<init>", desc := "()V" } : Jvm.MethodName)) ∈ lw_all := lw_g (lw_at lw_m6 192 rfl) rfl
theorem q1647 : (Jvm.Cond.methodLink "HadForVoiceLaw" (17 : Nat) ({ cls := "HadForVoiceModel", name := "person", desc := "(IIII)I" } : Jvm.MethodName)) ∈ lw_all := lw_g (lw_at lw_m7 92 rfl) rfl
theorem q1669 : (Jvm.Cond.methodLink "HadForVoiceLaw" (22 : Nat) ({ cls := "HadForVoiceModel", name := "personOf", desc := "(II)I" } : Jvm.MethodName)) ∈ lw_all := lw_g (lw_at lw_m7 114 rfl) rfl
theorem q1714 : (Jvm.Cond.methodLink "HadForVoiceLaw" (27 : Nat) ({ cls := "HadForVoiceModel", name := "change", desc := "(III)I" } : Jvm.MethodName)) ∈ lw_all := lw_g (lw_at lw_m7 159 rfl) rfl
theorem q1722 : (Jvm.Cond.methodLink "HadForVoiceLaw" (31 : Nat) ({ cls := "HadForVoiceModel", name := "remake", desc := "(II)I" } : Jvm.MethodName)) ∈ lw_all := lw_g (lw_at lw_m7 167 rfl) rfl
theorem q1726 : (Jvm.Cond.methodLink "HadForVoiceLaw" (36 : Nat) ({ cls := "HadForVoiceModel", name := "meets", desc := "(IIZ)I" } : Jvm.MethodName)) ∈ lw_all := lw_g (lw_at lw_m7 171 rfl) rfl
theorem q1738 : (Jvm.Cond.methodLink "HadForVoiceLaw" (40 : Nat) ({ cls := "HadForVoiceModel", name := "worth", desc := "(II)I" } : Jvm.MethodName)) ∈ lw_all := lw_g (lw_at lw_m7 183 rfl) rfl
theorem q1743 : (Jvm.Cond.methodLink "HadForVoiceLaw" (44 : Nat) ({ cls := "HadForVoiceModel", name := "jar", desc := "(II)I" } : Jvm.MethodName)) ∈ lw_all := lw_g (lw_at lw_m7 188 rfl) rfl
theorem q1748 : (Jvm.Cond.methodLink "HadForVoiceLaw" (49 : Nat) ({ cls := "HadForVoiceModel", name := "fee", desc := "(I)I" } : Jvm.MethodName)) ∈ lw_all := lw_g (lw_at lw_m7 193 rfl) rfl
theorem q1753 : (Jvm.Cond.methodLink "HadForVoiceLaw" (53 : Nat) ({ cls := "HadForVoiceModel", name := "thing", desc := "(II)I" } : Jvm.MethodName)) ∈ lw_all := lw_g (lw_at lw_m7 198 rfl) rfl
theorem q1761 : (Jvm.Cond.methodLink "HadForVoiceLaw" (57 : Nat) ({ cls := "HadForVoiceModel", name := "state", desc := "(I)I" } : Jvm.MethodName)) ∈ lw_all := lw_g (lw_at lw_m7 206 rfl) rfl
theorem q1769 : (Jvm.Cond.methodLink "HadForVoiceLaw" (73 : Nat) ({ cls := "HadForVoiceModel", name := "cans", desc := "(I)I" } : Jvm.MethodName)) ∈ lw_all := lw_g (lw_at lw_m7 214 rfl) rfl
theorem q1793 : (Jvm.Cond.methodLink "HadForVoiceLaw" (77 : Nat) ({ cls := "HadForVoiceModel", name := "make", desc := "(II)I" } : Jvm.MethodName)) ∈ lw_all := lw_g (lw_at lw_m7 238 rfl) rfl
theorem q1809 : (Jvm.Cond.methodLink "HadForVoiceLaw" (81 : Nat) ({ cls := "HadForVoiceModel", name := "back", desc := "()I" } : Jvm.MethodName)) ∈ lw_all := lw_g (lw_at lw_m8 14 rfl) rfl
theorem q1817 : (Jvm.Cond.methodLink "HadForVoiceLaw" (85 : Nat) ({ cls := "HadForVoiceModel", name := "fewest", desc := "()I" } : Jvm.MethodName)) ∈ lw_all := lw_g (lw_at lw_m8 22 rfl) rfl
theorem q1837 : (Jvm.Cond.methodLink "HadForVoiceLaw" (89 : Nat) ({ cls := "HadForVoiceModel", name := "ith", desc := "(I)I" } : Jvm.MethodName)) ∈ lw_all := lw_g (lw_at lw_m8 42 rfl) rfl
theorem q1844 : (Jvm.Cond.methodLink "HadForVoiceLaw" (93 : Nat) ({ cls := "HadForVoiceModel", name := "ways", desc := "(I)I" } : Jvm.MethodName)) ∈ lw_all := lw_g (lw_at lw_m8 49 rfl) rfl
theorem q1851 : (Jvm.Cond.methodLink "HadForVoiceLaw" (97 : Nat) ({ cls := "HadForVoiceModel", name := "most", desc := "(I)I" } : Jvm.MethodName)) ∈ lw_all := lw_g (lw_at lw_m8 56 rfl) rfl
theorem q1855 : (Jvm.Cond.methodLink "HadForVoiceLaw" (101 : Nat) ({ cls := "HadForVoiceModel", name := "cheapest", desc := "(I)I" } : Jvm.MethodName)) ∈ lw_all := lw_g (lw_at lw_m8 60 rfl) rfl
theorem q1859 : (Jvm.Cond.methodLink "HadForVoiceLaw" (105 : Nat) ({ cls := "HadForVoiceModel", name := "cheaply", desc := "(II)I" } : Jvm.MethodName)) ∈ lw_all := lw_g (lw_at lw_m8 64 rfl) rfl
theorem q1863 : (Jvm.Cond.methodLink "HadForVoiceLaw" (109 : Nat) ({ cls := "HadForVoiceModel", name := "bars", desc := "()I" } : Jvm.MethodName)) ∈ lw_all := lw_g (lw_at lw_m8 68 rfl) rfl
theorem q1867 : (Jvm.Cond.methodLink "HadForVoiceLaw" (113 : Nat) ({ cls := "HadForVoiceModel", name := "jars", desc := "()I" } : Jvm.MethodName)) ∈ lw_all := lw_g (lw_at lw_m8 72 rfl) rfl
theorem q1871 : (Jvm.Cond.methodLink "HadForVoiceLaw" (117 : Nat) ({ cls := "HadForVoiceModel", name := "feeFor", desc := "(I)I" } : Jvm.MethodName)) ∈ lw_all := lw_g (lw_at lw_m8 76 rfl) rfl
theorem q1875 : (Jvm.Cond.methodLink "HadForVoiceLaw" (121 : Nat) ({ cls := "HadForVoiceModel", name := "rings", desc := "(I)I" } : Jvm.MethodName)) ∈ lw_all := lw_g (lw_at lw_m8 80 rfl) rfl
theorem q1892 : (Jvm.Cond.methodLink "HadForVoiceLaw" (125 : Nat) ({ cls := "HadForVoiceModel", name := "ring", desc := "(II)I" } : Jvm.MethodName)) ∈ lw_all := lw_g (lw_at lw_m8 97 rfl) rfl
theorem q1896 : (Jvm.Cond.methodLink "HadForVoiceLaw" (129 : Nat) ({ cls := "HadForVoiceModel", name := "comes", desc := "(II)I" } : Jvm.MethodName)) ∈ lw_all := lw_g (lw_at lw_m8 101 rfl) rfl
theorem q1909 : (Jvm.Cond.methodLink "HadForVoiceLaw" (133 : Nat) ({ cls := "HadForVoiceModel", name := "dearest", desc := "(II)I" } : Jvm.MethodName)) ∈ lw_all := lw_g (lw_at lw_m8 114 rfl) rfl
theorem q1913 : (Jvm.Cond.methodLink "HadForVoiceLaw" (137 : Nat) ({ cls := "HadForVoiceModel", name := "game", desc := "(I)I" } : Jvm.MethodName)) ∈ lw_all := lw_g (lw_at lw_m8 118 rfl) rfl
theorem q1931 : (Jvm.Cond.methodLink "HadForVoiceLaw" (141 : Nat) ({ cls := "HadForVoiceModel", name := "play", desc := "(I)I" } : Jvm.MethodName)) ∈ lw_all := lw_g (lw_at lw_m8 136 rfl) rfl
theorem q1935 : (Jvm.Cond.methodLink "HadForVoiceLaw" (145 : Nat) ({ cls := "HadForVoiceModel", name := "report", desc := "(III)I" } : Jvm.MethodName)) ∈ lw_all := lw_g (lw_at lw_m8 140 rfl) rfl
theorem q1939 : (Jvm.Cond.methodLink "HadForVoiceLaw" (149 : Nat) ({ cls := "HadForVoiceModel", name := "forget", desc := "()I" } : Jvm.MethodName)) ∈ lw_all := lw_g (lw_at lw_m8 144 rfl) rfl
theorem q1943 : (Jvm.Cond.methodLink "HadForVoiceLaw" (153 : Nat) ({ cls := "HadForVoiceModel", name := "span", desc := "(I)I" } : Jvm.MethodName)) ∈ lw_all := lw_g (lw_at lw_m8 148 rfl) rfl
theorem q1955 : (Jvm.Cond.methodLink "HadForVoiceLaw" (157 : Nat) ({ cls := "HadForVoiceModel", name := "liar", desc := "()I" } : Jvm.MethodName)) ∈ lw_all := lw_g (lw_at lw_m8 160 rfl) rfl
theorem q1959 : (Jvm.Cond.methodLink "HadForVoiceLaw" (161 : Nat) ({ cls := "HadForVoiceModel", name := "seed", desc := "(I)I" } : Jvm.MethodName)) ∈ lw_all := lw_g (lw_at lw_m8 164 rfl) rfl
theorem q1963 : (Jvm.Cond.methodLink "HadForVoiceLaw" (165 : Nat) ({ cls := "HadForVoiceModel", name := "draw", desc := "()I" } : Jvm.MethodName)) ∈ lw_all := lw_g (lw_at lw_m8 168 rfl) rfl
theorem q1972 : (Jvm.Cond.methodLink "HadForVoiceLaw" (169 : Nat) ({ cls := "HadForVoiceModel", name := "often", desc := "(I)I" } : Jvm.MethodName)) ∈ lw_all := lw_g (lw_at lw_m8 177 rfl) rfl
theorem q1985 : (Jvm.Cond.methodLink "HadForVoiceLaw" (173 : Nat) ({ cls := "HadForVoiceModel", name := "prove", desc := "()I" } : Jvm.MethodName)) ∈ lw_all := lw_g (lw_at lw_m8 190 rfl) rfl
theorem q1989 : (Jvm.Cond.methodLink "HadForVoiceLaw" (177 : Nat) ({ cls := "HadForVoiceModel", name := "row", desc := "(II)I" } : Jvm.MethodName)) ∈ lw_all := lw_g (lw_at lw_m8 194 rfl) rfl
theorem q1997 : (Jvm.Cond.methodLink "HadForVoiceLaw" (181 : Nat) ({ cls := "HadForVoiceModel", name := "alterRow", desc := "(III)I" } : Jvm.MethodName)) ∈ lw_all := lw_g (lw_at lw_m8 202 rfl) rfl
theorem q2001 : (Jvm.Cond.methodLink "HadForVoiceLaw" (185 : Nat) ({ cls := "HadForVoiceModel", name := "judge", desc := "()I" } : Jvm.MethodName)) ∈ lw_all := lw_g (lw_at lw_m8 206 rfl) rfl
theorem q2005 : (Jvm.Cond.methodLink "HadForVoiceLaw" (64 : Nat) ({ cls := "HadForVoiceModel", name := "feed", desc := "(JI)I" } : Jvm.MethodName)) ∈ lw_all := lw_g (lw_at lw_m8 210 rfl) rfl
theorem q2011 : (Jvm.Cond.methodLink "HadForVoiceLaw" (69 : Nat) ({ cls := "HadForVoiceModel", name := "rules", desc := "()I" } : Jvm.MethodName)) ∈ lw_all := lw_g (lw_at lw_m8 216 rfl) rfl
theorem q2101 : (Jvm.Cond.methodLink "HadForVoiceLaw" (189 : Nat) ({ cls := "HadForVoiceModel", name := "sheet", desc := "(III)I" } : Jvm.MethodName)) ∈ lw_all := lw_g (lw_at lw_m9 66 rfl) rfl
theorem q2110 : (Jvm.Cond.methodLink "HadForVoiceLaw" (193 : Nat) ({ cls := "HadForVoiceModel", name := "write", desc := "(III)I" } : Jvm.MethodName)) ∈ lw_all := lw_g (lw_at lw_m9 75 rfl) rfl
theorem q2117 : (Jvm.Cond.methodLink "HadForVoiceLaw" (197 : Nat) ({ cls := "HadForVoiceModel", name := "item", desc := "(III)I" } : Jvm.MethodName)) ∈ lw_all := lw_g (lw_at lw_m9 82 rfl) rfl
theorem q2125 : (Jvm.Cond.methodLink "HadForVoiceLaw" (201 : Nat) ({ cls := "HadForVoiceModel", name := "makeAll", desc := "(III)I" } : Jvm.MethodName)) ∈ lw_all := lw_g (lw_at lw_m9 90 rfl) rfl
theorem q2142 : (Jvm.Cond.methodLink "HadForVoiceLaw" (205 : Nat) ({ cls := "HadForVoiceModel", name := "wouldCost", desc := "(III)I" } : Jvm.MethodName)) ∈ lw_all := lw_g (lw_at lw_m9 107 rfl) rfl
theorem q2146 : (Jvm.Cond.methodLink "HadForVoiceLaw" (209 : Nat) ({ cls := "HadForVoiceModel", name := "shelf", desc := "(III)I" } : Jvm.MethodName)) ∈ lw_all := lw_g (lw_at lw_m9 111 rfl) rfl
theorem q2150 : (Jvm.Cond.methodLink "HadForVoiceLaw" (213 : Nat) ({ cls := "HadForVoiceModel", name := "taken", desc := "(II)I" } : Jvm.MethodName)) ∈ lw_all := lw_g (lw_at lw_m9 115 rfl) rfl
theorem q2160 : (Jvm.Cond.methodLink "HadForVoiceLaw" (217 : Nat) ({ cls := "HadForVoiceModel", name := "act", desc := "(III)I" } : Jvm.MethodName)) ∈ lw_all := lw_g (lw_at lw_m9 125 rfl) rfl
theorem q2188 : (Jvm.Cond.methodLink "HadForVoiceLaw" (221 : Nat) ({ cls := "HadForVoiceModel", name := "trace", desc := "(I)I" } : Jvm.MethodName)) ∈ lw_all := lw_g (lw_at lw_m9 153 rfl) rfl
theorem q2196 : (Jvm.Cond.methodLink "HadForVoiceLaw" (225 : Nat) ({ cls := "HadForVoiceModel", name := "many", desc := "(I)I" } : Jvm.MethodName)) ∈ lw_all := lw_g (lw_at lw_m9 161 rfl) rfl
theorem q2200 : (Jvm.Cond.methodLink "HadForVoiceLaw" (229 : Nat) ({ cls := "HadForVoiceModel", name := "keep", desc := "()I" } : Jvm.MethodName)) ∈ lw_all := lw_g (lw_at lw_m9 165 rfl) rfl
theorem q2204 : (Jvm.Cond.methodLink "HadForVoiceLaw" (233 : Nat) ({ cls := "HadForVoiceModel", name := "again", desc := "()I" } : Jvm.MethodName)) ∈ lw_all := lw_g (lw_at lw_m9 169 rfl) rfl
theorem q2208 : (Jvm.Cond.constantLong "HadForVoiceLaw" (58 : Nat) (4294967295 : Int64)) ∈ lw_all := lw_g (lw_at lw_m9 173 rfl) rfl
