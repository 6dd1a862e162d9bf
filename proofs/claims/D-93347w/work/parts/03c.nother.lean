/-! LeftUndoes$Refusal -/
set_option maxRecDepth 100000
def RX1 : String := "LeftUndoes$Refusal"
def TX1 : u_T := fun k => match k with
  | 0 => ("java/lang/Throwable", "cause", "Ljava/lang/Throwable;", false)
  | 1 => ("java/lang/Throwable", "stackTrace", "[Ljava/lang/StackTraceElement;", false)
  | 2 => ("java/lang/Throwable", "suppressedExceptions", "Ljava/util/List;", false)
  | 3 => ("java/lang/Throwable", "detailMessage", "Ljava/lang/String;", false)
  | 4 => ("java/lang/Throwable", "backtrace", "Ljava/lang/Object;", false)
  | 5 => ("java/lang/Throwable", "depth", "I", false)
  | _ => ("LeftUndoes$Refusal", "answer", "I", false)
def tyX1 : Nat → FieldType := fun k => match k with
  | 0 => .object "java/lang/Throwable"
  | 1 => .array (.object "java/lang/StackTraceElement")
  | 2 => .object "java/util/List"
  | 3 => .object "java/lang/String"
  | 4 => .object "java/lang/Object"
  | 5 => .int
  | _ => .int
abbrev wsX10 : List Cond := u_ws RX1 TX1 7
theorem nmX1 : ∀ a, a < 7 → ∀ b, b < 7 → a ≠ b → (TX1 a).2.1 ≠ (TX1 b).2.1 := by decide +kernel
theorem tyX1_ok : ∀ k, k < 7 → parseFieldDescriptor (TX1 k).2.2.1 = some (tyX1 k) := by decide +kernel
abbrev cX1_init : ByteArray := prog_12_method_1_code
def yX1_init : MethodName := ⟨RX1, "<init>", "()V"⟩
def dkwX1_init_0 : List UInt8 := [42, 1, 1, 3, 3, 183, 0, 1, 177]
abbrev dktX1_init_0 : List UInt8 := dkwX1_init_0 ++ []
theorem dksX1_init_0 : cX1_init.data.toList.drop 0 = dktX1_init_0 := by decide +kernel
theorem dX1_init_0 : decode cX1_init 0 = .ok (.aload_n 0, 1) := dk_42 (dk_at dksX1_init_0 0 rfl rfl)
theorem dX1_init_1 : decode cX1_init 1 = .ok (.aconst_null, 1) := dk_1 (dk_at dksX1_init_0 1 rfl rfl)
theorem dX1_init_2 : decode cX1_init 2 = .ok (.aconst_null, 1) := dk_1 (dk_at dksX1_init_0 2 rfl rfl)
theorem dX1_init_3 : decode cX1_init 3 = .ok (.iconst 0, 1) := dk_3 (dk_at dksX1_init_0 3 rfl rfl)
theorem dX1_init_4 : decode cX1_init 4 = .ok (.iconst 0, 1) := dk_3 (dk_at dksX1_init_0 4 rfl rfl)
theorem dX1_init_5 : decode cX1_init 5 = .ok (.invokespecial 1, 3) := dk_183 0 1 (dk_at dksX1_init_0 5 rfl rfl)
theorem dX1_init_8 : decode cX1_init 8 = .ok (.return_, 1) := dk_177 (dk_at dksX1_init_0 8 rfl rfl)
abbrev cX1_of : ByteArray := prog_12_method_2_code
def yX1_of : MethodName := ⟨RX1, "of", "(I)LLeftUndoes$Refusal;"⟩
def dkwX1_of_0 : List UInt8 := [42, 27, 181, 0, 7, 42, 176]
abbrev dktX1_of_0 : List UInt8 := dkwX1_of_0 ++ []
theorem dksX1_of_0 : cX1_of.data.toList.drop 0 = dktX1_of_0 := by decide +kernel
theorem dX1_of_0 : decode cX1_of 0 = .ok (.aload_n 0, 1) := dk_42 (dk_at dksX1_of_0 0 rfl rfl)
theorem dX1_of_1 : decode cX1_of 1 = .ok (.iload_n 1, 1) := dk_27 (dk_at dksX1_of_0 1 rfl rfl)
theorem dX1_of_2 : decode cX1_of 2 = .ok (.putfield 7, 3) := dk_181 0 7 (dk_at dksX1_of_0 2 rfl rfl)
theorem dX1_of_5 : decode cX1_of 5 = .ok (.aload_n 0, 1) := dk_42 (dk_at dksX1_of_0 5 rfl rfl)
theorem dX1_of_6 : decode cX1_of 6 = .ok (.areturn, 1) := dk_176 (dk_at dksX1_of_0 6 rfl rfl)
theorem q122 : (Jvm.Cond.initialized "LeftUndoes$Refusal") ∈ lw_all := lw_g (lw_at lw_m1 5 rfl) rfl
theorem q162 : (Jvm.Cond.instantiable "LeftUndoes$Refusal" (7 : Nat)) ∈ lw_all := lw_g (lw_at lw_m1 45 rfl) rfl
theorem q163 : (Jvm.Cond.castable "LeftUndoes$Refusal" "LeftUndoes$Refusal") ∈ lw_tbl := lw_at lw_m1 46 rfl
theorem q170 : (Jvm.Cond.selects "LeftUndoes$Refusal" ({ cls := "java/lang/Throwable", name := "fillInStackTrace", desc := "(I)Ljava/lang/Throwable;" } : Jvm.MethodName) ({ cls := "java/lang/Throwable", name := "fillInStackTrace", desc := "(I)Ljava/lang/Throwable;" } : Jvm.MethodName)) ∈ lw_all := lw_g (lw_at lw_m1 53 rfl) rfl
theorem q171 : (Jvm.Cond.selects "LeftUndoes$Refusal" ({ cls := "java/lang/Throwable", name := "fillInStackTrace", desc := "()Ljava/lang/Throwable;" } : Jvm.MethodName) ({ cls := "java/lang/Throwable", name := "fillInStackTrace", desc := "()Ljava/lang/Throwable;" } : Jvm.MethodName)) ∈ lw_all := lw_g (lw_at lw_m1 54 rfl) rfl
theorem q172 : (Jvm.Cond.lays "LeftUndoes$Refusal" "java/lang/Throwable" "cause" "Ljava/lang/Throwable;") ∈ lw_all := lw_g (lw_at lw_m1 55 rfl) rfl
theorem q174 : (Jvm.Cond.lays "LeftUndoes$Refusal" "java/lang/Throwable" "stackTrace" "[Ljava/lang/StackTraceElement;") ∈ lw_all := lw_g (lw_at lw_m1 57 rfl) rfl
theorem q176 : (Jvm.Cond.lays "LeftUndoes$Refusal" "java/lang/Throwable" "suppressedExceptions" "Ljava/util/List;") ∈ lw_all := lw_g (lw_at lw_m1 59 rfl) rfl
theorem q178 : (Jvm.Cond.lays "LeftUndoes$Refusal" "java/lang/Throwable" "detailMessage" "Ljava/lang/String;") ∈ lw_all := lw_g (lw_at lw_m1 61 rfl) rfl
theorem q180 : (Jvm.Cond.lays "LeftUndoes$Refusal" "java/lang/Throwable" "backtrace" "Ljava/lang/Object;") ∈ lw_all := lw_g (lw_at lw_m1 63 rfl) rfl
theorem q219 : (Jvm.Cond.instanceMethod ({ cls := "LeftUndoes$Refusal", name := "<init>", desc := "()V" } : Jvm.MethodName)) ∈ lw_all := lw_g (lw_at lw_m1 102 rfl) rfl
theorem q220 : (Jvm.Cond.code ({ cls := "LeftUndoes$Refusal", name := "<init>", desc := "()V" } : Jvm.MethodName) prog_12_method_1_code (1 : Nat) (Option.none : Option Jvm.ClassFile.FieldType)) ∈ lw_all := lw_g (lw_at lw_m1 103 rfl) rfl
theorem q221 : (Jvm.Cond.methodLink "LeftUndoes$Refusal" (1 : Nat) ({ cls := "java/lang/RuntimeException", name := "<init>", desc := "(Ljava/lang/String;Ljava/lang/Throwable;ZZ)V" } : Jvm.MethodName)) ∈ lw_all := lw_g (lw_at lw_m1 104 rfl) rfl
theorem q230 : (Jvm.Cond.fieldLink "LeftUndoes$Refusal" (7 : Nat) "LeftUndoes$Refusal" "answer" "I") ∈ lw_all := lw_g (lw_at lw_m1 113 rfl) rfl
theorem q239 : (Jvm.Cond.lays "LeftUndoes$Refusal" "LeftUndoes$Refusal" "answer" "I") ∈ lw_all := lw_g (lw_at lw_m1 122 rfl) rfl
theorem q240 : (Jvm.Cond.soleField "LeftUndoes$Refusal" "answer") ∈ lw_all := lw_g (lw_at lw_m1 123 rfl) rfl
theorem q245 : (Jvm.Cond.lays "LeftUndoes$Refusal" "java/lang/Throwable" "depth" "I") ∈ lw_all := lw_g (lw_at lw_m1 128 rfl) rfl
theorem q248 : (Jvm.Cond.superclass "LeftUndoes$Refusal" "java/lang/RuntimeException") ∈ lw_all := lw_g (lw_at lw_m1 131 rfl) rfl
theorem q252 : (Jvm.Cond.declares ({ cls := "LeftUndoes$Refusal", name := "<init>", desc := "()V" } : Jvm.MethodName)) ∈ lw_tbl := lw_at lw_m1 135 rfl
theorem q740 : (Jvm.Cond.declares ({ cls := "LeftUndoes$Refusal", name := "of", desc := "(I)LLeftUndoes$Refusal;" } : Jvm.MethodName)) ∈ lw_tbl := lw_at lw_m3 143 rfl
theorem q742 : (Jvm.Cond.instanceMethod ({ cls := "LeftUndoes$Refusal", name := "of", desc := "(I)LLeftUndoes$Refusal;" } : Jvm.MethodName)) ∈ lw_all := lw_g (lw_at lw_m3 145 rfl) rfl
theorem q743 : (Jvm.Cond.code ({ cls := "LeftUndoes$Refusal", name := "of", desc := "(I)LLeftUndoes$Refusal;" } : Jvm.MethodName) prog_12_method_2_code (2 : Nat) (Option.some (Jvm.ClassFile.FieldType.object "LeftUndoes$Refusal"))) ∈ lw_all := lw_g (lw_at lw_m3 146 rfl) rfl
theorem q2232 : (Jvm.Cond.sameMethod "LeftUndoes$Refusal" "LeftUndoes$Refusal" "of" "(I)LLeftUndoes$Refusal;") ∈ lw_all := lw_g (lw_at lw_m9 195 rfl) rfl
theorem q2234 : (Jvm.Cond.selects "LeftUndoes$Refusal" ({ cls := "LeftUndoes$Refusal", name := "of", desc := "(I)LLeftUndoes$Refusal;" } : Jvm.MethodName) ({ cls := "LeftUndoes$Refusal", name := "of", desc := "(I)LLeftUndoes$Refusal;" } : Jvm.MethodName)) ∈ lw_all := lw_g (lw_at lw_m9 197 rfl) rfl
theorem in_X1 : ∀ w ∈ wsX10, w ∈ lw_all := lw_in wsX10 [172, 174, 176, 178, 180, 245, 239] (by decide +kernel) (by decide +kernel)
/-! LeftUndoes$Fault -/
set_option maxRecDepth 100000
def RX2 : String := "LeftUndoes$Fault"
def TX2 : u_T := fun k => match k with
  | 0 => ("java/lang/Throwable", "cause", "Ljava/lang/Throwable;", false)
  | 1 => ("java/lang/Throwable", "stackTrace", "[Ljava/lang/StackTraceElement;", false)
  | 2 => ("java/lang/Throwable", "suppressedExceptions", "Ljava/util/List;", false)
  | 3 => ("java/lang/Throwable", "detailMessage", "Ljava/lang/String;", false)
  | 4 => ("java/lang/Throwable", "backtrace", "Ljava/lang/Object;", false)
  | 5 => ("java/lang/Throwable", "depth", "I", false)
  | _ => ("LeftUndoes$Refusal", "answer", "I", false)
def tyX2 : Nat → FieldType := fun k => match k with
  | 0 => .object "java/lang/Throwable"
  | 1 => .array (.object "java/lang/StackTraceElement")
  | 2 => .object "java/util/List"
  | 3 => .object "java/lang/String"
  | 4 => .object "java/lang/Object"
  | 5 => .int
  | _ => .int
abbrev wsX20 : List Cond := u_ws RX2 TX2 7
theorem nmX2 : ∀ a, a < 7 → ∀ b, b < 7 → a ≠ b → (TX2 a).2.1 ≠ (TX2 b).2.1 := by decide +kernel
theorem tyX2_ok : ∀ k, k < 7 → parseFieldDescriptor (TX2 k).2.2.1 = some (tyX2 k) := by decide +kernel
abbrev cX2_init : ByteArray := prog_6_method_1_code
def yX2_init : MethodName := ⟨RX2, "<init>", "()V"⟩
theorem dX2_init_0 : decode cX2_init 0 = .ok (.aload_n 0, 1) := by decide +kernel
theorem dX2_init_1 : decode cX2_init 1 = .ok (.invokespecial 1, 3) := by decide +kernel
theorem dX2_init_4 : decode cX2_init 4 = .ok (.return_, 1) := by decide +kernel
theorem q123 : (Jvm.Cond.initialized "LeftUndoes$Fault") ∈ lw_all := lw_g (lw_at lw_m1 6 rfl) rfl
theorem q194 : (Jvm.Cond.selects "LeftUndoes$Fault" ({ cls := "java/lang/Throwable", name := "fillInStackTrace", desc := "()Ljava/lang/Throwable;" } : Jvm.MethodName) ({ cls := "java/lang/Throwable", name := "fillInStackTrace", desc := "()Ljava/lang/Throwable;" } : Jvm.MethodName)) ∈ lw_all := lw_g (lw_at lw_m1 77 rfl) rfl
theorem q232 : (Jvm.Cond.sameField "LeftUndoes$Fault" "LeftUndoes$Refusal" "answer" "I") ∈ lw_all := lw_g (lw_at lw_m1 115 rfl) rfl
theorem q250 : (Jvm.Cond.instantiable "LeftUndoes$Fault" (7 : Nat)) ∈ lw_all := lw_g (lw_at lw_m1 133 rfl) rfl
theorem q251 : (Jvm.Cond.castable "LeftUndoes$Fault" "LeftUndoes$Fault") ∈ lw_tbl := lw_at lw_m1 134 rfl
theorem q253 : (Jvm.Cond.selects "LeftUndoes$Fault" ({ cls := "java/lang/Throwable", name := "fillInStackTrace", desc := "(I)Ljava/lang/Throwable;" } : Jvm.MethodName) ({ cls := "java/lang/Throwable", name := "fillInStackTrace", desc := "(I)Ljava/lang/Throwable;" } : Jvm.MethodName)) ∈ lw_all := lw_g (lw_at lw_m1 136 rfl) rfl
theorem q254 : (Jvm.Cond.lays "LeftUndoes$Fault" "java/lang/Throwable" "cause" "Ljava/lang/Throwable;") ∈ lw_all := lw_g (lw_at lw_m1 137 rfl) rfl
theorem q255 : (Jvm.Cond.lays "LeftUndoes$Fault" "java/lang/Throwable" "stackTrace" "[Ljava/lang/StackTraceElement;") ∈ lw_all := lw_g (lw_at lw_m1 138 rfl) rfl
theorem q256 : (Jvm.Cond.lays "LeftUndoes$Fault" "java/lang/Throwable" "suppressedExceptions" "Ljava/util/List;") ∈ lw_all := lw_g (lw_at lw_m1 139 rfl) rfl
theorem q257 : (Jvm.Cond.lays "LeftUndoes$Fault" "java/lang/Throwable" "detailMessage" "Ljava/lang/String;") ∈ lw_all := lw_g (lw_at lw_m1 140 rfl) rfl
theorem q258 : (Jvm.Cond.lays "LeftUndoes$Fault" "java/lang/Throwable" "backtrace" "Ljava/lang/Object;") ∈ lw_all := lw_g (lw_at lw_m1 141 rfl) rfl
theorem q260 : (Jvm.Cond.instanceMethod ({ cls := "LeftUndoes$Fault", name := "<init>", desc := "()V" } : Jvm.MethodName)) ∈ lw_all := lw_g (lw_at lw_m1 143 rfl) rfl
theorem q261 : (Jvm.Cond.code ({ cls := "LeftUndoes$Fault", name := "<init>", desc := "()V" } : Jvm.MethodName) prog_6_method_1_code (1 : Nat) (Option.none : Option Jvm.ClassFile.FieldType)) ∈ lw_all := lw_g (lw_at lw_m1 144 rfl) rfl
theorem q262 : (Jvm.Cond.methodLink "LeftUndoes$Fault" (1 : Nat) ({ cls := "LeftUndoes$Refusal", name := "<init>", desc := "()V" } : Jvm.MethodName)) ∈ lw_all := lw_g (lw_at lw_m1 145 rfl) rfl
theorem q263 : (Jvm.Cond.lays "LeftUndoes$Fault" "LeftUndoes$Refusal" "answer" "I") ∈ lw_all := lw_g (lw_at lw_m1 146 rfl) rfl
theorem q264 : (Jvm.Cond.lays "LeftUndoes$Fault" "java/lang/Throwable" "depth" "I") ∈ lw_all := lw_g (lw_at lw_m1 147 rfl) rfl
theorem q265 : (Jvm.Cond.superclass "LeftUndoes$Fault" "LeftUndoes$Refusal") ∈ lw_all := lw_g (lw_at lw_m1 148 rfl) rfl
theorem q739 : (Jvm.Cond.sameMethod "LeftUndoes$Fault" "LeftUndoes$Refusal" "of" "(I)LLeftUndoes$Refusal;") ∈ lw_all := lw_g (lw_at lw_m3 142 rfl) rfl
theorem q741 : (Jvm.Cond.selects "LeftUndoes$Fault" ({ cls := "LeftUndoes$Fault", name := "of", desc := "(I)LLeftUndoes$Refusal;" } : Jvm.MethodName) ({ cls := "LeftUndoes$Refusal", name := "of", desc := "(I)LLeftUndoes$Refusal;" } : Jvm.MethodName)) ∈ lw_all := lw_g (lw_at lw_m3 144 rfl) rfl
theorem q2233 : (Jvm.Cond.selects "LeftUndoes$Fault" ({ cls := "LeftUndoes$Refusal", name := "of", desc := "(I)LLeftUndoes$Refusal;" } : Jvm.MethodName) ({ cls := "LeftUndoes$Refusal", name := "of", desc := "(I)LLeftUndoes$Refusal;" } : Jvm.MethodName)) ∈ lw_all := lw_g (lw_at lw_m9 196 rfl) rfl
theorem q2240 : (Jvm.Cond.castable "LeftUndoes$Fault" "LeftUndoes$Refusal") ∈ lw_tbl := lw_at lw_m9 203 rfl
theorem in_X2 : ∀ w ∈ wsX20, w ∈ lw_all := lw_in wsX20 [254, 255, 256, 257, 258, 264, 263] (by decide +kernel) (by decide +kernel)
/-! LeftUndoes$Town -/
set_option maxRecDepth 100000
def RX3 : String := "LeftUndoes$Town"
def TX3 : u_T := fun k => match k with
  | 0 => ("LeftUndoes$Town", "people", "I", false)
  | 1 => ("LeftUndoes$Town", "deeds", "I", false)
  | 2 => ("LeftUndoes$Town", "end", "I", false)
  | 3 => ("LeftUndoes$Town", "year", "I", false)
  | 4 => ("LeftUndoes$Town", "score", "I", false)
  | 5 => ("LeftUndoes$Town", "reports", "I", false)
  | 6 => ("LeftUndoes$Town", "z", "I", false)
  | 7 => ("LeftUndoes$Town", "kind", "[I", true)
  | 8 => ("LeftUndoes$Town", "grace", "[I", true)
  | 9 => ("LeftUndoes$Town", "strength", "[I", true)
  | 10 => ("LeftUndoes$Town", "whose", "[I", true)
  | 11 => ("LeftUndoes$Town", "when", "[I", true)
  | 12 => ("LeftUndoes$Town", "weight", "[I", true)
  | 13 => ("LeftUndoes$Town", "need", "[I", true)
  | 14 => ("LeftUndoes$Town", "so", "[I", true)
  | 15 => ("LeftUndoes$Town", "owed", "[I", true)
  | 16 => ("LeftUndoes$Town", "heavy", "[I", true)
  | 17 => ("LeftUndoes$Town", "done", "[I", true)
  | 18 => ("LeftUndoes$Town", "by", "[I", true)
  | 19 => ("LeftUndoes$Town", "was", "[I", true)
  | _ => ("LeftUndoes$Town", "rules", "[LLeftUndoes$Rule;", false)
def tyX3 : Nat → FieldType := fun k => match k with
  | 0 => .int
  | 1 => .int
  | 2 => .int
  | 3 => .int
  | 4 => .int
  | 5 => .int
  | 6 => .int
  | 7 => .array .int
  | 8 => .array .int
  | 9 => .array .int
  | 10 => .array .int
  | 11 => .array .int
  | 12 => .array .int
  | 13 => .array .int
  | 14 => .array .int
  | 15 => .array .int
  | 16 => .array .int
  | 17 => .array .int
  | 18 => .array .int
  | 19 => .array .int
  | _ => .array (.object "LeftUndoes$Rule")
abbrev wsX30 : List Cond := u_ws RX3 TX3 21
set_option maxRecDepth 100000 in
theorem nmX3 : ∀ a, a < 21 → ∀ b, b < 21 → a ≠ b → (TX3 a).2.1 ≠ (TX3 b).2.1 := by decide +kernel
set_option maxRecDepth 100000 in
theorem tyX3_ok : ∀ k, k < 21 → parseFieldDescriptor (TX3 k).2.2.1 = some (tyX3 k) := by decide +kernel
abbrev cX3_init : ByteArray := prog_21_method_1_code
def yX3_init : MethodName := ⟨RX3, "<init>", "()V"⟩
def dkwX3_init_5 : List UInt8 := [3, 189, 0, 58, 181, 0, 60, 177]
abbrev dktX3_init_5 : List UInt8 := dkwX3_init_5 ++ []
def dkwX3_init_4 : List UInt8 := [16, 6, 188, 10, 181, 0, 49, 42, 16, 6, 188, 10, 181, 0, 52, 42, 16, 6, 188, 10, 181, 0, 55, 42]
abbrev dktX3_init_4 : List UInt8 := dkwX3_init_4 ++ dktX3_init_5
def dkwX3_init_3 : List UInt8 := [16, 10, 188, 10, 181, 0, 40, 42, 16, 36, 188, 10, 181, 0, 43, 42, 16, 6, 188, 10, 181, 0, 46, 42]
abbrev dktX3_init_3 : List UInt8 := dkwX3_init_3 ++ dktX3_init_4
def dkwX3_init_2 : List UInt8 := [16, 10, 188, 10, 181, 0, 31, 42, 16, 10, 188, 10, 181, 0, 34, 42, 16, 10, 188, 10, 181, 0, 37, 42]
abbrev dktX3_init_2 : List UInt8 := dkwX3_init_2 ++ dktX3_init_3
def dkwX3_init_1 : List UInt8 := [16, 6, 188, 10, 181, 0, 22, 42, 16, 6, 188, 10, 181, 0, 25, 42, 16, 10, 188, 10, 181, 0, 28, 42]
abbrev dktX3_init_1 : List UInt8 := dkwX3_init_1 ++ dktX3_init_2
def dkwX3_init_0 : List UInt8 := [42, 183, 0, 3, 42, 16, 12, 181, 0, 9, 42, 4, 181, 0, 15, 42, 16, 6, 188, 10, 181, 0, 18, 42]
abbrev dktX3_init_0 : List UInt8 := dkwX3_init_0 ++ dktX3_init_1
theorem dksX3_init_0 : cX3_init.data.toList.drop 0 = dktX3_init_0 := by decide +kernel
theorem dksX3_init_1 : cX3_init.data.toList.drop 24 = dktX3_init_1 := dk_seg dksX3_init_0 24 rfl rfl
theorem dksX3_init_2 : cX3_init.data.toList.drop 48 = dktX3_init_2 := dk_seg dksX3_init_1 24 rfl rfl
theorem dksX3_init_3 : cX3_init.data.toList.drop 72 = dktX3_init_3 := dk_seg dksX3_init_2 24 rfl rfl
theorem dksX3_init_4 : cX3_init.data.toList.drop 96 = dktX3_init_4 := dk_seg dksX3_init_3 24 rfl rfl
theorem dksX3_init_5 : cX3_init.data.toList.drop 120 = dktX3_init_5 := dk_seg dksX3_init_4 24 rfl rfl
theorem dX3_init_0 : decode cX3_init 0 = .ok (.aload_n 0, 1) := dk_42 (dk_at dksX3_init_0 0 rfl rfl)
theorem dX3_init_1 : decode cX3_init 1 = .ok (.invokespecial 3, 3) := dk_183 0 3 (dk_at dksX3_init_0 1 rfl rfl)
theorem dX3_init_4 : decode cX3_init 4 = .ok (.aload_n 0, 1) := dk_42 (dk_at dksX3_init_0 4 rfl rfl)
theorem dX3_init_5 : decode cX3_init 5 = .ok (.bipush 12, 2) := dk_16 12 (dk_at dksX3_init_0 5 rfl rfl)
theorem dX3_init_7 : decode cX3_init 7 = .ok (.putfield 9, 3) := dk_181 0 9 (dk_at dksX3_init_0 7 rfl rfl)
theorem dX3_init_10 : decode cX3_init 10 = .ok (.aload_n 0, 1) := dk_42 (dk_at dksX3_init_0 10 rfl rfl)
theorem dX3_init_11 : decode cX3_init 11 = .ok (.iconst 1, 1) := dk_4 (dk_at dksX3_init_0 11 rfl rfl)
theorem dX3_init_12 : decode cX3_init 12 = .ok (.putfield 15, 3) := dk_181 0 15 (dk_at dksX3_init_0 12 rfl rfl)
theorem dX3_init_15 : decode cX3_init 15 = .ok (.aload_n 0, 1) := dk_42 (dk_at dksX3_init_0 15 rfl rfl)
theorem dX3_init_16 : decode cX3_init 16 = .ok (.bipush 6, 2) := dk_16 6 (dk_at dksX3_init_0 16 rfl rfl)
theorem dX3_init_18 : decode cX3_init 18 = .ok (.newarray .int, 2) := dk_188_10 (dk_at dksX3_init_0 18 rfl rfl)
theorem dX3_init_20 : decode cX3_init 20 = .ok (.putfield 18, 3) := dk_181 0 18 (dk_at dksX3_init_0 20 rfl rfl)
theorem dX3_init_23 : decode cX3_init 23 = .ok (.aload_n 0, 1) := dk_42 (dk_at dksX3_init_0 23 rfl rfl)
theorem dX3_init_24 : decode cX3_init 24 = .ok (.bipush 6, 2) := dk_16 6 (dk_at dksX3_init_1 0 rfl rfl)
theorem dX3_init_26 : decode cX3_init 26 = .ok (.newarray .int, 2) := dk_188_10 (dk_at dksX3_init_1 2 rfl rfl)
theorem dX3_init_28 : decode cX3_init 28 = .ok (.putfield 22, 3) := dk_181 0 22 (dk_at dksX3_init_1 4 rfl rfl)
theorem dX3_init_31 : decode cX3_init 31 = .ok (.aload_n 0, 1) := dk_42 (dk_at dksX3_init_1 7 rfl rfl)
theorem dX3_init_32 : decode cX3_init 32 = .ok (.bipush 6, 2) := dk_16 6 (dk_at dksX3_init_1 8 rfl rfl)
theorem dX3_init_34 : decode cX3_init 34 = .ok (.newarray .int, 2) := dk_188_10 (dk_at dksX3_init_1 10 rfl rfl)
theorem dX3_init_36 : decode cX3_init 36 = .ok (.putfield 25, 3) := dk_181 0 25 (dk_at dksX3_init_1 12 rfl rfl)
theorem dX3_init_39 : decode cX3_init 39 = .ok (.aload_n 0, 1) := dk_42 (dk_at dksX3_init_1 15 rfl rfl)
theorem dX3_init_40 : decode cX3_init 40 = .ok (.bipush 10, 2) := dk_16 10 (dk_at dksX3_init_1 16 rfl rfl)
theorem dX3_init_42 : decode cX3_init 42 = .ok (.newarray .int, 2) := dk_188_10 (dk_at dksX3_init_1 18 rfl rfl)
theorem dX3_init_44 : decode cX3_init 44 = .ok (.putfield 28, 3) := dk_181 0 28 (dk_at dksX3_init_1 20 rfl rfl)
theorem dX3_init_47 : decode cX3_init 47 = .ok (.aload_n 0, 1) := dk_42 (dk_at dksX3_init_1 23 rfl rfl)
theorem dX3_init_48 : decode cX3_init 48 = .ok (.bipush 10, 2) := dk_16 10 (dk_at dksX3_init_2 0 rfl rfl)
theorem dX3_init_50 : decode cX3_init 50 = .ok (.newarray .int, 2) := dk_188_10 (dk_at dksX3_init_2 2 rfl rfl)
theorem dX3_init_52 : decode cX3_init 52 = .ok (.putfield 31, 3) := dk_181 0 31 (dk_at dksX3_init_2 4 rfl rfl)
theorem dX3_init_55 : decode cX3_init 55 = .ok (.aload_n 0, 1) := dk_42 (dk_at dksX3_init_2 7 rfl rfl)
theorem dX3_init_56 : decode cX3_init 56 = .ok (.bipush 10, 2) := dk_16 10 (dk_at dksX3_init_2 8 rfl rfl)
theorem dX3_init_58 : decode cX3_init 58 = .ok (.newarray .int, 2) := dk_188_10 (dk_at dksX3_init_2 10 rfl rfl)
theorem dX3_init_60 : decode cX3_init 60 = .ok (.putfield 34, 3) := dk_181 0 34 (dk_at dksX3_init_2 12 rfl rfl)
theorem dX3_init_63 : decode cX3_init 63 = .ok (.aload_n 0, 1) := dk_42 (dk_at dksX3_init_2 15 rfl rfl)
theorem dX3_init_64 : decode cX3_init 64 = .ok (.bipush 10, 2) := dk_16 10 (dk_at dksX3_init_2 16 rfl rfl)
theorem dX3_init_66 : decode cX3_init 66 = .ok (.newarray .int, 2) := dk_188_10 (dk_at dksX3_init_2 18 rfl rfl)
theorem dX3_init_68 : decode cX3_init 68 = .ok (.putfield 37, 3) := dk_181 0 37 (dk_at dksX3_init_2 20 rfl rfl)
theorem dX3_init_71 : decode cX3_init 71 = .ok (.aload_n 0, 1) := dk_42 (dk_at dksX3_init_2 23 rfl rfl)
theorem dX3_init_72 : decode cX3_init 72 = .ok (.bipush 10, 2) := dk_16 10 (dk_at dksX3_init_3 0 rfl rfl)
theorem dX3_init_74 : decode cX3_init 74 = .ok (.newarray .int, 2) := dk_188_10 (dk_at dksX3_init_3 2 rfl rfl)
theorem dX3_init_76 : decode cX3_init 76 = .ok (.putfield 40, 3) := dk_181 0 40 (dk_at dksX3_init_3 4 rfl rfl)
theorem dX3_init_79 : decode cX3_init 79 = .ok (.aload_n 0, 1) := dk_42 (dk_at dksX3_init_3 7 rfl rfl)
theorem dX3_init_80 : decode cX3_init 80 = .ok (.bipush 36, 2) := dk_16 36 (dk_at dksX3_init_3 8 rfl rfl)
theorem dX3_init_82 : decode cX3_init 82 = .ok (.newarray .int, 2) := dk_188_10 (dk_at dksX3_init_3 10 rfl rfl)
theorem dX3_init_84 : decode cX3_init 84 = .ok (.putfield 43, 3) := dk_181 0 43 (dk_at dksX3_init_3 12 rfl rfl)
theorem dX3_init_87 : decode cX3_init 87 = .ok (.aload_n 0, 1) := dk_42 (dk_at dksX3_init_3 15 rfl rfl)
theorem dX3_init_88 : decode cX3_init 88 = .ok (.bipush 6, 2) := dk_16 6 (dk_at dksX3_init_3 16 rfl rfl)
theorem dX3_init_90 : decode cX3_init 90 = .ok (.newarray .int, 2) := dk_188_10 (dk_at dksX3_init_3 18 rfl rfl)
theorem dX3_init_92 : decode cX3_init 92 = .ok (.putfield 46, 3) := dk_181 0 46 (dk_at dksX3_init_3 20 rfl rfl)
theorem dX3_init_95 : decode cX3_init 95 = .ok (.aload_n 0, 1) := dk_42 (dk_at dksX3_init_3 23 rfl rfl)
theorem dX3_init_96 : decode cX3_init 96 = .ok (.bipush 6, 2) := dk_16 6 (dk_at dksX3_init_4 0 rfl rfl)
theorem dX3_init_98 : decode cX3_init 98 = .ok (.newarray .int, 2) := dk_188_10 (dk_at dksX3_init_4 2 rfl rfl)
theorem dX3_init_100 : decode cX3_init 100 = .ok (.putfield 49, 3) := dk_181 0 49 (dk_at dksX3_init_4 4 rfl rfl)
theorem dX3_init_103 : decode cX3_init 103 = .ok (.aload_n 0, 1) := dk_42 (dk_at dksX3_init_4 7 rfl rfl)
theorem dX3_init_104 : decode cX3_init 104 = .ok (.bipush 6, 2) := dk_16 6 (dk_at dksX3_init_4 8 rfl rfl)
theorem dX3_init_106 : decode cX3_init 106 = .ok (.newarray .int, 2) := dk_188_10 (dk_at dksX3_init_4 10 rfl rfl)
theorem dX3_init_108 : decode cX3_init 108 = .ok (.putfield 52, 3) := dk_181 0 52 (dk_at dksX3_init_4 12 rfl rfl)
theorem dX3_init_111 : decode cX3_init 111 = .ok (.aload_n 0, 1) := dk_42 (dk_at dksX3_init_4 15 rfl rfl)
theorem dX3_init_112 : decode cX3_init 112 = .ok (.bipush 6, 2) := dk_16 6 (dk_at dksX3_init_4 16 rfl rfl)
theorem dX3_init_114 : decode cX3_init 114 = .ok (.newarray .int, 2) := dk_188_10 (dk_at dksX3_init_4 18 rfl rfl)
theorem dX3_init_116 : decode cX3_init 116 = .ok (.putfield 55, 3) := dk_181 0 55 (dk_at dksX3_init_4 20 rfl rfl)
theorem dX3_init_119 : decode cX3_init 119 = .ok (.aload_n 0, 1) := dk_42 (dk_at dksX3_init_4 23 rfl rfl)
theorem dX3_init_120 : decode cX3_init 120 = .ok (.iconst 0, 1) := dk_3 (dk_at dksX3_init_5 0 rfl rfl)
theorem dX3_init_121 : decode cX3_init 121 = .ok (.anewarray 58, 3) := dk_189 0 58 (dk_at dksX3_init_5 1 rfl rfl)
theorem dX3_init_124 : decode cX3_init 124 = .ok (.putfield 60, 3) := dk_181 0 60 (dk_at dksX3_init_5 4 rfl rfl)
theorem dX3_init_127 : decode cX3_init 127 = .ok (.return_, 1) := dk_177 (dk_at dksX3_init_5 7 rfl rfl)
abbrev cX3_isOver : ByteArray := prog_21_method_3_code
def yX3_isOver : MethodName := ⟨RX3, "isOver", "()Z"⟩
def dkwX3_isOver_0 : List UInt8 := [42, 180, 0, 70, 42, 180, 0, 9, 161, 0, 7, 4, 167, 0, 4, 3, 172]
abbrev dktX3_isOver_0 : List UInt8 := dkwX3_isOver_0 ++ []
theorem dksX3_isOver_0 : cX3_isOver.data.toList.drop 0 = dktX3_isOver_0 := by decide +kernel
theorem dX3_isOver_0 : decode cX3_isOver 0 = .ok (.aload_n 0, 1) := dk_42 (dk_at dksX3_isOver_0 0 rfl rfl)
theorem dX3_isOver_1 : decode cX3_isOver 1 = .ok (.getfield 70, 3) := dk_180 0 70 (dk_at dksX3_isOver_0 1 rfl rfl)
theorem dX3_isOver_4 : decode cX3_isOver 4 = .ok (.aload_n 0, 1) := dk_42 (dk_at dksX3_isOver_0 4 rfl rfl)
theorem dX3_isOver_5 : decode cX3_isOver 5 = .ok (.getfield 9, 3) := dk_180 0 9 (dk_at dksX3_isOver_0 5 rfl rfl)
theorem dX3_isOver_8 : decode cX3_isOver 8 = .ok (.if_icmp .lt 7, 3) := dk_161 0 7 (dk_at dksX3_isOver_0 8 rfl rfl)
theorem dX3_isOver_11 : decode cX3_isOver 11 = .ok (.iconst 1, 1) := dk_4 (dk_at dksX3_isOver_0 11 rfl rfl)
theorem dX3_isOver_12 : decode cX3_isOver 12 = .ok (.goto 4, 3) := dk_167 0 4 (dk_at dksX3_isOver_0 12 rfl rfl)
theorem dX3_isOver_15 : decode cX3_isOver 15 = .ok (.iconst 0, 1) := dk_3 (dk_at dksX3_isOver_0 15 rfl rfl)
theorem dX3_isOver_16 : decode cX3_isOver 16 = .ok (.ireturn, 1) := dk_172 (dk_at dksX3_isOver_0 16 rfl rfl)
abbrev cX3_become : ByteArray := prog_21_method_2_code
def yX3_become : MethodName := ⟨RX3, "become", "(LLeftUndoes$Town;)V"⟩
def dkwX3_become_11 : List UInt8 := [177]
abbrev dktX3_become_11 : List UInt8 := dkwX3_become_11 ++ []
def dkwX3_become_10 : List UInt8 := [180, 0, 52, 3, 16, 6, 184, 0, 79, 43, 180, 0, 55, 3, 42, 180, 0, 55, 3, 16, 6, 184, 0, 79]
abbrev dktX3_become_10 : List UInt8 := dkwX3_become_10 ++ dktX3_become_11
def dkwX3_become_9 : List UInt8 := [184, 0, 79, 43, 180, 0, 49, 3, 42, 180, 0, 49, 3, 16, 6, 184, 0, 79, 43, 180, 0, 52, 3, 42]
abbrev dktX3_become_9 : List UInt8 := dkwX3_become_9 ++ dktX3_become_10
def dkwX3_become_8 : List UInt8 := [3, 42, 180, 0, 43, 3, 16, 36, 184, 0, 79, 43, 180, 0, 46, 3, 42, 180, 0, 46, 3, 16, 6]
abbrev dktX3_become_8 : List UInt8 := dkwX3_become_8 ++ dktX3_become_9
def dkwX3_become_7 : List UInt8 := [16, 10, 184, 0, 79, 43, 180, 0, 40, 3, 42, 180, 0, 40, 3, 16, 10, 184, 0, 79, 43, 180, 0, 43]
abbrev dktX3_become_7 : List UInt8 := dkwX3_become_7 ++ dktX3_become_8
def dkwX3_become_6 : List UInt8 := [180, 0, 34, 3, 42, 180, 0, 34, 3, 16, 10, 184, 0, 79, 43, 180, 0, 37, 3, 42, 180, 0, 37, 3]
abbrev dktX3_become_6 : List UInt8 := dkwX3_become_6 ++ dktX3_become_7
def dkwX3_become_5 : List UInt8 := [3, 16, 10, 184, 0, 79, 43, 180, 0, 31, 3, 42, 180, 0, 31, 3, 16, 10, 184, 0, 79, 43]
abbrev dktX3_become_5 : List UInt8 := dkwX3_become_5 ++ dktX3_become_6
def dkwX3_become_4 : List UInt8 := [43, 180, 0, 25, 3, 42, 180, 0, 25, 3, 16, 6, 184, 0, 79, 43, 180, 0, 28, 3, 42, 180, 0, 28]
abbrev dktX3_become_4 : List UInt8 := dkwX3_become_4 ++ dktX3_become_5
def dkwX3_become_3 : List UInt8 := [180, 0, 18, 3, 16, 6, 184, 0, 79, 43, 180, 0, 22, 3, 42, 180, 0, 22, 3, 16, 6, 184, 0, 79]
abbrev dktX3_become_3 : List UInt8 := dkwX3_become_3 ++ dktX3_become_4
def dkwX3_become_2 : List UInt8 := [42, 43, 180, 0, 15, 181, 0, 15, 42, 43, 180, 0, 60, 181, 0, 60, 43, 180, 0, 18, 3, 42]
abbrev dktX3_become_2 : List UInt8 := dkwX3_become_2 ++ dktX3_become_3
def dkwX3_become_1 : List UInt8 := [42, 43, 180, 0, 70, 181, 0, 70, 42, 43, 180, 0, 73, 181, 0, 73, 42, 43, 180, 0, 76, 181, 0, 76]
abbrev dktX3_become_1 : List UInt8 := dkwX3_become_1 ++ dktX3_become_2
def dkwX3_become_0 : List UInt8 := [42, 43, 180, 0, 64, 181, 0, 64, 42, 43, 180, 0, 67, 181, 0, 67, 42, 43, 180, 0, 9, 181, 0, 9]
abbrev dktX3_become_0 : List UInt8 := dkwX3_become_0 ++ dktX3_become_1
theorem dksX3_become_0 : cX3_become.data.toList.drop 0 = dktX3_become_0 := by decide +kernel
theorem dksX3_become_1 : cX3_become.data.toList.drop 24 = dktX3_become_1 := dk_seg dksX3_become_0 24 rfl rfl
theorem dksX3_become_2 : cX3_become.data.toList.drop 48 = dktX3_become_2 := dk_seg dksX3_become_1 24 rfl rfl
theorem dksX3_become_3 : cX3_become.data.toList.drop 70 = dktX3_become_3 := dk_seg dksX3_become_2 22 rfl rfl
theorem dksX3_become_4 : cX3_become.data.toList.drop 94 = dktX3_become_4 := dk_seg dksX3_become_3 24 rfl rfl
theorem dksX3_become_5 : cX3_become.data.toList.drop 118 = dktX3_become_5 := dk_seg dksX3_become_4 24 rfl rfl
theorem dksX3_become_6 : cX3_become.data.toList.drop 140 = dktX3_become_6 := dk_seg dksX3_become_5 22 rfl rfl
theorem dksX3_become_7 : cX3_become.data.toList.drop 164 = dktX3_become_7 := dk_seg dksX3_become_6 24 rfl rfl
theorem dksX3_become_8 : cX3_become.data.toList.drop 188 = dktX3_become_8 := dk_seg dksX3_become_7 24 rfl rfl
theorem dksX3_become_9 : cX3_become.data.toList.drop 211 = dktX3_become_9 := dk_seg dksX3_become_8 23 rfl rfl
theorem dksX3_become_10 : cX3_become.data.toList.drop 235 = dktX3_become_10 := dk_seg dksX3_become_9 24 rfl rfl
theorem dksX3_become_11 : cX3_become.data.toList.drop 259 = dktX3_become_11 := dk_seg dksX3_become_10 24 rfl rfl
theorem dX3_become_0 : decode cX3_become 0 = .ok (.aload_n 0, 1) := dk_42 (dk_at dksX3_become_0 0 rfl rfl)
theorem dX3_become_1 : decode cX3_become 1 = .ok (.aload_n 1, 1) := dk_43 (dk_at dksX3_become_0 1 rfl rfl)
theorem dX3_become_2 : decode cX3_become 2 = .ok (.getfield 64, 3) := dk_180 0 64 (dk_at dksX3_become_0 2 rfl rfl)
theorem dX3_become_5 : decode cX3_become 5 = .ok (.putfield 64, 3) := dk_181 0 64 (dk_at dksX3_become_0 5 rfl rfl)
theorem dX3_become_8 : decode cX3_become 8 = .ok (.aload_n 0, 1) := dk_42 (dk_at dksX3_become_0 8 rfl rfl)
theorem dX3_become_9 : decode cX3_become 9 = .ok (.aload_n 1, 1) := dk_43 (dk_at dksX3_become_0 9 rfl rfl)
theorem dX3_become_10 : decode cX3_become 10 = .ok (.getfield 67, 3) := dk_180 0 67 (dk_at dksX3_become_0 10 rfl rfl)
theorem dX3_become_13 : decode cX3_become 13 = .ok (.putfield 67, 3) := dk_181 0 67 (dk_at dksX3_become_0 13 rfl rfl)
theorem dX3_become_16 : decode cX3_become 16 = .ok (.aload_n 0, 1) := dk_42 (dk_at dksX3_become_0 16 rfl rfl)
theorem dX3_become_17 : decode cX3_become 17 = .ok (.aload_n 1, 1) := dk_43 (dk_at dksX3_become_0 17 rfl rfl)
theorem dX3_become_18 : decode cX3_become 18 = .ok (.getfield 9, 3) := dk_180 0 9 (dk_at dksX3_become_0 18 rfl rfl)
theorem dX3_become_21 : decode cX3_become 21 = .ok (.putfield 9, 3) := dk_181 0 9 (dk_at dksX3_become_0 21 rfl rfl)
theorem dX3_become_24 : decode cX3_become 24 = .ok (.aload_n 0, 1) := dk_42 (dk_at dksX3_become_1 0 rfl rfl)
theorem dX3_become_25 : decode cX3_become 25 = .ok (.aload_n 1, 1) := dk_43 (dk_at dksX3_become_1 1 rfl rfl)
theorem dX3_become_26 : decode cX3_become 26 = .ok (.getfield 70, 3) := dk_180 0 70 (dk_at dksX3_become_1 2 rfl rfl)
theorem dX3_become_29 : decode cX3_become 29 = .ok (.putfield 70, 3) := dk_181 0 70 (dk_at dksX3_become_1 5 rfl rfl)
theorem dX3_become_32 : decode cX3_become 32 = .ok (.aload_n 0, 1) := dk_42 (dk_at dksX3_become_1 8 rfl rfl)
theorem dX3_become_33 : decode cX3_become 33 = .ok (.aload_n 1, 1) := dk_43 (dk_at dksX3_become_1 9 rfl rfl)
theorem dX3_become_34 : decode cX3_become 34 = .ok (.getfield 73, 3) := dk_180 0 73 (dk_at dksX3_become_1 10 rfl rfl)
theorem dX3_become_37 : decode cX3_become 37 = .ok (.putfield 73, 3) := dk_181 0 73 (dk_at dksX3_become_1 13 rfl rfl)
theorem dX3_become_40 : decode cX3_become 40 = .ok (.aload_n 0, 1) := dk_42 (dk_at dksX3_become_1 16 rfl rfl)
theorem dX3_become_41 : decode cX3_become 41 = .ok (.aload_n 1, 1) := dk_43 (dk_at dksX3_become_1 17 rfl rfl)
theorem dX3_become_42 : decode cX3_become 42 = .ok (.getfield 76, 3) := dk_180 0 76 (dk_at dksX3_become_1 18 rfl rfl)
theorem dX3_become_45 : decode cX3_become 45 = .ok (.putfield 76, 3) := dk_181 0 76 (dk_at dksX3_become_1 21 rfl rfl)
theorem dX3_become_48 : decode cX3_become 48 = .ok (.aload_n 0, 1) := dk_42 (dk_at dksX3_become_2 0 rfl rfl)
theorem dX3_become_49 : decode cX3_become 49 = .ok (.aload_n 1, 1) := dk_43 (dk_at dksX3_become_2 1 rfl rfl)
theorem dX3_become_50 : decode cX3_become 50 = .ok (.getfield 15, 3) := dk_180 0 15 (dk_at dksX3_become_2 2 rfl rfl)
theorem dX3_become_53 : decode cX3_become 53 = .ok (.putfield 15, 3) := dk_181 0 15 (dk_at dksX3_become_2 5 rfl rfl)
theorem dX3_become_56 : decode cX3_become 56 = .ok (.aload_n 0, 1) := dk_42 (dk_at dksX3_become_2 8 rfl rfl)
theorem dX3_become_57 : decode cX3_become 57 = .ok (.aload_n 1, 1) := dk_43 (dk_at dksX3_become_2 9 rfl rfl)
theorem dX3_become_58 : decode cX3_become 58 = .ok (.getfield 60, 3) := dk_180 0 60 (dk_at dksX3_become_2 10 rfl rfl)
theorem dX3_become_61 : decode cX3_become 61 = .ok (.putfield 60, 3) := dk_181 0 60 (dk_at dksX3_become_2 13 rfl rfl)
theorem dX3_become_64 : decode cX3_become 64 = .ok (.aload_n 1, 1) := dk_43 (dk_at dksX3_become_2 16 rfl rfl)
theorem dX3_become_65 : decode cX3_become 65 = .ok (.getfield 18, 3) := dk_180 0 18 (dk_at dksX3_become_2 17 rfl rfl)
theorem dX3_become_68 : decode cX3_become 68 = .ok (.iconst 0, 1) := dk_3 (dk_at dksX3_become_2 20 rfl rfl)
theorem dX3_become_69 : decode cX3_become 69 = .ok (.aload_n 0, 1) := dk_42 (dk_at dksX3_become_2 21 rfl rfl)
theorem dX3_become_70 : decode cX3_become 70 = .ok (.getfield 18, 3) := dk_180 0 18 (dk_at dksX3_become_3 0 rfl rfl)
theorem dX3_become_73 : decode cX3_become 73 = .ok (.iconst 0, 1) := dk_3 (dk_at dksX3_become_3 3 rfl rfl)
theorem dX3_become_74 : decode cX3_become 74 = .ok (.bipush 6, 2) := dk_16 6 (dk_at dksX3_become_3 4 rfl rfl)
theorem dX3_become_76 : decode cX3_become 76 = .ok (.invokestatic 79, 3) := dk_184 0 79 (dk_at dksX3_become_3 6 rfl rfl)
theorem dX3_become_79 : decode cX3_become 79 = .ok (.aload_n 1, 1) := dk_43 (dk_at dksX3_become_3 9 rfl rfl)
theorem dX3_become_80 : decode cX3_become 80 = .ok (.getfield 22, 3) := dk_180 0 22 (dk_at dksX3_become_3 10 rfl rfl)
theorem dX3_become_83 : decode cX3_become 83 = .ok (.iconst 0, 1) := dk_3 (dk_at dksX3_become_3 13 rfl rfl)
theorem dX3_become_84 : decode cX3_become 84 = .ok (.aload_n 0, 1) := dk_42 (dk_at dksX3_become_3 14 rfl rfl)
theorem dX3_become_85 : decode cX3_become 85 = .ok (.getfield 22, 3) := dk_180 0 22 (dk_at dksX3_become_3 15 rfl rfl)
theorem dX3_become_88 : decode cX3_become 88 = .ok (.iconst 0, 1) := dk_3 (dk_at dksX3_become_3 18 rfl rfl)
theorem dX3_become_89 : decode cX3_become 89 = .ok (.bipush 6, 2) := dk_16 6 (dk_at dksX3_become_3 19 rfl rfl)
theorem dX3_become_91 : decode cX3_become 91 = .ok (.invokestatic 79, 3) := dk_184 0 79 (dk_at dksX3_become_3 21 rfl rfl)
theorem dX3_become_94 : decode cX3_become 94 = .ok (.aload_n 1, 1) := dk_43 (dk_at dksX3_become_4 0 rfl rfl)
theorem dX3_become_95 : decode cX3_become 95 = .ok (.getfield 25, 3) := dk_180 0 25 (dk_at dksX3_become_4 1 rfl rfl)
theorem dX3_become_98 : decode cX3_become 98 = .ok (.iconst 0, 1) := dk_3 (dk_at dksX3_become_4 4 rfl rfl)
theorem dX3_become_99 : decode cX3_become 99 = .ok (.aload_n 0, 1) := dk_42 (dk_at dksX3_become_4 5 rfl rfl)
theorem dX3_become_100 : decode cX3_become 100 = .ok (.getfield 25, 3) := dk_180 0 25 (dk_at dksX3_become_4 6 rfl rfl)
theorem dX3_become_103 : decode cX3_become 103 = .ok (.iconst 0, 1) := dk_3 (dk_at dksX3_become_4 9 rfl rfl)
theorem dX3_become_104 : decode cX3_become 104 = .ok (.bipush 6, 2) := dk_16 6 (dk_at dksX3_become_4 10 rfl rfl)
theorem dX3_become_106 : decode cX3_become 106 = .ok (.invokestatic 79, 3) := dk_184 0 79 (dk_at dksX3_become_4 12 rfl rfl)
theorem dX3_become_109 : decode cX3_become 109 = .ok (.aload_n 1, 1) := dk_43 (dk_at dksX3_become_4 15 rfl rfl)
theorem dX3_become_110 : decode cX3_become 110 = .ok (.getfield 28, 3) := dk_180 0 28 (dk_at dksX3_become_4 16 rfl rfl)
theorem dX3_become_113 : decode cX3_become 113 = .ok (.iconst 0, 1) := dk_3 (dk_at dksX3_become_4 19 rfl rfl)
theorem dX3_become_114 : decode cX3_become 114 = .ok (.aload_n 0, 1) := dk_42 (dk_at dksX3_become_4 20 rfl rfl)
theorem dX3_become_115 : decode cX3_become 115 = .ok (.getfield 28, 3) := dk_180 0 28 (dk_at dksX3_become_4 21 rfl rfl)
theorem dX3_become_118 : decode cX3_become 118 = .ok (.iconst 0, 1) := dk_3 (dk_at dksX3_become_5 0 rfl rfl)
theorem dX3_become_119 : decode cX3_become 119 = .ok (.bipush 10, 2) := dk_16 10 (dk_at dksX3_become_5 1 rfl rfl)
theorem dX3_become_121 : decode cX3_become 121 = .ok (.invokestatic 79, 3) := dk_184 0 79 (dk_at dksX3_become_5 3 rfl rfl)
theorem dX3_become_124 : decode cX3_become 124 = .ok (.aload_n 1, 1) := dk_43 (dk_at dksX3_become_5 6 rfl rfl)
theorem dX3_become_125 : decode cX3_become 125 = .ok (.getfield 31, 3) := dk_180 0 31 (dk_at dksX3_become_5 7 rfl rfl)
theorem dX3_become_128 : decode cX3_become 128 = .ok (.iconst 0, 1) := dk_3 (dk_at dksX3_become_5 10 rfl rfl)
theorem dX3_become_129 : decode cX3_become 129 = .ok (.aload_n 0, 1) := dk_42 (dk_at dksX3_become_5 11 rfl rfl)
theorem dX3_become_130 : decode cX3_become 130 = .ok (.getfield 31, 3) := dk_180 0 31 (dk_at dksX3_become_5 12 rfl rfl)
theorem dX3_become_133 : decode cX3_become 133 = .ok (.iconst 0, 1) := dk_3 (dk_at dksX3_become_5 15 rfl rfl)
theorem dX3_become_134 : decode cX3_become 134 = .ok (.bipush 10, 2) := dk_16 10 (dk_at dksX3_become_5 16 rfl rfl)
theorem dX3_become_136 : decode cX3_become 136 = .ok (.invokestatic 79, 3) := dk_184 0 79 (dk_at dksX3_become_5 18 rfl rfl)
theorem dX3_become_139 : decode cX3_become 139 = .ok (.aload_n 1, 1) := dk_43 (dk_at dksX3_become_5 21 rfl rfl)
theorem dX3_become_140 : decode cX3_become 140 = .ok (.getfield 34, 3) := dk_180 0 34 (dk_at dksX3_become_6 0 rfl rfl)
theorem dX3_become_143 : decode cX3_become 143 = .ok (.iconst 0, 1) := dk_3 (dk_at dksX3_become_6 3 rfl rfl)
theorem dX3_become_144 : decode cX3_become 144 = .ok (.aload_n 0, 1) := dk_42 (dk_at dksX3_become_6 4 rfl rfl)
theorem dX3_become_145 : decode cX3_become 145 = .ok (.getfield 34, 3) := dk_180 0 34 (dk_at dksX3_become_6 5 rfl rfl)
theorem dX3_become_148 : decode cX3_become 148 = .ok (.iconst 0, 1) := dk_3 (dk_at dksX3_become_6 8 rfl rfl)
theorem dX3_become_149 : decode cX3_become 149 = .ok (.bipush 10, 2) := dk_16 10 (dk_at dksX3_become_6 9 rfl rfl)
theorem dX3_become_151 : decode cX3_become 151 = .ok (.invokestatic 79, 3) := dk_184 0 79 (dk_at dksX3_become_6 11 rfl rfl)
theorem dX3_become_154 : decode cX3_become 154 = .ok (.aload_n 1, 1) := dk_43 (dk_at dksX3_become_6 14 rfl rfl)
theorem dX3_become_155 : decode cX3_become 155 = .ok (.getfield 37, 3) := dk_180 0 37 (dk_at dksX3_become_6 15 rfl rfl)
theorem dX3_become_158 : decode cX3_become 158 = .ok (.iconst 0, 1) := dk_3 (dk_at dksX3_become_6 18 rfl rfl)
theorem dX3_become_159 : decode cX3_become 159 = .ok (.aload_n 0, 1) := dk_42 (dk_at dksX3_become_6 19 rfl rfl)
theorem dX3_become_160 : decode cX3_become 160 = .ok (.getfield 37, 3) := dk_180 0 37 (dk_at dksX3_become_6 20 rfl rfl)
theorem dX3_become_163 : decode cX3_become 163 = .ok (.iconst 0, 1) := dk_3 (dk_at dksX3_become_6 23 rfl rfl)
theorem dX3_become_164 : decode cX3_become 164 = .ok (.bipush 10, 2) := dk_16 10 (dk_at dksX3_become_7 0 rfl rfl)
theorem dX3_become_166 : decode cX3_become 166 = .ok (.invokestatic 79, 3) := dk_184 0 79 (dk_at dksX3_become_7 2 rfl rfl)
theorem dX3_become_169 : decode cX3_become 169 = .ok (.aload_n 1, 1) := dk_43 (dk_at dksX3_become_7 5 rfl rfl)
theorem dX3_become_170 : decode cX3_become 170 = .ok (.getfield 40, 3) := dk_180 0 40 (dk_at dksX3_become_7 6 rfl rfl)
theorem dX3_become_173 : decode cX3_become 173 = .ok (.iconst 0, 1) := dk_3 (dk_at dksX3_become_7 9 rfl rfl)
theorem dX3_become_174 : decode cX3_become 174 = .ok (.aload_n 0, 1) := dk_42 (dk_at dksX3_become_7 10 rfl rfl)
theorem dX3_become_175 : decode cX3_become 175 = .ok (.getfield 40, 3) := dk_180 0 40 (dk_at dksX3_become_7 11 rfl rfl)
theorem dX3_become_178 : decode cX3_become 178 = .ok (.iconst 0, 1) := dk_3 (dk_at dksX3_become_7 14 rfl rfl)
theorem dX3_become_179 : decode cX3_become 179 = .ok (.bipush 10, 2) := dk_16 10 (dk_at dksX3_become_7 15 rfl rfl)
theorem dX3_become_181 : decode cX3_become 181 = .ok (.invokestatic 79, 3) := dk_184 0 79 (dk_at dksX3_become_7 17 rfl rfl)
theorem dX3_become_184 : decode cX3_become 184 = .ok (.aload_n 1, 1) := dk_43 (dk_at dksX3_become_7 20 rfl rfl)
theorem dX3_become_185 : decode cX3_become 185 = .ok (.getfield 43, 3) := dk_180 0 43 (dk_at dksX3_become_7 21 rfl rfl)
theorem dX3_become_188 : decode cX3_become 188 = .ok (.iconst 0, 1) := dk_3 (dk_at dksX3_become_8 0 rfl rfl)
theorem dX3_become_189 : decode cX3_become 189 = .ok (.aload_n 0, 1) := dk_42 (dk_at dksX3_become_8 1 rfl rfl)
theorem dX3_become_190 : decode cX3_become 190 = .ok (.getfield 43, 3) := dk_180 0 43 (dk_at dksX3_become_8 2 rfl rfl)
theorem dX3_become_193 : decode cX3_become 193 = .ok (.iconst 0, 1) := dk_3 (dk_at dksX3_become_8 5 rfl rfl)
theorem dX3_become_194 : decode cX3_become 194 = .ok (.bipush 36, 2) := dk_16 36 (dk_at dksX3_become_8 6 rfl rfl)
theorem dX3_become_196 : decode cX3_become 196 = .ok (.invokestatic 79, 3) := dk_184 0 79 (dk_at dksX3_become_8 8 rfl rfl)
theorem dX3_become_199 : decode cX3_become 199 = .ok (.aload_n 1, 1) := dk_43 (dk_at dksX3_become_8 11 rfl rfl)
theorem dX3_become_200 : decode cX3_become 200 = .ok (.getfield 46, 3) := dk_180 0 46 (dk_at dksX3_become_8 12 rfl rfl)
theorem dX3_become_203 : decode cX3_become 203 = .ok (.iconst 0, 1) := dk_3 (dk_at dksX3_become_8 15 rfl rfl)
theorem dX3_become_204 : decode cX3_become 204 = .ok (.aload_n 0, 1) := dk_42 (dk_at dksX3_become_8 16 rfl rfl)
theorem dX3_become_205 : decode cX3_become 205 = .ok (.getfield 46, 3) := dk_180 0 46 (dk_at dksX3_become_8 17 rfl rfl)
theorem dX3_become_208 : decode cX3_become 208 = .ok (.iconst 0, 1) := dk_3 (dk_at dksX3_become_8 20 rfl rfl)
theorem dX3_become_209 : decode cX3_become 209 = .ok (.bipush 6, 2) := dk_16 6 (dk_at dksX3_become_8 21 rfl rfl)
theorem dX3_become_211 : decode cX3_become 211 = .ok (.invokestatic 79, 3) := dk_184 0 79 (dk_at dksX3_become_9 0 rfl rfl)
theorem dX3_become_214 : decode cX3_become 214 = .ok (.aload_n 1, 1) := dk_43 (dk_at dksX3_become_9 3 rfl rfl)
theorem dX3_become_215 : decode cX3_become 215 = .ok (.getfield 49, 3) := dk_180 0 49 (dk_at dksX3_become_9 4 rfl rfl)
theorem dX3_become_218 : decode cX3_become 218 = .ok (.iconst 0, 1) := dk_3 (dk_at dksX3_become_9 7 rfl rfl)
theorem dX3_become_219 : decode cX3_become 219 = .ok (.aload_n 0, 1) := dk_42 (dk_at dksX3_become_9 8 rfl rfl)
theorem dX3_become_220 : decode cX3_become 220 = .ok (.getfield 49, 3) := dk_180 0 49 (dk_at dksX3_become_9 9 rfl rfl)
theorem dX3_become_223 : decode cX3_become 223 = .ok (.iconst 0, 1) := dk_3 (dk_at dksX3_become_9 12 rfl rfl)
theorem dX3_become_224 : decode cX3_become 224 = .ok (.bipush 6, 2) := dk_16 6 (dk_at dksX3_become_9 13 rfl rfl)
theorem dX3_become_226 : decode cX3_become 226 = .ok (.invokestatic 79, 3) := dk_184 0 79 (dk_at dksX3_become_9 15 rfl rfl)
theorem dX3_become_229 : decode cX3_become 229 = .ok (.aload_n 1, 1) := dk_43 (dk_at dksX3_become_9 18 rfl rfl)
theorem dX3_become_230 : decode cX3_become 230 = .ok (.getfield 52, 3) := dk_180 0 52 (dk_at dksX3_become_9 19 rfl rfl)
theorem dX3_become_233 : decode cX3_become 233 = .ok (.iconst 0, 1) := dk_3 (dk_at dksX3_become_9 22 rfl rfl)
theorem dX3_become_234 : decode cX3_become 234 = .ok (.aload_n 0, 1) := dk_42 (dk_at dksX3_become_9 23 rfl rfl)
theorem dX3_become_235 : decode cX3_become 235 = .ok (.getfield 52, 3) := dk_180 0 52 (dk_at dksX3_become_10 0 rfl rfl)
theorem dX3_become_238 : decode cX3_become 238 = .ok (.iconst 0, 1) := dk_3 (dk_at dksX3_become_10 3 rfl rfl)
theorem dX3_become_239 : decode cX3_become 239 = .ok (.bipush 6, 2) := dk_16 6 (dk_at dksX3_become_10 4 rfl rfl)
theorem dX3_become_241 : decode cX3_become 241 = .ok (.invokestatic 79, 3) := dk_184 0 79 (dk_at dksX3_become_10 6 rfl rfl)
theorem dX3_become_244 : decode cX3_become 244 = .ok (.aload_n 1, 1) := dk_43 (dk_at dksX3_become_10 9 rfl rfl)
theorem dX3_become_245 : decode cX3_become 245 = .ok (.getfield 55, 3) := dk_180 0 55 (dk_at dksX3_become_10 10 rfl rfl)
theorem dX3_become_248 : decode cX3_become 248 = .ok (.iconst 0, 1) := dk_3 (dk_at dksX3_become_10 13 rfl rfl)
theorem dX3_become_249 : decode cX3_become 249 = .ok (.aload_n 0, 1) := dk_42 (dk_at dksX3_become_10 14 rfl rfl)
theorem dX3_become_250 : decode cX3_become 250 = .ok (.getfield 55, 3) := dk_180 0 55 (dk_at dksX3_become_10 15 rfl rfl)
theorem dX3_become_253 : decode cX3_become 253 = .ok (.iconst 0, 1) := dk_3 (dk_at dksX3_become_10 18 rfl rfl)
theorem dX3_become_254 : decode cX3_become 254 = .ok (.bipush 6, 2) := dk_16 6 (dk_at dksX3_become_10 19 rfl rfl)
theorem dX3_become_256 : decode cX3_become 256 = .ok (.invokestatic 79, 3) := dk_184 0 79 (dk_at dksX3_become_10 21 rfl rfl)
theorem dX3_become_259 : decode cX3_become 259 = .ok (.return_, 1) := dk_177 (dk_at dksX3_become_11 0 rfl rfl)
theorem q124 : (Jvm.Cond.initialized "LeftUndoes$Town") ∈ lw_all := lw_g (lw_at lw_m1 7 rfl) rfl
theorem q267 : (Jvm.Cond.instantiable "LeftUndoes$Town" (21 : Nat)) ∈ lw_all := lw_g (lw_at lw_m1 150 rfl) rfl
theorem q269 : (Jvm.Cond.instanceMethod ({ cls := "LeftUndoes$Town", name := "<init>", desc := "()V" } : Jvm.MethodName)) ∈ lw_all := lw_g (lw_at lw_m1 152 rfl) rfl
theorem q270 : (Jvm.Cond.code ({ cls := "LeftUndoes$Town", name := "<init>", desc := "()V" } : Jvm.MethodName) prog_21_method_1_code (1 : Nat) (Option.none : Option Jvm.ClassFile.FieldType)) ∈ lw_all := lw_g (lw_at lw_m1 153 rfl) rfl
theorem q271 : (Jvm.Cond.methodLink "LeftUndoes$Town" (3 : Nat) ({ cls := "java/lang/Object", name := "<init>", desc := "()V" } : Jvm.MethodName)) ∈ lw_all := lw_g (lw_at lw_m1 154 rfl) rfl
theorem q272 : (Jvm.Cond.classLink "LeftUndoes$Town" (58 : Nat) "LeftUndoes$Rule") ∈ lw_all := lw_g (lw_at lw_m1 155 rfl) rfl
theorem q274 : (Jvm.Cond.fieldLink "LeftUndoes$Town" (64 : Nat) "LeftUndoes$Town" "people" "I") ∈ lw_all := lw_g (lw_at lw_m1 157 rfl) rfl
theorem q276 : (Jvm.Cond.fieldLink "LeftUndoes$Town" (67 : Nat) "LeftUndoes$Town" "deeds" "I") ∈ lw_all := lw_g (lw_at lw_m1 159 rfl) rfl
theorem q278 : (Jvm.Cond.fieldLink "LeftUndoes$Town" (9 : Nat) "LeftUndoes$Town" "end" "I") ∈ lw_all := lw_g (lw_at lw_m1 161 rfl) rfl
theorem q280 : (Jvm.Cond.fieldLink "LeftUndoes$Town" (70 : Nat) "LeftUndoes$Town" "year" "I") ∈ lw_all := lw_g (lw_at lw_m1 163 rfl) rfl
theorem q282 : (Jvm.Cond.fieldLink "LeftUndoes$Town" (73 : Nat) "LeftUndoes$Town" "score" "I") ∈ lw_all := lw_g (lw_at lw_m1 165 rfl) rfl
theorem q284 : (Jvm.Cond.fieldLink "LeftUndoes$Town" (76 : Nat) "LeftUndoes$Town" "reports" "I") ∈ lw_all := lw_g (lw_at lw_m1 167 rfl) rfl
theorem q286 : (Jvm.Cond.fieldLink "LeftUndoes$Town" (15 : Nat) "LeftUndoes$Town" "z" "I") ∈ lw_all := lw_g (lw_at lw_m1 169 rfl) rfl
theorem q288 : (Jvm.Cond.fieldLink "LeftUndoes$Town" (18 : Nat) "LeftUndoes$Town" "kind" "[I") ∈ lw_all := lw_g (lw_at lw_m1 171 rfl) rfl
theorem q290 : (Jvm.Cond.fieldLink "LeftUndoes$Town" (22 : Nat) "LeftUndoes$Town" "grace" "[I") ∈ lw_all := lw_g (lw_at lw_m1 173 rfl) rfl
theorem q292 : (Jvm.Cond.fieldLink "LeftUndoes$Town" (25 : Nat) "LeftUndoes$Town" "strength" "[I") ∈ lw_all := lw_g (lw_at lw_m1 175 rfl) rfl
theorem q294 : (Jvm.Cond.fieldLink "LeftUndoes$Town" (28 : Nat) "LeftUndoes$Town" "whose" "[I") ∈ lw_all := lw_g (lw_at lw_m1 177 rfl) rfl
theorem q296 : (Jvm.Cond.fieldLink "LeftUndoes$Town" (31 : Nat) "LeftUndoes$Town" "when" "[I") ∈ lw_all := lw_g (lw_at lw_m1 179 rfl) rfl
theorem q298 : (Jvm.Cond.fieldLink "LeftUndoes$Town" (34 : Nat) "LeftUndoes$Town" "weight" "[I") ∈ lw_all := lw_g (lw_at lw_m1 181 rfl) rfl
theorem q300 : (Jvm.Cond.fieldLink "LeftUndoes$Town" (37 : Nat) "LeftUndoes$Town" "need" "[I") ∈ lw_all := lw_g (lw_at lw_m1 183 rfl) rfl
theorem q302 : (Jvm.Cond.fieldLink "LeftUndoes$Town" (40 : Nat) "LeftUndoes$Town" "so" "[I") ∈ lw_all := lw_g (lw_at lw_m1 185 rfl) rfl
theorem q304 : (Jvm.Cond.fieldLink "LeftUndoes$Town" (43 : Nat) "LeftUndoes$Town" "owed" "[I") ∈ lw_all := lw_g (lw_at lw_m1 187 rfl) rfl
theorem q306 : (Jvm.Cond.fieldLink "LeftUndoes$Town" (46 : Nat) "LeftUndoes$Town" "heavy" "[I") ∈ lw_all := lw_g (lw_at lw_m1 189 rfl) rfl
theorem q308 : (Jvm.Cond.fieldLink "LeftUndoes$Town" (49 : Nat) "LeftUndoes$Town" "done" "[I") ∈ lw_all := lw_g (lw_at lw_m1 191 rfl) rfl
theorem q310 : (Jvm.Cond.fieldLink "LeftUndoes$Town" (52 : Nat) "LeftUndoes$Town" "by" "[I") ∈ lw_all := lw_g (lw_at lw_m1 193 rfl) rfl
theorem q312 : (Jvm.Cond.fieldLink "LeftUndoes$Town" (55 : Nat) "LeftUndoes$Town" "was" "[I") ∈ lw_all := lw_g (lw_at lw_m1 195 rfl) rfl
theorem q314 : (Jvm.Cond.fieldLink "LeftUndoes$Town" (60 : Nat) "LeftUndoes$Town" "rules" "[LLeftUndoes$Rule;") ∈ lw_all := lw_g (lw_at lw_m1 197 rfl) rfl
theorem q316 : (Jvm.Cond.lays "LeftUndoes$Town" "LeftUndoes$Town" "people" "I") ∈ lw_all := lw_g (lw_at lw_m1 199 rfl) rfl
theorem q317 : (Jvm.Cond.soleField "LeftUndoes$Town" "people") ∈ lw_all := lw_g (lw_at lw_m1 200 rfl) rfl
theorem q318 : (Jvm.Cond.lays "LeftUndoes$Town" "LeftUndoes$Town" "deeds" "I") ∈ lw_all := lw_g (lw_at lw_m1 201 rfl) rfl
theorem q319 : (Jvm.Cond.soleField "LeftUndoes$Town" "deeds") ∈ lw_all := lw_g (lw_at lw_m1 202 rfl) rfl
theorem q320 : (Jvm.Cond.lays "LeftUndoes$Town" "LeftUndoes$Town" "end" "I") ∈ lw_all := lw_g (lw_at lw_m1 203 rfl) rfl
theorem q321 : (Jvm.Cond.soleField "LeftUndoes$Town" "end") ∈ lw_all := lw_g (lw_at lw_m1 204 rfl) rfl
theorem q322 : (Jvm.Cond.lays "LeftUndoes$Town" "LeftUndoes$Town" "year" "I") ∈ lw_all := lw_g (lw_at lw_m1 205 rfl) rfl
theorem q323 : (Jvm.Cond.soleField "LeftUndoes$Town" "year") ∈ lw_all := lw_g (lw_at lw_m1 206 rfl) rfl
theorem q324 : (Jvm.Cond.lays "LeftUndoes$Town" "LeftUndoes$Town" "score" "I") ∈ lw_all := lw_g (lw_at lw_m1 207 rfl) rfl
theorem q325 : (Jvm.Cond.soleField "LeftUndoes$Town" "score") ∈ lw_all := lw_g (lw_at lw_m1 208 rfl) rfl
theorem q326 : (Jvm.Cond.lays "LeftUndoes$Town" "LeftUndoes$Town" "reports" "I") ∈ lw_all := lw_g (lw_at lw_m1 209 rfl) rfl
theorem q327 : (Jvm.Cond.soleField "LeftUndoes$Town" "reports") ∈ lw_all := lw_g (lw_at lw_m1 210 rfl) rfl
theorem q328 : (Jvm.Cond.lays "LeftUndoes$Town" "LeftUndoes$Town" "z" "I") ∈ lw_all := lw_g (lw_at lw_m1 211 rfl) rfl
theorem q329 : (Jvm.Cond.soleField "LeftUndoes$Town" "z") ∈ lw_all := lw_g (lw_at lw_m1 212 rfl) rfl
theorem q330 : (Jvm.Cond.laysFinal "LeftUndoes$Town" "LeftUndoes$Town" "kind" "[I") ∈ lw_all := lw_g (lw_at lw_m1 213 rfl) rfl
theorem q331 : (Jvm.Cond.soleField "LeftUndoes$Town" "kind") ∈ lw_all := lw_g (lw_at lw_m1 214 rfl) rfl
theorem q332 : (Jvm.Cond.laysFinal "LeftUndoes$Town" "LeftUndoes$Town" "grace" "[I") ∈ lw_all := lw_g (lw_at lw_m1 215 rfl) rfl
theorem q333 : (Jvm.Cond.soleField "LeftUndoes$Town" "grace") ∈ lw_all := lw_g (lw_at lw_m1 216 rfl) rfl
theorem q334 : (Jvm.Cond.laysFinal "LeftUndoes$Town" "LeftUndoes$Town" "strength" "[I") ∈ lw_all := lw_g (lw_at lw_m1 217 rfl) rfl
theorem q335 : (Jvm.Cond.soleField "LeftUndoes$Town" "strength") ∈ lw_all := lw_g (lw_at lw_m1 218 rfl) rfl
theorem q336 : (Jvm.Cond.laysFinal "LeftUndoes$Town" "LeftUndoes$Town" "whose" "[I") ∈ lw_all := lw_g (lw_at lw_m1 219 rfl) rfl
theorem q337 : (Jvm.Cond.soleField "LeftUndoes$Town" "whose") ∈ lw_all := lw_g (lw_at lw_m1 220 rfl) rfl
theorem q338 : (Jvm.Cond.laysFinal "LeftUndoes$Town" "LeftUndoes$Town" "when" "[I") ∈ lw_all := lw_g (lw_at lw_m1 221 rfl) rfl
theorem q339 : (Jvm.Cond.soleField "LeftUndoes$Town" "when") ∈ lw_all := lw_g (lw_at lw_m1 222 rfl) rfl
theorem q340 : (Jvm.Cond.laysFinal "LeftUndoes$Town" "LeftUndoes$Town" "weight" "[I") ∈ lw_all := lw_g (lw_at lw_m1 223 rfl) rfl
theorem q341 : (Jvm.Cond.soleField "LeftUndoes$Town" "weight") ∈ lw_all := lw_g (lw_at lw_m1 224 rfl) rfl
theorem q342 : (Jvm.Cond.laysFinal "LeftUndoes$Town" "LeftUndoes$Town" "need" "[I") ∈ lw_all := lw_g (lw_at lw_m1 225 rfl) rfl
theorem q343 : (Jvm.Cond.soleField "LeftUndoes$Town" "need") ∈ lw_all := lw_g (lw_at lw_m1 226 rfl) rfl
theorem q344 : (Jvm.Cond.laysFinal "LeftUndoes$Town" "LeftUndoes$Town" "so" "[I") ∈ lw_all := lw_g (lw_at lw_m1 227 rfl) rfl
theorem q345 : (Jvm.Cond.soleField "LeftUndoes$Town" "so") ∈ lw_all := lw_g (lw_at lw_m1 228 rfl) rfl
theorem q346 : (Jvm.Cond.laysFinal "LeftUndoes$Town" "LeftUndoes$Town" "owed" "[I") ∈ lw_all := lw_g (lw_at lw_m1 229 rfl) rfl
theorem q347 : (Jvm.Cond.soleField "LeftUndoes$Town" "owed") ∈ lw_all := lw_g (lw_at lw_m1 230 rfl) rfl
theorem q348 : (Jvm.Cond.laysFinal "LeftUndoes$Town" "LeftUndoes$Town" "heavy" "[I") ∈ lw_all := lw_g (lw_at lw_m1 231 rfl) rfl
theorem q349 : (Jvm.Cond.soleField "LeftUndoes$Town" "heavy") ∈ lw_all := lw_g (lw_at lw_m1 232 rfl) rfl
theorem q350 : (Jvm.Cond.laysFinal "LeftUndoes$Town" "LeftUndoes$Town" "done" "[I") ∈ lw_all := lw_g (lw_at lw_m1 233 rfl) rfl
theorem q351 : (Jvm.Cond.soleField "LeftUndoes$Town" "done") ∈ lw_all := lw_g (lw_at lw_m1 234 rfl) rfl
theorem q352 : (Jvm.Cond.laysFinal "LeftUndoes$Town" "LeftUndoes$Town" "by" "[I") ∈ lw_all := lw_g (lw_at lw_m1 235 rfl) rfl
theorem q353 : (Jvm.Cond.soleField "LeftUndoes$Town" "by") ∈ lw_all := lw_g (lw_at lw_m1 236 rfl) rfl
theorem q354 : (Jvm.Cond.laysFinal "LeftUndoes$Town" "LeftUndoes$Town" "was" "[I") ∈ lw_all := lw_g (lw_at lw_m1 237 rfl) rfl
theorem q355 : (Jvm.Cond.soleField "LeftUndoes$Town" "was") ∈ lw_all := lw_g (lw_at lw_m1 238 rfl) rfl
theorem q356 : (Jvm.Cond.lays "LeftUndoes$Town" "LeftUndoes$Town" "rules" "[LLeftUndoes$Rule;") ∈ lw_all := lw_g (lw_at lw_m1 239 rfl) rfl
theorem q357 : (Jvm.Cond.soleField "LeftUndoes$Town" "rules") ∈ lw_all := lw_g (lw_at lw_m2 0 rfl) rfl
theorem q358 : (Jvm.Cond.superclass "LeftUndoes$Town" "java/lang/Object") ∈ lw_all := lw_g (lw_at lw_m2 1 rfl) rfl
theorem q708 : (Jvm.Cond.instanceMethod ({ cls := "LeftUndoes$Town", name := "isOver", desc := "()Z" } : Jvm.MethodName)) ∈ lw_all := lw_g (lw_at lw_m3 111 rfl) rfl
theorem q709 : (Jvm.Cond.selects "LeftUndoes$Town" ({ cls := "LeftUndoes$Town", name := "isOver", desc := "()Z" } : Jvm.MethodName) ({ cls := "LeftUndoes$Town", name := "isOver", desc := "()Z" } : Jvm.MethodName)) ∈ lw_all := lw_g (lw_at lw_m3 112 rfl) rfl
theorem q710 : (Jvm.Cond.code ({ cls := "LeftUndoes$Town", name := "isOver", desc := "()Z" } : Jvm.MethodName) prog_21_method_3_code (1 : Nat) (Option.some Jvm.ClassFile.FieldType.boolean)) ∈ lw_all := lw_g (lw_at lw_m3 113 rfl) rfl
theorem q970 : (Jvm.Cond.instanceMethod ({ cls := "LeftUndoes$Town", name := "become", desc := "(LLeftUndoes$Town;)V" } : Jvm.MethodName)) ∈ lw_all := lw_g (lw_at lw_m4 133 rfl) rfl
theorem q971 : (Jvm.Cond.selects "LeftUndoes$Town" ({ cls := "LeftUndoes$Town", name := "become", desc := "(LLeftUndoes$Town;)V" } : Jvm.MethodName) ({ cls := "LeftUndoes$Town", name := "become", desc := "(LLeftUndoes$Town;)V" } : Jvm.MethodName)) ∈ lw_all := lw_g (lw_at lw_m4 134 rfl) rfl
theorem q972 : (Jvm.Cond.code ({ cls := "LeftUndoes$Town", name := "become", desc := "(LLeftUndoes$Town;)V" } : Jvm.MethodName) prog_21_method_2_code (2 : Nat) (Option.none : Option Jvm.ClassFile.FieldType)) ∈ lw_all := lw_g (lw_at lw_m4 135 rfl) rfl
theorem q973 : (Jvm.Cond.methodLink "LeftUndoes$Town" (79 : Nat) ({ cls := "java/lang/System", name := "arraycopy", desc := "(Ljava/lang/Object;ILjava/lang/Object;II)V" } : Jvm.MethodName)) ∈ lw_all := lw_g (lw_at lw_m4 136 rfl) rfl
theorem in_X3 : ∀ w ∈ wsX30, w ∈ lw_all := lw_in wsX30 [316, 318, 320, 322, 324, 326, 328, 330, 332, 334, 336, 338, 340, 342, 344, 346, 348, 350, 352, 354, 356] (by decide +kernel) (by decide +kernel)
/-! LeftUndoes$Trace -/
set_option maxRecDepth 100000
def RX4 : String := "LeftUndoes$Trace"
def TX4 : u_T := fun k => match k with
  | 0 => ("LeftUndoes$Trace", "bodies", "[I", true)
  | _ => ("LeftUndoes$Trace", "many", "I", false)
def tyX4 : Nat → FieldType := fun k => match k with
  | 0 => .array .int
  | _ => .int
abbrev wsX40 : List Cond := u_ws RX4 TX4 2
theorem nmX4 : ∀ a, a < 2 → ∀ b, b < 2 → a ≠ b → (TX4 a).2.1 ≠ (TX4 b).2.1 := by decide +kernel
theorem tyX4_ok : ∀ k, k < 2 → parseFieldDescriptor (TX4 k).2.2.1 = some (tyX4 k) := by decide +kernel
abbrev cX4_init : ByteArray := prog_22_method_1_code
def yX4_init : MethodName := ⟨RX4, "<init>", "()V"⟩
def dkwX4_init_0 : List UInt8 := [42, 183, 0, 1, 42, 16, 30, 188, 10, 181, 0, 7, 177]
abbrev dktX4_init_0 : List UInt8 := dkwX4_init_0 ++ []
theorem dksX4_init_0 : cX4_init.data.toList.drop 0 = dktX4_init_0 := by decide +kernel
theorem dX4_init_0 : decode cX4_init 0 = .ok (.aload_n 0, 1) := dk_42 (dk_at dksX4_init_0 0 rfl rfl)
theorem dX4_init_1 : decode cX4_init 1 = .ok (.invokespecial 1, 3) := dk_183 0 1 (dk_at dksX4_init_0 1 rfl rfl)
theorem dX4_init_4 : decode cX4_init 4 = .ok (.aload_n 0, 1) := dk_42 (dk_at dksX4_init_0 4 rfl rfl)
theorem dX4_init_5 : decode cX4_init 5 = .ok (.bipush 30, 2) := dk_16 30 (dk_at dksX4_init_0 5 rfl rfl)
theorem dX4_init_7 : decode cX4_init 7 = .ok (.newarray .int, 2) := dk_188_10 (dk_at dksX4_init_0 7 rfl rfl)
theorem dX4_init_9 : decode cX4_init 9 = .ok (.putfield 7, 3) := dk_181 0 7 (dk_at dksX4_init_0 9 rfl rfl)
theorem dX4_init_12 : decode cX4_init 12 = .ok (.return_, 1) := dk_177 (dk_at dksX4_init_0 12 rfl rfl)
abbrev cX4_ran : ByteArray := prog_22_method_2_code
def yX4_ran : MethodName := ⟨RX4, "ran", "(I)V"⟩
def dkwX4_ran_1 : List UInt8 := [89, 180, 0, 13, 4, 96, 181, 0, 13, 177]
abbrev dktX4_ran_1 : List UInt8 := dkwX4_ran_1 ++ []
def dkwX4_ran_0 : List UInt8 := [42, 180, 0, 13, 42, 180, 0, 7, 190, 160, 0, 4, 177, 42, 180, 0, 7, 42, 180, 0, 13, 27, 79, 42]
abbrev dktX4_ran_0 : List UInt8 := dkwX4_ran_0 ++ dktX4_ran_1
theorem dksX4_ran_0 : cX4_ran.data.toList.drop 0 = dktX4_ran_0 := by decide +kernel
theorem dksX4_ran_1 : cX4_ran.data.toList.drop 24 = dktX4_ran_1 := dk_seg dksX4_ran_0 24 rfl rfl
theorem dX4_ran_0 : decode cX4_ran 0 = .ok (.aload_n 0, 1) := dk_42 (dk_at dksX4_ran_0 0 rfl rfl)
theorem dX4_ran_1 : decode cX4_ran 1 = .ok (.getfield 13, 3) := dk_180 0 13 (dk_at dksX4_ran_0 1 rfl rfl)
theorem dX4_ran_4 : decode cX4_ran 4 = .ok (.aload_n 0, 1) := dk_42 (dk_at dksX4_ran_0 4 rfl rfl)
theorem dX4_ran_5 : decode cX4_ran 5 = .ok (.getfield 7, 3) := dk_180 0 7 (dk_at dksX4_ran_0 5 rfl rfl)
theorem dX4_ran_8 : decode cX4_ran 8 = .ok (.arraylength, 1) := dk_190 (dk_at dksX4_ran_0 8 rfl rfl)
theorem dX4_ran_9 : decode cX4_ran 9 = .ok (.if_icmp .ne 4, 3) := dk_160 0 4 (dk_at dksX4_ran_0 9 rfl rfl)
theorem dX4_ran_12 : decode cX4_ran 12 = .ok (.return_, 1) := dk_177 (dk_at dksX4_ran_0 12 rfl rfl)
theorem dX4_ran_13 : decode cX4_ran 13 = .ok (.aload_n 0, 1) := dk_42 (dk_at dksX4_ran_0 13 rfl rfl)
theorem dX4_ran_14 : decode cX4_ran 14 = .ok (.getfield 7, 3) := dk_180 0 7 (dk_at dksX4_ran_0 14 rfl rfl)
theorem dX4_ran_17 : decode cX4_ran 17 = .ok (.aload_n 0, 1) := dk_42 (dk_at dksX4_ran_0 17 rfl rfl)
theorem dX4_ran_18 : decode cX4_ran 18 = .ok (.getfield 13, 3) := dk_180 0 13 (dk_at dksX4_ran_0 18 rfl rfl)
theorem dX4_ran_21 : decode cX4_ran 21 = .ok (.iload_n 1, 1) := dk_27 (dk_at dksX4_ran_0 21 rfl rfl)
theorem dX4_ran_22 : decode cX4_ran 22 = .ok (.iastore, 1) := dk_79 (dk_at dksX4_ran_0 22 rfl rfl)
theorem dX4_ran_23 : decode cX4_ran 23 = .ok (.aload_n 0, 1) := dk_42 (dk_at dksX4_ran_0 23 rfl rfl)
theorem dX4_ran_24 : decode cX4_ran 24 = .ok (.dup, 1) := dk_89 (dk_at dksX4_ran_1 0 rfl rfl)
theorem dX4_ran_25 : decode cX4_ran 25 = .ok (.getfield 13, 3) := dk_180 0 13 (dk_at dksX4_ran_1 1 rfl rfl)
theorem dX4_ran_28 : decode cX4_ran 28 = .ok (.iconst 1, 1) := dk_4 (dk_at dksX4_ran_1 4 rfl rfl)
theorem dX4_ran_29 : decode cX4_ran 29 = .ok (.iadd, 1) := dk_96 (dk_at dksX4_ran_1 5 rfl rfl)
theorem dX4_ran_30 : decode cX4_ran 30 = .ok (.putfield 13, 3) := dk_181 0 13 (dk_at dksX4_ran_1 6 rfl rfl)
theorem dX4_ran_33 : decode cX4_ran 33 = .ok (.return_, 1) := dk_177 (dk_at dksX4_ran_1 9 rfl rfl)
theorem q125 : (Jvm.Cond.initialized "LeftUndoes$Trace") ∈ lw_all := lw_g (lw_at lw_m1 8 rfl) rfl
theorem q381 : (Jvm.Cond.instantiable "LeftUndoes$Trace" (2 : Nat)) ∈ lw_all := lw_g (lw_at lw_m2 24 rfl) rfl
theorem q383 : (Jvm.Cond.instanceMethod ({ cls := "LeftUndoes$Trace", name := "<init>", desc := "()V" } : Jvm.MethodName)) ∈ lw_all := lw_g (lw_at lw_m2 26 rfl) rfl
theorem q384 : (Jvm.Cond.code ({ cls := "LeftUndoes$Trace", name := "<init>", desc := "()V" } : Jvm.MethodName) prog_22_method_1_code (1 : Nat) (Option.none : Option Jvm.ClassFile.FieldType)) ∈ lw_all := lw_g (lw_at lw_m2 27 rfl) rfl
theorem q385 : (Jvm.Cond.methodLink "LeftUndoes$Trace" (1 : Nat) ({ cls := "java/lang/Object", name := "<init>", desc := "()V" } : Jvm.MethodName)) ∈ lw_all := lw_g (lw_at lw_m2 28 rfl) rfl
theorem q386 : (Jvm.Cond.fieldLink "LeftUndoes$Trace" (7 : Nat) "LeftUndoes$Trace" "bodies" "[I") ∈ lw_all := lw_g (lw_at lw_m2 29 rfl) rfl
theorem q388 : (Jvm.Cond.fieldLink "LeftUndoes$Trace" (13 : Nat) "LeftUndoes$Trace" "many" "I") ∈ lw_all := lw_g (lw_at lw_m2 31 rfl) rfl
theorem q390 : (Jvm.Cond.laysFinal "LeftUndoes$Trace" "LeftUndoes$Trace" "bodies" "[I") ∈ lw_all := lw_g (lw_at lw_m2 33 rfl) rfl
theorem q391 : (Jvm.Cond.soleField "LeftUndoes$Trace" "bodies") ∈ lw_all := lw_g (lw_at lw_m2 34 rfl) rfl
theorem q392 : (Jvm.Cond.lays "LeftUndoes$Trace" "LeftUndoes$Trace" "many" "I") ∈ lw_all := lw_g (lw_at lw_m2 35 rfl) rfl
theorem q393 : (Jvm.Cond.soleField "LeftUndoes$Trace" "many") ∈ lw_all := lw_g (lw_at lw_m2 36 rfl) rfl
theorem q394 : (Jvm.Cond.superclass "LeftUndoes$Trace" "java/lang/Object") ∈ lw_all := lw_g (lw_at lw_m2 37 rfl) rfl
theorem q1376 : (Jvm.Cond.instanceMethod ({ cls := "LeftUndoes$Trace", name := "ran", desc := "(I)V" } : Jvm.MethodName)) ∈ lw_all := lw_g (lw_at lw_m6 59 rfl) rfl
theorem q1377 : (Jvm.Cond.selects "LeftUndoes$Trace" ({ cls := "LeftUndoes$Trace", name := "ran", desc := "(I)V" } : Jvm.MethodName) ({ cls := "LeftUndoes$Trace", name := "ran", desc := "(I)V" } : Jvm.MethodName)) ∈ lw_all := lw_g (lw_at lw_m6 60 rfl) rfl
theorem q1378 : (Jvm.Cond.code ({ cls := "LeftUndoes$Trace", name := "ran", desc := "(I)V" } : Jvm.MethodName) prog_22_method_2_code (2 : Nat) (Option.none : Option Jvm.ClassFile.FieldType)) ∈ lw_all := lw_g (lw_at lw_m6 61 rfl) rfl
theorem in_X4 : ∀ w ∈ wsX40, w ∈ lw_all := lw_in wsX40 [390, 392] (by decide +kernel) (by decide +kernel)
/-! LeftUndoes$Shelf -/
set_option maxRecDepth 100000
def RX5 : String := "LeftUndoes$Shelf"
def TX5 : u_T := fun k => match k with
  | _ => ("LeftUndoes$Shelf", "held", "Ljava/lang/Object;", false)
def tyX5 : Nat → FieldType := fun k => match k with
  | _ => .object "java/lang/Object"
abbrev wsX50 : List Cond := u_ws RX5 TX5 1
theorem nmX5 : ∀ a, a < 1 → ∀ b, b < 1 → a ≠ b → (TX5 a).2.1 ≠ (TX5 b).2.1 := by decide +kernel
theorem tyX5_ok : ∀ k, k < 1 → parseFieldDescriptor (TX5 k).2.2.1 = some (tyX5 k) := by decide +kernel
abbrev cX5_init : ByteArray := prog_14_method_1_code
def yX5_init : MethodName := ⟨RX5, "<init>", "()V"⟩
theorem dX5_init_0 : decode cX5_init 0 = .ok (.aload_n 0, 1) := by decide +kernel
theorem dX5_init_1 : decode cX5_init 1 = .ok (.invokespecial 1, 3) := by decide +kernel
theorem dX5_init_4 : decode cX5_init 4 = .ok (.return_, 1) := by decide +kernel
theorem q126 : (Jvm.Cond.initialized "LeftUndoes$Shelf") ∈ lw_all := lw_g (lw_at lw_m1 9 rfl) rfl
theorem q396 : (Jvm.Cond.instantiable "LeftUndoes$Shelf" (1 : Nat)) ∈ lw_all := lw_g (lw_at lw_m2 39 rfl) rfl
theorem q398 : (Jvm.Cond.instanceMethod ({ cls := "LeftUndoes$Shelf", name := "<init>", desc := "()V" } : Jvm.MethodName)) ∈ lw_all := lw_g (lw_at lw_m2 41 rfl) rfl
theorem q399 : (Jvm.Cond.code ({ cls := "LeftUndoes$Shelf", name := "<init>", desc := "()V" } : Jvm.MethodName) prog_14_method_1_code (1 : Nat) (Option.none : Option Jvm.ClassFile.FieldType)) ∈ lw_all := lw_g (lw_at lw_m2 42 rfl) rfl
theorem q400 : (Jvm.Cond.methodLink "LeftUndoes$Shelf" (1 : Nat) ({ cls := "java/lang/Object", name := "<init>", desc := "()V" } : Jvm.MethodName)) ∈ lw_all := lw_g (lw_at lw_m2 43 rfl) rfl
theorem q402 : (Jvm.Cond.lays "LeftUndoes$Shelf" "LeftUndoes$Shelf" "held" "Ljava/lang/Object;") ∈ lw_all := lw_g (lw_at lw_m2 45 rfl) rfl
theorem q403 : (Jvm.Cond.soleField "LeftUndoes$Shelf" "held") ∈ lw_all := lw_g (lw_at lw_m2 46 rfl) rfl
theorem q404 : (Jvm.Cond.superclass "LeftUndoes$Shelf" "java/lang/Object") ∈ lw_all := lw_g (lw_at lw_m2 47 rfl) rfl
theorem in_X5 : ∀ w ∈ wsX50, w ∈ lw_all := lw_in wsX50 [402] (by decide +kernel) (by decide +kernel)
/-! LeftUndoes$Hand -/
set_option maxRecDepth 100000
def RX7 : String := "LeftUndoes$Hand"
abbrev cX7_init : ByteArray := prog_9_method_1_code
def yX7_init : MethodName := ⟨RX7, "<init>", "(II)V"⟩
def dkwX7_init_0 : List UInt8 := [42, 183, 0, 1, 42, 27, 181, 0, 7, 42, 28, 181, 0, 13, 177]
abbrev dktX7_init_0 : List UInt8 := dkwX7_init_0 ++ []
theorem dksX7_init_0 : cX7_init.data.toList.drop 0 = dktX7_init_0 := by decide +kernel
theorem dX7_init_0 : decode cX7_init 0 = .ok (.aload_n 0, 1) := dk_42 (dk_at dksX7_init_0 0 rfl rfl)
theorem dX7_init_1 : decode cX7_init 1 = .ok (.invokespecial 1, 3) := dk_183 0 1 (dk_at dksX7_init_0 1 rfl rfl)
theorem dX7_init_4 : decode cX7_init 4 = .ok (.aload_n 0, 1) := dk_42 (dk_at dksX7_init_0 4 rfl rfl)
theorem dX7_init_5 : decode cX7_init 5 = .ok (.iload_n 1, 1) := dk_27 (dk_at dksX7_init_0 5 rfl rfl)
theorem dX7_init_6 : decode cX7_init 6 = .ok (.putfield 7, 3) := dk_181 0 7 (dk_at dksX7_init_0 6 rfl rfl)
theorem dX7_init_9 : decode cX7_init 9 = .ok (.aload_n 0, 1) := dk_42 (dk_at dksX7_init_0 9 rfl rfl)
theorem dX7_init_10 : decode cX7_init 10 = .ok (.iload_n 2, 1) := dk_28 (dk_at dksX7_init_0 10 rfl rfl)
theorem dX7_init_11 : decode cX7_init 11 = .ok (.putfield 13, 3) := dk_181 0 13 (dk_at dksX7_init_0 11 rfl rfl)
theorem dX7_init_14 : decode cX7_init 14 = .ok (.return_, 1) := dk_177 (dk_at dksX7_init_0 14 rfl rfl)
abbrev cX7_pull : ByteArray := prog_9_method_5_code
def yX7_pull : MethodName := ⟨RX7, "pull", "(II)I"⟩
theorem dX7_pull_0 : decode cX7_pull 0 = .ok (.iload_n 1, 1) := by decide +kernel
theorem dX7_pull_1 : decode cX7_pull 1 = .ok (.ireturn, 1) := by decide +kernel
abbrev cX7_term : ByteArray := prog_9_method_4_code
def yX7_term : MethodName := ⟨RX7, "term", "()I"⟩
theorem dX7_term_0 : decode cX7_term 0 = .ok (.aload_n 0, 1) := by decide +kernel
theorem dX7_term_1 : decode cX7_term 1 = .ok (.getfield 13, 3) := by decide +kernel
theorem dX7_term_4 : decode cX7_term 4 = .ok (.ireturn, 1) := by decide +kernel
abbrev cX7_number : ByteArray := prog_9_method_2_code
def yX7_number : MethodName := ⟨RX7, "number", "()I"⟩
theorem dX7_number_0 : decode cX7_number 0 = .ok (.aload_n 0, 1) := by decide +kernel
theorem dX7_number_1 : decode cX7_number 1 = .ok (.getfield 7, 3) := by decide +kernel
theorem dX7_number_4 : decode cX7_number 4 = .ok (.ireturn, 1) := by decide +kernel
abbrev cX7_grace : ByteArray := prog_9_method_3_code
def yX7_grace : MethodName := ⟨RX7, "grace", "()I"⟩
theorem dX7_grace_0 : decode cX7_grace 0 = .ok (.aload_n 0, 1) := by decide +kernel
theorem dX7_grace_1 : decode cX7_grace 1 = .ok (.getfield 13, 3) := by decide +kernel
theorem dX7_grace_4 : decode cX7_grace 4 = .ok (.ireturn, 1) := by decide +kernel
theorem q128 : (Jvm.Cond.initialized "LeftUndoes$Hand") ∈ lw_all := lw_g (lw_at lw_m1 11 rfl) rfl
theorem q528 : (Jvm.Cond.instanceMethod ({ cls := "LeftUndoes$Hand", name := "<init>", desc := "(II)V" } : Jvm.MethodName)) ∈ lw_all := lw_g (lw_at lw_m2 171 rfl) rfl
theorem q529 : (Jvm.Cond.code ({ cls := "LeftUndoes$Hand", name := "<init>", desc := "(II)V" } : Jvm.MethodName) prog_9_method_1_code (3 : Nat) (Option.none : Option Jvm.ClassFile.FieldType)) ∈ lw_all := lw_g (lw_at lw_m2 172 rfl) rfl
theorem q530 : (Jvm.Cond.methodLink "LeftUndoes$Hand" (1 : Nat) ({ cls := "java/lang/Object", name := "<init>", desc := "()V" } : Jvm.MethodName)) ∈ lw_all := lw_g (lw_at lw_m2 173 rfl) rfl
theorem q531 : (Jvm.Cond.fieldLink "LeftUndoes$Hand" (7 : Nat) "LeftUndoes$Hand" "number" "I") ∈ lw_all := lw_g (lw_at lw_m2 174 rfl) rfl
theorem q532 : (Jvm.Cond.fieldLink "LeftUndoes$Hand" (13 : Nat) "LeftUndoes$Hand" "grace" "I") ∈ lw_all := lw_g (lw_at lw_m2 175 rfl) rfl
theorem q534 : (Jvm.Cond.soleField "LeftUndoes$Hand" "number") ∈ lw_all := lw_g (lw_at lw_m2 177 rfl) rfl
theorem q536 : (Jvm.Cond.soleField "LeftUndoes$Hand" "grace") ∈ lw_all := lw_g (lw_at lw_m2 179 rfl) rfl
theorem q587 : (Jvm.Cond.instanceMethod ({ cls := "LeftUndoes$Hand", name := "pull", desc := "(II)I" } : Jvm.MethodName)) ∈ lw_all := lw_g (lw_at lw_m2 230 rfl) rfl
theorem q588 : (Jvm.Cond.sameMethod "LeftUndoes$Hand" "LeftUndoes$Hand" "pull" "(II)I") ∈ lw_all := lw_g (lw_at lw_m2 231 rfl) rfl
theorem q593 : (Jvm.Cond.code ({ cls := "LeftUndoes$Hand", name := "pull", desc := "(II)I" } : Jvm.MethodName) prog_9_method_5_code (3 : Nat) (Option.some Jvm.ClassFile.FieldType.int)) ∈ lw_all := lw_g (lw_at lw_m2 236 rfl) rfl
theorem q608 : (Jvm.Cond.declares ({ cls := "LeftUndoes$Hand", name := "pull", desc := "(II)I" } : Jvm.MethodName)) ∈ lw_tbl := lw_at lw_m3 11 rfl
theorem q655 : (Jvm.Cond.instanceMethod ({ cls := "LeftUndoes$Hand", name := "term", desc := "()I" } : Jvm.MethodName)) ∈ lw_all := lw_g (lw_at lw_m3 58 rfl) rfl
theorem q656 : (Jvm.Cond.sameMethod "LeftUndoes$Hand" "LeftUndoes$Hand" "term" "()I") ∈ lw_all := lw_g (lw_at lw_m3 59 rfl) rfl
theorem q662 : (Jvm.Cond.code ({ cls := "LeftUndoes$Hand", name := "term", desc := "()I" } : Jvm.MethodName) prog_9_method_4_code (1 : Nat) (Option.some Jvm.ClassFile.FieldType.int)) ∈ lw_all := lw_g (lw_at lw_m3 65 rfl) rfl
theorem q1339 : (Jvm.Cond.instanceMethod ({ cls := "LeftUndoes$Hand", name := "number", desc := "()I" } : Jvm.MethodName)) ∈ lw_all := lw_g (lw_at lw_m6 22 rfl) rfl
theorem q1340 : (Jvm.Cond.sameMethod "LeftUndoes$Hand" "LeftUndoes$Hand" "number" "()I") ∈ lw_all := lw_g (lw_at lw_m6 23 rfl) rfl
theorem q1346 : (Jvm.Cond.code ({ cls := "LeftUndoes$Hand", name := "number", desc := "()I" } : Jvm.MethodName) prog_9_method_2_code (1 : Nat) (Option.some Jvm.ClassFile.FieldType.int)) ∈ lw_all := lw_g (lw_at lw_m6 29 rfl) rfl
theorem q1379 : (Jvm.Cond.superclass "LeftUndoes$Hand" "java/lang/Object") ∈ lw_all := lw_g (lw_at lw_m6 62 rfl) rfl
theorem q1390 : (Jvm.Cond.instanceMethod ({ cls := "LeftUndoes$Hand", name := "grace", desc := "()I" } : Jvm.MethodName)) ∈ lw_all := lw_g (lw_at lw_m6 73 rfl) rfl
theorem q1391 : (Jvm.Cond.publicMethod ({ cls := "LeftUndoes$Hand", name := "grace", desc := "()I" } : Jvm.MethodName)) ∈ lw_tbl := lw_at lw_m6 74 rfl
theorem q1392 : (Jvm.Cond.code ({ cls := "LeftUndoes$Hand", name := "grace", desc := "()I" } : Jvm.MethodName) prog_9_method_3_code (1 : Nat) (Option.some Jvm.ClassFile.FieldType.int)) ∈ lw_all := lw_g (lw_at lw_m6 75 rfl) rfl
theorem q1407 : (Jvm.Cond.declares ({ cls := "LeftUndoes$Hand", name := "number", desc := "()I" } : Jvm.MethodName)) ∈ lw_tbl := lw_at lw_m6 90 rfl
theorem q1449 : (Jvm.Cond.declares ({ cls := "LeftUndoes$Hand", name := "grace", desc := "()I" } : Jvm.MethodName)) ∈ lw_tbl := lw_at lw_m6 132 rfl
theorem q1473 : (Jvm.Cond.publicMethod ({ cls := "LeftUndoes$Hand", name := "number", desc := "()I" } : Jvm.MethodName)) ∈ lw_tbl := lw_at lw_m6 156 rfl
/-! LeftUndoes$Clasped -/
set_option maxRecDepth 100000
def RX8 : String := "LeftUndoes$Clasped"
def TX8 : u_T := fun k => match k with
  | 0 => ("LeftUndoes$Hand", "number", "I", true)
  | _ => ("LeftUndoes$Hand", "grace", "I", true)
def tyX8 : Nat → FieldType := fun k => match k with
  | 0 => .int
  | _ => .int
abbrev wsX80 : List Cond := u_ws RX8 TX8 2
theorem nmX8 : ∀ a, a < 2 → ∀ b, b < 2 → a ≠ b → (TX8 a).2.1 ≠ (TX8 b).2.1 := by decide +kernel
theorem tyX8_ok : ∀ k, k < 2 → parseFieldDescriptor (TX8 k).2.2.1 = some (tyX8 k) := by decide +kernel
abbrev cX8_init : ByteArray := prog_4_method_1_code
def yX8_init : MethodName := ⟨RX8, "<init>", "(II)V"⟩
def dkwX8_init_0 : List UInt8 := [42, 27, 28, 183, 0, 1, 177]
abbrev dktX8_init_0 : List UInt8 := dkwX8_init_0 ++ []
theorem dksX8_init_0 : cX8_init.data.toList.drop 0 = dktX8_init_0 := by decide +kernel
theorem dX8_init_0 : decode cX8_init 0 = .ok (.aload_n 0, 1) := dk_42 (dk_at dksX8_init_0 0 rfl rfl)
theorem dX8_init_1 : decode cX8_init 1 = .ok (.iload_n 1, 1) := dk_27 (dk_at dksX8_init_0 1 rfl rfl)
theorem dX8_init_2 : decode cX8_init 2 = .ok (.iload_n 2, 1) := dk_28 (dk_at dksX8_init_0 2 rfl rfl)
theorem dX8_init_3 : decode cX8_init 3 = .ok (.invokespecial 1, 3) := dk_183 0 1 (dk_at dksX8_init_0 3 rfl rfl)
theorem dX8_init_6 : decode cX8_init 6 = .ok (.return_, 1) := dk_177 (dk_at dksX8_init_0 6 rfl rfl)
abbrev cX8_pull : ByteArray := prog_4_method_2_code
def yX8_pull : MethodName := ⟨RX8, "pull", "(II)I"⟩
def dkwX8_pull_0 : List UInt8 := [28, 6, 112, 5, 160, 0, 7, 3, 167, 0, 9, 42, 27, 28, 183, 0, 7, 172]
abbrev dktX8_pull_0 : List UInt8 := dkwX8_pull_0 ++ []
theorem dksX8_pull_0 : cX8_pull.data.toList.drop 0 = dktX8_pull_0 := by decide +kernel
theorem dX8_pull_0 : decode cX8_pull 0 = .ok (.iload_n 2, 1) := dk_28 (dk_at dksX8_pull_0 0 rfl rfl)
theorem dX8_pull_1 : decode cX8_pull 1 = .ok (.iconst 3, 1) := dk_6 (dk_at dksX8_pull_0 1 rfl rfl)
theorem dX8_pull_2 : decode cX8_pull 2 = .ok (.irem, 1) := dk_112 (dk_at dksX8_pull_0 2 rfl rfl)
theorem dX8_pull_3 : decode cX8_pull 3 = .ok (.iconst 2, 1) := dk_5 (dk_at dksX8_pull_0 3 rfl rfl)
theorem dX8_pull_4 : decode cX8_pull 4 = .ok (.if_icmp .ne 7, 3) := dk_160 0 7 (dk_at dksX8_pull_0 4 rfl rfl)
theorem dX8_pull_7 : decode cX8_pull 7 = .ok (.iconst 0, 1) := dk_3 (dk_at dksX8_pull_0 7 rfl rfl)
theorem dX8_pull_8 : decode cX8_pull 8 = .ok (.goto 9, 3) := dk_167 0 9 (dk_at dksX8_pull_0 8 rfl rfl)
theorem dX8_pull_11 : decode cX8_pull 11 = .ok (.aload_n 0, 1) := dk_42 (dk_at dksX8_pull_0 11 rfl rfl)
theorem dX8_pull_12 : decode cX8_pull 12 = .ok (.iload_n 1, 1) := dk_27 (dk_at dksX8_pull_0 12 rfl rfl)
theorem dX8_pull_13 : decode cX8_pull 13 = .ok (.iload_n 2, 1) := dk_28 (dk_at dksX8_pull_0 13 rfl rfl)
theorem dX8_pull_14 : decode cX8_pull 14 = .ok (.invokespecial 7, 3) := dk_183 0 7 (dk_at dksX8_pull_0 14 rfl rfl)
theorem dX8_pull_17 : decode cX8_pull 17 = .ok (.ireturn, 1) := dk_172 (dk_at dksX8_pull_0 17 rfl rfl)
abbrev cX8_gives : ByteArray := prog_4_method_3_code
def yX8_gives : MethodName := ⟨RX8, "gives", "(ILLeftUndoes$Trace;)I"⟩
def dkwX8_gives_0 : List UInt8 := [44, 16, 20, 182, 0, 11, 42, 27, 44, 183, 0, 17, 42, 182, 0, 21, 96, 172]
abbrev dktX8_gives_0 : List UInt8 := dkwX8_gives_0 ++ []
theorem dksX8_gives_0 : cX8_gives.data.toList.drop 0 = dktX8_gives_0 := by decide +kernel
theorem dX8_gives_0 : decode cX8_gives 0 = .ok (.aload_n 2, 1) := dk_44 (dk_at dksX8_gives_0 0 rfl rfl)
theorem dX8_gives_1 : decode cX8_gives 1 = .ok (.bipush 20, 2) := dk_16 20 (dk_at dksX8_gives_0 1 rfl rfl)
theorem dX8_gives_3 : decode cX8_gives 3 = .ok (.invokevirtual 11, 3) := dk_182 0 11 (dk_at dksX8_gives_0 3 rfl rfl)
theorem dX8_gives_6 : decode cX8_gives 6 = .ok (.aload_n 0, 1) := dk_42 (dk_at dksX8_gives_0 6 rfl rfl)
theorem dX8_gives_7 : decode cX8_gives 7 = .ok (.iload_n 1, 1) := dk_27 (dk_at dksX8_gives_0 7 rfl rfl)
theorem dX8_gives_8 : decode cX8_gives 8 = .ok (.aload_n 2, 1) := dk_44 (dk_at dksX8_gives_0 8 rfl rfl)
theorem dX8_gives_9 : decode cX8_gives 9 = .ok (.invokespecial 17, 3) := dk_183 0 17 (dk_at dksX8_gives_0 9 rfl rfl)
theorem dX8_gives_12 : decode cX8_gives 12 = .ok (.aload_n 0, 1) := dk_42 (dk_at dksX8_gives_0 12 rfl rfl)
theorem dX8_gives_13 : decode cX8_gives 13 = .ok (.invokevirtual 21, 3) := dk_182 0 21 (dk_at dksX8_gives_0 13 rfl rfl)
theorem dX8_gives_16 : decode cX8_gives 16 = .ok (.iadd, 1) := dk_96 (dk_at dksX8_gives_0 16 rfl rfl)
theorem dX8_gives_17 : decode cX8_gives 17 = .ok (.ireturn, 1) := dk_172 (dk_at dksX8_gives_0 17 rfl rfl)
theorem q129 : (Jvm.Cond.initialized "LeftUndoes$Clasped") ∈ lw_all := lw_g (lw_at lw_m1 12 rfl) rfl
theorem q523 : (Jvm.Cond.instantiable "LeftUndoes$Clasped" (2 : Nat)) ∈ lw_all := lw_g (lw_at lw_m2 166 rfl) rfl
theorem q525 : (Jvm.Cond.instanceMethod ({ cls := "LeftUndoes$Clasped", name := "<init>", desc := "(II)V" } : Jvm.MethodName)) ∈ lw_all := lw_g (lw_at lw_m2 168 rfl) rfl
theorem q526 : (Jvm.Cond.code ({ cls := "LeftUndoes$Clasped", name := "<init>", desc := "(II)V" } : Jvm.MethodName) prog_4_method_1_code (3 : Nat) (Option.none : Option Jvm.ClassFile.FieldType)) ∈ lw_all := lw_g (lw_at lw_m2 169 rfl) rfl
theorem q527 : (Jvm.Cond.methodLink "LeftUndoes$Clasped" (1 : Nat) ({ cls := "LeftUndoes$Hand", name := "<init>", desc := "(II)V" } : Jvm.MethodName)) ∈ lw_all := lw_g (lw_at lw_m2 170 rfl) rfl
theorem q533 : (Jvm.Cond.laysFinal "LeftUndoes$Clasped" "LeftUndoes$Hand" "number" "I") ∈ lw_all := lw_g (lw_at lw_m2 176 rfl) rfl
theorem q535 : (Jvm.Cond.laysFinal "LeftUndoes$Clasped" "LeftUndoes$Hand" "grace" "I") ∈ lw_all := lw_g (lw_at lw_m2 178 rfl) rfl
theorem q537 : (Jvm.Cond.superclass "LeftUndoes$Clasped" "LeftUndoes$Hand") ∈ lw_all := lw_g (lw_at lw_m2 180 rfl) rfl
theorem q589 : (Jvm.Cond.selects "LeftUndoes$Clasped" ({ cls := "LeftUndoes$Hand", name := "pull", desc := "(II)I" } : Jvm.MethodName) ({ cls := "LeftUndoes$Clasped", name := "pull", desc := "(II)I" } : Jvm.MethodName)) ∈ lw_all := lw_g (lw_at lw_m2 232 rfl) rfl
theorem q590 : (Jvm.Cond.instanceMethod ({ cls := "LeftUndoes$Clasped", name := "pull", desc := "(II)I" } : Jvm.MethodName)) ∈ lw_all := lw_g (lw_at lw_m2 233 rfl) rfl
theorem q591 : (Jvm.Cond.code ({ cls := "LeftUndoes$Clasped", name := "pull", desc := "(II)I" } : Jvm.MethodName) prog_4_method_2_code (3 : Nat) (Option.some Jvm.ClassFile.FieldType.int)) ∈ lw_all := lw_g (lw_at lw_m2 234 rfl) rfl
theorem q592 : (Jvm.Cond.methodLink "LeftUndoes$Clasped" (7 : Nat) ({ cls := "LeftUndoes$Hand", name := "pull", desc := "(II)I" } : Jvm.MethodName)) ∈ lw_all := lw_g (lw_at lw_m2 235 rfl) rfl
theorem q657 : (Jvm.Cond.selects "LeftUndoes$Clasped" ({ cls := "LeftUndoes$Hand", name := "term", desc := "()I" } : Jvm.MethodName) ({ cls := "LeftUndoes$Hand", name := "term", desc := "()I" } : Jvm.MethodName)) ∈ lw_all := lw_g (lw_at lw_m3 60 rfl) rfl
theorem q1341 : (Jvm.Cond.selects "LeftUndoes$Clasped" ({ cls := "LeftUndoes$Hand", name := "number", desc := "()I" } : Jvm.MethodName) ({ cls := "LeftUndoes$Hand", name := "number", desc := "()I" } : Jvm.MethodName)) ∈ lw_all := lw_g (lw_at lw_m6 24 rfl) rfl
theorem q1369 : (Jvm.Cond.castable "LeftUndoes$Clasped" "LeftUndoes$Swears") ∈ lw_tbl := lw_at lw_m6 52 rfl
theorem q1370 : (Jvm.Cond.selects "LeftUndoes$Clasped" ({ cls := "LeftUndoes$Gives", name := "gives", desc := "(ILLeftUndoes$Trace;)I" } : Jvm.MethodName) ({ cls := "LeftUndoes$Clasped", name := "gives", desc := "(ILLeftUndoes$Trace;)I" } : Jvm.MethodName)) ∈ lw_all := lw_g (lw_at lw_m6 53 rfl) rfl
theorem q1371 : (Jvm.Cond.unhidden "LeftUndoes$Clasped" "gives" "(ILLeftUndoes$Trace;)I") ∈ lw_tbl := lw_at lw_m6 54 rfl
theorem q1372 : (Jvm.Cond.instanceMethod ({ cls := "LeftUndoes$Clasped", name := "gives", desc := "(ILLeftUndoes$Trace;)I" } : Jvm.MethodName)) ∈ lw_all := lw_g (lw_at lw_m6 55 rfl) rfl
theorem q1373 : (Jvm.Cond.publicMethod ({ cls := "LeftUndoes$Clasped", name := "gives", desc := "(ILLeftUndoes$Trace;)I" } : Jvm.MethodName)) ∈ lw_tbl := lw_at lw_m6 56 rfl
theorem q1374 : (Jvm.Cond.code ({ cls := "LeftUndoes$Clasped", name := "gives", desc := "(ILLeftUndoes$Trace;)I" } : Jvm.MethodName) prog_4_method_3_code (3 : Nat) (Option.some Jvm.ClassFile.FieldType.int)) ∈ lw_all := lw_g (lw_at lw_m6 57 rfl) rfl
theorem q1375 : (Jvm.Cond.methodLink "LeftUndoes$Clasped" (11 : Nat) ({ cls := "LeftUndoes$Trace", name := "ran", desc := "(I)V" } : Jvm.MethodName)) ∈ lw_all := lw_g (lw_at lw_m6 58 rfl) rfl
theorem q1387 : (Jvm.Cond.castable "LeftUndoes$Clasped" "LeftUndoes$Gives") ∈ lw_tbl := lw_at lw_m6 70 rfl
theorem q1388 : (Jvm.Cond.selects "LeftUndoes$Clasped" ({ cls := "LeftUndoes$Gives", name := "grace", desc := "()I" } : Jvm.MethodName) ({ cls := "LeftUndoes$Hand", name := "grace", desc := "()I" } : Jvm.MethodName)) ∈ lw_all := lw_g (lw_at lw_m6 71 rfl) rfl
theorem q1389 : (Jvm.Cond.unhidden "LeftUndoes$Clasped" "grace" "()I") ∈ lw_tbl := lw_at lw_m6 72 rfl
theorem q1405 : (Jvm.Cond.methodLink "LeftUndoes$Clasped" (21 : Nat) ({ cls := "LeftUndoes$Clasped", name := "number", desc := "()I" } : Jvm.MethodName)) ∈ lw_all := lw_g (lw_at lw_m6 88 rfl) rfl
theorem q1406 : (Jvm.Cond.sameMethod "LeftUndoes$Clasped" "LeftUndoes$Hand" "number" "()I") ∈ lw_all := lw_g (lw_at lw_m6 89 rfl) rfl
theorem q1408 : (Jvm.Cond.selects "LeftUndoes$Clasped" ({ cls := "LeftUndoes$Clasped", name := "number", desc := "()I" } : Jvm.MethodName) ({ cls := "LeftUndoes$Hand", name := "number", desc := "()I" } : Jvm.MethodName)) ∈ lw_all := lw_g (lw_at lw_m6 91 rfl) rfl
theorem q1425 : (Jvm.Cond.unhidden "LeftUndoes$Clasped" "takes" "(ILLeftUndoes$Trace;)I") ∈ lw_tbl := lw_at lw_m6 108 rfl
theorem q1430 : (Jvm.Cond.castable "LeftUndoes$Clasped" "LeftUndoes$Takes") ∈ lw_tbl := lw_at lw_m6 113 rfl
theorem q1457 : (Jvm.Cond.unhidden "LeftUndoes$Clasped" "splits" "(ILLeftUndoes$Trace;)I") ∈ lw_tbl := lw_at lw_m6 140 rfl
theorem q1463 : (Jvm.Cond.castable "LeftUndoes$Clasped" "LeftUndoes$Splits") ∈ lw_tbl := lw_at lw_m6 146 rfl
theorem q1471 : (Jvm.Cond.selects "LeftUndoes$Clasped" ({ cls := "LeftUndoes$Gives", name := "number", desc := "()I" } : Jvm.MethodName) ({ cls := "LeftUndoes$Hand", name := "number", desc := "()I" } : Jvm.MethodName)) ∈ lw_all := lw_g (lw_at lw_m6 154 rfl) rfl
theorem q1472 : (Jvm.Cond.unhidden "LeftUndoes$Clasped" "number" "()I") ∈ lw_tbl := lw_at lw_m6 155 rfl
theorem q1503 : (Jvm.Cond.unhidden "LeftUndoes$Clasped" "swears" "(ILLeftUndoes$Trace;)I") ∈ lw_tbl := lw_at lw_m6 186 rfl
theorem q2241 : (Jvm.Cond.castable "LeftUndoes$Clasped" "LeftUndoes$Hand") ∈ lw_tbl := lw_at lw_m9 204 rfl
theorem in_X8 : ∀ w ∈ wsX80, w ∈ lw_all := lw_in wsX80 [533, 535] (by decide +kernel) (by decide +kernel)
/-! LeftUndoes$Forger -/
set_option maxRecDepth 100000
def RX9 : String := "LeftUndoes$Forger"
def TX9 : u_T := fun k => match k with
  | 0 => ("LeftUndoes$Hand", "number", "I", true)
  | _ => ("LeftUndoes$Hand", "grace", "I", true)
def tyX9 : Nat → FieldType := fun k => match k with
  | 0 => .int
  | _ => .int
abbrev wsX90 : List Cond := u_ws RX9 TX9 2
theorem nmX9 : ∀ a, a < 2 → ∀ b, b < 2 → a ≠ b → (TX9 a).2.1 ≠ (TX9 b).2.1 := by decide +kernel
theorem tyX9_ok : ∀ k, k < 2 → parseFieldDescriptor (TX9 k).2.2.1 = some (tyX9 k) := by decide +kernel
abbrev cX9_init : ByteArray := prog_7_method_1_code
def yX9_init : MethodName := ⟨RX9, "<init>", "(II)V"⟩
def dkwX9_init_0 : List UInt8 := [42, 27, 28, 183, 0, 1, 177]
abbrev dktX9_init_0 : List UInt8 := dkwX9_init_0 ++ []
theorem dksX9_init_0 : cX9_init.data.toList.drop 0 = dktX9_init_0 := by decide +kernel
theorem dX9_init_0 : decode cX9_init 0 = .ok (.aload_n 0, 1) := dk_42 (dk_at dksX9_init_0 0 rfl rfl)
theorem dX9_init_1 : decode cX9_init 1 = .ok (.iload_n 1, 1) := dk_27 (dk_at dksX9_init_0 1 rfl rfl)
theorem dX9_init_2 : decode cX9_init 2 = .ok (.iload_n 2, 1) := dk_28 (dk_at dksX9_init_0 2 rfl rfl)
theorem dX9_init_3 : decode cX9_init 3 = .ok (.invokespecial 1, 3) := dk_183 0 1 (dk_at dksX9_init_0 3 rfl rfl)
theorem dX9_init_6 : decode cX9_init 6 = .ok (.return_, 1) := dk_177 (dk_at dksX9_init_0 6 rfl rfl)
abbrev cX9_term : ByteArray := prog_7_method_2_code
def yX9_term : MethodName := ⟨RX9, "term", "()I"⟩
def dkwX9_term_0 : List UInt8 := [5, 42, 183, 0, 7, 104, 172]
abbrev dktX9_term_0 : List UInt8 := dkwX9_term_0 ++ []
theorem dksX9_term_0 : cX9_term.data.toList.drop 0 = dktX9_term_0 := by decide +kernel
theorem dX9_term_0 : decode cX9_term 0 = .ok (.iconst 2, 1) := dk_5 (dk_at dksX9_term_0 0 rfl rfl)
theorem dX9_term_1 : decode cX9_term 1 = .ok (.aload_n 0, 1) := dk_42 (dk_at dksX9_term_0 1 rfl rfl)
theorem dX9_term_2 : decode cX9_term 2 = .ok (.invokespecial 7, 3) := dk_183 0 7 (dk_at dksX9_term_0 2 rfl rfl)
theorem dX9_term_5 : decode cX9_term 5 = .ok (.imul, 1) := dk_104 (dk_at dksX9_term_0 5 rfl rfl)
theorem dX9_term_6 : decode cX9_term 6 = .ok (.ireturn, 1) := dk_172 (dk_at dksX9_term_0 6 rfl rfl)
abbrev cX9_takes : ByteArray := prog_7_method_3_code
def yX9_takes : MethodName := ⟨RX9, "takes", "(ILLeftUndoes$Trace;)I"⟩
def dkwX9_takes_0 : List UInt8 := [44, 16, 30, 182, 0, 11, 3, 42, 27, 44, 183, 0, 17, 100, 172]
abbrev dktX9_takes_0 : List UInt8 := dkwX9_takes_0 ++ []
theorem dksX9_takes_0 : cX9_takes.data.toList.drop 0 = dktX9_takes_0 := by decide +kernel
theorem dX9_takes_0 : decode cX9_takes 0 = .ok (.aload_n 2, 1) := dk_44 (dk_at dksX9_takes_0 0 rfl rfl)
theorem dX9_takes_1 : decode cX9_takes 1 = .ok (.bipush 30, 2) := dk_16 30 (dk_at dksX9_takes_0 1 rfl rfl)
theorem dX9_takes_3 : decode cX9_takes 3 = .ok (.invokevirtual 11, 3) := dk_182 0 11 (dk_at dksX9_takes_0 3 rfl rfl)
theorem dX9_takes_6 : decode cX9_takes 6 = .ok (.iconst 0, 1) := dk_3 (dk_at dksX9_takes_0 6 rfl rfl)
theorem dX9_takes_7 : decode cX9_takes 7 = .ok (.aload_n 0, 1) := dk_42 (dk_at dksX9_takes_0 7 rfl rfl)
theorem dX9_takes_8 : decode cX9_takes 8 = .ok (.iload_n 1, 1) := dk_27 (dk_at dksX9_takes_0 8 rfl rfl)
theorem dX9_takes_9 : decode cX9_takes 9 = .ok (.aload_n 2, 1) := dk_44 (dk_at dksX9_takes_0 9 rfl rfl)
theorem dX9_takes_10 : decode cX9_takes 10 = .ok (.invokespecial 17, 3) := dk_183 0 17 (dk_at dksX9_takes_0 10 rfl rfl)
theorem dX9_takes_13 : decode cX9_takes 13 = .ok (.isub, 1) := dk_100 (dk_at dksX9_takes_0 13 rfl rfl)
theorem dX9_takes_14 : decode cX9_takes 14 = .ok (.ireturn, 1) := dk_172 (dk_at dksX9_takes_0 14 rfl rfl)
theorem q130 : (Jvm.Cond.initialized "LeftUndoes$Forger") ∈ lw_all := lw_g (lw_at lw_m1 13 rfl) rfl
theorem q539 : (Jvm.Cond.instantiable "LeftUndoes$Forger" (2 : Nat)) ∈ lw_all := lw_g (lw_at lw_m2 182 rfl) rfl
theorem q541 : (Jvm.Cond.instanceMethod ({ cls := "LeftUndoes$Forger", name := "<init>", desc := "(II)V" } : Jvm.MethodName)) ∈ lw_all := lw_g (lw_at lw_m2 184 rfl) rfl
theorem q542 : (Jvm.Cond.code ({ cls := "LeftUndoes$Forger", name := "<init>", desc := "(II)V" } : Jvm.MethodName) prog_7_method_1_code (3 : Nat) (Option.none : Option Jvm.ClassFile.FieldType)) ∈ lw_all := lw_g (lw_at lw_m2 185 rfl) rfl
theorem q543 : (Jvm.Cond.methodLink "LeftUndoes$Forger" (1 : Nat) ({ cls := "LeftUndoes$Hand", name := "<init>", desc := "(II)V" } : Jvm.MethodName)) ∈ lw_all := lw_g (lw_at lw_m2 186 rfl) rfl
theorem q544 : (Jvm.Cond.laysFinal "LeftUndoes$Forger" "LeftUndoes$Hand" "number" "I") ∈ lw_all := lw_g (lw_at lw_m2 187 rfl) rfl
theorem q545 : (Jvm.Cond.laysFinal "LeftUndoes$Forger" "LeftUndoes$Hand" "grace" "I") ∈ lw_all := lw_g (lw_at lw_m2 188 rfl) rfl
theorem q546 : (Jvm.Cond.superclass "LeftUndoes$Forger" "LeftUndoes$Hand") ∈ lw_all := lw_g (lw_at lw_m2 189 rfl) rfl
theorem q594 : (Jvm.Cond.selects "LeftUndoes$Forger" ({ cls := "LeftUndoes$Hand", name := "pull", desc := "(II)I" } : Jvm.MethodName) ({ cls := "LeftUndoes$Hand", name := "pull", desc := "(II)I" } : Jvm.MethodName)) ∈ lw_all := lw_g (lw_at lw_m2 237 rfl) rfl
theorem q607 : (Jvm.Cond.sameMethod "LeftUndoes$Forger" "LeftUndoes$Hand" "pull" "(II)I") ∈ lw_all := lw_g (lw_at lw_m3 10 rfl) rfl
theorem q658 : (Jvm.Cond.selects "LeftUndoes$Forger" ({ cls := "LeftUndoes$Hand", name := "term", desc := "()I" } : Jvm.MethodName) ({ cls := "LeftUndoes$Forger", name := "term", desc := "()I" } : Jvm.MethodName)) ∈ lw_all := lw_g (lw_at lw_m3 61 rfl) rfl
theorem q659 : (Jvm.Cond.instanceMethod ({ cls := "LeftUndoes$Forger", name := "term", desc := "()I" } : Jvm.MethodName)) ∈ lw_all := lw_g (lw_at lw_m3 62 rfl) rfl
theorem q660 : (Jvm.Cond.code ({ cls := "LeftUndoes$Forger", name := "term", desc := "()I" } : Jvm.MethodName) prog_7_method_2_code (1 : Nat) (Option.some Jvm.ClassFile.FieldType.int)) ∈ lw_all := lw_g (lw_at lw_m3 63 rfl) rfl
theorem q661 : (Jvm.Cond.methodLink "LeftUndoes$Forger" (7 : Nat) ({ cls := "LeftUndoes$Hand", name := "term", desc := "()I" } : Jvm.MethodName)) ∈ lw_all := lw_g (lw_at lw_m3 64 rfl) rfl
theorem q1342 : (Jvm.Cond.selects "LeftUndoes$Forger" ({ cls := "LeftUndoes$Hand", name := "number", desc := "()I" } : Jvm.MethodName) ({ cls := "LeftUndoes$Hand", name := "number", desc := "()I" } : Jvm.MethodName)) ∈ lw_all := lw_g (lw_at lw_m6 25 rfl) rfl
theorem q1393 : (Jvm.Cond.castable "LeftUndoes$Forger" "LeftUndoes$Gives") ∈ lw_tbl := lw_at lw_m6 76 rfl
theorem q1394 : (Jvm.Cond.selects "LeftUndoes$Forger" ({ cls := "LeftUndoes$Gives", name := "grace", desc := "()I" } : Jvm.MethodName) ({ cls := "LeftUndoes$Hand", name := "grace", desc := "()I" } : Jvm.MethodName)) ∈ lw_all := lw_g (lw_at lw_m6 77 rfl) rfl
theorem q1395 : (Jvm.Cond.unhidden "LeftUndoes$Forger" "grace" "()I") ∈ lw_tbl := lw_at lw_m6 78 rfl
theorem q1409 : (Jvm.Cond.castable "LeftUndoes$Forger" "LeftUndoes$Swears") ∈ lw_tbl := lw_at lw_m6 92 rfl
theorem q1410 : (Jvm.Cond.unhidden "LeftUndoes$Forger" "gives" "(ILLeftUndoes$Trace;)I") ∈ lw_tbl := lw_at lw_m6 93 rfl
theorem q1431 : (Jvm.Cond.castable "LeftUndoes$Forger" "LeftUndoes$Takes") ∈ lw_tbl := lw_at lw_m6 114 rfl
theorem q1435 : (Jvm.Cond.selects "LeftUndoes$Forger" ({ cls := "LeftUndoes$Takes", name := "takes", desc := "(ILLeftUndoes$Trace;)I" } : Jvm.MethodName) ({ cls := "LeftUndoes$Forger", name := "takes", desc := "(ILLeftUndoes$Trace;)I" } : Jvm.MethodName)) ∈ lw_all := lw_g (lw_at lw_m6 118 rfl) rfl
theorem q1436 : (Jvm.Cond.unhidden "LeftUndoes$Forger" "takes" "(ILLeftUndoes$Trace;)I") ∈ lw_tbl := lw_at lw_m6 119 rfl
theorem q1437 : (Jvm.Cond.instanceMethod ({ cls := "LeftUndoes$Forger", name := "takes", desc := "(ILLeftUndoes$Trace;)I" } : Jvm.MethodName)) ∈ lw_all := lw_g (lw_at lw_m6 120 rfl) rfl
theorem q1438 : (Jvm.Cond.publicMethod ({ cls := "LeftUndoes$Forger", name := "takes", desc := "(ILLeftUndoes$Trace;)I" } : Jvm.MethodName)) ∈ lw_tbl := lw_at lw_m6 121 rfl
theorem q1439 : (Jvm.Cond.code ({ cls := "LeftUndoes$Forger", name := "takes", desc := "(ILLeftUndoes$Trace;)I" } : Jvm.MethodName) prog_7_method_3_code (3 : Nat) (Option.some Jvm.ClassFile.FieldType.int)) ∈ lw_all := lw_g (lw_at lw_m6 122 rfl) rfl
theorem q1440 : (Jvm.Cond.methodLink "LeftUndoes$Forger" (11 : Nat) ({ cls := "LeftUndoes$Trace", name := "ran", desc := "(I)V" } : Jvm.MethodName)) ∈ lw_all := lw_g (lw_at lw_m6 123 rfl) rfl
theorem q1464 : (Jvm.Cond.castable "LeftUndoes$Forger" "LeftUndoes$Splits") ∈ lw_tbl := lw_at lw_m6 147 rfl
theorem q1474 : (Jvm.Cond.selects "LeftUndoes$Forger" ({ cls := "LeftUndoes$Gives", name := "number", desc := "()I" } : Jvm.MethodName) ({ cls := "LeftUndoes$Hand", name := "number", desc := "()I" } : Jvm.MethodName)) ∈ lw_all := lw_g (lw_at lw_m6 157 rfl) rfl
theorem q1475 : (Jvm.Cond.unhidden "LeftUndoes$Forger" "number" "()I") ∈ lw_tbl := lw_at lw_m6 158 rfl
theorem q1482 : (Jvm.Cond.unhidden "LeftUndoes$Forger" "splits" "(ILLeftUndoes$Trace;)I") ∈ lw_tbl := lw_at lw_m6 165 rfl
theorem q1510 : (Jvm.Cond.unhidden "LeftUndoes$Forger" "swears" "(ILLeftUndoes$Trace;)I") ∈ lw_tbl := lw_at lw_m6 193 rfl
theorem q2231 : (Jvm.Cond.sameMethod "LeftUndoes$Forger" "LeftUndoes$Forger" "term" "()I") ∈ lw_all := lw_g (lw_at lw_m9 194 rfl) rfl
theorem q2242 : (Jvm.Cond.castable "LeftUndoes$Forger" "LeftUndoes$Hand") ∈ lw_tbl := lw_at lw_m9 205 rfl
theorem in_X9 : ∀ w ∈ wsX90, w ∈ lw_all := lw_in wsX90 [544, 545] (by decide +kernel) (by decide +kernel)
/-! LeftUndoes$Twin -/
set_option maxRecDepth 100000
def RX10 : String := "LeftUndoes$Twin"
def TX10 : u_T := fun k => match k with
  | 0 => ("LeftUndoes$Hand", "number", "I", true)
  | _ => ("LeftUndoes$Hand", "grace", "I", true)
def tyX10 : Nat → FieldType := fun k => match k with
  | 0 => .int
  | _ => .int
abbrev wsX100 : List Cond := u_ws RX10 TX10 2
theorem nmX10 : ∀ a, a < 2 → ∀ b, b < 2 → a ≠ b → (TX10 a).2.1 ≠ (TX10 b).2.1 := by decide +kernel
theorem tyX10_ok : ∀ k, k < 2 → parseFieldDescriptor (TX10 k).2.2.1 = some (tyX10 k) := by decide +kernel
abbrev cX10_init : ByteArray := prog_23_method_1_code
def yX10_init : MethodName := ⟨RX10, "<init>", "(II)V"⟩
def dkwX10_init_0 : List UInt8 := [42, 27, 28, 183, 0, 1, 177]
abbrev dktX10_init_0 : List UInt8 := dkwX10_init_0 ++ []
theorem dksX10_init_0 : cX10_init.data.toList.drop 0 = dktX10_init_0 := by decide +kernel
theorem dX10_init_0 : decode cX10_init 0 = .ok (.aload_n 0, 1) := dk_42 (dk_at dksX10_init_0 0 rfl rfl)
theorem dX10_init_1 : decode cX10_init 1 = .ok (.iload_n 1, 1) := dk_27 (dk_at dksX10_init_0 1 rfl rfl)
theorem dX10_init_2 : decode cX10_init 2 = .ok (.iload_n 2, 1) := dk_28 (dk_at dksX10_init_0 2 rfl rfl)
theorem dX10_init_3 : decode cX10_init 3 = .ok (.invokespecial 1, 3) := dk_183 0 1 (dk_at dksX10_init_0 3 rfl rfl)
theorem dX10_init_6 : decode cX10_init 6 = .ok (.return_, 1) := dk_177 (dk_at dksX10_init_0 6 rfl rfl)
abbrev cX10_pull : ByteArray := prog_23_method_3_code
def yX10_pull : MethodName := ⟨RX10, "pull", "(II)I"⟩
def dkwX10_pull_0 : List UInt8 := [42, 27, 28, 183, 0, 11, 4, 96, 172]
abbrev dktX10_pull_0 : List UInt8 := dkwX10_pull_0 ++ []
theorem dksX10_pull_0 : cX10_pull.data.toList.drop 0 = dktX10_pull_0 := by decide +kernel
theorem dX10_pull_0 : decode cX10_pull 0 = .ok (.aload_n 0, 1) := dk_42 (dk_at dksX10_pull_0 0 rfl rfl)
theorem dX10_pull_1 : decode cX10_pull 1 = .ok (.iload_n 1, 1) := dk_27 (dk_at dksX10_pull_0 1 rfl rfl)
theorem dX10_pull_2 : decode cX10_pull 2 = .ok (.iload_n 2, 1) := dk_28 (dk_at dksX10_pull_0 2 rfl rfl)
theorem dX10_pull_3 : decode cX10_pull 3 = .ok (.invokespecial 11, 3) := dk_183 0 11 (dk_at dksX10_pull_0 3 rfl rfl)
theorem dX10_pull_6 : decode cX10_pull 6 = .ok (.iconst 1, 1) := dk_4 (dk_at dksX10_pull_0 6 rfl rfl)
theorem dX10_pull_7 : decode cX10_pull 7 = .ok (.iadd, 1) := dk_96 (dk_at dksX10_pull_0 7 rfl rfl)
theorem dX10_pull_8 : decode cX10_pull 8 = .ok (.ireturn, 1) := dk_172 (dk_at dksX10_pull_0 8 rfl rfl)
abbrev cX10_term : ByteArray := prog_23_method_2_code
def yX10_term : MethodName := ⟨RX10, "term", "()I"⟩
def dkwX10_term_0 : List UInt8 := [42, 183, 0, 7, 4, 100, 172]
abbrev dktX10_term_0 : List UInt8 := dkwX10_term_0 ++ []
theorem dksX10_term_0 : cX10_term.data.toList.drop 0 = dktX10_term_0 := by decide +kernel
theorem dX10_term_0 : decode cX10_term 0 = .ok (.aload_n 0, 1) := dk_42 (dk_at dksX10_term_0 0 rfl rfl)
theorem dX10_term_1 : decode cX10_term 1 = .ok (.invokespecial 7, 3) := dk_183 0 7 (dk_at dksX10_term_0 1 rfl rfl)
theorem dX10_term_4 : decode cX10_term 4 = .ok (.iconst 1, 1) := dk_4 (dk_at dksX10_term_0 4 rfl rfl)
theorem dX10_term_5 : decode cX10_term 5 = .ok (.isub, 1) := dk_100 (dk_at dksX10_term_0 5 rfl rfl)
theorem dX10_term_6 : decode cX10_term 6 = .ok (.ireturn, 1) := dk_172 (dk_at dksX10_term_0 6 rfl rfl)
abbrev cX10_gives : ByteArray := prog_23_method_4_code
def yX10_gives : MethodName := ⟨RX10, "gives", "(ILLeftUndoes$Trace;)I"⟩
def dkwX10_gives_0 : List UInt8 := [44, 16, 50, 182, 0, 15, 42, 27, 44, 183, 0, 21, 6, 104, 172]
abbrev dktX10_gives_0 : List UInt8 := dkwX10_gives_0 ++ []
theorem dksX10_gives_0 : cX10_gives.data.toList.drop 0 = dktX10_gives_0 := by decide +kernel
theorem dX10_gives_0 : decode cX10_gives 0 = .ok (.aload_n 2, 1) := dk_44 (dk_at dksX10_gives_0 0 rfl rfl)
theorem dX10_gives_1 : decode cX10_gives 1 = .ok (.bipush 50, 2) := dk_16 50 (dk_at dksX10_gives_0 1 rfl rfl)
theorem dX10_gives_3 : decode cX10_gives 3 = .ok (.invokevirtual 15, 3) := dk_182 0 15 (dk_at dksX10_gives_0 3 rfl rfl)
theorem dX10_gives_6 : decode cX10_gives 6 = .ok (.aload_n 0, 1) := dk_42 (dk_at dksX10_gives_0 6 rfl rfl)
theorem dX10_gives_7 : decode cX10_gives 7 = .ok (.iload_n 1, 1) := dk_27 (dk_at dksX10_gives_0 7 rfl rfl)
theorem dX10_gives_8 : decode cX10_gives 8 = .ok (.aload_n 2, 1) := dk_44 (dk_at dksX10_gives_0 8 rfl rfl)
theorem dX10_gives_9 : decode cX10_gives 9 = .ok (.invokespecial 21, 3) := dk_183 0 21 (dk_at dksX10_gives_0 9 rfl rfl)
theorem dX10_gives_12 : decode cX10_gives 12 = .ok (.iconst 3, 1) := dk_6 (dk_at dksX10_gives_0 12 rfl rfl)
theorem dX10_gives_13 : decode cX10_gives 13 = .ok (.imul, 1) := dk_104 (dk_at dksX10_gives_0 13 rfl rfl)
theorem dX10_gives_14 : decode cX10_gives 14 = .ok (.ireturn, 1) := dk_172 (dk_at dksX10_gives_0 14 rfl rfl)
abbrev cX10_swears : ByteArray := prog_23_method_5_code
def yX10_swears : MethodName := ⟨RX10, "swears", "(ILLeftUndoes$Trace;)I"⟩
def dkwX10_swears_1 : List UInt8 := [172]
abbrev dktX10_swears_1 : List UInt8 := dkwX10_swears_1 ++ []
def dkwX10_swears_0 : List UInt8 := [44, 16, 51, 182, 0, 15, 42, 27, 44, 183, 0, 25, 62, 29, 42, 42, 182, 0, 28, 44, 182, 0, 33, 100]
abbrev dktX10_swears_0 : List UInt8 := dkwX10_swears_0 ++ dktX10_swears_1
theorem dksX10_swears_0 : cX10_swears.data.toList.drop 0 = dktX10_swears_0 := by decide +kernel
theorem dksX10_swears_1 : cX10_swears.data.toList.drop 24 = dktX10_swears_1 := dk_seg dksX10_swears_0 24 rfl rfl
theorem dX10_swears_0 : decode cX10_swears 0 = .ok (.aload_n 2, 1) := dk_44 (dk_at dksX10_swears_0 0 rfl rfl)
theorem dX10_swears_1 : decode cX10_swears 1 = .ok (.bipush 51, 2) := dk_16 51 (dk_at dksX10_swears_0 1 rfl rfl)
theorem dX10_swears_3 : decode cX10_swears 3 = .ok (.invokevirtual 15, 3) := dk_182 0 15 (dk_at dksX10_swears_0 3 rfl rfl)
theorem dX10_swears_6 : decode cX10_swears 6 = .ok (.aload_n 0, 1) := dk_42 (dk_at dksX10_swears_0 6 rfl rfl)
theorem dX10_swears_7 : decode cX10_swears 7 = .ok (.iload_n 1, 1) := dk_27 (dk_at dksX10_swears_0 7 rfl rfl)
theorem dX10_swears_8 : decode cX10_swears 8 = .ok (.aload_n 2, 1) := dk_44 (dk_at dksX10_swears_0 8 rfl rfl)
theorem dX10_swears_9 : decode cX10_swears 9 = .ok (.invokespecial 25, 3) := dk_183 0 25 (dk_at dksX10_swears_0 9 rfl rfl)
theorem dX10_swears_12 : decode cX10_swears 12 = .ok (.istore_n 3, 1) := dk_62 (dk_at dksX10_swears_0 12 rfl rfl)
theorem dX10_swears_13 : decode cX10_swears 13 = .ok (.iload_n 3, 1) := dk_29 (dk_at dksX10_swears_0 13 rfl rfl)
theorem dX10_swears_14 : decode cX10_swears 14 = .ok (.aload_n 0, 1) := dk_42 (dk_at dksX10_swears_0 14 rfl rfl)
theorem dX10_swears_15 : decode cX10_swears 15 = .ok (.aload_n 0, 1) := dk_42 (dk_at dksX10_swears_0 15 rfl rfl)
theorem dX10_swears_16 : decode cX10_swears 16 = .ok (.invokevirtual 28, 3) := dk_182 0 28 (dk_at dksX10_swears_0 16 rfl rfl)
theorem dX10_swears_19 : decode cX10_swears 19 = .ok (.aload_n 2, 1) := dk_44 (dk_at dksX10_swears_0 19 rfl rfl)
theorem dX10_swears_20 : decode cX10_swears 20 = .ok (.invokevirtual 33, 3) := dk_182 0 33 (dk_at dksX10_swears_0 20 rfl rfl)
theorem dX10_swears_23 : decode cX10_swears 23 = .ok (.isub, 1) := dk_100 (dk_at dksX10_swears_0 23 rfl rfl)
theorem dX10_swears_24 : decode cX10_swears 24 = .ok (.ireturn, 1) := dk_172 (dk_at dksX10_swears_1 0 rfl rfl)
theorem q131 : (Jvm.Cond.initialized "LeftUndoes$Twin") ∈ lw_all := lw_g (lw_at lw_m1 14 rfl) rfl
theorem q548 : (Jvm.Cond.instantiable "LeftUndoes$Twin" (2 : Nat)) ∈ lw_all := lw_g (lw_at lw_m2 191 rfl) rfl
theorem q550 : (Jvm.Cond.instanceMethod ({ cls := "LeftUndoes$Twin", name := "<init>", desc := "(II)V" } : Jvm.MethodName)) ∈ lw_all := lw_g (lw_at lw_m2 193 rfl) rfl
theorem q551 : (Jvm.Cond.code ({ cls := "LeftUndoes$Twin", name := "<init>", desc := "(II)V" } : Jvm.MethodName) prog_23_method_1_code (3 : Nat) (Option.none : Option Jvm.ClassFile.FieldType)) ∈ lw_all := lw_g (lw_at lw_m2 194 rfl) rfl
theorem q552 : (Jvm.Cond.methodLink "LeftUndoes$Twin" (1 : Nat) ({ cls := "LeftUndoes$Forger", name := "<init>", desc := "(II)V" } : Jvm.MethodName)) ∈ lw_all := lw_g (lw_at lw_m2 195 rfl) rfl
theorem q553 : (Jvm.Cond.laysFinal "LeftUndoes$Twin" "LeftUndoes$Hand" "number" "I") ∈ lw_all := lw_g (lw_at lw_m2 196 rfl) rfl
theorem q554 : (Jvm.Cond.laysFinal "LeftUndoes$Twin" "LeftUndoes$Hand" "grace" "I") ∈ lw_all := lw_g (lw_at lw_m2 197 rfl) rfl
theorem q555 : (Jvm.Cond.superclass "LeftUndoes$Twin" "LeftUndoes$Forger") ∈ lw_all := lw_g (lw_at lw_m2 198 rfl) rfl
theorem q603 : (Jvm.Cond.selects "LeftUndoes$Twin" ({ cls := "LeftUndoes$Hand", name := "pull", desc := "(II)I" } : Jvm.MethodName) ({ cls := "LeftUndoes$Twin", name := "pull", desc := "(II)I" } : Jvm.MethodName)) ∈ lw_all := lw_g (lw_at lw_m3 6 rfl) rfl
theorem q604 : (Jvm.Cond.instanceMethod ({ cls := "LeftUndoes$Twin", name := "pull", desc := "(II)I" } : Jvm.MethodName)) ∈ lw_all := lw_g (lw_at lw_m3 7 rfl) rfl
theorem q605 : (Jvm.Cond.code ({ cls := "LeftUndoes$Twin", name := "pull", desc := "(II)I" } : Jvm.MethodName) prog_23_method_3_code (3 : Nat) (Option.some Jvm.ClassFile.FieldType.int)) ∈ lw_all := lw_g (lw_at lw_m3 8 rfl) rfl
theorem q606 : (Jvm.Cond.methodLink "LeftUndoes$Twin" (11 : Nat) ({ cls := "LeftUndoes$Forger", name := "pull", desc := "(II)I" } : Jvm.MethodName)) ∈ lw_all := lw_g (lw_at lw_m3 9 rfl) rfl
theorem q671 : (Jvm.Cond.selects "LeftUndoes$Twin" ({ cls := "LeftUndoes$Hand", name := "term", desc := "()I" } : Jvm.MethodName) ({ cls := "LeftUndoes$Twin", name := "term", desc := "()I" } : Jvm.MethodName)) ∈ lw_all := lw_g (lw_at lw_m3 74 rfl) rfl
theorem q672 : (Jvm.Cond.instanceMethod ({ cls := "LeftUndoes$Twin", name := "term", desc := "()I" } : Jvm.MethodName)) ∈ lw_all := lw_g (lw_at lw_m3 75 rfl) rfl
theorem q673 : (Jvm.Cond.code ({ cls := "LeftUndoes$Twin", name := "term", desc := "()I" } : Jvm.MethodName) prog_23_method_2_code (1 : Nat) (Option.some Jvm.ClassFile.FieldType.int)) ∈ lw_all := lw_g (lw_at lw_m3 76 rfl) rfl
theorem q674 : (Jvm.Cond.methodLink "LeftUndoes$Twin" (7 : Nat) ({ cls := "LeftUndoes$Forger", name := "term", desc := "()I" } : Jvm.MethodName)) ∈ lw_all := lw_g (lw_at lw_m3 77 rfl) rfl
theorem q1345 : (Jvm.Cond.selects "LeftUndoes$Twin" ({ cls := "LeftUndoes$Hand", name := "number", desc := "()I" } : Jvm.MethodName) ({ cls := "LeftUndoes$Hand", name := "number", desc := "()I" } : Jvm.MethodName)) ∈ lw_all := lw_g (lw_at lw_m6 28 rfl) rfl
theorem q1402 : (Jvm.Cond.castable "LeftUndoes$Twin" "LeftUndoes$Gives") ∈ lw_tbl := lw_at lw_m6 85 rfl
theorem q1403 : (Jvm.Cond.selects "LeftUndoes$Twin" ({ cls := "LeftUndoes$Gives", name := "grace", desc := "()I" } : Jvm.MethodName) ({ cls := "LeftUndoes$Hand", name := "grace", desc := "()I" } : Jvm.MethodName)) ∈ lw_all := lw_g (lw_at lw_m6 86 rfl) rfl
theorem q1404 : (Jvm.Cond.unhidden "LeftUndoes$Twin" "grace" "()I") ∈ lw_tbl := lw_at lw_m6 87 rfl
theorem q1415 : (Jvm.Cond.castable "LeftUndoes$Twin" "LeftUndoes$Swears") ∈ lw_tbl := lw_at lw_m6 98 rfl
theorem q1416 : (Jvm.Cond.selects "LeftUndoes$Twin" ({ cls := "LeftUndoes$Gives", name := "gives", desc := "(ILLeftUndoes$Trace;)I" } : Jvm.MethodName) ({ cls := "LeftUndoes$Twin", name := "gives", desc := "(ILLeftUndoes$Trace;)I" } : Jvm.MethodName)) ∈ lw_all := lw_g (lw_at lw_m6 99 rfl) rfl
theorem q1417 : (Jvm.Cond.unhidden "LeftUndoes$Twin" "gives" "(ILLeftUndoes$Trace;)I") ∈ lw_tbl := lw_at lw_m6 100 rfl
theorem q1418 : (Jvm.Cond.instanceMethod ({ cls := "LeftUndoes$Twin", name := "gives", desc := "(ILLeftUndoes$Trace;)I" } : Jvm.MethodName)) ∈ lw_all := lw_g (lw_at lw_m6 101 rfl) rfl
theorem q1419 : (Jvm.Cond.publicMethod ({ cls := "LeftUndoes$Twin", name := "gives", desc := "(ILLeftUndoes$Trace;)I" } : Jvm.MethodName)) ∈ lw_tbl := lw_at lw_m6 102 rfl
theorem q1420 : (Jvm.Cond.code ({ cls := "LeftUndoes$Twin", name := "gives", desc := "(ILLeftUndoes$Trace;)I" } : Jvm.MethodName) prog_23_method_4_code (3 : Nat) (Option.some Jvm.ClassFile.FieldType.int)) ∈ lw_all := lw_g (lw_at lw_m6 103 rfl) rfl
theorem q1421 : (Jvm.Cond.methodLink "LeftUndoes$Twin" (15 : Nat) ({ cls := "LeftUndoes$Trace", name := "ran", desc := "(I)V" } : Jvm.MethodName)) ∈ lw_all := lw_g (lw_at lw_m6 104 rfl) rfl
theorem q1434 : (Jvm.Cond.castable "LeftUndoes$Twin" "LeftUndoes$Takes") ∈ lw_tbl := lw_at lw_m6 117 rfl
theorem q1452 : (Jvm.Cond.selects "LeftUndoes$Twin" ({ cls := "LeftUndoes$Takes", name := "takes", desc := "(ILLeftUndoes$Trace;)I" } : Jvm.MethodName) ({ cls := "LeftUndoes$Forger", name := "takes", desc := "(ILLeftUndoes$Trace;)I" } : Jvm.MethodName)) ∈ lw_all := lw_g (lw_at lw_m6 135 rfl) rfl
theorem q1453 : (Jvm.Cond.unhidden "LeftUndoes$Twin" "takes" "(ILLeftUndoes$Trace;)I") ∈ lw_tbl := lw_at lw_m6 136 rfl
theorem q1467 : (Jvm.Cond.castable "LeftUndoes$Twin" "LeftUndoes$Splits") ∈ lw_tbl := lw_at lw_m6 150 rfl
theorem q1480 : (Jvm.Cond.selects "LeftUndoes$Twin" ({ cls := "LeftUndoes$Gives", name := "number", desc := "()I" } : Jvm.MethodName) ({ cls := "LeftUndoes$Hand", name := "number", desc := "()I" } : Jvm.MethodName)) ∈ lw_all := lw_g (lw_at lw_m6 163 rfl) rfl
theorem q1481 : (Jvm.Cond.unhidden "LeftUndoes$Twin" "number" "()I") ∈ lw_tbl := lw_at lw_m6 164 rfl
theorem q1498 : (Jvm.Cond.unhidden "LeftUndoes$Twin" "splits" "(ILLeftUndoes$Trace;)I") ∈ lw_tbl := lw_at lw_m6 181 rfl
theorem q1513 : (Jvm.Cond.selects "LeftUndoes$Twin" ({ cls := "LeftUndoes$Swears", name := "swears", desc := "(ILLeftUndoes$Trace;)I" } : Jvm.MethodName) ({ cls := "LeftUndoes$Twin", name := "swears", desc := "(ILLeftUndoes$Trace;)I" } : Jvm.MethodName)) ∈ lw_all := lw_g (lw_at lw_m6 196 rfl) rfl
theorem q1514 : (Jvm.Cond.unhidden "LeftUndoes$Twin" "swears" "(ILLeftUndoes$Trace;)I") ∈ lw_tbl := lw_at lw_m6 197 rfl
theorem q1515 : (Jvm.Cond.instanceMethod ({ cls := "LeftUndoes$Twin", name := "swears", desc := "(ILLeftUndoes$Trace;)I" } : Jvm.MethodName)) ∈ lw_all := lw_g (lw_at lw_m6 198 rfl) rfl
theorem q1516 : (Jvm.Cond.publicMethod ({ cls := "LeftUndoes$Twin", name := "swears", desc := "(ILLeftUndoes$Trace;)I" } : Jvm.MethodName)) ∈ lw_tbl := lw_at lw_m6 199 rfl
theorem q1517 : (Jvm.Cond.code ({ cls := "LeftUndoes$Twin", name := "swears", desc := "(ILLeftUndoes$Trace;)I" } : Jvm.MethodName) prog_23_method_5_code (4 : Nat) (Option.some Jvm.ClassFile.FieldType.int)) ∈ lw_all := lw_g (lw_at lw_m6 200 rfl) rfl
theorem q1518 : (Jvm.Cond.methodLink "LeftUndoes$Twin" (28 : Nat) ({ cls := "LeftUndoes$Twin", name := "grace", desc := "()I" } : Jvm.MethodName)) ∈ lw_all := lw_g (lw_at lw_m6 201 rfl) rfl
theorem q1519 : (Jvm.Cond.sameMethod "LeftUndoes$Twin" "LeftUndoes$Hand" "grace" "()I") ∈ lw_all := lw_g (lw_at lw_m6 202 rfl) rfl
theorem q1520 : (Jvm.Cond.selects "LeftUndoes$Twin" ({ cls := "LeftUndoes$Twin", name := "grace", desc := "()I" } : Jvm.MethodName) ({ cls := "LeftUndoes$Hand", name := "grace", desc := "()I" } : Jvm.MethodName)) ∈ lw_all := lw_g (lw_at lw_m6 203 rfl) rfl
theorem q2245 : (Jvm.Cond.castable "LeftUndoes$Twin" "LeftUndoes$Hand") ∈ lw_tbl := lw_at lw_m9 208 rfl
theorem q2246 : (Jvm.Cond.castable "LeftUndoes$Twin" "LeftUndoes$Forger") ∈ lw_tbl := lw_at lw_m9 209 rfl
theorem in_X10 : ∀ w ∈ wsX100, w ∈ lw_all := lw_in wsX100 [553, 554] (by decide +kernel) (by decide +kernel)
/-! LeftUndoes$Slow -/
set_option maxRecDepth 100000
def RX11 : String := "LeftUndoes$Slow"
def TX11 : u_T := fun k => match k with
  | 0 => ("LeftUndoes$Hand", "number", "I", true)
  | _ => ("LeftUndoes$Hand", "grace", "I", true)
def tyX11 : Nat → FieldType := fun k => match k with
  | 0 => .int
  | _ => .int
abbrev wsX110 : List Cond := u_ws RX11 TX11 2
theorem nmX11 : ∀ a, a < 2 → ∀ b, b < 2 → a ≠ b → (TX11 a).2.1 ≠ (TX11 b).2.1 := by decide +kernel
theorem tyX11_ok : ∀ k, k < 2 → parseFieldDescriptor (TX11 k).2.2.1 = some (tyX11 k) := by decide +kernel
abbrev cX11_init : ByteArray := prog_15_method_1_code
def yX11_init : MethodName := ⟨RX11, "<init>", "(II)V"⟩
def dkwX11_init_0 : List UInt8 := [42, 27, 28, 183, 0, 1, 177]
abbrev dktX11_init_0 : List UInt8 := dkwX11_init_0 ++ []
theorem dksX11_init_0 : cX11_init.data.toList.drop 0 = dktX11_init_0 := by decide +kernel
theorem dX11_init_0 : decode cX11_init 0 = .ok (.aload_n 0, 1) := dk_42 (dk_at dksX11_init_0 0 rfl rfl)
theorem dX11_init_1 : decode cX11_init 1 = .ok (.iload_n 1, 1) := dk_27 (dk_at dksX11_init_0 1 rfl rfl)
theorem dX11_init_2 : decode cX11_init 2 = .ok (.iload_n 2, 1) := dk_28 (dk_at dksX11_init_0 2 rfl rfl)
theorem dX11_init_3 : decode cX11_init 3 = .ok (.invokespecial 1, 3) := dk_183 0 1 (dk_at dksX11_init_0 3 rfl rfl)
theorem dX11_init_6 : decode cX11_init 6 = .ok (.return_, 1) := dk_177 (dk_at dksX11_init_0 6 rfl rfl)
abbrev cX11_pull : ByteArray := prog_15_method_3_code
def yX11_pull : MethodName := ⟨RX11, "pull", "(II)I"⟩
def dkwX11_pull_0 : List UInt8 := [42, 27, 28, 183, 0, 11, 5, 108, 172]
abbrev dktX11_pull_0 : List UInt8 := dkwX11_pull_0 ++ []
theorem dksX11_pull_0 : cX11_pull.data.toList.drop 0 = dktX11_pull_0 := by decide +kernel
theorem dX11_pull_0 : decode cX11_pull 0 = .ok (.aload_n 0, 1) := dk_42 (dk_at dksX11_pull_0 0 rfl rfl)
theorem dX11_pull_1 : decode cX11_pull 1 = .ok (.iload_n 1, 1) := dk_27 (dk_at dksX11_pull_0 1 rfl rfl)
theorem dX11_pull_2 : decode cX11_pull 2 = .ok (.iload_n 2, 1) := dk_28 (dk_at dksX11_pull_0 2 rfl rfl)
theorem dX11_pull_3 : decode cX11_pull 3 = .ok (.invokespecial 11, 3) := dk_183 0 11 (dk_at dksX11_pull_0 3 rfl rfl)
theorem dX11_pull_6 : decode cX11_pull 6 = .ok (.iconst 2, 1) := dk_5 (dk_at dksX11_pull_0 6 rfl rfl)
theorem dX11_pull_7 : decode cX11_pull 7 = .ok (.idiv, 1) := dk_108 (dk_at dksX11_pull_0 7 rfl rfl)
theorem dX11_pull_8 : decode cX11_pull 8 = .ok (.ireturn, 1) := dk_172 (dk_at dksX11_pull_0 8 rfl rfl)
abbrev cX11_term : ByteArray := prog_15_method_2_code
def yX11_term : MethodName := ⟨RX11, "term", "()I"⟩
def dkwX11_term_0 : List UInt8 := [42, 183, 0, 7, 5, 96, 172]
abbrev dktX11_term_0 : List UInt8 := dkwX11_term_0 ++ []
theorem dksX11_term_0 : cX11_term.data.toList.drop 0 = dktX11_term_0 := by decide +kernel
theorem dX11_term_0 : decode cX11_term 0 = .ok (.aload_n 0, 1) := dk_42 (dk_at dksX11_term_0 0 rfl rfl)
theorem dX11_term_1 : decode cX11_term 1 = .ok (.invokespecial 7, 3) := dk_183 0 7 (dk_at dksX11_term_0 1 rfl rfl)
theorem dX11_term_4 : decode cX11_term 4 = .ok (.iconst 2, 1) := dk_5 (dk_at dksX11_term_0 4 rfl rfl)
theorem dX11_term_5 : decode cX11_term 5 = .ok (.iadd, 1) := dk_96 (dk_at dksX11_term_0 5 rfl rfl)
theorem dX11_term_6 : decode cX11_term 6 = .ok (.ireturn, 1) := dk_172 (dk_at dksX11_term_0 6 rfl rfl)
abbrev cX11_splits : ByteArray := prog_15_method_4_code
def yX11_splits : MethodName := ⟨RX11, "splits", "(ILLeftUndoes$Trace;)I"⟩
def dkwX11_splits_0 : List UInt8 := [44, 16, 40, 182, 0, 15, 42, 27, 8, 96, 44, 183, 0, 21, 172]
abbrev dktX11_splits_0 : List UInt8 := dkwX11_splits_0 ++ []
theorem dksX11_splits_0 : cX11_splits.data.toList.drop 0 = dktX11_splits_0 := by decide +kernel
theorem dX11_splits_0 : decode cX11_splits 0 = .ok (.aload_n 2, 1) := dk_44 (dk_at dksX11_splits_0 0 rfl rfl)
theorem dX11_splits_1 : decode cX11_splits 1 = .ok (.bipush 40, 2) := dk_16 40 (dk_at dksX11_splits_0 1 rfl rfl)
theorem dX11_splits_3 : decode cX11_splits 3 = .ok (.invokevirtual 15, 3) := dk_182 0 15 (dk_at dksX11_splits_0 3 rfl rfl)
theorem dX11_splits_6 : decode cX11_splits 6 = .ok (.aload_n 0, 1) := dk_42 (dk_at dksX11_splits_0 6 rfl rfl)
theorem dX11_splits_7 : decode cX11_splits 7 = .ok (.iload_n 1, 1) := dk_27 (dk_at dksX11_splits_0 7 rfl rfl)
theorem dX11_splits_8 : decode cX11_splits 8 = .ok (.iconst 5, 1) := dk_8 (dk_at dksX11_splits_0 8 rfl rfl)
theorem dX11_splits_9 : decode cX11_splits 9 = .ok (.iadd, 1) := dk_96 (dk_at dksX11_splits_0 9 rfl rfl)
theorem dX11_splits_10 : decode cX11_splits 10 = .ok (.aload_n 2, 1) := dk_44 (dk_at dksX11_splits_0 10 rfl rfl)
theorem dX11_splits_11 : decode cX11_splits 11 = .ok (.invokespecial 21, 3) := dk_183 0 21 (dk_at dksX11_splits_0 11 rfl rfl)
theorem dX11_splits_14 : decode cX11_splits 14 = .ok (.ireturn, 1) := dk_172 (dk_at dksX11_splits_0 14 rfl rfl)
theorem q132 : (Jvm.Cond.initialized "LeftUndoes$Slow") ∈ lw_all := lw_g (lw_at lw_m1 15 rfl) rfl
theorem q557 : (Jvm.Cond.instantiable "LeftUndoes$Slow" (2 : Nat)) ∈ lw_all := lw_g (lw_at lw_m2 200 rfl) rfl
theorem q559 : (Jvm.Cond.instanceMethod ({ cls := "LeftUndoes$Slow", name := "<init>", desc := "(II)V" } : Jvm.MethodName)) ∈ lw_all := lw_g (lw_at lw_m2 202 rfl) rfl
theorem q560 : (Jvm.Cond.code ({ cls := "LeftUndoes$Slow", name := "<init>", desc := "(II)V" } : Jvm.MethodName) prog_15_method_1_code (3 : Nat) (Option.none : Option Jvm.ClassFile.FieldType)) ∈ lw_all := lw_g (lw_at lw_m2 203 rfl) rfl
theorem q561 : (Jvm.Cond.methodLink "LeftUndoes$Slow" (1 : Nat) ({ cls := "LeftUndoes$Hand", name := "<init>", desc := "(II)V" } : Jvm.MethodName)) ∈ lw_all := lw_g (lw_at lw_m2 204 rfl) rfl
theorem q562 : (Jvm.Cond.laysFinal "LeftUndoes$Slow" "LeftUndoes$Hand" "number" "I") ∈ lw_all := lw_g (lw_at lw_m2 205 rfl) rfl
theorem q563 : (Jvm.Cond.laysFinal "LeftUndoes$Slow" "LeftUndoes$Hand" "grace" "I") ∈ lw_all := lw_g (lw_at lw_m2 206 rfl) rfl
theorem q564 : (Jvm.Cond.superclass "LeftUndoes$Slow" "LeftUndoes$Hand") ∈ lw_all := lw_g (lw_at lw_m2 207 rfl) rfl
theorem q599 : (Jvm.Cond.instanceMethod ({ cls := "LeftUndoes$Slow", name := "pull", desc := "(II)I" } : Jvm.MethodName)) ∈ lw_all := lw_g (lw_at lw_m3 2 rfl) rfl
theorem q600 : (Jvm.Cond.code ({ cls := "LeftUndoes$Slow", name := "pull", desc := "(II)I" } : Jvm.MethodName) prog_15_method_3_code (3 : Nat) (Option.some Jvm.ClassFile.FieldType.int)) ∈ lw_all := lw_g (lw_at lw_m3 3 rfl) rfl
theorem q601 : (Jvm.Cond.methodLink "LeftUndoes$Slow" (11 : Nat) ({ cls := "LeftUndoes$Hand", name := "pull", desc := "(II)I" } : Jvm.MethodName)) ∈ lw_all := lw_g (lw_at lw_m3 4 rfl) rfl
theorem q602 : (Jvm.Cond.selects "LeftUndoes$Slow" ({ cls := "LeftUndoes$Hand", name := "pull", desc := "(II)I" } : Jvm.MethodName) ({ cls := "LeftUndoes$Slow", name := "pull", desc := "(II)I" } : Jvm.MethodName)) ∈ lw_all := lw_g (lw_at lw_m3 5 rfl) rfl
theorem q667 : (Jvm.Cond.instanceMethod ({ cls := "LeftUndoes$Slow", name := "term", desc := "()I" } : Jvm.MethodName)) ∈ lw_all := lw_g (lw_at lw_m3 70 rfl) rfl
theorem q668 : (Jvm.Cond.code ({ cls := "LeftUndoes$Slow", name := "term", desc := "()I" } : Jvm.MethodName) prog_15_method_2_code (1 : Nat) (Option.some Jvm.ClassFile.FieldType.int)) ∈ lw_all := lw_g (lw_at lw_m3 71 rfl) rfl
theorem q669 : (Jvm.Cond.methodLink "LeftUndoes$Slow" (7 : Nat) ({ cls := "LeftUndoes$Hand", name := "term", desc := "()I" } : Jvm.MethodName)) ∈ lw_all := lw_g (lw_at lw_m3 72 rfl) rfl
theorem q670 : (Jvm.Cond.selects "LeftUndoes$Slow" ({ cls := "LeftUndoes$Hand", name := "term", desc := "()I" } : Jvm.MethodName) ({ cls := "LeftUndoes$Slow", name := "term", desc := "()I" } : Jvm.MethodName)) ∈ lw_all := lw_g (lw_at lw_m3 73 rfl) rfl
theorem q1344 : (Jvm.Cond.selects "LeftUndoes$Slow" ({ cls := "LeftUndoes$Hand", name := "number", desc := "()I" } : Jvm.MethodName) ({ cls := "LeftUndoes$Hand", name := "number", desc := "()I" } : Jvm.MethodName)) ∈ lw_all := lw_g (lw_at lw_m6 27 rfl) rfl
theorem q1399 : (Jvm.Cond.castable "LeftUndoes$Slow" "LeftUndoes$Gives") ∈ lw_tbl := lw_at lw_m6 82 rfl
theorem q1400 : (Jvm.Cond.selects "LeftUndoes$Slow" ({ cls := "LeftUndoes$Gives", name := "grace", desc := "()I" } : Jvm.MethodName) ({ cls := "LeftUndoes$Hand", name := "grace", desc := "()I" } : Jvm.MethodName)) ∈ lw_all := lw_g (lw_at lw_m6 83 rfl) rfl
theorem q1401 : (Jvm.Cond.unhidden "LeftUndoes$Slow" "grace" "()I") ∈ lw_tbl := lw_at lw_m6 84 rfl
theorem q1413 : (Jvm.Cond.castable "LeftUndoes$Slow" "LeftUndoes$Swears") ∈ lw_tbl := lw_at lw_m6 96 rfl
theorem q1414 : (Jvm.Cond.unhidden "LeftUndoes$Slow" "gives" "(ILLeftUndoes$Trace;)I") ∈ lw_tbl := lw_at lw_m6 97 rfl
theorem q1433 : (Jvm.Cond.castable "LeftUndoes$Slow" "LeftUndoes$Takes") ∈ lw_tbl := lw_at lw_m6 116 rfl
theorem q1451 : (Jvm.Cond.unhidden "LeftUndoes$Slow" "takes" "(ILLeftUndoes$Trace;)I") ∈ lw_tbl := lw_at lw_m6 134 rfl
theorem q1466 : (Jvm.Cond.castable "LeftUndoes$Slow" "LeftUndoes$Splits") ∈ lw_tbl := lw_at lw_m6 149 rfl
theorem q1478 : (Jvm.Cond.selects "LeftUndoes$Slow" ({ cls := "LeftUndoes$Gives", name := "number", desc := "()I" } : Jvm.MethodName) ({ cls := "LeftUndoes$Hand", name := "number", desc := "()I" } : Jvm.MethodName)) ∈ lw_all := lw_g (lw_at lw_m6 161 rfl) rfl
theorem q1479 : (Jvm.Cond.unhidden "LeftUndoes$Slow" "number" "()I") ∈ lw_tbl := lw_at lw_m6 162 rfl
theorem q1489 : (Jvm.Cond.instanceMethod ({ cls := "LeftUndoes$Slow", name := "splits", desc := "(ILLeftUndoes$Trace;)I" } : Jvm.MethodName)) ∈ lw_all := lw_g (lw_at lw_m6 172 rfl) rfl
theorem q1490 : (Jvm.Cond.code ({ cls := "LeftUndoes$Slow", name := "splits", desc := "(ILLeftUndoes$Trace;)I" } : Jvm.MethodName) prog_15_method_4_code (3 : Nat) (Option.some Jvm.ClassFile.FieldType.int)) ∈ lw_all := lw_g (lw_at lw_m6 173 rfl) rfl
theorem q1491 : (Jvm.Cond.methodLink "LeftUndoes$Slow" (15 : Nat) ({ cls := "LeftUndoes$Trace", name := "ran", desc := "(I)V" } : Jvm.MethodName)) ∈ lw_all := lw_g (lw_at lw_m6 174 rfl) rfl
theorem q1495 : (Jvm.Cond.selects "LeftUndoes$Slow" ({ cls := "LeftUndoes$Splits", name := "splits", desc := "(ILLeftUndoes$Trace;)I" } : Jvm.MethodName) ({ cls := "LeftUndoes$Slow", name := "splits", desc := "(ILLeftUndoes$Trace;)I" } : Jvm.MethodName)) ∈ lw_all := lw_g (lw_at lw_m6 178 rfl) rfl
theorem q1496 : (Jvm.Cond.unhidden "LeftUndoes$Slow" "splits" "(ILLeftUndoes$Trace;)I") ∈ lw_tbl := lw_at lw_m6 179 rfl
theorem q1497 : (Jvm.Cond.publicMethod ({ cls := "LeftUndoes$Slow", name := "splits", desc := "(ILLeftUndoes$Trace;)I" } : Jvm.MethodName)) ∈ lw_tbl := lw_at lw_m6 180 rfl
theorem q1512 : (Jvm.Cond.unhidden "LeftUndoes$Slow" "swears" "(ILLeftUndoes$Trace;)I") ∈ lw_tbl := lw_at lw_m6 195 rfl
theorem q2229 : (Jvm.Cond.sameMethod "LeftUndoes$Slow" "LeftUndoes$Slow" "pull" "(II)I") ∈ lw_all := lw_g (lw_at lw_m9 192 rfl) rfl
theorem q2230 : (Jvm.Cond.sameMethod "LeftUndoes$Slow" "LeftUndoes$Slow" "term" "()I") ∈ lw_all := lw_g (lw_at lw_m9 193 rfl) rfl
theorem q2235 : (Jvm.Cond.sameMethod "LeftUndoes$Slow" "LeftUndoes$Slow" "splits" "(ILLeftUndoes$Trace;)I") ∈ lw_all := lw_g (lw_at lw_m9 198 rfl) rfl
theorem q2244 : (Jvm.Cond.castable "LeftUndoes$Slow" "LeftUndoes$Hand") ∈ lw_tbl := lw_at lw_m9 207 rfl
theorem in_X11 : ∀ w ∈ wsX110, w ∈ lw_all := lw_in wsX110 [562, 563] (by decide +kernel) (by decide +kernel)
/-! LeftUndoes$Heir -/
set_option maxRecDepth 100000
def RX12 : String := "LeftUndoes$Heir"
def TX12 : u_T := fun k => match k with
  | 0 => ("LeftUndoes$Hand", "number", "I", true)
  | _ => ("LeftUndoes$Hand", "grace", "I", true)
def tyX12 : Nat → FieldType := fun k => match k with
  | 0 => .int
  | _ => .int
abbrev wsX120 : List Cond := u_ws RX12 TX12 2
theorem nmX12 : ∀ a, a < 2 → ∀ b, b < 2 → a ≠ b → (TX12 a).2.1 ≠ (TX12 b).2.1 := by decide +kernel
theorem tyX12_ok : ∀ k, k < 2 → parseFieldDescriptor (TX12 k).2.2.1 = some (tyX12 k) := by decide +kernel
abbrev cX12_init : ByteArray := prog_10_method_1_code
def yX12_init : MethodName := ⟨RX12, "<init>", "(II)V"⟩
def dkwX12_init_0 : List UInt8 := [42, 27, 28, 183, 0, 1, 177]
abbrev dktX12_init_0 : List UInt8 := dkwX12_init_0 ++ []
theorem dksX12_init_0 : cX12_init.data.toList.drop 0 = dktX12_init_0 := by decide +kernel
theorem dX12_init_0 : decode cX12_init 0 = .ok (.aload_n 0, 1) := dk_42 (dk_at dksX12_init_0 0 rfl rfl)
theorem dX12_init_1 : decode cX12_init 1 = .ok (.iload_n 1, 1) := dk_27 (dk_at dksX12_init_0 1 rfl rfl)
theorem dX12_init_2 : decode cX12_init 2 = .ok (.iload_n 2, 1) := dk_28 (dk_at dksX12_init_0 2 rfl rfl)
theorem dX12_init_3 : decode cX12_init 3 = .ok (.invokespecial 1, 3) := dk_183 0 1 (dk_at dksX12_init_0 3 rfl rfl)
theorem dX12_init_6 : decode cX12_init 6 = .ok (.return_, 1) := dk_177 (dk_at dksX12_init_0 6 rfl rfl)
abbrev cX12_pull : ByteArray := prog_10_method_3_code
def yX12_pull : MethodName := ⟨RX12, "pull", "(II)I"⟩
def dkwX12_pull_0 : List UInt8 := [28, 16, 9, 161, 0, 8, 16, 9, 167, 0, 9, 42, 27, 28, 183, 0, 11, 172]
abbrev dktX12_pull_0 : List UInt8 := dkwX12_pull_0 ++ []
theorem dksX12_pull_0 : cX12_pull.data.toList.drop 0 = dktX12_pull_0 := by decide +kernel
theorem dX12_pull_0 : decode cX12_pull 0 = .ok (.iload_n 2, 1) := dk_28 (dk_at dksX12_pull_0 0 rfl rfl)
theorem dX12_pull_1 : decode cX12_pull 1 = .ok (.bipush 9, 2) := dk_16 9 (dk_at dksX12_pull_0 1 rfl rfl)
theorem dX12_pull_3 : decode cX12_pull 3 = .ok (.if_icmp .lt 8, 3) := dk_161 0 8 (dk_at dksX12_pull_0 3 rfl rfl)
theorem dX12_pull_6 : decode cX12_pull 6 = .ok (.bipush 9, 2) := dk_16 9 (dk_at dksX12_pull_0 6 rfl rfl)
theorem dX12_pull_8 : decode cX12_pull 8 = .ok (.goto 9, 3) := dk_167 0 9 (dk_at dksX12_pull_0 8 rfl rfl)
theorem dX12_pull_11 : decode cX12_pull 11 = .ok (.aload_n 0, 1) := dk_42 (dk_at dksX12_pull_0 11 rfl rfl)
theorem dX12_pull_12 : decode cX12_pull 12 = .ok (.iload_n 1, 1) := dk_27 (dk_at dksX12_pull_0 12 rfl rfl)
theorem dX12_pull_13 : decode cX12_pull 13 = .ok (.iload_n 2, 1) := dk_28 (dk_at dksX12_pull_0 13 rfl rfl)
theorem dX12_pull_14 : decode cX12_pull 14 = .ok (.invokespecial 11, 3) := dk_183 0 11 (dk_at dksX12_pull_0 14 rfl rfl)
theorem dX12_pull_17 : decode cX12_pull 17 = .ok (.ireturn, 1) := dk_172 (dk_at dksX12_pull_0 17 rfl rfl)
abbrev cX12_term : ByteArray := prog_10_method_2_code
def yX12_term : MethodName := ⟨RX12, "term", "()I"⟩
def dkwX12_term_0 : List UInt8 := [42, 183, 0, 7, 16, 9, 96, 172]
abbrev dktX12_term_0 : List UInt8 := dkwX12_term_0 ++ []
theorem dksX12_term_0 : cX12_term.data.toList.drop 0 = dktX12_term_0 := by decide +kernel
theorem dX12_term_0 : decode cX12_term 0 = .ok (.aload_n 0, 1) := dk_42 (dk_at dksX12_term_0 0 rfl rfl)
theorem dX12_term_1 : decode cX12_term 1 = .ok (.invokespecial 7, 3) := dk_183 0 7 (dk_at dksX12_term_0 1 rfl rfl)
theorem dX12_term_4 : decode cX12_term 4 = .ok (.bipush 9, 2) := dk_16 9 (dk_at dksX12_term_0 4 rfl rfl)
theorem dX12_term_6 : decode cX12_term 6 = .ok (.iadd, 1) := dk_96 (dk_at dksX12_term_0 6 rfl rfl)
theorem dX12_term_7 : decode cX12_term 7 = .ok (.ireturn, 1) := dk_172 (dk_at dksX12_term_0 7 rfl rfl)
abbrev cX12_takes : ByteArray := prog_10_method_4_code
def yX12_takes : MethodName := ⟨RX12, "takes", "(ILLeftUndoes$Trace;)I"⟩
def dkwX12_takes_0 : List UInt8 := [44, 16, 60, 182, 0, 15, 42, 27, 44, 183, 0, 21, 42, 182, 0, 25, 130, 172]
abbrev dktX12_takes_0 : List UInt8 := dkwX12_takes_0 ++ []
theorem dksX12_takes_0 : cX12_takes.data.toList.drop 0 = dktX12_takes_0 := by decide +kernel
theorem dX12_takes_0 : decode cX12_takes 0 = .ok (.aload_n 2, 1) := dk_44 (dk_at dksX12_takes_0 0 rfl rfl)
theorem dX12_takes_1 : decode cX12_takes 1 = .ok (.bipush 60, 2) := dk_16 60 (dk_at dksX12_takes_0 1 rfl rfl)
theorem dX12_takes_3 : decode cX12_takes 3 = .ok (.invokevirtual 15, 3) := dk_182 0 15 (dk_at dksX12_takes_0 3 rfl rfl)
theorem dX12_takes_6 : decode cX12_takes 6 = .ok (.aload_n 0, 1) := dk_42 (dk_at dksX12_takes_0 6 rfl rfl)
theorem dX12_takes_7 : decode cX12_takes 7 = .ok (.iload_n 1, 1) := dk_27 (dk_at dksX12_takes_0 7 rfl rfl)
theorem dX12_takes_8 : decode cX12_takes 8 = .ok (.aload_n 2, 1) := dk_44 (dk_at dksX12_takes_0 8 rfl rfl)
theorem dX12_takes_9 : decode cX12_takes 9 = .ok (.invokespecial 21, 3) := dk_183 0 21 (dk_at dksX12_takes_0 9 rfl rfl)
theorem dX12_takes_12 : decode cX12_takes 12 = .ok (.aload_n 0, 1) := dk_42 (dk_at dksX12_takes_0 12 rfl rfl)
theorem dX12_takes_13 : decode cX12_takes 13 = .ok (.invokevirtual 25, 3) := dk_182 0 25 (dk_at dksX12_takes_0 13 rfl rfl)
theorem dX12_takes_16 : decode cX12_takes 16 = .ok (.ixor, 1) := dk_130 (dk_at dksX12_takes_0 16 rfl rfl)
theorem dX12_takes_17 : decode cX12_takes 17 = .ok (.ireturn, 1) := dk_172 (dk_at dksX12_takes_0 17 rfl rfl)
abbrev cX12_splits : ByteArray := prog_10_method_5_code
def yX12_splits : MethodName := ⟨RX12, "splits", "(ILLeftUndoes$Trace;)I"⟩
def dkwX12_splits_1 : List UInt8 := [172]
abbrev dktX12_splits_1 : List UInt8 := dkwX12_splits_1 ++ []
def dkwX12_splits_0 : List UInt8 := [44, 16, 61, 182, 0, 15, 42, 27, 44, 183, 0, 30, 62, 29, 42, 42, 182, 0, 33, 44, 182, 0, 36, 96]
abbrev dktX12_splits_0 : List UInt8 := dkwX12_splits_0 ++ dktX12_splits_1
theorem dksX12_splits_0 : cX12_splits.data.toList.drop 0 = dktX12_splits_0 := by decide +kernel
theorem dksX12_splits_1 : cX12_splits.data.toList.drop 24 = dktX12_splits_1 := dk_seg dksX12_splits_0 24 rfl rfl
theorem dX12_splits_0 : decode cX12_splits 0 = .ok (.aload_n 2, 1) := dk_44 (dk_at dksX12_splits_0 0 rfl rfl)
theorem dX12_splits_1 : decode cX12_splits 1 = .ok (.bipush 61, 2) := dk_16 61 (dk_at dksX12_splits_0 1 rfl rfl)
theorem dX12_splits_3 : decode cX12_splits 3 = .ok (.invokevirtual 15, 3) := dk_182 0 15 (dk_at dksX12_splits_0 3 rfl rfl)
theorem dX12_splits_6 : decode cX12_splits 6 = .ok (.aload_n 0, 1) := dk_42 (dk_at dksX12_splits_0 6 rfl rfl)
theorem dX12_splits_7 : decode cX12_splits 7 = .ok (.iload_n 1, 1) := dk_27 (dk_at dksX12_splits_0 7 rfl rfl)
theorem dX12_splits_8 : decode cX12_splits 8 = .ok (.aload_n 2, 1) := dk_44 (dk_at dksX12_splits_0 8 rfl rfl)
theorem dX12_splits_9 : decode cX12_splits 9 = .ok (.invokespecial 30, 3) := dk_183 0 30 (dk_at dksX12_splits_0 9 rfl rfl)
theorem dX12_splits_12 : decode cX12_splits 12 = .ok (.istore_n 3, 1) := dk_62 (dk_at dksX12_splits_0 12 rfl rfl)
theorem dX12_splits_13 : decode cX12_splits 13 = .ok (.iload_n 3, 1) := dk_29 (dk_at dksX12_splits_0 13 rfl rfl)
theorem dX12_splits_14 : decode cX12_splits 14 = .ok (.aload_n 0, 1) := dk_42 (dk_at dksX12_splits_0 14 rfl rfl)
theorem dX12_splits_15 : decode cX12_splits 15 = .ok (.aload_n 0, 1) := dk_42 (dk_at dksX12_splits_0 15 rfl rfl)
theorem dX12_splits_16 : decode cX12_splits 16 = .ok (.invokevirtual 33, 3) := dk_182 0 33 (dk_at dksX12_splits_0 16 rfl rfl)
theorem dX12_splits_19 : decode cX12_splits 19 = .ok (.aload_n 2, 1) := dk_44 (dk_at dksX12_splits_0 19 rfl rfl)
theorem dX12_splits_20 : decode cX12_splits 20 = .ok (.invokevirtual 36, 3) := dk_182 0 36 (dk_at dksX12_splits_0 20 rfl rfl)
theorem dX12_splits_23 : decode cX12_splits 23 = .ok (.iadd, 1) := dk_96 (dk_at dksX12_splits_0 23 rfl rfl)
theorem dX12_splits_24 : decode cX12_splits 24 = .ok (.ireturn, 1) := dk_172 (dk_at dksX12_splits_1 0 rfl rfl)
theorem q133 : (Jvm.Cond.initialized "LeftUndoes$Heir") ∈ lw_all := lw_g (lw_at lw_m1 16 rfl) rfl
theorem q566 : (Jvm.Cond.instantiable "LeftUndoes$Heir" (2 : Nat)) ∈ lw_all := lw_g (lw_at lw_m2 209 rfl) rfl
theorem q568 : (Jvm.Cond.instanceMethod ({ cls := "LeftUndoes$Heir", name := "<init>", desc := "(II)V" } : Jvm.MethodName)) ∈ lw_all := lw_g (lw_at lw_m2 211 rfl) rfl
theorem q569 : (Jvm.Cond.code ({ cls := "LeftUndoes$Heir", name := "<init>", desc := "(II)V" } : Jvm.MethodName) prog_10_method_1_code (3 : Nat) (Option.none : Option Jvm.ClassFile.FieldType)) ∈ lw_all := lw_g (lw_at lw_m2 212 rfl) rfl
theorem q570 : (Jvm.Cond.methodLink "LeftUndoes$Heir" (1 : Nat) ({ cls := "LeftUndoes$Slow", name := "<init>", desc := "(II)V" } : Jvm.MethodName)) ∈ lw_all := lw_g (lw_at lw_m2 213 rfl) rfl
theorem q571 : (Jvm.Cond.laysFinal "LeftUndoes$Heir" "LeftUndoes$Hand" "number" "I") ∈ lw_all := lw_g (lw_at lw_m2 214 rfl) rfl
theorem q572 : (Jvm.Cond.laysFinal "LeftUndoes$Heir" "LeftUndoes$Hand" "grace" "I") ∈ lw_all := lw_g (lw_at lw_m2 215 rfl) rfl
theorem q573 : (Jvm.Cond.superclass "LeftUndoes$Heir" "LeftUndoes$Slow") ∈ lw_all := lw_g (lw_at lw_m2 216 rfl) rfl
theorem q595 : (Jvm.Cond.selects "LeftUndoes$Heir" ({ cls := "LeftUndoes$Hand", name := "pull", desc := "(II)I" } : Jvm.MethodName) ({ cls := "LeftUndoes$Heir", name := "pull", desc := "(II)I" } : Jvm.MethodName)) ∈ lw_all := lw_g (lw_at lw_m2 238 rfl) rfl
theorem q596 : (Jvm.Cond.instanceMethod ({ cls := "LeftUndoes$Heir", name := "pull", desc := "(II)I" } : Jvm.MethodName)) ∈ lw_all := lw_g (lw_at lw_m2 239 rfl) rfl
theorem q597 : (Jvm.Cond.code ({ cls := "LeftUndoes$Heir", name := "pull", desc := "(II)I" } : Jvm.MethodName) prog_10_method_3_code (3 : Nat) (Option.some Jvm.ClassFile.FieldType.int)) ∈ lw_all := lw_g (lw_at lw_m3 0 rfl) rfl
theorem q598 : (Jvm.Cond.methodLink "LeftUndoes$Heir" (11 : Nat) ({ cls := "LeftUndoes$Slow", name := "pull", desc := "(II)I" } : Jvm.MethodName)) ∈ lw_all := lw_g (lw_at lw_m3 1 rfl) rfl
theorem q663 : (Jvm.Cond.selects "LeftUndoes$Heir" ({ cls := "LeftUndoes$Hand", name := "term", desc := "()I" } : Jvm.MethodName) ({ cls := "LeftUndoes$Heir", name := "term", desc := "()I" } : Jvm.MethodName)) ∈ lw_all := lw_g (lw_at lw_m3 66 rfl) rfl
theorem q664 : (Jvm.Cond.instanceMethod ({ cls := "LeftUndoes$Heir", name := "term", desc := "()I" } : Jvm.MethodName)) ∈ lw_all := lw_g (lw_at lw_m3 67 rfl) rfl
theorem q665 : (Jvm.Cond.code ({ cls := "LeftUndoes$Heir", name := "term", desc := "()I" } : Jvm.MethodName) prog_10_method_2_code (1 : Nat) (Option.some Jvm.ClassFile.FieldType.int)) ∈ lw_all := lw_g (lw_at lw_m3 68 rfl) rfl
theorem q666 : (Jvm.Cond.methodLink "LeftUndoes$Heir" (7 : Nat) ({ cls := "LeftUndoes$Slow", name := "term", desc := "()I" } : Jvm.MethodName)) ∈ lw_all := lw_g (lw_at lw_m3 69 rfl) rfl
theorem q1343 : (Jvm.Cond.selects "LeftUndoes$Heir" ({ cls := "LeftUndoes$Hand", name := "number", desc := "()I" } : Jvm.MethodName) ({ cls := "LeftUndoes$Hand", name := "number", desc := "()I" } : Jvm.MethodName)) ∈ lw_all := lw_g (lw_at lw_m6 26 rfl) rfl
theorem q1396 : (Jvm.Cond.castable "LeftUndoes$Heir" "LeftUndoes$Gives") ∈ lw_tbl := lw_at lw_m6 79 rfl
theorem q1397 : (Jvm.Cond.selects "LeftUndoes$Heir" ({ cls := "LeftUndoes$Gives", name := "grace", desc := "()I" } : Jvm.MethodName) ({ cls := "LeftUndoes$Hand", name := "grace", desc := "()I" } : Jvm.MethodName)) ∈ lw_all := lw_g (lw_at lw_m6 80 rfl) rfl
theorem q1398 : (Jvm.Cond.unhidden "LeftUndoes$Heir" "grace" "()I") ∈ lw_tbl := lw_at lw_m6 81 rfl
theorem q1411 : (Jvm.Cond.castable "LeftUndoes$Heir" "LeftUndoes$Swears") ∈ lw_tbl := lw_at lw_m6 94 rfl
theorem q1412 : (Jvm.Cond.unhidden "LeftUndoes$Heir" "gives" "(ILLeftUndoes$Trace;)I") ∈ lw_tbl := lw_at lw_m6 95 rfl
theorem q1432 : (Jvm.Cond.castable "LeftUndoes$Heir" "LeftUndoes$Takes") ∈ lw_tbl := lw_at lw_m6 115 rfl
theorem q1441 : (Jvm.Cond.selects "LeftUndoes$Heir" ({ cls := "LeftUndoes$Takes", name := "takes", desc := "(ILLeftUndoes$Trace;)I" } : Jvm.MethodName) ({ cls := "LeftUndoes$Heir", name := "takes", desc := "(ILLeftUndoes$Trace;)I" } : Jvm.MethodName)) ∈ lw_all := lw_g (lw_at lw_m6 124 rfl) rfl
theorem q1442 : (Jvm.Cond.unhidden "LeftUndoes$Heir" "takes" "(ILLeftUndoes$Trace;)I") ∈ lw_tbl := lw_at lw_m6 125 rfl
theorem q1443 : (Jvm.Cond.instanceMethod ({ cls := "LeftUndoes$Heir", name := "takes", desc := "(ILLeftUndoes$Trace;)I" } : Jvm.MethodName)) ∈ lw_all := lw_g (lw_at lw_m6 126 rfl) rfl
theorem q1444 : (Jvm.Cond.publicMethod ({ cls := "LeftUndoes$Heir", name := "takes", desc := "(ILLeftUndoes$Trace;)I" } : Jvm.MethodName)) ∈ lw_tbl := lw_at lw_m6 127 rfl
theorem q1445 : (Jvm.Cond.code ({ cls := "LeftUndoes$Heir", name := "takes", desc := "(ILLeftUndoes$Trace;)I" } : Jvm.MethodName) prog_10_method_4_code (3 : Nat) (Option.some Jvm.ClassFile.FieldType.int)) ∈ lw_all := lw_g (lw_at lw_m6 128 rfl) rfl
theorem q1446 : (Jvm.Cond.methodLink "LeftUndoes$Heir" (15 : Nat) ({ cls := "LeftUndoes$Trace", name := "ran", desc := "(I)V" } : Jvm.MethodName)) ∈ lw_all := lw_g (lw_at lw_m6 129 rfl) rfl
theorem q1447 : (Jvm.Cond.methodLink "LeftUndoes$Heir" (25 : Nat) ({ cls := "LeftUndoes$Heir", name := "grace", desc := "()I" } : Jvm.MethodName)) ∈ lw_all := lw_g (lw_at lw_m6 130 rfl) rfl
theorem q1448 : (Jvm.Cond.sameMethod "LeftUndoes$Heir" "LeftUndoes$Hand" "grace" "()I") ∈ lw_all := lw_g (lw_at lw_m6 131 rfl) rfl
theorem q1450 : (Jvm.Cond.selects "LeftUndoes$Heir" ({ cls := "LeftUndoes$Heir", name := "grace", desc := "()I" } : Jvm.MethodName) ({ cls := "LeftUndoes$Hand", name := "grace", desc := "()I" } : Jvm.MethodName)) ∈ lw_all := lw_g (lw_at lw_m6 133 rfl) rfl
theorem q1465 : (Jvm.Cond.castable "LeftUndoes$Heir" "LeftUndoes$Splits") ∈ lw_tbl := lw_at lw_m6 148 rfl
theorem q1476 : (Jvm.Cond.selects "LeftUndoes$Heir" ({ cls := "LeftUndoes$Gives", name := "number", desc := "()I" } : Jvm.MethodName) ({ cls := "LeftUndoes$Hand", name := "number", desc := "()I" } : Jvm.MethodName)) ∈ lw_all := lw_g (lw_at lw_m6 159 rfl) rfl
theorem q1477 : (Jvm.Cond.unhidden "LeftUndoes$Heir" "number" "()I") ∈ lw_tbl := lw_at lw_m6 160 rfl
theorem q1483 : (Jvm.Cond.selects "LeftUndoes$Heir" ({ cls := "LeftUndoes$Splits", name := "splits", desc := "(ILLeftUndoes$Trace;)I" } : Jvm.MethodName) ({ cls := "LeftUndoes$Heir", name := "splits", desc := "(ILLeftUndoes$Trace;)I" } : Jvm.MethodName)) ∈ lw_all := lw_g (lw_at lw_m6 166 rfl) rfl
theorem q1484 : (Jvm.Cond.unhidden "LeftUndoes$Heir" "splits" "(ILLeftUndoes$Trace;)I") ∈ lw_tbl := lw_at lw_m6 167 rfl
theorem q1485 : (Jvm.Cond.instanceMethod ({ cls := "LeftUndoes$Heir", name := "splits", desc := "(ILLeftUndoes$Trace;)I" } : Jvm.MethodName)) ∈ lw_all := lw_g (lw_at lw_m6 168 rfl) rfl
theorem q1486 : (Jvm.Cond.publicMethod ({ cls := "LeftUndoes$Heir", name := "splits", desc := "(ILLeftUndoes$Trace;)I" } : Jvm.MethodName)) ∈ lw_tbl := lw_at lw_m6 169 rfl
theorem q1487 : (Jvm.Cond.code ({ cls := "LeftUndoes$Heir", name := "splits", desc := "(ILLeftUndoes$Trace;)I" } : Jvm.MethodName) prog_10_method_5_code (4 : Nat) (Option.some Jvm.ClassFile.FieldType.int)) ∈ lw_all := lw_g (lw_at lw_m6 170 rfl) rfl
theorem q1488 : (Jvm.Cond.methodLink "LeftUndoes$Heir" (30 : Nat) ({ cls := "LeftUndoes$Slow", name := "splits", desc := "(ILLeftUndoes$Trace;)I" } : Jvm.MethodName)) ∈ lw_all := lw_g (lw_at lw_m6 171 rfl) rfl
theorem q1492 : (Jvm.Cond.methodLink "LeftUndoes$Heir" (33 : Nat) ({ cls := "LeftUndoes$Heir", name := "number", desc := "()I" } : Jvm.MethodName)) ∈ lw_all := lw_g (lw_at lw_m6 175 rfl) rfl
theorem q1493 : (Jvm.Cond.sameMethod "LeftUndoes$Heir" "LeftUndoes$Hand" "number" "()I") ∈ lw_all := lw_g (lw_at lw_m6 176 rfl) rfl
theorem q1494 : (Jvm.Cond.selects "LeftUndoes$Heir" ({ cls := "LeftUndoes$Heir", name := "number", desc := "()I" } : Jvm.MethodName) ({ cls := "LeftUndoes$Hand", name := "number", desc := "()I" } : Jvm.MethodName)) ∈ lw_all := lw_g (lw_at lw_m6 177 rfl) rfl
theorem q1511 : (Jvm.Cond.unhidden "LeftUndoes$Heir" "swears" "(ILLeftUndoes$Trace;)I") ∈ lw_tbl := lw_at lw_m6 194 rfl
theorem q2243 : (Jvm.Cond.castable "LeftUndoes$Heir" "LeftUndoes$Hand") ∈ lw_tbl := lw_at lw_m9 206 rfl
theorem q2247 : (Jvm.Cond.castable "LeftUndoes$Heir" "LeftUndoes$Slow") ∈ lw_tbl := lw_at lw_m9 210 rfl
theorem in_X12 : ∀ w ∈ wsX120, w ∈ lw_all := lw_in wsX120 [571, 572] (by decide +kernel) (by decide +kernel)
/-! LeftUndoes$Cond -/
set_option maxRecDepth 100000
def RX13 : String := "LeftUndoes$Cond"
abbrev cX13_init : ByteArray := prog_5_method_1_code
def yX13_init : MethodName := ⟨RX13, "<init>", "()V"⟩
theorem dX13_init_0 : decode cX13_init 0 = .ok (.aload_n 0, 1) := by decide +kernel
theorem dX13_init_1 : decode cX13_init 1 = .ok (.invokespecial 1, 3) := by decide +kernel
theorem dX13_init_4 : decode cX13_init 4 = .ok (.return_, 1) := by decide +kernel
theorem q138 : (Jvm.Cond.initialized "LeftUndoes$Cond") ∈ lw_all := lw_g (lw_at lw_m1 21 rfl) rfl
theorem q625 : (Jvm.Cond.declares ({ cls := "LeftUndoes$Cond", name := "holds", desc := "([I)Z" } : Jvm.MethodName)) ∈ lw_tbl := lw_at lw_m3 28 rfl
theorem q626 : (Jvm.Cond.sameMethod "LeftUndoes$Cond" "LeftUndoes$Cond" "holds" "([I)Z") ∈ lw_all := lw_g (lw_at lw_m3 29 rfl) rfl
theorem q828 : (Jvm.Cond.instanceMethod ({ cls := "LeftUndoes$Cond", name := "<init>", desc := "()V" } : Jvm.MethodName)) ∈ lw_all := lw_g (lw_at lw_m3 231 rfl) rfl
theorem q829 : (Jvm.Cond.code ({ cls := "LeftUndoes$Cond", name := "<init>", desc := "()V" } : Jvm.MethodName) prog_5_method_1_code (1 : Nat) (Option.none : Option Jvm.ClassFile.FieldType)) ∈ lw_all := lw_g (lw_at lw_m3 232 rfl) rfl
theorem q830 : (Jvm.Cond.methodLink "LeftUndoes$Cond" (1 : Nat) ({ cls := "java/lang/Object", name := "<init>", desc := "()V" } : Jvm.MethodName)) ∈ lw_all := lw_g (lw_at lw_m3 233 rfl) rfl
/-! LeftUndoes$Not -/
set_option maxRecDepth 100000
def RX14 : String := "LeftUndoes$Not"
def TX14 : u_T := fun k => match k with
  | _ => ("LeftUndoes$Not", "of", "LLeftUndoes$Cond;", true)
def tyX14 : Nat → FieldType := fun k => match k with
  | _ => .object "LeftUndoes$Cond"
abbrev wsX140 : List Cond := u_ws RX14 TX14 1
theorem nmX14 : ∀ a, a < 1 → ∀ b, b < 1 → a ≠ b → (TX14 a).2.1 ≠ (TX14 b).2.1 := by decide +kernel
theorem tyX14_ok : ∀ k, k < 1 → parseFieldDescriptor (TX14 k).2.2.1 = some (tyX14 k) := by decide +kernel
abbrev cX14_holds : ByteArray := prog_11_method_2_code
def yX14_holds : MethodName := ⟨RX14, "holds", "([I)Z"⟩
def dkwX14_holds_0 : List UInt8 := [42, 180, 0, 7, 43, 182, 0, 13, 154, 0, 7, 4, 167, 0, 4, 3, 172]
abbrev dktX14_holds_0 : List UInt8 := dkwX14_holds_0 ++ []
theorem dksX14_holds_0 : cX14_holds.data.toList.drop 0 = dktX14_holds_0 := by decide +kernel
theorem dX14_holds_0 : decode cX14_holds 0 = .ok (.aload_n 0, 1) := dk_42 (dk_at dksX14_holds_0 0 rfl rfl)
theorem dX14_holds_1 : decode cX14_holds 1 = .ok (.getfield 7, 3) := dk_180 0 7 (dk_at dksX14_holds_0 1 rfl rfl)
theorem dX14_holds_4 : decode cX14_holds 4 = .ok (.aload_n 1, 1) := dk_43 (dk_at dksX14_holds_0 4 rfl rfl)
theorem dX14_holds_5 : decode cX14_holds 5 = .ok (.invokevirtual 13, 3) := dk_182 0 13 (dk_at dksX14_holds_0 5 rfl rfl)
theorem dX14_holds_8 : decode cX14_holds 8 = .ok (.ifCond .ne 7, 3) := dk_154 0 7 (dk_at dksX14_holds_0 8 rfl rfl)
theorem dX14_holds_11 : decode cX14_holds 11 = .ok (.iconst 1, 1) := dk_4 (dk_at dksX14_holds_0 11 rfl rfl)
theorem dX14_holds_12 : decode cX14_holds 12 = .ok (.goto 4, 3) := dk_167 0 4 (dk_at dksX14_holds_0 12 rfl rfl)
theorem dX14_holds_15 : decode cX14_holds 15 = .ok (.iconst 0, 1) := dk_3 (dk_at dksX14_holds_0 15 rfl rfl)
theorem dX14_holds_16 : decode cX14_holds 16 = .ok (.ireturn, 1) := dk_172 (dk_at dksX14_holds_0 16 rfl rfl)
abbrev cX14_init : ByteArray := prog_11_method_1_code
def yX14_init : MethodName := ⟨RX14, "<init>", "(LLeftUndoes$Cond;)V"⟩
def dkwX14_init_0 : List UInt8 := [42, 183, 0, 1, 42, 43, 181, 0, 7, 177]
abbrev dktX14_init_0 : List UInt8 := dkwX14_init_0 ++ []
theorem dksX14_init_0 : cX14_init.data.toList.drop 0 = dktX14_init_0 := by decide +kernel
theorem dX14_init_0 : decode cX14_init 0 = .ok (.aload_n 0, 1) := dk_42 (dk_at dksX14_init_0 0 rfl rfl)
theorem dX14_init_1 : decode cX14_init 1 = .ok (.invokespecial 1, 3) := dk_183 0 1 (dk_at dksX14_init_0 1 rfl rfl)
theorem dX14_init_4 : decode cX14_init 4 = .ok (.aload_n 0, 1) := dk_42 (dk_at dksX14_init_0 4 rfl rfl)
theorem dX14_init_5 : decode cX14_init 5 = .ok (.aload_n 1, 1) := dk_43 (dk_at dksX14_init_0 5 rfl rfl)
theorem dX14_init_6 : decode cX14_init 6 = .ok (.putfield 7, 3) := dk_181 0 7 (dk_at dksX14_init_0 6 rfl rfl)
theorem dX14_init_9 : decode cX14_init 9 = .ok (.return_, 1) := dk_177 (dk_at dksX14_init_0 9 rfl rfl)
theorem q139 : (Jvm.Cond.initialized "LeftUndoes$Not") ∈ lw_all := lw_g (lw_at lw_m1 22 rfl) rfl
theorem q637 : (Jvm.Cond.instanceMethod ({ cls := "LeftUndoes$Not", name := "holds", desc := "([I)Z" } : Jvm.MethodName)) ∈ lw_all := lw_g (lw_at lw_m3 40 rfl) rfl
theorem q638 : (Jvm.Cond.code ({ cls := "LeftUndoes$Not", name := "holds", desc := "([I)Z" } : Jvm.MethodName) prog_11_method_2_code (2 : Nat) (Option.some Jvm.ClassFile.FieldType.boolean)) ∈ lw_all := lw_g (lw_at lw_m3 41 rfl) rfl
theorem q639 : (Jvm.Cond.methodLink "LeftUndoes$Not" (13 : Nat) ({ cls := "LeftUndoes$Cond", name := "holds", desc := "([I)Z" } : Jvm.MethodName)) ∈ lw_all := lw_g (lw_at lw_m3 42 rfl) rfl
theorem q644 : (Jvm.Cond.selects "LeftUndoes$Not" ({ cls := "LeftUndoes$Cond", name := "holds", desc := "([I)Z" } : Jvm.MethodName) ({ cls := "LeftUndoes$Not", name := "holds", desc := "([I)Z" } : Jvm.MethodName)) ∈ lw_all := lw_g (lw_at lw_m3 47 rfl) rfl
theorem q823 : (Jvm.Cond.instantiable "LeftUndoes$Not" (1 : Nat)) ∈ lw_all := lw_g (lw_at lw_m3 226 rfl) rfl
theorem q825 : (Jvm.Cond.instanceMethod ({ cls := "LeftUndoes$Not", name := "<init>", desc := "(LLeftUndoes$Cond;)V" } : Jvm.MethodName)) ∈ lw_all := lw_g (lw_at lw_m3 228 rfl) rfl
theorem q826 : (Jvm.Cond.code ({ cls := "LeftUndoes$Not", name := "<init>", desc := "(LLeftUndoes$Cond;)V" } : Jvm.MethodName) prog_11_method_1_code (2 : Nat) (Option.none : Option Jvm.ClassFile.FieldType)) ∈ lw_all := lw_g (lw_at lw_m3 229 rfl) rfl
theorem q827 : (Jvm.Cond.methodLinkNest "LeftUndoes$Not" (1 : Nat) ({ cls := "LeftUndoes$Cond", name := "<init>", desc := "()V" } : Jvm.MethodName) "LeftUndoes") ∈ lw_tbl := lw_at lw_m3 230 rfl
theorem q831 : (Jvm.Cond.fieldLink "LeftUndoes$Not" (7 : Nat) "LeftUndoes$Not" "of" "LLeftUndoes$Cond;") ∈ lw_all := lw_g (lw_at lw_m3 234 rfl) rfl
theorem q832 : (Jvm.Cond.laysFinal "LeftUndoes$Not" "LeftUndoes$Not" "of" "LLeftUndoes$Cond;") ∈ lw_all := lw_g (lw_at lw_m3 235 rfl) rfl
theorem q833 : (Jvm.Cond.soleField "LeftUndoes$Not" "of") ∈ lw_all := lw_g (lw_at lw_m3 236 rfl) rfl
theorem q834 : (Jvm.Cond.superclass "LeftUndoes$Not" "LeftUndoes$Cond") ∈ lw_all := lw_g (lw_at lw_m3 237 rfl) rfl
theorem in_X14 : ∀ w ∈ wsX140, w ∈ lw_all := lw_in wsX140 [832] (by decide +kernel) (by decide +kernel)
/-! LeftUndoes$Value -/
set_option maxRecDepth 100000
def RX15 : String := "LeftUndoes$Value"
def TX15 : u_T := fun k => match k with
  | 0 => ("LeftUndoes$Value", "fact", "I", true)
  | _ => ("LeftUndoes$Value", "n", "I", true)
def tyX15 : Nat → FieldType := fun k => match k with
  | 0 => .int
  | _ => .int
abbrev wsX150 : List Cond := u_ws RX15 TX15 2
theorem nmX15 : ∀ a, a < 2 → ∀ b, b < 2 → a ≠ b → (TX15 a).2.1 ≠ (TX15 b).2.1 := by decide +kernel
theorem tyX15_ok : ∀ k, k < 2 → parseFieldDescriptor (TX15 k).2.2.1 = some (tyX15 k) := by decide +kernel
abbrev cX15_of : ByteArray := prog_24_method_2_code
def yX15_of : MethodName := ⟨RX15, "of", "([I)I"⟩
def dkwX15_of_0 : List UInt8 := [42, 180, 0, 7, 156, 0, 10, 42, 180, 0, 13, 167, 0, 9, 43, 42, 180, 0, 7, 46, 172]
abbrev dktX15_of_0 : List UInt8 := dkwX15_of_0 ++ []
theorem dksX15_of_0 : cX15_of.data.toList.drop 0 = dktX15_of_0 := by decide +kernel
theorem dX15_of_0 : decode cX15_of 0 = .ok (.aload_n 0, 1) := dk_42 (dk_at dksX15_of_0 0 rfl rfl)
theorem dX15_of_1 : decode cX15_of 1 = .ok (.getfield 7, 3) := dk_180 0 7 (dk_at dksX15_of_0 1 rfl rfl)
theorem dX15_of_4 : decode cX15_of 4 = .ok (.ifCond .ge 10, 3) := dk_156 0 10 (dk_at dksX15_of_0 4 rfl rfl)
theorem dX15_of_7 : decode cX15_of 7 = .ok (.aload_n 0, 1) := dk_42 (dk_at dksX15_of_0 7 rfl rfl)
theorem dX15_of_8 : decode cX15_of 8 = .ok (.getfield 13, 3) := dk_180 0 13 (dk_at dksX15_of_0 8 rfl rfl)
theorem dX15_of_11 : decode cX15_of 11 = .ok (.goto 9, 3) := dk_167 0 9 (dk_at dksX15_of_0 11 rfl rfl)
theorem dX15_of_14 : decode cX15_of 14 = .ok (.aload_n 1, 1) := dk_43 (dk_at dksX15_of_0 14 rfl rfl)
theorem dX15_of_15 : decode cX15_of 15 = .ok (.aload_n 0, 1) := dk_42 (dk_at dksX15_of_0 15 rfl rfl)
theorem dX15_of_16 : decode cX15_of 16 = .ok (.getfield 7, 3) := dk_180 0 7 (dk_at dksX15_of_0 16 rfl rfl)
theorem dX15_of_19 : decode cX15_of 19 = .ok (.iaload, 1) := dk_46 (dk_at dksX15_of_0 19 rfl rfl)
theorem dX15_of_20 : decode cX15_of 20 = .ok (.ireturn, 1) := dk_172 (dk_at dksX15_of_0 20 rfl rfl)
abbrev cX15_init : ByteArray := prog_24_method_1_code
def yX15_init : MethodName := ⟨RX15, "<init>", "(II)V"⟩
def dkwX15_init_0 : List UInt8 := [42, 183, 0, 1, 42, 27, 181, 0, 7, 42, 28, 181, 0, 13, 177]
abbrev dktX15_init_0 : List UInt8 := dkwX15_init_0 ++ []
theorem dksX15_init_0 : cX15_init.data.toList.drop 0 = dktX15_init_0 := by decide +kernel
theorem dX15_init_0 : decode cX15_init 0 = .ok (.aload_n 0, 1) := dk_42 (dk_at dksX15_init_0 0 rfl rfl)
theorem dX15_init_1 : decode cX15_init 1 = .ok (.invokespecial 1, 3) := dk_183 0 1 (dk_at dksX15_init_0 1 rfl rfl)
theorem dX15_init_4 : decode cX15_init 4 = .ok (.aload_n 0, 1) := dk_42 (dk_at dksX15_init_0 4 rfl rfl)
theorem dX15_init_5 : decode cX15_init 5 = .ok (.iload_n 1, 1) := dk_27 (dk_at dksX15_init_0 5 rfl rfl)
theorem dX15_init_6 : decode cX15_init 6 = .ok (.putfield 7, 3) := dk_181 0 7 (dk_at dksX15_init_0 6 rfl rfl)
theorem dX15_init_9 : decode cX15_init 9 = .ok (.aload_n 0, 1) := dk_42 (dk_at dksX15_init_0 9 rfl rfl)
theorem dX15_init_10 : decode cX15_init 10 = .ok (.iload_n 2, 1) := dk_28 (dk_at dksX15_init_0 10 rfl rfl)
theorem dX15_init_11 : decode cX15_init 11 = .ok (.putfield 13, 3) := dk_181 0 13 (dk_at dksX15_init_0 11 rfl rfl)
theorem dX15_init_14 : decode cX15_init 14 = .ok (.return_, 1) := dk_177 (dk_at dksX15_init_0 14 rfl rfl)
theorem q140 : (Jvm.Cond.initialized "LeftUndoes$Value") ∈ lw_all := lw_g (lw_at lw_m1 23 rfl) rfl
theorem q634 : (Jvm.Cond.instanceMethod ({ cls := "LeftUndoes$Value", name := "of", desc := "([I)I" } : Jvm.MethodName)) ∈ lw_all := lw_g (lw_at lw_m3 37 rfl) rfl
theorem q635 : (Jvm.Cond.selects "LeftUndoes$Value" ({ cls := "LeftUndoes$Value", name := "of", desc := "([I)I" } : Jvm.MethodName) ({ cls := "LeftUndoes$Value", name := "of", desc := "([I)I" } : Jvm.MethodName)) ∈ lw_all := lw_g (lw_at lw_m3 38 rfl) rfl
theorem q636 : (Jvm.Cond.code ({ cls := "LeftUndoes$Value", name := "of", desc := "([I)I" } : Jvm.MethodName) prog_24_method_2_code (2 : Nat) (Option.some Jvm.ClassFile.FieldType.int)) ∈ lw_all := lw_g (lw_at lw_m3 39 rfl) rfl
theorem q846 : (Jvm.Cond.instantiable "LeftUndoes$Value" (2 : Nat)) ∈ lw_all := lw_g (lw_at lw_m4 9 rfl) rfl
theorem q848 : (Jvm.Cond.instanceMethod ({ cls := "LeftUndoes$Value", name := "<init>", desc := "(II)V" } : Jvm.MethodName)) ∈ lw_all := lw_g (lw_at lw_m4 11 rfl) rfl
theorem q849 : (Jvm.Cond.code ({ cls := "LeftUndoes$Value", name := "<init>", desc := "(II)V" } : Jvm.MethodName) prog_24_method_1_code (3 : Nat) (Option.none : Option Jvm.ClassFile.FieldType)) ∈ lw_all := lw_g (lw_at lw_m4 12 rfl) rfl
theorem q850 : (Jvm.Cond.methodLink "LeftUndoes$Value" (1 : Nat) ({ cls := "java/lang/Object", name := "<init>", desc := "()V" } : Jvm.MethodName)) ∈ lw_all := lw_g (lw_at lw_m4 13 rfl) rfl
theorem q851 : (Jvm.Cond.fieldLink "LeftUndoes$Value" (7 : Nat) "LeftUndoes$Value" "fact" "I") ∈ lw_all := lw_g (lw_at lw_m4 14 rfl) rfl
theorem q852 : (Jvm.Cond.fieldLink "LeftUndoes$Value" (13 : Nat) "LeftUndoes$Value" "n" "I") ∈ lw_all := lw_g (lw_at lw_m4 15 rfl) rfl
theorem q853 : (Jvm.Cond.laysFinal "LeftUndoes$Value" "LeftUndoes$Value" "fact" "I") ∈ lw_all := lw_g (lw_at lw_m4 16 rfl) rfl
theorem q854 : (Jvm.Cond.soleField "LeftUndoes$Value" "fact") ∈ lw_all := lw_g (lw_at lw_m4 17 rfl) rfl
theorem q855 : (Jvm.Cond.laysFinal "LeftUndoes$Value" "LeftUndoes$Value" "n" "I") ∈ lw_all := lw_g (lw_at lw_m4 18 rfl) rfl
theorem q856 : (Jvm.Cond.soleField "LeftUndoes$Value" "n") ∈ lw_all := lw_g (lw_at lw_m4 19 rfl) rfl
theorem q857 : (Jvm.Cond.superclass "LeftUndoes$Value" "java/lang/Object") ∈ lw_all := lw_g (lw_at lw_m4 20 rfl) rfl
theorem in_X15 : ∀ w ∈ wsX150, w ∈ lw_all := lw_in wsX150 [853, 855] (by decide +kernel) (by decide +kernel)
/-! LeftUndoes$Asks -/
set_option maxRecDepth 100000
def RX16 : String := "LeftUndoes$Asks"
def TX16 : u_T := fun k => match k with
  | 0 => ("LeftUndoes$Asks", "first", "LLeftUndoes$Value;", true)
  | 1 => ("LeftUndoes$Asks", "second", "LLeftUndoes$Value;", true)
  | _ => ("LeftUndoes$Asks", "sign", "I", true)
def tyX16 : Nat → FieldType := fun k => match k with
  | 0 => .object "LeftUndoes$Value"
  | 1 => .object "LeftUndoes$Value"
  | _ => .int
abbrev wsX160 : List Cond := u_ws RX16 TX16 3
theorem nmX16 : ∀ a, a < 3 → ∀ b, b < 3 → a ≠ b → (TX16 a).2.1 ≠ (TX16 b).2.1 := by decide +kernel
theorem tyX16_ok : ∀ k, k < 3 → parseFieldDescriptor (TX16 k).2.2.1 = some (tyX16 k) := by decide +kernel
abbrev cX16_holds : ByteArray := prog_3_method_2_code
def yX16_holds : MethodName := ⟨RX16, "holds", "([I)Z"⟩
def dkwX16_holds_3 : List UInt8 := [167, 0, 4, 3, 172]
abbrev dktX16_holds_3 : List UInt8 := dkwX16_holds_3 ++ []
def dkwX16_holds_2 : List UInt8 := [160, 0, 16, 28, 29, 160, 0, 7, 4, 167, 0, 17, 3, 167, 0, 13, 28, 29, 164, 0, 7, 4]
abbrev dktX16_holds_2 : List UInt8 := dkwX16_holds_2 ++ dktX16_holds_3
def dkwX16_holds_1 : List UInt8 := [160, 0, 16, 28, 29, 162, 0, 7, 4, 167, 0, 39, 3, 167, 0, 35, 42, 180, 0, 13, 16, 61]
abbrev dktX16_holds_1 : List UInt8 := dkwX16_holds_1 ++ dktX16_holds_2
def dkwX16_holds_0 : List UInt8 := [42, 180, 0, 7, 43, 182, 0, 20, 61, 42, 180, 0, 17, 43, 182, 0, 20, 62, 42, 180, 0, 13, 16, 60]
abbrev dktX16_holds_0 : List UInt8 := dkwX16_holds_0 ++ dktX16_holds_1
theorem dksX16_holds_0 : cX16_holds.data.toList.drop 0 = dktX16_holds_0 := by decide +kernel
theorem dksX16_holds_1 : cX16_holds.data.toList.drop 24 = dktX16_holds_1 := dk_seg dksX16_holds_0 24 rfl rfl
theorem dksX16_holds_2 : cX16_holds.data.toList.drop 46 = dktX16_holds_2 := dk_seg dksX16_holds_1 22 rfl rfl
theorem dksX16_holds_3 : cX16_holds.data.toList.drop 68 = dktX16_holds_3 := dk_seg dksX16_holds_2 22 rfl rfl
theorem dX16_holds_0 : decode cX16_holds 0 = .ok (.aload_n 0, 1) := dk_42 (dk_at dksX16_holds_0 0 rfl rfl)
theorem dX16_holds_1 : decode cX16_holds 1 = .ok (.getfield 7, 3) := dk_180 0 7 (dk_at dksX16_holds_0 1 rfl rfl)
theorem dX16_holds_4 : decode cX16_holds 4 = .ok (.aload_n 1, 1) := dk_43 (dk_at dksX16_holds_0 4 rfl rfl)
theorem dX16_holds_5 : decode cX16_holds 5 = .ok (.invokevirtual 20, 3) := dk_182 0 20 (dk_at dksX16_holds_0 5 rfl rfl)
theorem dX16_holds_8 : decode cX16_holds 8 = .ok (.istore_n 2, 1) := dk_61 (dk_at dksX16_holds_0 8 rfl rfl)
theorem dX16_holds_9 : decode cX16_holds 9 = .ok (.aload_n 0, 1) := dk_42 (dk_at dksX16_holds_0 9 rfl rfl)
theorem dX16_holds_10 : decode cX16_holds 10 = .ok (.getfield 17, 3) := dk_180 0 17 (dk_at dksX16_holds_0 10 rfl rfl)
theorem dX16_holds_13 : decode cX16_holds 13 = .ok (.aload_n 1, 1) := dk_43 (dk_at dksX16_holds_0 13 rfl rfl)
theorem dX16_holds_14 : decode cX16_holds 14 = .ok (.invokevirtual 20, 3) := dk_182 0 20 (dk_at dksX16_holds_0 14 rfl rfl)
theorem dX16_holds_17 : decode cX16_holds 17 = .ok (.istore_n 3, 1) := dk_62 (dk_at dksX16_holds_0 17 rfl rfl)
theorem dX16_holds_18 : decode cX16_holds 18 = .ok (.aload_n 0, 1) := dk_42 (dk_at dksX16_holds_0 18 rfl rfl)
theorem dX16_holds_19 : decode cX16_holds 19 = .ok (.getfield 13, 3) := dk_180 0 13 (dk_at dksX16_holds_0 19 rfl rfl)
theorem dX16_holds_22 : decode cX16_holds 22 = .ok (.bipush 60, 2) := dk_16 60 (dk_at dksX16_holds_0 22 rfl rfl)
theorem dX16_holds_24 : decode cX16_holds 24 = .ok (.if_icmp .ne 16, 3) := dk_160 0 16 (dk_at dksX16_holds_1 0 rfl rfl)
theorem dX16_holds_27 : decode cX16_holds 27 = .ok (.iload_n 2, 1) := dk_28 (dk_at dksX16_holds_1 3 rfl rfl)
theorem dX16_holds_28 : decode cX16_holds 28 = .ok (.iload_n 3, 1) := dk_29 (dk_at dksX16_holds_1 4 rfl rfl)
theorem dX16_holds_29 : decode cX16_holds 29 = .ok (.if_icmp .ge 7, 3) := dk_162 0 7 (dk_at dksX16_holds_1 5 rfl rfl)
theorem dX16_holds_32 : decode cX16_holds 32 = .ok (.iconst 1, 1) := dk_4 (dk_at dksX16_holds_1 8 rfl rfl)
theorem dX16_holds_33 : decode cX16_holds 33 = .ok (.goto 39, 3) := dk_167 0 39 (dk_at dksX16_holds_1 9 rfl rfl)
theorem dX16_holds_36 : decode cX16_holds 36 = .ok (.iconst 0, 1) := dk_3 (dk_at dksX16_holds_1 12 rfl rfl)
theorem dX16_holds_37 : decode cX16_holds 37 = .ok (.goto 35, 3) := dk_167 0 35 (dk_at dksX16_holds_1 13 rfl rfl)
theorem dX16_holds_40 : decode cX16_holds 40 = .ok (.aload_n 0, 1) := dk_42 (dk_at dksX16_holds_1 16 rfl rfl)
theorem dX16_holds_41 : decode cX16_holds 41 = .ok (.getfield 13, 3) := dk_180 0 13 (dk_at dksX16_holds_1 17 rfl rfl)
theorem dX16_holds_44 : decode cX16_holds 44 = .ok (.bipush 61, 2) := dk_16 61 (dk_at dksX16_holds_1 20 rfl rfl)
theorem dX16_holds_46 : decode cX16_holds 46 = .ok (.if_icmp .ne 16, 3) := dk_160 0 16 (dk_at dksX16_holds_2 0 rfl rfl)
theorem dX16_holds_49 : decode cX16_holds 49 = .ok (.iload_n 2, 1) := dk_28 (dk_at dksX16_holds_2 3 rfl rfl)
theorem dX16_holds_50 : decode cX16_holds 50 = .ok (.iload_n 3, 1) := dk_29 (dk_at dksX16_holds_2 4 rfl rfl)
theorem dX16_holds_51 : decode cX16_holds 51 = .ok (.if_icmp .ne 7, 3) := dk_160 0 7 (dk_at dksX16_holds_2 5 rfl rfl)
theorem dX16_holds_54 : decode cX16_holds 54 = .ok (.iconst 1, 1) := dk_4 (dk_at dksX16_holds_2 8 rfl rfl)
theorem dX16_holds_55 : decode cX16_holds 55 = .ok (.goto 17, 3) := dk_167 0 17 (dk_at dksX16_holds_2 9 rfl rfl)
theorem dX16_holds_58 : decode cX16_holds 58 = .ok (.iconst 0, 1) := dk_3 (dk_at dksX16_holds_2 12 rfl rfl)
theorem dX16_holds_59 : decode cX16_holds 59 = .ok (.goto 13, 3) := dk_167 0 13 (dk_at dksX16_holds_2 13 rfl rfl)
theorem dX16_holds_62 : decode cX16_holds 62 = .ok (.iload_n 2, 1) := dk_28 (dk_at dksX16_holds_2 16 rfl rfl)
theorem dX16_holds_63 : decode cX16_holds 63 = .ok (.iload_n 3, 1) := dk_29 (dk_at dksX16_holds_2 17 rfl rfl)
theorem dX16_holds_64 : decode cX16_holds 64 = .ok (.if_icmp .le 7, 3) := dk_164 0 7 (dk_at dksX16_holds_2 18 rfl rfl)
theorem dX16_holds_67 : decode cX16_holds 67 = .ok (.iconst 1, 1) := dk_4 (dk_at dksX16_holds_2 21 rfl rfl)
theorem dX16_holds_68 : decode cX16_holds 68 = .ok (.goto 4, 3) := dk_167 0 4 (dk_at dksX16_holds_3 0 rfl rfl)
theorem dX16_holds_71 : decode cX16_holds 71 = .ok (.iconst 0, 1) := dk_3 (dk_at dksX16_holds_3 3 rfl rfl)
theorem dX16_holds_72 : decode cX16_holds 72 = .ok (.ireturn, 1) := dk_172 (dk_at dksX16_holds_3 4 rfl rfl)
abbrev cX16_init : ByteArray := prog_3_method_1_code
def yX16_init : MethodName := ⟨RX16, "<init>", "(LLeftUndoes$Value;ILLeftUndoes$Value;)V"⟩
def dkwX16_init_0 : List UInt8 := [42, 183, 0, 1, 42, 43, 181, 0, 7, 42, 28, 181, 0, 13, 42, 45, 181, 0, 17, 177]
abbrev dktX16_init_0 : List UInt8 := dkwX16_init_0 ++ []
theorem dksX16_init_0 : cX16_init.data.toList.drop 0 = dktX16_init_0 := by decide +kernel
theorem dX16_init_0 : decode cX16_init 0 = .ok (.aload_n 0, 1) := dk_42 (dk_at dksX16_init_0 0 rfl rfl)
theorem dX16_init_1 : decode cX16_init 1 = .ok (.invokespecial 1, 3) := dk_183 0 1 (dk_at dksX16_init_0 1 rfl rfl)
theorem dX16_init_4 : decode cX16_init 4 = .ok (.aload_n 0, 1) := dk_42 (dk_at dksX16_init_0 4 rfl rfl)
theorem dX16_init_5 : decode cX16_init 5 = .ok (.aload_n 1, 1) := dk_43 (dk_at dksX16_init_0 5 rfl rfl)
theorem dX16_init_6 : decode cX16_init 6 = .ok (.putfield 7, 3) := dk_181 0 7 (dk_at dksX16_init_0 6 rfl rfl)
theorem dX16_init_9 : decode cX16_init 9 = .ok (.aload_n 0, 1) := dk_42 (dk_at dksX16_init_0 9 rfl rfl)
theorem dX16_init_10 : decode cX16_init 10 = .ok (.iload_n 2, 1) := dk_28 (dk_at dksX16_init_0 10 rfl rfl)
theorem dX16_init_11 : decode cX16_init 11 = .ok (.putfield 13, 3) := dk_181 0 13 (dk_at dksX16_init_0 11 rfl rfl)
theorem dX16_init_14 : decode cX16_init 14 = .ok (.aload_n 0, 1) := dk_42 (dk_at dksX16_init_0 14 rfl rfl)
theorem dX16_init_15 : decode cX16_init 15 = .ok (.aload_n 3, 1) := dk_45 (dk_at dksX16_init_0 15 rfl rfl)
theorem dX16_init_16 : decode cX16_init 16 = .ok (.putfield 17, 3) := dk_181 0 17 (dk_at dksX16_init_0 16 rfl rfl)
theorem dX16_init_19 : decode cX16_init 19 = .ok (.return_, 1) := dk_177 (dk_at dksX16_init_0 19 rfl rfl)
theorem q141 : (Jvm.Cond.initialized "LeftUndoes$Asks") ∈ lw_all := lw_g (lw_at lw_m1 24 rfl) rfl
theorem q631 : (Jvm.Cond.instanceMethod ({ cls := "LeftUndoes$Asks", name := "holds", desc := "([I)Z" } : Jvm.MethodName)) ∈ lw_all := lw_g (lw_at lw_m3 34 rfl) rfl
theorem q632 : (Jvm.Cond.code ({ cls := "LeftUndoes$Asks", name := "holds", desc := "([I)Z" } : Jvm.MethodName) prog_3_method_2_code (4 : Nat) (Option.some Jvm.ClassFile.FieldType.boolean)) ∈ lw_all := lw_g (lw_at lw_m3 35 rfl) rfl
theorem q633 : (Jvm.Cond.methodLink "LeftUndoes$Asks" (20 : Nat) ({ cls := "LeftUndoes$Value", name := "of", desc := "([I)I" } : Jvm.MethodName)) ∈ lw_all := lw_g (lw_at lw_m3 36 rfl) rfl
theorem q643 : (Jvm.Cond.selects "LeftUndoes$Asks" ({ cls := "LeftUndoes$Cond", name := "holds", desc := "([I)Z" } : Jvm.MethodName) ({ cls := "LeftUndoes$Asks", name := "holds", desc := "([I)Z" } : Jvm.MethodName)) ∈ lw_all := lw_g (lw_at lw_m3 46 rfl) rfl
theorem q863 : (Jvm.Cond.instantiable "LeftUndoes$Asks" (3 : Nat)) ∈ lw_all := lw_g (lw_at lw_m4 26 rfl) rfl
theorem q865 : (Jvm.Cond.instanceMethod ({ cls := "LeftUndoes$Asks", name := "<init>", desc := "(LLeftUndoes$Value;ILLeftUndoes$Value;)V" } : Jvm.MethodName)) ∈ lw_all := lw_g (lw_at lw_m4 28 rfl) rfl
theorem q866 : (Jvm.Cond.code ({ cls := "LeftUndoes$Asks", name := "<init>", desc := "(LLeftUndoes$Value;ILLeftUndoes$Value;)V" } : Jvm.MethodName) prog_3_method_1_code (4 : Nat) (Option.none : Option Jvm.ClassFile.FieldType)) ∈ lw_all := lw_g (lw_at lw_m4 29 rfl) rfl
theorem q867 : (Jvm.Cond.methodLinkNest "LeftUndoes$Asks" (1 : Nat) ({ cls := "LeftUndoes$Cond", name := "<init>", desc := "()V" } : Jvm.MethodName) "LeftUndoes") ∈ lw_tbl := lw_at lw_m4 30 rfl
theorem q868 : (Jvm.Cond.fieldLink "LeftUndoes$Asks" (7 : Nat) "LeftUndoes$Asks" "first" "LLeftUndoes$Value;") ∈ lw_all := lw_g (lw_at lw_m4 31 rfl) rfl
theorem q869 : (Jvm.Cond.fieldLink "LeftUndoes$Asks" (17 : Nat) "LeftUndoes$Asks" "second" "LLeftUndoes$Value;") ∈ lw_all := lw_g (lw_at lw_m4 32 rfl) rfl
theorem q870 : (Jvm.Cond.fieldLink "LeftUndoes$Asks" (13 : Nat) "LeftUndoes$Asks" "sign" "I") ∈ lw_all := lw_g (lw_at lw_m4 33 rfl) rfl
theorem q871 : (Jvm.Cond.laysFinal "LeftUndoes$Asks" "LeftUndoes$Asks" "first" "LLeftUndoes$Value;") ∈ lw_all := lw_g (lw_at lw_m4 34 rfl) rfl
theorem q872 : (Jvm.Cond.soleField "LeftUndoes$Asks" "first") ∈ lw_all := lw_g (lw_at lw_m4 35 rfl) rfl
theorem q873 : (Jvm.Cond.laysFinal "LeftUndoes$Asks" "LeftUndoes$Asks" "second" "LLeftUndoes$Value;") ∈ lw_all := lw_g (lw_at lw_m4 36 rfl) rfl
theorem q874 : (Jvm.Cond.soleField "LeftUndoes$Asks" "second") ∈ lw_all := lw_g (lw_at lw_m4 37 rfl) rfl
theorem q875 : (Jvm.Cond.laysFinal "LeftUndoes$Asks" "LeftUndoes$Asks" "sign" "I") ∈ lw_all := lw_g (lw_at lw_m4 38 rfl) rfl
theorem q876 : (Jvm.Cond.soleField "LeftUndoes$Asks" "sign") ∈ lw_all := lw_g (lw_at lw_m4 39 rfl) rfl
theorem q877 : (Jvm.Cond.superclass "LeftUndoes$Asks" "LeftUndoes$Cond") ∈ lw_all := lw_g (lw_at lw_m4 40 rfl) rfl
theorem in_X16 : ∀ w ∈ wsX160, w ∈ lw_all := lw_in wsX160 [871, 873, 875] (by decide +kernel) (by decide +kernel)
/-! LeftUndoes$All -/
set_option maxRecDepth 100000
def RX17 : String := "LeftUndoes$All"
def TX17 : u_T := fun k => match k with
  | 0 => ("LeftUndoes$All", "first", "LLeftUndoes$Cond;", true)
  | _ => ("LeftUndoes$All", "second", "LLeftUndoes$Cond;", true)
def tyX17 : Nat → FieldType := fun k => match k with
  | 0 => .object "LeftUndoes$Cond"
  | _ => .object "LeftUndoes$Cond"
abbrev wsX170 : List Cond := u_ws RX17 TX17 2
theorem nmX17 : ∀ a, a < 2 → ∀ b, b < 2 → a ≠ b → (TX17 a).2.1 ≠ (TX17 b).2.1 := by decide +kernel
theorem tyX17_ok : ∀ k, k < 2 → parseFieldDescriptor (TX17 k).2.2.1 = some (tyX17 k) := by decide +kernel
abbrev cX17_holds : ByteArray := prog_2_method_2_code
def yX17_holds : MethodName := ⟨RX17, "holds", "([I)Z"⟩
def dkwX17_holds_1 : List UInt8 := [167, 0, 4, 3, 172]
abbrev dktX17_holds_1 : List UInt8 := dkwX17_holds_1 ++ []
def dkwX17_holds_0 : List UInt8 := [42, 180, 0, 7, 43, 182, 0, 16, 153, 0, 18, 42, 180, 0, 13, 43, 182, 0, 16, 153, 0, 7, 4]
abbrev dktX17_holds_0 : List UInt8 := dkwX17_holds_0 ++ dktX17_holds_1
theorem dksX17_holds_0 : cX17_holds.data.toList.drop 0 = dktX17_holds_0 := by decide +kernel
theorem dksX17_holds_1 : cX17_holds.data.toList.drop 23 = dktX17_holds_1 := dk_seg dksX17_holds_0 23 rfl rfl
theorem dX17_holds_0 : decode cX17_holds 0 = .ok (.aload_n 0, 1) := dk_42 (dk_at dksX17_holds_0 0 rfl rfl)
theorem dX17_holds_1 : decode cX17_holds 1 = .ok (.getfield 7, 3) := dk_180 0 7 (dk_at dksX17_holds_0 1 rfl rfl)
theorem dX17_holds_4 : decode cX17_holds 4 = .ok (.aload_n 1, 1) := dk_43 (dk_at dksX17_holds_0 4 rfl rfl)
theorem dX17_holds_5 : decode cX17_holds 5 = .ok (.invokevirtual 16, 3) := dk_182 0 16 (dk_at dksX17_holds_0 5 rfl rfl)
theorem dX17_holds_8 : decode cX17_holds 8 = .ok (.ifCond .eq 18, 3) := dk_153 0 18 (dk_at dksX17_holds_0 8 rfl rfl)
theorem dX17_holds_11 : decode cX17_holds 11 = .ok (.aload_n 0, 1) := dk_42 (dk_at dksX17_holds_0 11 rfl rfl)
theorem dX17_holds_12 : decode cX17_holds 12 = .ok (.getfield 13, 3) := dk_180 0 13 (dk_at dksX17_holds_0 12 rfl rfl)
theorem dX17_holds_15 : decode cX17_holds 15 = .ok (.aload_n 1, 1) := dk_43 (dk_at dksX17_holds_0 15 rfl rfl)
theorem dX17_holds_16 : decode cX17_holds 16 = .ok (.invokevirtual 16, 3) := dk_182 0 16 (dk_at dksX17_holds_0 16 rfl rfl)
theorem dX17_holds_19 : decode cX17_holds 19 = .ok (.ifCond .eq 7, 3) := dk_153 0 7 (dk_at dksX17_holds_0 19 rfl rfl)
theorem dX17_holds_22 : decode cX17_holds 22 = .ok (.iconst 1, 1) := dk_4 (dk_at dksX17_holds_0 22 rfl rfl)
theorem dX17_holds_23 : decode cX17_holds 23 = .ok (.goto 4, 3) := dk_167 0 4 (dk_at dksX17_holds_1 0 rfl rfl)
theorem dX17_holds_26 : decode cX17_holds 26 = .ok (.iconst 0, 1) := dk_3 (dk_at dksX17_holds_1 3 rfl rfl)
theorem dX17_holds_27 : decode cX17_holds 27 = .ok (.ireturn, 1) := dk_172 (dk_at dksX17_holds_1 4 rfl rfl)
abbrev cX17_init : ByteArray := prog_2_method_1_code
def yX17_init : MethodName := ⟨RX17, "<init>", "(LLeftUndoes$Cond;LLeftUndoes$Cond;)V"⟩
def dkwX17_init_0 : List UInt8 := [42, 183, 0, 1, 42, 43, 181, 0, 7, 42, 44, 181, 0, 13, 177]
abbrev dktX17_init_0 : List UInt8 := dkwX17_init_0 ++ []
theorem dksX17_init_0 : cX17_init.data.toList.drop 0 = dktX17_init_0 := by decide +kernel
theorem dX17_init_0 : decode cX17_init 0 = .ok (.aload_n 0, 1) := dk_42 (dk_at dksX17_init_0 0 rfl rfl)
theorem dX17_init_1 : decode cX17_init 1 = .ok (.invokespecial 1, 3) := dk_183 0 1 (dk_at dksX17_init_0 1 rfl rfl)
theorem dX17_init_4 : decode cX17_init 4 = .ok (.aload_n 0, 1) := dk_42 (dk_at dksX17_init_0 4 rfl rfl)
theorem dX17_init_5 : decode cX17_init 5 = .ok (.aload_n 1, 1) := dk_43 (dk_at dksX17_init_0 5 rfl rfl)
theorem dX17_init_6 : decode cX17_init 6 = .ok (.putfield 7, 3) := dk_181 0 7 (dk_at dksX17_init_0 6 rfl rfl)
theorem dX17_init_9 : decode cX17_init 9 = .ok (.aload_n 0, 1) := dk_42 (dk_at dksX17_init_0 9 rfl rfl)
theorem dX17_init_10 : decode cX17_init 10 = .ok (.aload_n 2, 1) := dk_44 (dk_at dksX17_init_0 10 rfl rfl)
theorem dX17_init_11 : decode cX17_init 11 = .ok (.putfield 13, 3) := dk_181 0 13 (dk_at dksX17_init_0 11 rfl rfl)
theorem dX17_init_14 : decode cX17_init 14 = .ok (.return_, 1) := dk_177 (dk_at dksX17_init_0 14 rfl rfl)
theorem q142 : (Jvm.Cond.initialized "LeftUndoes$All") ∈ lw_all := lw_g (lw_at lw_m1 25 rfl) rfl
theorem q627 : (Jvm.Cond.selects "LeftUndoes$All" ({ cls := "LeftUndoes$Cond", name := "holds", desc := "([I)Z" } : Jvm.MethodName) ({ cls := "LeftUndoes$All", name := "holds", desc := "([I)Z" } : Jvm.MethodName)) ∈ lw_all := lw_g (lw_at lw_m3 30 rfl) rfl
theorem q628 : (Jvm.Cond.instanceMethod ({ cls := "LeftUndoes$All", name := "holds", desc := "([I)Z" } : Jvm.MethodName)) ∈ lw_all := lw_g (lw_at lw_m3 31 rfl) rfl
theorem q629 : (Jvm.Cond.code ({ cls := "LeftUndoes$All", name := "holds", desc := "([I)Z" } : Jvm.MethodName) prog_2_method_2_code (2 : Nat) (Option.some Jvm.ClassFile.FieldType.boolean)) ∈ lw_all := lw_g (lw_at lw_m3 32 rfl) rfl
theorem q630 : (Jvm.Cond.methodLink "LeftUndoes$All" (16 : Nat) ({ cls := "LeftUndoes$Cond", name := "holds", desc := "([I)Z" } : Jvm.MethodName)) ∈ lw_all := lw_g (lw_at lw_m3 33 rfl) rfl
theorem q880 : (Jvm.Cond.instantiable "LeftUndoes$All" (2 : Nat)) ∈ lw_all := lw_g (lw_at lw_m4 43 rfl) rfl
theorem q882 : (Jvm.Cond.instanceMethod ({ cls := "LeftUndoes$All", name := "<init>", desc := "(LLeftUndoes$Cond;LLeftUndoes$Cond;)V" } : Jvm.MethodName)) ∈ lw_all := lw_g (lw_at lw_m4 45 rfl) rfl
theorem q883 : (Jvm.Cond.code ({ cls := "LeftUndoes$All", name := "<init>", desc := "(LLeftUndoes$Cond;LLeftUndoes$Cond;)V" } : Jvm.MethodName) prog_2_method_1_code (3 : Nat) (Option.none : Option Jvm.ClassFile.FieldType)) ∈ lw_all := lw_g (lw_at lw_m4 46 rfl) rfl
theorem q884 : (Jvm.Cond.methodLinkNest "LeftUndoes$All" (1 : Nat) ({ cls := "LeftUndoes$Cond", name := "<init>", desc := "()V" } : Jvm.MethodName) "LeftUndoes") ∈ lw_tbl := lw_at lw_m4 47 rfl
theorem q885 : (Jvm.Cond.fieldLink "LeftUndoes$All" (7 : Nat) "LeftUndoes$All" "first" "LLeftUndoes$Cond;") ∈ lw_all := lw_g (lw_at lw_m4 48 rfl) rfl
theorem q888 : (Jvm.Cond.fieldLink "LeftUndoes$All" (13 : Nat) "LeftUndoes$All" "second" "LLeftUndoes$Cond;") ∈ lw_all := lw_g (lw_at lw_m4 51 rfl) rfl
theorem q891 : (Jvm.Cond.laysFinal "LeftUndoes$All" "LeftUndoes$All" "first" "LLeftUndoes$Cond;") ∈ lw_all := lw_g (lw_at lw_m4 54 rfl) rfl
theorem q892 : (Jvm.Cond.soleField "LeftUndoes$All" "first") ∈ lw_all := lw_g (lw_at lw_m4 55 rfl) rfl
theorem q893 : (Jvm.Cond.laysFinal "LeftUndoes$All" "LeftUndoes$All" "second" "LLeftUndoes$Cond;") ∈ lw_all := lw_g (lw_at lw_m4 56 rfl) rfl
theorem q894 : (Jvm.Cond.soleField "LeftUndoes$All" "second") ∈ lw_all := lw_g (lw_at lw_m4 57 rfl) rfl
theorem q895 : (Jvm.Cond.superclass "LeftUndoes$All" "LeftUndoes$Cond") ∈ lw_all := lw_g (lw_at lw_m4 58 rfl) rfl
theorem in_X17 : ∀ w ∈ wsX170, w ∈ lw_all := lw_in wsX170 [891, 893] (by decide +kernel) (by decide +kernel)
/-! LeftUndoes$Some -/
set_option maxRecDepth 100000
def RX18 : String := "LeftUndoes$Some"
def TX18 : u_T := fun k => match k with
  | 0 => ("LeftUndoes$All", "first", "LLeftUndoes$Cond;", true)
  | _ => ("LeftUndoes$All", "second", "LLeftUndoes$Cond;", true)
def tyX18 : Nat → FieldType := fun k => match k with
  | 0 => .object "LeftUndoes$Cond"
  | _ => .object "LeftUndoes$Cond"
abbrev wsX180 : List Cond := u_ws RX18 TX18 2
theorem nmX18 : ∀ a, a < 2 → ∀ b, b < 2 → a ≠ b → (TX18 a).2.1 ≠ (TX18 b).2.1 := by decide +kernel
theorem tyX18_ok : ∀ k, k < 2 → parseFieldDescriptor (TX18 k).2.2.1 = some (tyX18 k) := by decide +kernel
abbrev cX18_holds : ByteArray := prog_16_method_2_code
def yX18_holds : MethodName := ⟨RX18, "holds", "([I)Z"⟩
def dkwX18_holds_1 : List UInt8 := [167, 0, 4, 3, 172]
abbrev dktX18_holds_1 : List UInt8 := dkwX18_holds_1 ++ []
def dkwX18_holds_0 : List UInt8 := [42, 180, 0, 7, 43, 182, 0, 13, 154, 0, 14, 42, 180, 0, 19, 43, 182, 0, 13, 153, 0, 7, 4]
abbrev dktX18_holds_0 : List UInt8 := dkwX18_holds_0 ++ dktX18_holds_1
theorem dksX18_holds_0 : cX18_holds.data.toList.drop 0 = dktX18_holds_0 := by decide +kernel
theorem dksX18_holds_1 : cX18_holds.data.toList.drop 23 = dktX18_holds_1 := dk_seg dksX18_holds_0 23 rfl rfl
theorem dX18_holds_0 : decode cX18_holds 0 = .ok (.aload_n 0, 1) := dk_42 (dk_at dksX18_holds_0 0 rfl rfl)
theorem dX18_holds_1 : decode cX18_holds 1 = .ok (.getfield 7, 3) := dk_180 0 7 (dk_at dksX18_holds_0 1 rfl rfl)
theorem dX18_holds_4 : decode cX18_holds 4 = .ok (.aload_n 1, 1) := dk_43 (dk_at dksX18_holds_0 4 rfl rfl)
theorem dX18_holds_5 : decode cX18_holds 5 = .ok (.invokevirtual 13, 3) := dk_182 0 13 (dk_at dksX18_holds_0 5 rfl rfl)
theorem dX18_holds_8 : decode cX18_holds 8 = .ok (.ifCond .ne 14, 3) := dk_154 0 14 (dk_at dksX18_holds_0 8 rfl rfl)
theorem dX18_holds_11 : decode cX18_holds 11 = .ok (.aload_n 0, 1) := dk_42 (dk_at dksX18_holds_0 11 rfl rfl)
theorem dX18_holds_12 : decode cX18_holds 12 = .ok (.getfield 19, 3) := dk_180 0 19 (dk_at dksX18_holds_0 12 rfl rfl)
theorem dX18_holds_15 : decode cX18_holds 15 = .ok (.aload_n 1, 1) := dk_43 (dk_at dksX18_holds_0 15 rfl rfl)
theorem dX18_holds_16 : decode cX18_holds 16 = .ok (.invokevirtual 13, 3) := dk_182 0 13 (dk_at dksX18_holds_0 16 rfl rfl)
theorem dX18_holds_19 : decode cX18_holds 19 = .ok (.ifCond .eq 7, 3) := dk_153 0 7 (dk_at dksX18_holds_0 19 rfl rfl)
theorem dX18_holds_22 : decode cX18_holds 22 = .ok (.iconst 1, 1) := dk_4 (dk_at dksX18_holds_0 22 rfl rfl)
theorem dX18_holds_23 : decode cX18_holds 23 = .ok (.goto 4, 3) := dk_167 0 4 (dk_at dksX18_holds_1 0 rfl rfl)
theorem dX18_holds_26 : decode cX18_holds 26 = .ok (.iconst 0, 1) := dk_3 (dk_at dksX18_holds_1 3 rfl rfl)
theorem dX18_holds_27 : decode cX18_holds 27 = .ok (.ireturn, 1) := dk_172 (dk_at dksX18_holds_1 4 rfl rfl)
abbrev cX18_init : ByteArray := prog_16_method_1_code
def yX18_init : MethodName := ⟨RX18, "<init>", "(LLeftUndoes$Cond;LLeftUndoes$Cond;)V"⟩
def dkwX18_init_0 : List UInt8 := [42, 43, 44, 183, 0, 1, 177]
abbrev dktX18_init_0 : List UInt8 := dkwX18_init_0 ++ []
theorem dksX18_init_0 : cX18_init.data.toList.drop 0 = dktX18_init_0 := by decide +kernel
theorem dX18_init_0 : decode cX18_init 0 = .ok (.aload_n 0, 1) := dk_42 (dk_at dksX18_init_0 0 rfl rfl)
theorem dX18_init_1 : decode cX18_init 1 = .ok (.aload_n 1, 1) := dk_43 (dk_at dksX18_init_0 1 rfl rfl)
theorem dX18_init_2 : decode cX18_init 2 = .ok (.aload_n 2, 1) := dk_44 (dk_at dksX18_init_0 2 rfl rfl)
theorem dX18_init_3 : decode cX18_init 3 = .ok (.invokespecial 1, 3) := dk_183 0 1 (dk_at dksX18_init_0 3 rfl rfl)
theorem dX18_init_6 : decode cX18_init 6 = .ok (.return_, 1) := dk_177 (dk_at dksX18_init_0 6 rfl rfl)
theorem q143 : (Jvm.Cond.initialized "LeftUndoes$Some") ∈ lw_all := lw_g (lw_at lw_m1 26 rfl) rfl
theorem q640 : (Jvm.Cond.instanceMethod ({ cls := "LeftUndoes$Some", name := "holds", desc := "([I)Z" } : Jvm.MethodName)) ∈ lw_all := lw_g (lw_at lw_m3 43 rfl) rfl
theorem q641 : (Jvm.Cond.code ({ cls := "LeftUndoes$Some", name := "holds", desc := "([I)Z" } : Jvm.MethodName) prog_16_method_2_code (2 : Nat) (Option.some Jvm.ClassFile.FieldType.boolean)) ∈ lw_all := lw_g (lw_at lw_m3 44 rfl) rfl
theorem q642 : (Jvm.Cond.methodLink "LeftUndoes$Some" (13 : Nat) ({ cls := "LeftUndoes$Cond", name := "holds", desc := "([I)Z" } : Jvm.MethodName)) ∈ lw_all := lw_g (lw_at lw_m3 45 rfl) rfl
theorem q645 : (Jvm.Cond.selects "LeftUndoes$Some" ({ cls := "LeftUndoes$Cond", name := "holds", desc := "([I)Z" } : Jvm.MethodName) ({ cls := "LeftUndoes$Some", name := "holds", desc := "([I)Z" } : Jvm.MethodName)) ∈ lw_all := lw_g (lw_at lw_m3 48 rfl) rfl
theorem q886 : (Jvm.Cond.fieldLink "LeftUndoes$Some" (7 : Nat) "LeftUndoes$Some" "first" "LLeftUndoes$Cond;") ∈ lw_all := lw_g (lw_at lw_m4 49 rfl) rfl
theorem q887 : (Jvm.Cond.sameField "LeftUndoes$Some" "LeftUndoes$All" "first" "LLeftUndoes$Cond;") ∈ lw_all := lw_g (lw_at lw_m4 50 rfl) rfl
theorem q889 : (Jvm.Cond.fieldLink "LeftUndoes$Some" (19 : Nat) "LeftUndoes$Some" "second" "LLeftUndoes$Cond;") ∈ lw_all := lw_g (lw_at lw_m4 52 rfl) rfl
theorem q890 : (Jvm.Cond.sameField "LeftUndoes$Some" "LeftUndoes$All" "second" "LLeftUndoes$Cond;") ∈ lw_all := lw_g (lw_at lw_m4 53 rfl) rfl
theorem q898 : (Jvm.Cond.instantiable "LeftUndoes$Some" (2 : Nat)) ∈ lw_all := lw_g (lw_at lw_m4 61 rfl) rfl
theorem q900 : (Jvm.Cond.instanceMethod ({ cls := "LeftUndoes$Some", name := "<init>", desc := "(LLeftUndoes$Cond;LLeftUndoes$Cond;)V" } : Jvm.MethodName)) ∈ lw_all := lw_g (lw_at lw_m4 63 rfl) rfl
theorem q901 : (Jvm.Cond.code ({ cls := "LeftUndoes$Some", name := "<init>", desc := "(LLeftUndoes$Cond;LLeftUndoes$Cond;)V" } : Jvm.MethodName) prog_16_method_1_code (3 : Nat) (Option.none : Option Jvm.ClassFile.FieldType)) ∈ lw_all := lw_g (lw_at lw_m4 64 rfl) rfl
theorem q902 : (Jvm.Cond.methodLink "LeftUndoes$Some" (1 : Nat) ({ cls := "LeftUndoes$All", name := "<init>", desc := "(LLeftUndoes$Cond;LLeftUndoes$Cond;)V" } : Jvm.MethodName)) ∈ lw_all := lw_g (lw_at lw_m4 65 rfl) rfl
theorem q903 : (Jvm.Cond.laysFinal "LeftUndoes$Some" "LeftUndoes$All" "first" "LLeftUndoes$Cond;") ∈ lw_all := lw_g (lw_at lw_m4 66 rfl) rfl
theorem q904 : (Jvm.Cond.laysFinal "LeftUndoes$Some" "LeftUndoes$All" "second" "LLeftUndoes$Cond;") ∈ lw_all := lw_g (lw_at lw_m4 67 rfl) rfl
theorem q905 : (Jvm.Cond.superclass "LeftUndoes$Some" "LeftUndoes$All") ∈ lw_all := lw_g (lw_at lw_m4 68 rfl) rfl
theorem in_X18 : ∀ w ∈ wsX180, w ∈ lw_all := lw_in wsX180 [903, 904] (by decide +kernel) (by decide +kernel)
/-! LeftUndoes$Rule -/
set_option maxRecDepth 100000
def RX19 : String := "LeftUndoes$Rule"
def TX19 : u_T := fun k => match k with
  | 0 => ("LeftUndoes$Rule", "kind", "I", true)
  | 1 => ("LeftUndoes$Rule", "does", "I", true)
  | 2 => ("LeftUndoes$Rule", "n", "I", true)
  | _ => ("LeftUndoes$Rule", "cond", "LLeftUndoes$Cond;", true)
def tyX19 : Nat → FieldType := fun k => match k with
  | 0 => .int
  | 1 => .int
  | 2 => .int
  | _ => .object "LeftUndoes$Cond"
abbrev wsX190 : List Cond := u_ws RX19 TX19 4
theorem nmX19 : ∀ a, a < 4 → ∀ b, b < 4 → a ≠ b → (TX19 a).2.1 ≠ (TX19 b).2.1 := by decide +kernel
theorem tyX19_ok : ∀ k, k < 4 → parseFieldDescriptor (TX19 k).2.2.1 = some (tyX19 k) := by decide +kernel
abbrev cX19_isFor : ByteArray := prog_13_method_2_code
def yX19_isFor : MethodName := ⟨RX19, "isFor", "(I[I)Z"⟩
def dkwX19_isFor_1 : List UInt8 := [182, 0, 29, 153, 0, 7, 4, 167, 0, 4, 3, 172]
abbrev dktX19_isFor_1 : List UInt8 := dkwX19_isFor_1 ++ []
def dkwX19_isFor_0 : List UInt8 := [27, 42, 180, 0, 9, 184, 0, 25, 153, 0, 25, 42, 180, 0, 15, 198, 0, 14, 42, 180, 0, 15, 44]
abbrev dktX19_isFor_0 : List UInt8 := dkwX19_isFor_0 ++ dktX19_isFor_1
theorem dksX19_isFor_0 : cX19_isFor.data.toList.drop 0 = dktX19_isFor_0 := by decide +kernel
theorem dksX19_isFor_1 : cX19_isFor.data.toList.drop 23 = dktX19_isFor_1 := dk_seg dksX19_isFor_0 23 rfl rfl
theorem dX19_isFor_0 : decode cX19_isFor 0 = .ok (.iload_n 1, 1) := dk_27 (dk_at dksX19_isFor_0 0 rfl rfl)
theorem dX19_isFor_1 : decode cX19_isFor 1 = .ok (.aload_n 0, 1) := dk_42 (dk_at dksX19_isFor_0 1 rfl rfl)
theorem dX19_isFor_2 : decode cX19_isFor 2 = .ok (.getfield 9, 3) := dk_180 0 9 (dk_at dksX19_isFor_0 2 rfl rfl)
theorem dX19_isFor_5 : decode cX19_isFor 5 = .ok (.invokestatic 25, 3) := dk_184 0 25 (dk_at dksX19_isFor_0 5 rfl rfl)
theorem dX19_isFor_8 : decode cX19_isFor 8 = .ok (.ifCond .eq 25, 3) := dk_153 0 25 (dk_at dksX19_isFor_0 8 rfl rfl)
theorem dX19_isFor_11 : decode cX19_isFor 11 = .ok (.aload_n 0, 1) := dk_42 (dk_at dksX19_isFor_0 11 rfl rfl)
theorem dX19_isFor_12 : decode cX19_isFor 12 = .ok (.getfield 15, 3) := dk_180 0 15 (dk_at dksX19_isFor_0 12 rfl rfl)
theorem dX19_isFor_15 : decode cX19_isFor 15 = .ok (.ifnull 14, 3) := dk_198 0 14 (dk_at dksX19_isFor_0 15 rfl rfl)
theorem dX19_isFor_18 : decode cX19_isFor 18 = .ok (.aload_n 0, 1) := dk_42 (dk_at dksX19_isFor_0 18 rfl rfl)
theorem dX19_isFor_19 : decode cX19_isFor 19 = .ok (.getfield 15, 3) := dk_180 0 15 (dk_at dksX19_isFor_0 19 rfl rfl)
theorem dX19_isFor_22 : decode cX19_isFor 22 = .ok (.aload_n 2, 1) := dk_44 (dk_at dksX19_isFor_0 22 rfl rfl)
theorem dX19_isFor_23 : decode cX19_isFor 23 = .ok (.invokevirtual 29, 3) := dk_182 0 29 (dk_at dksX19_isFor_1 0 rfl rfl)
theorem dX19_isFor_26 : decode cX19_isFor 26 = .ok (.ifCond .eq 7, 3) := dk_153 0 7 (dk_at dksX19_isFor_1 3 rfl rfl)
theorem dX19_isFor_29 : decode cX19_isFor 29 = .ok (.iconst 1, 1) := dk_4 (dk_at dksX19_isFor_1 6 rfl rfl)
theorem dX19_isFor_30 : decode cX19_isFor 30 = .ok (.goto 4, 3) := dk_167 0 4 (dk_at dksX19_isFor_1 7 rfl rfl)
theorem dX19_isFor_33 : decode cX19_isFor 33 = .ok (.iconst 0, 1) := dk_3 (dk_at dksX19_isFor_1 10 rfl rfl)
theorem dX19_isFor_34 : decode cX19_isFor 34 = .ok (.ireturn, 1) := dk_172 (dk_at dksX19_isFor_1 11 rfl rfl)
abbrev cX19_reaches : ByteArray := prog_13_method_3_code
def yX19_reaches : MethodName := ⟨RX19, "reaches", "(I)I"⟩
def dkwX19_reaches_0 : List UInt8 := [42, 180, 0, 19, 154, 0, 12, 27, 42, 180, 0, 22, 96, 167, 0, 9, 27, 42, 180, 0, 22, 100, 172]
abbrev dktX19_reaches_0 : List UInt8 := dkwX19_reaches_0 ++ []
theorem dksX19_reaches_0 : cX19_reaches.data.toList.drop 0 = dktX19_reaches_0 := by decide +kernel
theorem dX19_reaches_0 : decode cX19_reaches 0 = .ok (.aload_n 0, 1) := dk_42 (dk_at dksX19_reaches_0 0 rfl rfl)
theorem dX19_reaches_1 : decode cX19_reaches 1 = .ok (.getfield 19, 3) := dk_180 0 19 (dk_at dksX19_reaches_0 1 rfl rfl)
theorem dX19_reaches_4 : decode cX19_reaches 4 = .ok (.ifCond .ne 12, 3) := dk_154 0 12 (dk_at dksX19_reaches_0 4 rfl rfl)
theorem dX19_reaches_7 : decode cX19_reaches 7 = .ok (.iload_n 1, 1) := dk_27 (dk_at dksX19_reaches_0 7 rfl rfl)
theorem dX19_reaches_8 : decode cX19_reaches 8 = .ok (.aload_n 0, 1) := dk_42 (dk_at dksX19_reaches_0 8 rfl rfl)
theorem dX19_reaches_9 : decode cX19_reaches 9 = .ok (.getfield 22, 3) := dk_180 0 22 (dk_at dksX19_reaches_0 9 rfl rfl)
theorem dX19_reaches_12 : decode cX19_reaches 12 = .ok (.iadd, 1) := dk_96 (dk_at dksX19_reaches_0 12 rfl rfl)
theorem dX19_reaches_13 : decode cX19_reaches 13 = .ok (.goto 9, 3) := dk_167 0 9 (dk_at dksX19_reaches_0 13 rfl rfl)
theorem dX19_reaches_16 : decode cX19_reaches 16 = .ok (.iload_n 1, 1) := dk_27 (dk_at dksX19_reaches_0 16 rfl rfl)
theorem dX19_reaches_17 : decode cX19_reaches 17 = .ok (.aload_n 0, 1) := dk_42 (dk_at dksX19_reaches_0 17 rfl rfl)
theorem dX19_reaches_18 : decode cX19_reaches 18 = .ok (.getfield 22, 3) := dk_180 0 22 (dk_at dksX19_reaches_0 18 rfl rfl)
theorem dX19_reaches_21 : decode cX19_reaches 21 = .ok (.isub, 1) := dk_100 (dk_at dksX19_reaches_0 21 rfl rfl)
theorem dX19_reaches_22 : decode cX19_reaches 22 = .ok (.ireturn, 1) := dk_172 (dk_at dksX19_reaches_0 22 rfl rfl)
abbrev cX19_init : ByteArray := prog_13_method_1_code
def yX19_init : MethodName := ⟨RX19, "<init>", "(ILLeftUndoes$Cond;II)V"⟩
def dkwX19_init_1 : List UInt8 := [181, 0, 22, 177]
abbrev dktX19_init_1 : List UInt8 := dkwX19_init_1 ++ []
def dkwX19_init_0 : List UInt8 := [42, 183, 0, 3, 42, 27, 181, 0, 9, 42, 44, 181, 0, 15, 42, 29, 181, 0, 19, 42, 21, 4]
abbrev dktX19_init_0 : List UInt8 := dkwX19_init_0 ++ dktX19_init_1
theorem dksX19_init_0 : cX19_init.data.toList.drop 0 = dktX19_init_0 := by decide +kernel
theorem dksX19_init_1 : cX19_init.data.toList.drop 22 = dktX19_init_1 := dk_seg dksX19_init_0 22 rfl rfl
theorem dX19_init_0 : decode cX19_init 0 = .ok (.aload_n 0, 1) := dk_42 (dk_at dksX19_init_0 0 rfl rfl)
theorem dX19_init_1 : decode cX19_init 1 = .ok (.invokespecial 3, 3) := dk_183 0 3 (dk_at dksX19_init_0 1 rfl rfl)
theorem dX19_init_4 : decode cX19_init 4 = .ok (.aload_n 0, 1) := dk_42 (dk_at dksX19_init_0 4 rfl rfl)
theorem dX19_init_5 : decode cX19_init 5 = .ok (.iload_n 1, 1) := dk_27 (dk_at dksX19_init_0 5 rfl rfl)
theorem dX19_init_6 : decode cX19_init 6 = .ok (.putfield 9, 3) := dk_181 0 9 (dk_at dksX19_init_0 6 rfl rfl)
theorem dX19_init_9 : decode cX19_init 9 = .ok (.aload_n 0, 1) := dk_42 (dk_at dksX19_init_0 9 rfl rfl)
theorem dX19_init_10 : decode cX19_init 10 = .ok (.aload_n 2, 1) := dk_44 (dk_at dksX19_init_0 10 rfl rfl)
theorem dX19_init_11 : decode cX19_init 11 = .ok (.putfield 15, 3) := dk_181 0 15 (dk_at dksX19_init_0 11 rfl rfl)
theorem dX19_init_14 : decode cX19_init 14 = .ok (.aload_n 0, 1) := dk_42 (dk_at dksX19_init_0 14 rfl rfl)
theorem dX19_init_15 : decode cX19_init 15 = .ok (.iload_n 3, 1) := dk_29 (dk_at dksX19_init_0 15 rfl rfl)
theorem dX19_init_16 : decode cX19_init 16 = .ok (.putfield 19, 3) := dk_181 0 19 (dk_at dksX19_init_0 16 rfl rfl)
theorem dX19_init_19 : decode cX19_init 19 = .ok (.aload_n 0, 1) := dk_42 (dk_at dksX19_init_0 19 rfl rfl)
theorem dX19_init_20 : decode cX19_init 20 = .ok (.iload 4, 2) := dk_21 4 (dk_at dksX19_init_0 20 rfl rfl)
theorem dX19_init_22 : decode cX19_init 22 = .ok (.putfield 22, 3) := dk_181 0 22 (dk_at dksX19_init_1 0 rfl rfl)
theorem dX19_init_25 : decode cX19_init 25 = .ok (.return_, 1) := dk_177 (dk_at dksX19_init_1 3 rfl rfl)
theorem q144 : (Jvm.Cond.initialized "LeftUndoes$Rule") ∈ lw_all := lw_g (lw_at lw_m1 27 rfl) rfl
theorem q618 : (Jvm.Cond.instanceMethod ({ cls := "LeftUndoes$Rule", name := "isFor", desc := "(I[I)Z" } : Jvm.MethodName)) ∈ lw_all := lw_g (lw_at lw_m3 21 rfl) rfl
theorem q619 : (Jvm.Cond.selects "LeftUndoes$Rule" ({ cls := "LeftUndoes$Rule", name := "isFor", desc := "(I[I)Z" } : Jvm.MethodName) ({ cls := "LeftUndoes$Rule", name := "isFor", desc := "(I[I)Z" } : Jvm.MethodName)) ∈ lw_all := lw_g (lw_at lw_m3 22 rfl) rfl
theorem q620 : (Jvm.Cond.code ({ cls := "LeftUndoes$Rule", name := "isFor", desc := "(I[I)Z" } : Jvm.MethodName) prog_13_method_2_code (3 : Nat) (Option.some Jvm.ClassFile.FieldType.boolean)) ∈ lw_all := lw_g (lw_at lw_m3 23 rfl) rfl
theorem q621 : (Jvm.Cond.methodLinkNest "LeftUndoes$Rule" (25 : Nat) ({ cls := "LeftUndoes", name := "isOf", desc := "(II)Z" } : Jvm.MethodName) "LeftUndoes") ∈ lw_tbl := lw_at lw_m3 24 rfl
theorem q624 : (Jvm.Cond.methodLink "LeftUndoes$Rule" (29 : Nat) ({ cls := "LeftUndoes$Cond", name := "holds", desc := "([I)Z" } : Jvm.MethodName)) ∈ lw_all := lw_g (lw_at lw_m3 27 rfl) rfl
theorem q647 : (Jvm.Cond.instanceMethod ({ cls := "LeftUndoes$Rule", name := "reaches", desc := "(I)I" } : Jvm.MethodName)) ∈ lw_all := lw_g (lw_at lw_m3 50 rfl) rfl
theorem q648 : (Jvm.Cond.selects "LeftUndoes$Rule" ({ cls := "LeftUndoes$Rule", name := "reaches", desc := "(I)I" } : Jvm.MethodName) ({ cls := "LeftUndoes$Rule", name := "reaches", desc := "(I)I" } : Jvm.MethodName)) ∈ lw_all := lw_g (lw_at lw_m3 51 rfl) rfl
theorem q649 : (Jvm.Cond.code ({ cls := "LeftUndoes$Rule", name := "reaches", desc := "(I)I" } : Jvm.MethodName) prog_13_method_3_code (2 : Nat) (Option.some Jvm.ClassFile.FieldType.int)) ∈ lw_all := lw_g (lw_at lw_m3 52 rfl) rfl
theorem q911 : (Jvm.Cond.instantiable "LeftUndoes$Rule" (4 : Nat)) ∈ lw_all := lw_g (lw_at lw_m4 74 rfl) rfl
theorem q913 : (Jvm.Cond.instanceMethod ({ cls := "LeftUndoes$Rule", name := "<init>", desc := "(ILLeftUndoes$Cond;II)V" } : Jvm.MethodName)) ∈ lw_all := lw_g (lw_at lw_m4 76 rfl) rfl
theorem q914 : (Jvm.Cond.code ({ cls := "LeftUndoes$Rule", name := "<init>", desc := "(ILLeftUndoes$Cond;II)V" } : Jvm.MethodName) prog_13_method_1_code (5 : Nat) (Option.none : Option Jvm.ClassFile.FieldType)) ∈ lw_all := lw_g (lw_at lw_m4 77 rfl) rfl
theorem q915 : (Jvm.Cond.methodLink "LeftUndoes$Rule" (3 : Nat) ({ cls := "java/lang/Object", name := "<init>", desc := "()V" } : Jvm.MethodName)) ∈ lw_all := lw_g (lw_at lw_m4 78 rfl) rfl
theorem q916 : (Jvm.Cond.fieldLink "LeftUndoes$Rule" (9 : Nat) "LeftUndoes$Rule" "kind" "I") ∈ lw_all := lw_g (lw_at lw_m4 79 rfl) rfl
theorem q917 : (Jvm.Cond.fieldLink "LeftUndoes$Rule" (19 : Nat) "LeftUndoes$Rule" "does" "I") ∈ lw_all := lw_g (lw_at lw_m4 80 rfl) rfl
theorem q919 : (Jvm.Cond.fieldLink "LeftUndoes$Rule" (22 : Nat) "LeftUndoes$Rule" "n" "I") ∈ lw_all := lw_g (lw_at lw_m4 82 rfl) rfl
theorem q920 : (Jvm.Cond.fieldLink "LeftUndoes$Rule" (15 : Nat) "LeftUndoes$Rule" "cond" "LLeftUndoes$Cond;") ∈ lw_all := lw_g (lw_at lw_m4 83 rfl) rfl
theorem q921 : (Jvm.Cond.laysFinal "LeftUndoes$Rule" "LeftUndoes$Rule" "kind" "I") ∈ lw_all := lw_g (lw_at lw_m4 84 rfl) rfl
theorem q922 : (Jvm.Cond.soleField "LeftUndoes$Rule" "kind") ∈ lw_all := lw_g (lw_at lw_m4 85 rfl) rfl
theorem q923 : (Jvm.Cond.laysFinal "LeftUndoes$Rule" "LeftUndoes$Rule" "does" "I") ∈ lw_all := lw_g (lw_at lw_m4 86 rfl) rfl
theorem q924 : (Jvm.Cond.soleField "LeftUndoes$Rule" "does") ∈ lw_all := lw_g (lw_at lw_m4 87 rfl) rfl
theorem q925 : (Jvm.Cond.laysFinal "LeftUndoes$Rule" "LeftUndoes$Rule" "n" "I") ∈ lw_all := lw_g (lw_at lw_m4 88 rfl) rfl
theorem q926 : (Jvm.Cond.soleField "LeftUndoes$Rule" "n") ∈ lw_all := lw_g (lw_at lw_m4 89 rfl) rfl
theorem q927 : (Jvm.Cond.laysFinal "LeftUndoes$Rule" "LeftUndoes$Rule" "cond" "LLeftUndoes$Cond;") ∈ lw_all := lw_g (lw_at lw_m4 90 rfl) rfl
theorem q928 : (Jvm.Cond.soleField "LeftUndoes$Rule" "cond") ∈ lw_all := lw_g (lw_at lw_m4 91 rfl) rfl
theorem q929 : (Jvm.Cond.superclass "LeftUndoes$Rule" "java/lang/Object") ∈ lw_all := lw_g (lw_at lw_m4 92 rfl) rfl
theorem in_X19 : ∀ w ∈ wsX190, w ∈ lw_all := lw_in wsX190 [921, 923, 925, 927] (by decide +kernel) (by decide +kernel)
/-! LeftUndoes$Ticket -/
set_option maxRecDepth 100000
def RX20 : String := "LeftUndoes$Ticket"
def TX20 : u_T := fun k => match k with
  | _ => ("LeftUndoes$Ticket", "number", "I", true)
def tyX20 : Nat → FieldType := fun k => match k with
  | _ => .int
abbrev wsX200 : List Cond := u_ws RX20 TX20 1
theorem nmX20 : ∀ a, a < 1 → ∀ b, b < 1 → a ≠ b → (TX20 a).2.1 ≠ (TX20 b).2.1 := by decide +kernel
theorem tyX20_ok : ∀ k, k < 1 → parseFieldDescriptor (TX20 k).2.2.1 = some (tyX20 k) := by decide +kernel
abbrev cX20_init : ByteArray := prog_20_method_1_code
def yX20_init : MethodName := ⟨RX20, "<init>", "(I)V"⟩
def dkwX20_init_0 : List UInt8 := [42, 183, 0, 1, 42, 27, 181, 0, 7, 177]
abbrev dktX20_init_0 : List UInt8 := dkwX20_init_0 ++ []
theorem dksX20_init_0 : cX20_init.data.toList.drop 0 = dktX20_init_0 := by decide +kernel
theorem dX20_init_0 : decode cX20_init 0 = .ok (.aload_n 0, 1) := dk_42 (dk_at dksX20_init_0 0 rfl rfl)
theorem dX20_init_1 : decode cX20_init 1 = .ok (.invokespecial 1, 3) := dk_183 0 1 (dk_at dksX20_init_0 1 rfl rfl)
theorem dX20_init_4 : decode cX20_init 4 = .ok (.aload_n 0, 1) := dk_42 (dk_at dksX20_init_0 4 rfl rfl)
theorem dX20_init_5 : decode cX20_init 5 = .ok (.iload_n 1, 1) := dk_27 (dk_at dksX20_init_0 5 rfl rfl)
theorem dX20_init_6 : decode cX20_init 6 = .ok (.putfield 7, 3) := dk_181 0 7 (dk_at dksX20_init_0 6 rfl rfl)
theorem dX20_init_9 : decode cX20_init 9 = .ok (.return_, 1) := dk_177 (dk_at dksX20_init_0 9 rfl rfl)
theorem q151 : (Jvm.Cond.initialized "LeftUndoes$Ticket") ∈ lw_all := lw_g (lw_at lw_m1 34 rfl) rfl
theorem q1314 : (Jvm.Cond.instantiable "LeftUndoes$Ticket" (1 : Nat)) ∈ lw_all := lw_g (lw_at lw_m5 237 rfl) rfl
theorem q1316 : (Jvm.Cond.instanceMethod ({ cls := "LeftUndoes$Ticket", name := "<init>", desc := "(I)V" } : Jvm.MethodName)) ∈ lw_all := lw_g (lw_at lw_m5 239 rfl) rfl
theorem q1317 : (Jvm.Cond.code ({ cls := "LeftUndoes$Ticket", name := "<init>", desc := "(I)V" } : Jvm.MethodName) prog_20_method_1_code (2 : Nat) (Option.none : Option Jvm.ClassFile.FieldType)) ∈ lw_all := lw_g (lw_at lw_m6 0 rfl) rfl
theorem q1318 : (Jvm.Cond.methodLink "LeftUndoes$Ticket" (1 : Nat) ({ cls := "java/lang/Object", name := "<init>", desc := "()V" } : Jvm.MethodName)) ∈ lw_all := lw_g (lw_at lw_m6 1 rfl) rfl
theorem q1319 : (Jvm.Cond.fieldLink "LeftUndoes$Ticket" (7 : Nat) "LeftUndoes$Ticket" "number" "I") ∈ lw_all := lw_g (lw_at lw_m6 2 rfl) rfl
theorem q1321 : (Jvm.Cond.laysFinal "LeftUndoes$Ticket" "LeftUndoes$Ticket" "number" "I") ∈ lw_all := lw_g (lw_at lw_m6 4 rfl) rfl
theorem q1322 : (Jvm.Cond.soleField "LeftUndoes$Ticket" "number") ∈ lw_all := lw_g (lw_at lw_m6 5 rfl) rfl
theorem q1323 : (Jvm.Cond.superclass "LeftUndoes$Ticket" "java/lang/Object") ∈ lw_all := lw_g (lw_at lw_m6 6 rfl) rfl
theorem in_X20 : ∀ w ∈ wsX200, w ∈ lw_all := lw_in wsX200 [1321] (by decide +kernel) (by decide +kernel)
/-! LeftUndoes$Gives -/
set_option maxRecDepth 100000
def RX21 : String := "LeftUndoes$Gives"
abbrev cX21_gives : ByteArray := prog_8_method_3_code
def yX21_gives : MethodName := ⟨RX21, "gives", "(ILLeftUndoes$Trace;)I"⟩
def dkwX21_gives_0 : List UInt8 := [44, 16, 10, 182, 0, 1, 27, 42, 185, 0, 7, 1, 0, 100, 172]
abbrev dktX21_gives_0 : List UInt8 := dkwX21_gives_0 ++ []
theorem dksX21_gives_0 : cX21_gives.data.toList.drop 0 = dktX21_gives_0 := by decide +kernel
theorem dX21_gives_0 : decode cX21_gives 0 = .ok (.aload_n 2, 1) := dk_44 (dk_at dksX21_gives_0 0 rfl rfl)
theorem dX21_gives_1 : decode cX21_gives 1 = .ok (.bipush 10, 2) := dk_16 10 (dk_at dksX21_gives_0 1 rfl rfl)
theorem dX21_gives_3 : decode cX21_gives 3 = .ok (.invokevirtual 1, 3) := dk_182 0 1 (dk_at dksX21_gives_0 3 rfl rfl)
theorem dX21_gives_6 : decode cX21_gives 6 = .ok (.iload_n 1, 1) := dk_27 (dk_at dksX21_gives_0 6 rfl rfl)
theorem dX21_gives_7 : decode cX21_gives 7 = .ok (.aload_n 0, 1) := dk_42 (dk_at dksX21_gives_0 7 rfl rfl)
theorem dX21_gives_8 : decode cX21_gives 8 = .ok (.invokeinterface 7 1, 5) := by decide +kernel
theorem dX21_gives_13 : decode cX21_gives 13 = .ok (.isub, 1) := dk_100 (dk_at dksX21_gives_0 13 rfl rfl)
theorem dX21_gives_14 : decode cX21_gives 14 = .ok (.ireturn, 1) := dk_172 (dk_at dksX21_gives_0 14 rfl rfl)
theorem q1367 : (Jvm.Cond.publicMethod ({ cls := "LeftUndoes$Gives", name := "gives", desc := "(ILLeftUndoes$Trace;)I" } : Jvm.MethodName)) ∈ lw_tbl := lw_at lw_m6 50 rfl
theorem q1368 : (Jvm.Cond.declares ({ cls := "LeftUndoes$Gives", name := "gives", desc := "(ILLeftUndoes$Trace;)I" } : Jvm.MethodName)) ∈ lw_tbl := lw_at lw_m6 51 rfl
theorem q1380 : (Jvm.Cond.instanceMethod ({ cls := "LeftUndoes$Gives", name := "gives", desc := "(ILLeftUndoes$Trace;)I" } : Jvm.MethodName)) ∈ lw_all := lw_g (lw_at lw_m6 63 rfl) rfl
theorem q1381 : (Jvm.Cond.code ({ cls := "LeftUndoes$Gives", name := "gives", desc := "(ILLeftUndoes$Trace;)I" } : Jvm.MethodName) prog_8_method_3_code (3 : Nat) (Option.some Jvm.ClassFile.FieldType.int)) ∈ lw_all := lw_g (lw_at lw_m6 64 rfl) rfl
theorem q1382 : (Jvm.Cond.methodLink "LeftUndoes$Gives" (1 : Nat) ({ cls := "LeftUndoes$Trace", name := "ran", desc := "(I)V" } : Jvm.MethodName)) ∈ lw_all := lw_g (lw_at lw_m6 65 rfl) rfl
theorem q1383 : (Jvm.Cond.interfaceEntry "LeftUndoes$Gives" (7 : Nat)) ∈ lw_tbl := lw_at lw_m6 66 rfl
theorem q1384 : (Jvm.Cond.methodLink "LeftUndoes$Gives" (7 : Nat) ({ cls := "LeftUndoes$Gives", name := "grace", desc := "()I" } : Jvm.MethodName)) ∈ lw_all := lw_g (lw_at lw_m6 67 rfl) rfl
theorem q1385 : (Jvm.Cond.interfaceMethod "LeftUndoes$Gives" "LeftUndoes$Gives" "grace" "()I") ∈ lw_tbl := lw_at lw_m6 68 rfl
theorem q1386 : (Jvm.Cond.declares ({ cls := "LeftUndoes$Gives", name := "grace", desc := "()I" } : Jvm.MethodName)) ∈ lw_tbl := lw_at lw_m6 69 rfl
theorem q1462 : (Jvm.Cond.publicMethod ({ cls := "LeftUndoes$Gives", name := "grace", desc := "()I" } : Jvm.MethodName)) ∈ lw_tbl := lw_at lw_m6 145 rfl
theorem q1469 : (Jvm.Cond.publicMethod ({ cls := "LeftUndoes$Gives", name := "number", desc := "()I" } : Jvm.MethodName)) ∈ lw_tbl := lw_at lw_m6 152 rfl
theorem q1470 : (Jvm.Cond.declares ({ cls := "LeftUndoes$Gives", name := "number", desc := "()I" } : Jvm.MethodName)) ∈ lw_tbl := lw_at lw_m6 153 rfl
theorem q2236 : (Jvm.Cond.initialized "LeftUndoes$Gives") ∈ lw_all := lw_g (lw_at lw_m9 199 rfl) rfl
/-! LeftUndoes$Takes -/
set_option maxRecDepth 100000
def RX22 : String := "LeftUndoes$Takes"
abbrev cX22_takes : ByteArray := prog_19_method_1_code
def yX22_takes : MethodName := ⟨RX22, "takes", "(ILLeftUndoes$Trace;)I"⟩
def dkwX22_takes_0 : List UInt8 := [44, 16, 11, 182, 0, 1, 42, 27, 44, 185, 0, 7, 3, 0, 5, 104, 172]
abbrev dktX22_takes_0 : List UInt8 := dkwX22_takes_0 ++ []
theorem dksX22_takes_0 : cX22_takes.data.toList.drop 0 = dktX22_takes_0 := by decide +kernel
theorem dX22_takes_0 : decode cX22_takes 0 = .ok (.aload_n 2, 1) := dk_44 (dk_at dksX22_takes_0 0 rfl rfl)
theorem dX22_takes_1 : decode cX22_takes 1 = .ok (.bipush 11, 2) := dk_16 11 (dk_at dksX22_takes_0 1 rfl rfl)
theorem dX22_takes_3 : decode cX22_takes 3 = .ok (.invokevirtual 1, 3) := dk_182 0 1 (dk_at dksX22_takes_0 3 rfl rfl)
theorem dX22_takes_6 : decode cX22_takes 6 = .ok (.aload_n 0, 1) := dk_42 (dk_at dksX22_takes_0 6 rfl rfl)
theorem dX22_takes_7 : decode cX22_takes 7 = .ok (.iload_n 1, 1) := dk_27 (dk_at dksX22_takes_0 7 rfl rfl)
theorem dX22_takes_8 : decode cX22_takes 8 = .ok (.aload_n 2, 1) := dk_44 (dk_at dksX22_takes_0 8 rfl rfl)
theorem dX22_takes_9 : decode cX22_takes 9 = .ok (.invokeinterface 7 3, 5) := by decide +kernel
theorem dX22_takes_14 : decode cX22_takes 14 = .ok (.iconst 2, 1) := dk_5 (dk_at dksX22_takes_0 14 rfl rfl)
theorem dX22_takes_15 : decode cX22_takes 15 = .ok (.imul, 1) := dk_104 (dk_at dksX22_takes_0 15 rfl rfl)
theorem dX22_takes_16 : decode cX22_takes 16 = .ok (.ireturn, 1) := dk_172 (dk_at dksX22_takes_0 16 rfl rfl)
theorem q1423 : (Jvm.Cond.publicMethod ({ cls := "LeftUndoes$Takes", name := "takes", desc := "(ILLeftUndoes$Trace;)I" } : Jvm.MethodName)) ∈ lw_tbl := lw_at lw_m6 106 rfl
theorem q1424 : (Jvm.Cond.declares ({ cls := "LeftUndoes$Takes", name := "takes", desc := "(ILLeftUndoes$Trace;)I" } : Jvm.MethodName)) ∈ lw_tbl := lw_at lw_m6 107 rfl
theorem q1426 : (Jvm.Cond.instanceMethod ({ cls := "LeftUndoes$Takes", name := "takes", desc := "(ILLeftUndoes$Trace;)I" } : Jvm.MethodName)) ∈ lw_all := lw_g (lw_at lw_m6 109 rfl) rfl
theorem q1427 : (Jvm.Cond.code ({ cls := "LeftUndoes$Takes", name := "takes", desc := "(ILLeftUndoes$Trace;)I" } : Jvm.MethodName) prog_19_method_1_code (3 : Nat) (Option.some Jvm.ClassFile.FieldType.int)) ∈ lw_all := lw_g (lw_at lw_m6 110 rfl) rfl
theorem q1428 : (Jvm.Cond.methodLink "LeftUndoes$Takes" (1 : Nat) ({ cls := "LeftUndoes$Trace", name := "ran", desc := "(I)V" } : Jvm.MethodName)) ∈ lw_all := lw_g (lw_at lw_m6 111 rfl) rfl
theorem q1429 : (Jvm.Cond.interfaceEntry "LeftUndoes$Takes" (7 : Nat)) ∈ lw_tbl := lw_at lw_m6 112 rfl
theorem q2237 : (Jvm.Cond.initialized "LeftUndoes$Takes") ∈ lw_all := lw_g (lw_at lw_m9 200 rfl) rfl
/-! LeftUndoes$Splits -/
set_option maxRecDepth 100000
def RX23 : String := "LeftUndoes$Splits"
abbrev cX23_splits : ByteArray := prog_17_method_1_code
def yX23_splits : MethodName := ⟨RX23, "splits", "(ILLeftUndoes$Trace;)I"⟩
def dkwX23_splits_0 : List UInt8 := [44, 16, 12, 182, 0, 1, 27, 42, 185, 0, 7, 1, 0, 42, 185, 0, 13, 1, 0, 100, 112, 172]
abbrev dktX23_splits_0 : List UInt8 := dkwX23_splits_0 ++ []
theorem dksX23_splits_0 : cX23_splits.data.toList.drop 0 = dktX23_splits_0 := by decide +kernel
theorem dX23_splits_0 : decode cX23_splits 0 = .ok (.aload_n 2, 1) := dk_44 (dk_at dksX23_splits_0 0 rfl rfl)
theorem dX23_splits_1 : decode cX23_splits 1 = .ok (.bipush 12, 2) := dk_16 12 (dk_at dksX23_splits_0 1 rfl rfl)
theorem dX23_splits_3 : decode cX23_splits 3 = .ok (.invokevirtual 1, 3) := dk_182 0 1 (dk_at dksX23_splits_0 3 rfl rfl)
theorem dX23_splits_6 : decode cX23_splits 6 = .ok (.iload_n 1, 1) := dk_27 (dk_at dksX23_splits_0 6 rfl rfl)
theorem dX23_splits_7 : decode cX23_splits 7 = .ok (.aload_n 0, 1) := dk_42 (dk_at dksX23_splits_0 7 rfl rfl)
theorem dX23_splits_8 : decode cX23_splits 8 = .ok (.invokeinterface 7 1, 5) := by decide +kernel
theorem dX23_splits_13 : decode cX23_splits 13 = .ok (.aload_n 0, 1) := dk_42 (dk_at dksX23_splits_0 13 rfl rfl)
theorem dX23_splits_14 : decode cX23_splits 14 = .ok (.invokeinterface 13 1, 5) := by decide +kernel
theorem dX23_splits_19 : decode cX23_splits 19 = .ok (.isub, 1) := dk_100 (dk_at dksX23_splits_0 19 rfl rfl)
theorem dX23_splits_20 : decode cX23_splits 20 = .ok (.irem, 1) := dk_112 (dk_at dksX23_splits_0 20 rfl rfl)
theorem dX23_splits_21 : decode cX23_splits 21 = .ok (.ireturn, 1) := dk_172 (dk_at dksX23_splits_0 21 rfl rfl)
theorem q1455 : (Jvm.Cond.publicMethod ({ cls := "LeftUndoes$Splits", name := "splits", desc := "(ILLeftUndoes$Trace;)I" } : Jvm.MethodName)) ∈ lw_tbl := lw_at lw_m6 138 rfl
theorem q1456 : (Jvm.Cond.declares ({ cls := "LeftUndoes$Splits", name := "splits", desc := "(ILLeftUndoes$Trace;)I" } : Jvm.MethodName)) ∈ lw_tbl := lw_at lw_m6 139 rfl
theorem q1458 : (Jvm.Cond.instanceMethod ({ cls := "LeftUndoes$Splits", name := "splits", desc := "(ILLeftUndoes$Trace;)I" } : Jvm.MethodName)) ∈ lw_all := lw_g (lw_at lw_m6 141 rfl) rfl
theorem q1459 : (Jvm.Cond.code ({ cls := "LeftUndoes$Splits", name := "splits", desc := "(ILLeftUndoes$Trace;)I" } : Jvm.MethodName) prog_17_method_1_code (3 : Nat) (Option.some Jvm.ClassFile.FieldType.int)) ∈ lw_all := lw_g (lw_at lw_m6 142 rfl) rfl
theorem q1460 : (Jvm.Cond.methodLink "LeftUndoes$Splits" (1 : Nat) ({ cls := "LeftUndoes$Trace", name := "ran", desc := "(I)V" } : Jvm.MethodName)) ∈ lw_all := lw_g (lw_at lw_m6 143 rfl) rfl
theorem q1461 : (Jvm.Cond.interfaceEntry "LeftUndoes$Splits" (7 : Nat)) ∈ lw_tbl := lw_at lw_m6 144 rfl
theorem q1468 : (Jvm.Cond.interfaceEntry "LeftUndoes$Splits" (13 : Nat)) ∈ lw_tbl := lw_at lw_m6 151 rfl
theorem q2238 : (Jvm.Cond.initialized "LeftUndoes$Splits") ∈ lw_all := lw_g (lw_at lw_m9 201 rfl) rfl
/-! LeftUndoes$Swears -/
set_option maxRecDepth 100000
def RX24 : String := "LeftUndoes$Swears"
abbrev cX24_swears : ByteArray := prog_18_method_1_code
def yX24_swears : MethodName := ⟨RX24, "swears", "(ILLeftUndoes$Trace;)I"⟩
def dkwX24_swears_0 : List UInt8 := [44, 16, 13, 182, 0, 1, 42, 27, 44, 185, 0, 7, 3, 0, 42, 185, 0, 13, 1, 0, 130, 172]
abbrev dktX24_swears_0 : List UInt8 := dkwX24_swears_0 ++ []
theorem dksX24_swears_0 : cX24_swears.data.toList.drop 0 = dktX24_swears_0 := by decide +kernel
theorem dX24_swears_0 : decode cX24_swears 0 = .ok (.aload_n 2, 1) := dk_44 (dk_at dksX24_swears_0 0 rfl rfl)
theorem dX24_swears_1 : decode cX24_swears 1 = .ok (.bipush 13, 2) := dk_16 13 (dk_at dksX24_swears_0 1 rfl rfl)
theorem dX24_swears_3 : decode cX24_swears 3 = .ok (.invokevirtual 1, 3) := dk_182 0 1 (dk_at dksX24_swears_0 3 rfl rfl)
theorem dX24_swears_6 : decode cX24_swears 6 = .ok (.aload_n 0, 1) := dk_42 (dk_at dksX24_swears_0 6 rfl rfl)
theorem dX24_swears_7 : decode cX24_swears 7 = .ok (.iload_n 1, 1) := dk_27 (dk_at dksX24_swears_0 7 rfl rfl)
theorem dX24_swears_8 : decode cX24_swears 8 = .ok (.aload_n 2, 1) := dk_44 (dk_at dksX24_swears_0 8 rfl rfl)
theorem dX24_swears_9 : decode cX24_swears 9 = .ok (.invokeinterface 7 3, 5) := by decide +kernel
theorem dX24_swears_14 : decode cX24_swears 14 = .ok (.aload_n 0, 1) := dk_42 (dk_at dksX24_swears_0 14 rfl rfl)
theorem dX24_swears_15 : decode cX24_swears 15 = .ok (.invokeinterface 13 1, 5) := by decide +kernel
theorem dX24_swears_20 : decode cX24_swears 20 = .ok (.ixor, 1) := dk_130 (dk_at dksX24_swears_0 20 rfl rfl)
theorem dX24_swears_21 : decode cX24_swears 21 = .ok (.ireturn, 1) := dk_172 (dk_at dksX24_swears_0 21 rfl rfl)
theorem q1501 : (Jvm.Cond.interfaceMethod "LeftUndoes$Swears" "LeftUndoes$Swears" "swears" "(ILLeftUndoes$Trace;)I") ∈ lw_tbl := lw_at lw_m6 184 rfl
theorem q1502 : (Jvm.Cond.declares ({ cls := "LeftUndoes$Swears", name := "swears", desc := "(ILLeftUndoes$Trace;)I" } : Jvm.MethodName)) ∈ lw_tbl := lw_at lw_m6 185 rfl
theorem q1504 : (Jvm.Cond.instanceMethod ({ cls := "LeftUndoes$Swears", name := "swears", desc := "(ILLeftUndoes$Trace;)I" } : Jvm.MethodName)) ∈ lw_all := lw_g (lw_at lw_m6 187 rfl) rfl
theorem q1505 : (Jvm.Cond.publicMethod ({ cls := "LeftUndoes$Swears", name := "swears", desc := "(ILLeftUndoes$Trace;)I" } : Jvm.MethodName)) ∈ lw_tbl := lw_at lw_m6 188 rfl
theorem q1506 : (Jvm.Cond.code ({ cls := "LeftUndoes$Swears", name := "swears", desc := "(ILLeftUndoes$Trace;)I" } : Jvm.MethodName) prog_18_method_1_code (3 : Nat) (Option.some Jvm.ClassFile.FieldType.int)) ∈ lw_all := lw_g (lw_at lw_m6 189 rfl) rfl
theorem q1507 : (Jvm.Cond.methodLink "LeftUndoes$Swears" (1 : Nat) ({ cls := "LeftUndoes$Trace", name := "ran", desc := "(I)V" } : Jvm.MethodName)) ∈ lw_all := lw_g (lw_at lw_m6 190 rfl) rfl
theorem q1508 : (Jvm.Cond.interfaceEntry "LeftUndoes$Swears" (7 : Nat)) ∈ lw_tbl := lw_at lw_m6 191 rfl
theorem q1509 : (Jvm.Cond.interfaceEntry "LeftUndoes$Swears" (13 : Nat)) ∈ lw_tbl := lw_at lw_m6 192 rfl
theorem q2239 : (Jvm.Cond.initialized "LeftUndoes$Swears") ∈ lw_all := lw_g (lw_at lw_m9 202 rfl) rfl
/-! java/lang/Throwable -/
set_option maxRecDepth 100000
def RJ0 : String := "java/lang/Throwable"
def TJ0 : u_T := fun k => match k with
  | 0 => ("java/lang/Throwable", "cause", "Ljava/lang/Throwable;", false)
  | 1 => ("java/lang/Throwable", "stackTrace", "[Ljava/lang/StackTraceElement;", false)
  | 2 => ("java/lang/Throwable", "suppressedExceptions", "Ljava/util/List;", false)
  | 3 => ("java/lang/Throwable", "detailMessage", "Ljava/lang/String;", false)
  | _ => ("java/lang/Throwable", "backtrace", "Ljava/lang/Object;", false)
def tyJ0 : Nat → FieldType := fun k => match k with
  | 0 => .object "java/lang/Throwable"
  | 1 => .array (.object "java/lang/StackTraceElement")
  | 2 => .object "java/util/List"
  | 3 => .object "java/lang/String"
  | _ => .object "java/lang/Object"
abbrev wsJ00 : List Cond := u_ws RJ0 TJ0 5
theorem nmJ0 : ∀ a, a < 5 → ∀ b, b < 5 → a ≠ b → (TJ0 a).2.1 ≠ (TJ0 b).2.1 := by decide +kernel
theorem tyJ0_ok : ∀ k, k < 5 → parseFieldDescriptor (TJ0 k).2.2.1 = some (tyJ0 k) := by decide +kernel
abbrev cJ0_init : ByteArray := prog_39_method_1_code
def yJ0_init : MethodName := ⟨RJ0, "<init>", "()V"⟩
def dkwJ0_init_1 : List UInt8 := [182, 0, 27, 87, 177]
abbrev dktJ0_init_1 : List UInt8 := dkwJ0_init_1 ++ []
def dkwJ0_init_0 : List UInt8 := [42, 183, 0, 1, 42, 42, 181, 0, 7, 42, 178, 0, 13, 181, 0, 17, 42, 178, 0, 20, 181, 0, 24, 42]
abbrev dktJ0_init_0 : List UInt8 := dkwJ0_init_0 ++ dktJ0_init_1
theorem dksJ0_init_0 : cJ0_init.data.toList.drop 0 = dktJ0_init_0 := by decide +kernel
theorem dksJ0_init_1 : cJ0_init.data.toList.drop 24 = dktJ0_init_1 := dk_seg dksJ0_init_0 24 rfl rfl
theorem dJ0_init_0 : decode cJ0_init 0 = .ok (.aload_n 0, 1) := dk_42 (dk_at dksJ0_init_0 0 rfl rfl)
theorem dJ0_init_1 : decode cJ0_init 1 = .ok (.invokespecial 1, 3) := dk_183 0 1 (dk_at dksJ0_init_0 1 rfl rfl)
theorem dJ0_init_4 : decode cJ0_init 4 = .ok (.aload_n 0, 1) := dk_42 (dk_at dksJ0_init_0 4 rfl rfl)
theorem dJ0_init_5 : decode cJ0_init 5 = .ok (.aload_n 0, 1) := dk_42 (dk_at dksJ0_init_0 5 rfl rfl)
theorem dJ0_init_6 : decode cJ0_init 6 = .ok (.putfield 7, 3) := dk_181 0 7 (dk_at dksJ0_init_0 6 rfl rfl)
theorem dJ0_init_9 : decode cJ0_init 9 = .ok (.aload_n 0, 1) := dk_42 (dk_at dksJ0_init_0 9 rfl rfl)
theorem dJ0_init_10 : decode cJ0_init 10 = .ok (.getstatic 13, 3) := dk_178 0 13 (dk_at dksJ0_init_0 10 rfl rfl)
theorem dJ0_init_13 : decode cJ0_init 13 = .ok (.putfield 17, 3) := dk_181 0 17 (dk_at dksJ0_init_0 13 rfl rfl)
theorem dJ0_init_16 : decode cJ0_init 16 = .ok (.aload_n 0, 1) := dk_42 (dk_at dksJ0_init_0 16 rfl rfl)
theorem dJ0_init_17 : decode cJ0_init 17 = .ok (.getstatic 20, 3) := dk_178 0 20 (dk_at dksJ0_init_0 17 rfl rfl)
theorem dJ0_init_20 : decode cJ0_init 20 = .ok (.putfield 24, 3) := dk_181 0 24 (dk_at dksJ0_init_0 20 rfl rfl)
theorem dJ0_init_23 : decode cJ0_init 23 = .ok (.aload_n 0, 1) := dk_42 (dk_at dksJ0_init_0 23 rfl rfl)
theorem dJ0_init_24 : decode cJ0_init 24 = .ok (.invokevirtual 27, 3) := dk_182 0 27 (dk_at dksJ0_init_1 0 rfl rfl)
theorem dJ0_init_27 : decode cJ0_init 27 = .ok (.pop, 1) := dk_87 (dk_at dksJ0_init_1 3 rfl rfl)
theorem dJ0_init_28 : decode cJ0_init 28 = .ok (.return_, 1) := dk_177 (dk_at dksJ0_init_1 4 rfl rfl)
abbrev cJ0_init_2 : ByteArray := prog_39_method_5_code
def yJ0_init_2 : MethodName := ⟨RJ0, "<init>", "(Ljava/lang/String;Ljava/lang/Throwable;ZZ)V"⟩
def dkwJ0_init_2_2 : List UInt8 := [44, 181, 0, 7, 29, 154, 0, 8, 42, 1, 181, 0, 24, 177]
abbrev dktJ0_init_2_2 : List UInt8 := dkwJ0_init_2_2 ++ []
def dkwJ0_init_2_1 : List UInt8 := [21, 4, 153, 0, 11, 42, 182, 0, 27, 87, 167, 0, 8, 42, 1, 181, 0, 17, 42, 43, 181, 0, 31, 42]
abbrev dktJ0_init_2_1 : List UInt8 := dkwJ0_init_2_1 ++ dktJ0_init_2_2
def dkwJ0_init_2_0 : List UInt8 := [42, 183, 0, 1, 42, 42, 181, 0, 7, 42, 178, 0, 13, 181, 0, 17, 42, 178, 0, 20, 181, 0, 24]
abbrev dktJ0_init_2_0 : List UInt8 := dkwJ0_init_2_0 ++ dktJ0_init_2_1
theorem dksJ0_init_2_0 : cJ0_init_2.data.toList.drop 0 = dktJ0_init_2_0 := by decide +kernel
theorem dksJ0_init_2_1 : cJ0_init_2.data.toList.drop 23 = dktJ0_init_2_1 := dk_seg dksJ0_init_2_0 23 rfl rfl
theorem dksJ0_init_2_2 : cJ0_init_2.data.toList.drop 47 = dktJ0_init_2_2 := dk_seg dksJ0_init_2_1 24 rfl rfl
theorem dJ0_init_2_0 : decode cJ0_init_2 0 = .ok (.aload_n 0, 1) := dk_42 (dk_at dksJ0_init_2_0 0 rfl rfl)
theorem dJ0_init_2_1 : decode cJ0_init_2 1 = .ok (.invokespecial 1, 3) := dk_183 0 1 (dk_at dksJ0_init_2_0 1 rfl rfl)
theorem dJ0_init_2_4 : decode cJ0_init_2 4 = .ok (.aload_n 0, 1) := dk_42 (dk_at dksJ0_init_2_0 4 rfl rfl)
theorem dJ0_init_2_5 : decode cJ0_init_2 5 = .ok (.aload_n 0, 1) := dk_42 (dk_at dksJ0_init_2_0 5 rfl rfl)
theorem dJ0_init_2_6 : decode cJ0_init_2 6 = .ok (.putfield 7, 3) := dk_181 0 7 (dk_at dksJ0_init_2_0 6 rfl rfl)
theorem dJ0_init_2_9 : decode cJ0_init_2 9 = .ok (.aload_n 0, 1) := dk_42 (dk_at dksJ0_init_2_0 9 rfl rfl)
theorem dJ0_init_2_10 : decode cJ0_init_2 10 = .ok (.getstatic 13, 3) := dk_178 0 13 (dk_at dksJ0_init_2_0 10 rfl rfl)
theorem dJ0_init_2_13 : decode cJ0_init_2 13 = .ok (.putfield 17, 3) := dk_181 0 17 (dk_at dksJ0_init_2_0 13 rfl rfl)
theorem dJ0_init_2_16 : decode cJ0_init_2 16 = .ok (.aload_n 0, 1) := dk_42 (dk_at dksJ0_init_2_0 16 rfl rfl)
theorem dJ0_init_2_17 : decode cJ0_init_2 17 = .ok (.getstatic 20, 3) := dk_178 0 20 (dk_at dksJ0_init_2_0 17 rfl rfl)
theorem dJ0_init_2_20 : decode cJ0_init_2 20 = .ok (.putfield 24, 3) := dk_181 0 24 (dk_at dksJ0_init_2_0 20 rfl rfl)
theorem dJ0_init_2_23 : decode cJ0_init_2 23 = .ok (.iload 4, 2) := dk_21 4 (dk_at dksJ0_init_2_1 0 rfl rfl)
theorem dJ0_init_2_25 : decode cJ0_init_2 25 = .ok (.ifCond .eq 11, 3) := dk_153 0 11 (dk_at dksJ0_init_2_1 2 rfl rfl)
theorem dJ0_init_2_28 : decode cJ0_init_2 28 = .ok (.aload_n 0, 1) := dk_42 (dk_at dksJ0_init_2_1 5 rfl rfl)
theorem dJ0_init_2_29 : decode cJ0_init_2 29 = .ok (.invokevirtual 27, 3) := dk_182 0 27 (dk_at dksJ0_init_2_1 6 rfl rfl)
theorem dJ0_init_2_32 : decode cJ0_init_2 32 = .ok (.pop, 1) := dk_87 (dk_at dksJ0_init_2_1 9 rfl rfl)
theorem dJ0_init_2_33 : decode cJ0_init_2 33 = .ok (.goto 8, 3) := dk_167 0 8 (dk_at dksJ0_init_2_1 10 rfl rfl)
theorem dJ0_init_2_36 : decode cJ0_init_2 36 = .ok (.aload_n 0, 1) := dk_42 (dk_at dksJ0_init_2_1 13 rfl rfl)
theorem dJ0_init_2_37 : decode cJ0_init_2 37 = .ok (.aconst_null, 1) := dk_1 (dk_at dksJ0_init_2_1 14 rfl rfl)
theorem dJ0_init_2_38 : decode cJ0_init_2 38 = .ok (.putfield 17, 3) := dk_181 0 17 (dk_at dksJ0_init_2_1 15 rfl rfl)
theorem dJ0_init_2_41 : decode cJ0_init_2 41 = .ok (.aload_n 0, 1) := dk_42 (dk_at dksJ0_init_2_1 18 rfl rfl)
theorem dJ0_init_2_42 : decode cJ0_init_2 42 = .ok (.aload_n 1, 1) := dk_43 (dk_at dksJ0_init_2_1 19 rfl rfl)
theorem dJ0_init_2_43 : decode cJ0_init_2 43 = .ok (.putfield 31, 3) := dk_181 0 31 (dk_at dksJ0_init_2_1 20 rfl rfl)
theorem dJ0_init_2_46 : decode cJ0_init_2 46 = .ok (.aload_n 0, 1) := dk_42 (dk_at dksJ0_init_2_1 23 rfl rfl)
theorem dJ0_init_2_47 : decode cJ0_init_2 47 = .ok (.aload_n 2, 1) := dk_44 (dk_at dksJ0_init_2_2 0 rfl rfl)
theorem dJ0_init_2_48 : decode cJ0_init_2 48 = .ok (.putfield 7, 3) := dk_181 0 7 (dk_at dksJ0_init_2_2 1 rfl rfl)
theorem dJ0_init_2_51 : decode cJ0_init_2 51 = .ok (.iload_n 3, 1) := dk_29 (dk_at dksJ0_init_2_2 4 rfl rfl)
theorem dJ0_init_2_52 : decode cJ0_init_2 52 = .ok (.ifCond .ne 8, 3) := dk_154 0 8 (dk_at dksJ0_init_2_2 5 rfl rfl)
theorem dJ0_init_2_55 : decode cJ0_init_2 55 = .ok (.aload_n 0, 1) := dk_42 (dk_at dksJ0_init_2_2 8 rfl rfl)
theorem dJ0_init_2_56 : decode cJ0_init_2 56 = .ok (.aconst_null, 1) := dk_1 (dk_at dksJ0_init_2_2 9 rfl rfl)
theorem dJ0_init_2_57 : decode cJ0_init_2 57 = .ok (.putfield 24, 3) := dk_181 0 24 (dk_at dksJ0_init_2_2 10 rfl rfl)
theorem dJ0_init_2_60 : decode cJ0_init_2 60 = .ok (.return_, 1) := dk_177 (dk_at dksJ0_init_2_2 13 rfl rfl)
abbrev cJ0_init_3 : ByteArray := prog_39_method_2_code
def yJ0_init_3 : MethodName := ⟨RJ0, "<init>", "(Ljava/lang/String;)V"⟩
def dkwJ0_init_3_1 : List UInt8 := [182, 0, 27, 87, 42, 43, 181, 0, 31, 177]
abbrev dktJ0_init_3_1 : List UInt8 := dkwJ0_init_3_1 ++ []
def dkwJ0_init_3_0 : List UInt8 := [42, 183, 0, 1, 42, 42, 181, 0, 7, 42, 178, 0, 13, 181, 0, 17, 42, 178, 0, 20, 181, 0, 24, 42]
abbrev dktJ0_init_3_0 : List UInt8 := dkwJ0_init_3_0 ++ dktJ0_init_3_1
theorem dksJ0_init_3_0 : cJ0_init_3.data.toList.drop 0 = dktJ0_init_3_0 := by decide +kernel
theorem dksJ0_init_3_1 : cJ0_init_3.data.toList.drop 24 = dktJ0_init_3_1 := dk_seg dksJ0_init_3_0 24 rfl rfl
theorem dJ0_init_3_0 : decode cJ0_init_3 0 = .ok (.aload_n 0, 1) := dk_42 (dk_at dksJ0_init_3_0 0 rfl rfl)
theorem dJ0_init_3_1 : decode cJ0_init_3 1 = .ok (.invokespecial 1, 3) := dk_183 0 1 (dk_at dksJ0_init_3_0 1 rfl rfl)
theorem dJ0_init_3_4 : decode cJ0_init_3 4 = .ok (.aload_n 0, 1) := dk_42 (dk_at dksJ0_init_3_0 4 rfl rfl)
theorem dJ0_init_3_5 : decode cJ0_init_3 5 = .ok (.aload_n 0, 1) := dk_42 (dk_at dksJ0_init_3_0 5 rfl rfl)
theorem dJ0_init_3_6 : decode cJ0_init_3 6 = .ok (.putfield 7, 3) := dk_181 0 7 (dk_at dksJ0_init_3_0 6 rfl rfl)
theorem dJ0_init_3_9 : decode cJ0_init_3 9 = .ok (.aload_n 0, 1) := dk_42 (dk_at dksJ0_init_3_0 9 rfl rfl)
theorem dJ0_init_3_10 : decode cJ0_init_3 10 = .ok (.getstatic 13, 3) := dk_178 0 13 (dk_at dksJ0_init_3_0 10 rfl rfl)
theorem dJ0_init_3_13 : decode cJ0_init_3 13 = .ok (.putfield 17, 3) := dk_181 0 17 (dk_at dksJ0_init_3_0 13 rfl rfl)
theorem dJ0_init_3_16 : decode cJ0_init_3 16 = .ok (.aload_n 0, 1) := dk_42 (dk_at dksJ0_init_3_0 16 rfl rfl)
theorem dJ0_init_3_17 : decode cJ0_init_3 17 = .ok (.getstatic 20, 3) := dk_178 0 20 (dk_at dksJ0_init_3_0 17 rfl rfl)
theorem dJ0_init_3_20 : decode cJ0_init_3 20 = .ok (.putfield 24, 3) := dk_181 0 24 (dk_at dksJ0_init_3_0 20 rfl rfl)
theorem dJ0_init_3_23 : decode cJ0_init_3 23 = .ok (.aload_n 0, 1) := dk_42 (dk_at dksJ0_init_3_0 23 rfl rfl)
theorem dJ0_init_3_24 : decode cJ0_init_3 24 = .ok (.invokevirtual 27, 3) := dk_182 0 27 (dk_at dksJ0_init_3_1 0 rfl rfl)
theorem dJ0_init_3_27 : decode cJ0_init_3 27 = .ok (.pop, 1) := dk_87 (dk_at dksJ0_init_3_1 3 rfl rfl)
theorem dJ0_init_3_28 : decode cJ0_init_3 28 = .ok (.aload_n 0, 1) := dk_42 (dk_at dksJ0_init_3_1 4 rfl rfl)
theorem dJ0_init_3_29 : decode cJ0_init_3 29 = .ok (.aload_n 1, 1) := dk_43 (dk_at dksJ0_init_3_1 5 rfl rfl)
theorem dJ0_init_3_30 : decode cJ0_init_3 30 = .ok (.putfield 31, 3) := dk_181 0 31 (dk_at dksJ0_init_3_1 6 rfl rfl)
theorem dJ0_init_3_33 : decode cJ0_init_3 33 = .ok (.return_, 1) := dk_177 (dk_at dksJ0_init_3_1 9 rfl rfl)
theorem q119 : (Jvm.Cond.initialized "java/lang/Throwable") ∈ lw_all := lw_g (lw_at lw_m1 2 rfl) rfl
theorem q168 : (Jvm.Cond.declares ({ cls := "java/lang/Throwable", name := "<init>", desc := "()V" } : Jvm.MethodName)) ∈ lw_tbl := lw_at lw_m1 51 rfl
theorem q169 : (Jvm.Cond.declares ({ cls := "java/lang/Throwable", name := "<init>", desc := "(Ljava/lang/String;)V" } : Jvm.MethodName)) ∈ lw_tbl := lw_at lw_m1 52 rfl
theorem q173 : (Jvm.Cond.lays "java/lang/Throwable" "java/lang/Throwable" "cause" "Ljava/lang/Throwable;") ∈ lw_all := lw_g (lw_at lw_m1 56 rfl) rfl
theorem q175 : (Jvm.Cond.lays "java/lang/Throwable" "java/lang/Throwable" "stackTrace" "[Ljava/lang/StackTraceElement;") ∈ lw_all := lw_g (lw_at lw_m1 58 rfl) rfl
theorem q177 : (Jvm.Cond.lays "java/lang/Throwable" "java/lang/Throwable" "suppressedExceptions" "Ljava/util/List;") ∈ lw_all := lw_g (lw_at lw_m1 60 rfl) rfl
theorem q179 : (Jvm.Cond.lays "java/lang/Throwable" "java/lang/Throwable" "detailMessage" "Ljava/lang/String;") ∈ lw_all := lw_g (lw_at lw_m1 62 rfl) rfl
theorem q181 : (Jvm.Cond.lays "java/lang/Throwable" "java/lang/Throwable" "backtrace" "Ljava/lang/Object;") ∈ lw_all := lw_g (lw_at lw_m1 64 rfl) rfl
theorem q182 : (Jvm.Cond.fieldLink "java/lang/Throwable" (198 : Nat) "java/lang/Throwable" "backtrace" "Ljava/lang/Object;") ∈ lw_all := lw_g (lw_at lw_m1 65 rfl) rfl
theorem q183 : (Jvm.Cond.superclass "java/lang/Throwable" "java/lang/Object") ∈ lw_all := lw_g (lw_at lw_m1 66 rfl) rfl
theorem q184 : (Jvm.Cond.instanceMethod ({ cls := "java/lang/Throwable", name := "<init>", desc := "()V" } : Jvm.MethodName)) ∈ lw_all := lw_g (lw_at lw_m1 67 rfl) rfl
theorem q185 : (Jvm.Cond.code ({ cls := "java/lang/Throwable", name := "<init>", desc := "()V" } : Jvm.MethodName) prog_39_method_1_code (1 : Nat) (Option.none : Option Jvm.ClassFile.FieldType)) ∈ lw_all := lw_g (lw_at lw_m1 68 rfl) rfl
theorem q186 : (Jvm.Cond.methodLink "java/lang/Throwable" (1 : Nat) ({ cls := "java/lang/Object", name := "<init>", desc := "()V" } : Jvm.MethodName)) ∈ lw_all := lw_g (lw_at lw_m1 69 rfl) rfl
theorem q187 : (Jvm.Cond.fieldLink "java/lang/Throwable" (13 : Nat) "java/lang/Throwable" "UNASSIGNED_STACK" "[Ljava/lang/StackTraceElement;") ∈ lw_all := lw_g (lw_at lw_m1 70 rfl) rfl
theorem q188 : (Jvm.Cond.laysStatic "java/lang/Throwable" "UNASSIGNED_STACK" "[Ljava/lang/StackTraceElement;") ∈ lw_tbl := lw_at lw_m1 71 rfl
theorem q189 : (Jvm.Cond.fieldLink "java/lang/Throwable" (20 : Nat) "java/lang/Throwable" "SUPPRESSED_SENTINEL" "Ljava/util/List;") ∈ lw_all := lw_g (lw_at lw_m1 72 rfl) rfl
theorem q190 : (Jvm.Cond.laysStatic "java/lang/Throwable" "SUPPRESSED_SENTINEL" "Ljava/util/List;") ∈ lw_tbl := lw_at lw_m1 73 rfl
theorem q191 : (Jvm.Cond.methodLink "java/lang/Throwable" (27 : Nat) ({ cls := "java/lang/Throwable", name := "fillInStackTrace", desc := "()Ljava/lang/Throwable;" } : Jvm.MethodName)) ∈ lw_all := lw_g (lw_at lw_m1 74 rfl) rfl
theorem q192 : (Jvm.Cond.instanceMethod ({ cls := "java/lang/Throwable", name := "fillInStackTrace", desc := "()Ljava/lang/Throwable;" } : Jvm.MethodName)) ∈ lw_all := lw_g (lw_at lw_m1 75 rfl) rfl
theorem q193 : (Jvm.Cond.sameMethod "java/lang/Throwable" "java/lang/Throwable" "fillInStackTrace" "()Ljava/lang/Throwable;") ∈ lw_all := lw_g (lw_at lw_m1 76 rfl) rfl
theorem q208 : (Jvm.Cond.declares ({ cls := "java/lang/Throwable", name := "fillInStackTrace", desc := "()Ljava/lang/Throwable;" } : Jvm.MethodName)) ∈ lw_tbl := lw_at lw_m1 91 rfl
theorem q212 : (Jvm.Cond.codeSync ({ cls := "java/lang/Throwable", name := "fillInStackTrace", desc := "()Ljava/lang/Throwable;" } : Jvm.MethodName) prog_39_method_18_code (1 : Nat) (Option.some (Jvm.ClassFile.FieldType.object "java/lang/Throwable"))) ∈ lw_all := lw_g (lw_at lw_m1 95 rfl) rfl
theorem q213 : (Jvm.Cond.methodLink "java/lang/Throwable" (202 : Nat) ({ cls := "java/lang/Throwable", name := "fillInStackTrace", desc := "(I)Ljava/lang/Throwable;" } : Jvm.MethodName)) ∈ lw_all := lw_g (lw_at lw_m1 96 rfl) rfl
theorem q214 : (Jvm.Cond.privateMethod ({ cls := "java/lang/Throwable", name := "fillInStackTrace", desc := "(I)Ljava/lang/Throwable;" } : Jvm.MethodName)) ∈ lw_tbl := lw_at lw_m1 97 rfl
theorem q215 : (Jvm.Cond.instanceMethod ({ cls := "java/lang/Throwable", name := "fillInStackTrace", desc := "(I)Ljava/lang/Throwable;" } : Jvm.MethodName)) ∈ lw_all := lw_g (lw_at lw_m1 98 rfl) rfl
theorem q216 : (Jvm.Cond.instantiable "java/lang/Throwable" (6 : Nat)) ∈ lw_all := lw_g (lw_at lw_m1 99 rfl) rfl
theorem q217 : (Jvm.Cond.native ({ cls := "java/lang/Throwable", name := "fillInStackTrace", desc := "(I)Ljava/lang/Throwable;" } : Jvm.MethodName)) ∈ lw_all := lw_g (lw_at lw_m1 100 rfl) rfl
theorem q228 : (Jvm.Cond.instanceMethod ({ cls := "java/lang/Throwable", name := "<init>", desc := "(Ljava/lang/String;Ljava/lang/Throwable;ZZ)V" } : Jvm.MethodName)) ∈ lw_all := lw_g (lw_at lw_m1 111 rfl) rfl
theorem q229 : (Jvm.Cond.code ({ cls := "java/lang/Throwable", name := "<init>", desc := "(Ljava/lang/String;Ljava/lang/Throwable;ZZ)V" } : Jvm.MethodName) prog_39_method_5_code (5 : Nat) (Option.none : Option Jvm.ClassFile.FieldType)) ∈ lw_all := lw_g (lw_at lw_m1 112 rfl) rfl
theorem q234 : (Jvm.Cond.fieldLink "java/lang/Throwable" (198 : Nat) "java/lang/Throwable" "backtrace" "Ljava/lang/Object;") ∈ lw_all := lw_g (lw_at lw_m1 117 rfl) rfl
theorem q235 : (Jvm.Cond.fieldLink "java/lang/Throwable" (31 : Nat) "java/lang/Throwable" "detailMessage" "Ljava/lang/String;") ∈ lw_all := lw_g (lw_at lw_m1 118 rfl) rfl
theorem q236 : (Jvm.Cond.fieldLink "java/lang/Throwable" (7 : Nat) "java/lang/Throwable" "cause" "Ljava/lang/Throwable;") ∈ lw_all := lw_g (lw_at lw_m1 119 rfl) rfl
theorem q237 : (Jvm.Cond.fieldLink "java/lang/Throwable" (17 : Nat) "java/lang/Throwable" "stackTrace" "[Ljava/lang/StackTraceElement;") ∈ lw_all := lw_g (lw_at lw_m1 120 rfl) rfl
theorem q238 : (Jvm.Cond.fieldLink "java/lang/Throwable" (24 : Nat) "java/lang/Throwable" "suppressedExceptions" "Ljava/util/List;") ∈ lw_all := lw_g (lw_at lw_m1 121 rfl) rfl
theorem q241 : (Jvm.Cond.soleField "java/lang/Throwable" "backtrace") ∈ lw_all := lw_g (lw_at lw_m1 124 rfl) rfl
theorem q242 : (Jvm.Cond.soleField "java/lang/Throwable" "detailMessage") ∈ lw_all := lw_g (lw_at lw_m1 125 rfl) rfl
theorem q243 : (Jvm.Cond.soleField "java/lang/Throwable" "cause") ∈ lw_all := lw_g (lw_at lw_m1 126 rfl) rfl
theorem q244 : (Jvm.Cond.soleField "java/lang/Throwable" "stackTrace") ∈ lw_all := lw_g (lw_at lw_m1 127 rfl) rfl
theorem q246 : (Jvm.Cond.soleField "java/lang/Throwable" "depth") ∈ lw_all := lw_g (lw_at lw_m1 129 rfl) rfl
theorem q247 : (Jvm.Cond.soleField "java/lang/Throwable" "suppressedExceptions") ∈ lw_all := lw_g (lw_at lw_m1 130 rfl) rfl
theorem q1206 : (Jvm.Cond.instanceMethod ({ cls := "java/lang/Throwable", name := "<init>", desc := "(Ljava/lang/String;)V" } : Jvm.MethodName)) ∈ lw_all := lw_g (lw_at lw_m5 129 rfl) rfl
theorem q1207 : (Jvm.Cond.code ({ cls := "java/lang/Throwable", name := "<init>", desc := "(Ljava/lang/String;)V" } : Jvm.MethodName) prog_39_method_2_code (2 : Nat) (Option.none : Option Jvm.ClassFile.FieldType)) ∈ lw_all := lw_g (lw_at lw_m5 130 rfl) rfl
theorem q2228 : (Jvm.Cond.sameMethod "java/lang/Throwable" "java/lang/Throwable" "fillInStackTrace" "(I)Ljava/lang/Throwable;") ∈ lw_all := lw_g (lw_at lw_m9 191 rfl) rfl
theorem in_J0 : ∀ w ∈ wsJ00, w ∈ lw_all := lw_in wsJ00 [173, 175, 177, 179, 181] (by decide +kernel) (by decide +kernel)
/-! java/lang/Exception -/
set_option maxRecDepth 100000
def RJ1 : String := "java/lang/Exception"
abbrev cJ1_init : ByteArray := prog_29_method_5_code
def yJ1_init : MethodName := ⟨RJ1, "<init>", "(Ljava/lang/String;Ljava/lang/Throwable;ZZ)V"⟩
def dkwJ1_init_0 : List UInt8 := [42, 43, 44, 29, 21, 4, 183, 0, 16, 177]
abbrev dktJ1_init_0 : List UInt8 := dkwJ1_init_0 ++ []
theorem dksJ1_init_0 : cJ1_init.data.toList.drop 0 = dktJ1_init_0 := by decide +kernel
theorem dJ1_init_0 : decode cJ1_init 0 = .ok (.aload_n 0, 1) := dk_42 (dk_at dksJ1_init_0 0 rfl rfl)
theorem dJ1_init_1 : decode cJ1_init 1 = .ok (.aload_n 1, 1) := dk_43 (dk_at dksJ1_init_0 1 rfl rfl)
theorem dJ1_init_2 : decode cJ1_init 2 = .ok (.aload_n 2, 1) := dk_44 (dk_at dksJ1_init_0 2 rfl rfl)
theorem dJ1_init_3 : decode cJ1_init 3 = .ok (.iload_n 3, 1) := dk_29 (dk_at dksJ1_init_0 3 rfl rfl)
theorem dJ1_init_4 : decode cJ1_init 4 = .ok (.iload 4, 2) := dk_21 4 (dk_at dksJ1_init_0 4 rfl rfl)
theorem dJ1_init_6 : decode cJ1_init 6 = .ok (.invokespecial 16, 3) := dk_183 0 16 (dk_at dksJ1_init_0 6 rfl rfl)
theorem dJ1_init_9 : decode cJ1_init 9 = .ok (.return_, 1) := dk_177 (dk_at dksJ1_init_0 9 rfl rfl)
abbrev cJ1_init_2 : ByteArray := prog_29_method_2_code
def yJ1_init_2 : MethodName := ⟨RJ1, "<init>", "(Ljava/lang/String;)V"⟩
def dkwJ1_init_2_0 : List UInt8 := [42, 43, 183, 0, 7, 177]
abbrev dktJ1_init_2_0 : List UInt8 := dkwJ1_init_2_0 ++ []
theorem dksJ1_init_2_0 : cJ1_init_2.data.toList.drop 0 = dktJ1_init_2_0 := by decide +kernel
theorem dJ1_init_2_0 : decode cJ1_init_2 0 = .ok (.aload_n 0, 1) := dk_42 (dk_at dksJ1_init_2_0 0 rfl rfl)
theorem dJ1_init_2_1 : decode cJ1_init_2 1 = .ok (.aload_n 1, 1) := dk_43 (dk_at dksJ1_init_2_0 1 rfl rfl)
theorem dJ1_init_2_2 : decode cJ1_init_2 2 = .ok (.invokespecial 7, 3) := dk_183 0 7 (dk_at dksJ1_init_2_0 2 rfl rfl)
theorem dJ1_init_2_5 : decode cJ1_init_2 5 = .ok (.return_, 1) := dk_177 (dk_at dksJ1_init_2_0 5 rfl rfl)
abbrev cJ1_init_3 : ByteArray := prog_29_method_1_code
def yJ1_init_3 : MethodName := ⟨RJ1, "<init>", "()V"⟩
theorem dJ1_init_3_0 : decode cJ1_init_3 0 = .ok (.aload_n 0, 1) := by decide +kernel
theorem dJ1_init_3_1 : decode cJ1_init_3 1 = .ok (.invokespecial 1, 3) := by decide +kernel
theorem dJ1_init_3_4 : decode cJ1_init_3 4 = .ok (.return_, 1) := by decide +kernel
theorem q120 : (Jvm.Cond.initialized "java/lang/Exception") ∈ lw_all := lw_g (lw_at lw_m1 3 rfl) rfl
theorem q166 : (Jvm.Cond.declares ({ cls := "java/lang/Exception", name := "<init>", desc := "()V" } : Jvm.MethodName)) ∈ lw_tbl := lw_at lw_m1 49 rfl
theorem q167 : (Jvm.Cond.declares ({ cls := "java/lang/Exception", name := "<init>", desc := "(Ljava/lang/String;)V" } : Jvm.MethodName)) ∈ lw_tbl := lw_at lw_m1 50 rfl
theorem q211 : (Jvm.Cond.superclass "java/lang/Exception" "java/lang/Throwable") ∈ lw_all := lw_g (lw_at lw_m1 94 rfl) rfl
theorem q225 : (Jvm.Cond.instanceMethod ({ cls := "java/lang/Exception", name := "<init>", desc := "(Ljava/lang/String;Ljava/lang/Throwable;ZZ)V" } : Jvm.MethodName)) ∈ lw_all := lw_g (lw_at lw_m1 108 rfl) rfl
theorem q226 : (Jvm.Cond.code ({ cls := "java/lang/Exception", name := "<init>", desc := "(Ljava/lang/String;Ljava/lang/Throwable;ZZ)V" } : Jvm.MethodName) prog_29_method_5_code (5 : Nat) (Option.none : Option Jvm.ClassFile.FieldType)) ∈ lw_all := lw_g (lw_at lw_m1 109 rfl) rfl
theorem q227 : (Jvm.Cond.methodLink "java/lang/Exception" (16 : Nat) ({ cls := "java/lang/Throwable", name := "<init>", desc := "(Ljava/lang/String;Ljava/lang/Throwable;ZZ)V" } : Jvm.MethodName)) ∈ lw_all := lw_g (lw_at lw_m1 110 rfl) rfl
theorem q1203 : (Jvm.Cond.instanceMethod ({ cls := "java/lang/Exception", name := "<init>", desc := "(Ljava/lang/String;)V" } : Jvm.MethodName)) ∈ lw_all := lw_g (lw_at lw_m5 126 rfl) rfl
theorem q1204 : (Jvm.Cond.code ({ cls := "java/lang/Exception", name := "<init>", desc := "(Ljava/lang/String;)V" } : Jvm.MethodName) prog_29_method_2_code (2 : Nat) (Option.none : Option Jvm.ClassFile.FieldType)) ∈ lw_all := lw_g (lw_at lw_m5 127 rfl) rfl
theorem q1205 : (Jvm.Cond.methodLink "java/lang/Exception" (7 : Nat) ({ cls := "java/lang/Throwable", name := "<init>", desc := "(Ljava/lang/String;)V" } : Jvm.MethodName)) ∈ lw_all := lw_g (lw_at lw_m5 128 rfl) rfl
theorem q1276 : (Jvm.Cond.instanceMethod ({ cls := "java/lang/Exception", name := "<init>", desc := "()V" } : Jvm.MethodName)) ∈ lw_all := lw_g (lw_at lw_m5 199 rfl) rfl
theorem q1277 : (Jvm.Cond.code ({ cls := "java/lang/Exception", name := "<init>", desc := "()V" } : Jvm.MethodName) prog_29_method_1_code (1 : Nat) (Option.none : Option Jvm.ClassFile.FieldType)) ∈ lw_all := lw_g (lw_at lw_m5 200 rfl) rfl
theorem q1278 : (Jvm.Cond.methodLink "java/lang/Exception" (1 : Nat) ({ cls := "java/lang/Throwable", name := "<init>", desc := "()V" } : Jvm.MethodName)) ∈ lw_all := lw_g (lw_at lw_m5 201 rfl) rfl
/-! java/lang/ClassCastException -/
set_option maxRecDepth 100000
def RJ10 : String := "java/lang/ClassCastException"
def TJ10 : u_T := fun k => match k with
  | 0 => ("java/lang/Throwable", "backtrace", "Ljava/lang/Object;", false)
  | 1 => ("java/lang/Throwable", "detailMessage", "Ljava/lang/String;", false)
  | 2 => ("java/lang/Throwable", "cause", "Ljava/lang/Throwable;", false)
  | 3 => ("java/lang/Throwable", "stackTrace", "[Ljava/lang/StackTraceElement;", false)
  | 4 => ("java/lang/Throwable", "depth", "I", false)
  | _ => ("java/lang/Throwable", "suppressedExceptions", "Ljava/util/List;", false)
def tyJ10 : Nat → FieldType := fun k => match k with
  | 0 => .object "java/lang/Object"
  | 1 => .object "java/lang/String"
  | 2 => .object "java/lang/Throwable"
  | 3 => .array (.object "java/lang/StackTraceElement")
  | 4 => .int
  | _ => .object "java/util/List"
abbrev wsJ100 : List Cond := u_ws RJ10 TJ10 6
theorem nmJ10 : ∀ a, a < 6 → ∀ b, b < 6 → a ≠ b → (TJ10 a).2.1 ≠ (TJ10 b).2.1 := by decide +kernel
theorem tyJ10_ok : ∀ k, k < 6 → parseFieldDescriptor (TJ10 k).2.2.1 = some (tyJ10 k) := by decide +kernel
abbrev cJ10_init : ByteArray := prog_28_method_2_code
def yJ10_init : MethodName := ⟨RJ10, "<init>", "(Ljava/lang/String;)V"⟩
def dkwJ10_init_0 : List UInt8 := [42, 43, 183, 0, 7, 177]
abbrev dktJ10_init_0 : List UInt8 := dkwJ10_init_0 ++ []
theorem dksJ10_init_0 : cJ10_init.data.toList.drop 0 = dktJ10_init_0 := by decide +kernel
theorem dJ10_init_0 : decode cJ10_init 0 = .ok (.aload_n 0, 1) := dk_42 (dk_at dksJ10_init_0 0 rfl rfl)
theorem dJ10_init_1 : decode cJ10_init 1 = .ok (.aload_n 1, 1) := dk_43 (dk_at dksJ10_init_0 1 rfl rfl)
theorem dJ10_init_2 : decode cJ10_init 2 = .ok (.invokespecial 7, 3) := dk_183 0 7 (dk_at dksJ10_init_0 2 rfl rfl)
theorem dJ10_init_5 : decode cJ10_init 5 = .ok (.return_, 1) := dk_177 (dk_at dksJ10_init_0 5 rfl rfl)
theorem q149 : (Jvm.Cond.initialized "java/lang/ClassCastException") ∈ lw_all := lw_g (lw_at lw_m1 32 rfl) rfl
theorem q196 : (Jvm.Cond.selects "java/lang/ClassCastException" ({ cls := "java/lang/Throwable", name := "fillInStackTrace", desc := "()Ljava/lang/Throwable;" } : Jvm.MethodName) ({ cls := "java/lang/Throwable", name := "fillInStackTrace", desc := "()Ljava/lang/Throwable;" } : Jvm.MethodName)) ∈ lw_all := lw_g (lw_at lw_m1 79 rfl) rfl
theorem q1256 : (Jvm.Cond.instantiable "java/lang/ClassCastException" (6 : Nat)) ∈ lw_all := lw_g (lw_at lw_m5 179 rfl) rfl
theorem q1257 : (Jvm.Cond.instanceMethod ({ cls := "java/lang/ClassCastException", name := "<init>", desc := "(Ljava/lang/String;)V" } : Jvm.MethodName)) ∈ lw_all := lw_g (lw_at lw_m5 180 rfl) rfl
theorem q1258 : (Jvm.Cond.code ({ cls := "java/lang/ClassCastException", name := "<init>", desc := "(Ljava/lang/String;)V" } : Jvm.MethodName) prog_28_method_2_code (2 : Nat) (Option.none : Option Jvm.ClassFile.FieldType)) ∈ lw_all := lw_g (lw_at lw_m5 181 rfl) rfl
theorem q1259 : (Jvm.Cond.methodLink "java/lang/ClassCastException" (7 : Nat) ({ cls := "java/lang/RuntimeException", name := "<init>", desc := "(Ljava/lang/String;)V" } : Jvm.MethodName)) ∈ lw_all := lw_g (lw_at lw_m5 182 rfl) rfl
theorem q1260 : (Jvm.Cond.lays "java/lang/ClassCastException" "java/lang/Throwable" "backtrace" "Ljava/lang/Object;") ∈ lw_all := lw_g (lw_at lw_m5 183 rfl) rfl
theorem q1261 : (Jvm.Cond.lays "java/lang/ClassCastException" "java/lang/Throwable" "detailMessage" "Ljava/lang/String;") ∈ lw_all := lw_g (lw_at lw_m5 184 rfl) rfl
theorem q1262 : (Jvm.Cond.lays "java/lang/ClassCastException" "java/lang/Throwable" "cause" "Ljava/lang/Throwable;") ∈ lw_all := lw_g (lw_at lw_m5 185 rfl) rfl
theorem q1263 : (Jvm.Cond.lays "java/lang/ClassCastException" "java/lang/Throwable" "stackTrace" "[Ljava/lang/StackTraceElement;") ∈ lw_all := lw_g (lw_at lw_m5 186 rfl) rfl
theorem q1264 : (Jvm.Cond.lays "java/lang/ClassCastException" "java/lang/Throwable" "depth" "I") ∈ lw_all := lw_g (lw_at lw_m5 187 rfl) rfl
theorem q1265 : (Jvm.Cond.lays "java/lang/ClassCastException" "java/lang/Throwable" "suppressedExceptions" "Ljava/util/List;") ∈ lw_all := lw_g (lw_at lw_m5 188 rfl) rfl
theorem q1266 : (Jvm.Cond.superclass "java/lang/ClassCastException" "java/lang/RuntimeException") ∈ lw_all := lw_g (lw_at lw_m5 189 rfl) rfl
theorem q1267 : (Jvm.Cond.castable "java/lang/ClassCastException" "java/lang/ClassCastException") ∈ lw_tbl := lw_at lw_m5 190 rfl
theorem q1268 : (Jvm.Cond.selects "java/lang/ClassCastException" ({ cls := "java/lang/Throwable", name := "fillInStackTrace", desc := "(I)Ljava/lang/Throwable;" } : Jvm.MethodName) ({ cls := "java/lang/Throwable", name := "fillInStackTrace", desc := "(I)Ljava/lang/Throwable;" } : Jvm.MethodName)) ∈ lw_all := lw_g (lw_at lw_m5 191 rfl) rfl
theorem in_J10 : ∀ w ∈ wsJ100, w ∈ lw_all := lw_in wsJ100 [1260, 1261, 1262, 1263, 1264, 1265] (by decide +kernel) (by decide +kernel)
/-! java/lang/NullPointerException -/
set_option maxRecDepth 100000
def RJ11 : String := "java/lang/NullPointerException"
def TJ11 : u_T := fun k => match k with
  | 0 => ("java/lang/Throwable", "backtrace", "Ljava/lang/Object;", false)
  | 1 => ("java/lang/Throwable", "detailMessage", "Ljava/lang/String;", false)
  | 2 => ("java/lang/Throwable", "cause", "Ljava/lang/Throwable;", false)
  | 3 => ("java/lang/Throwable", "stackTrace", "[Ljava/lang/StackTraceElement;", false)
  | 4 => ("java/lang/Throwable", "depth", "I", false)
  | 5 => ("java/lang/Throwable", "suppressedExceptions", "Ljava/util/List;", false)
  | 6 => ("java/lang/NullPointerException", "extendedMessageState", "I", false)
  | _ => ("java/lang/NullPointerException", "extendedMessage", "Ljava/lang/String;", false)
def tyJ11 : Nat → FieldType := fun k => match k with
  | 0 => .object "java/lang/Object"
  | 1 => .object "java/lang/String"
  | 2 => .object "java/lang/Throwable"
  | 3 => .array (.object "java/lang/StackTraceElement")
  | 4 => .int
  | 5 => .object "java/util/List"
  | 6 => .int
  | _ => .object "java/lang/String"
abbrev wsJ110 : List Cond := u_ws RJ11 TJ11 8
theorem nmJ11 : ∀ a, a < 8 → ∀ b, b < 8 → a ≠ b → (TJ11 a).2.1 ≠ (TJ11 b).2.1 := by decide +kernel
theorem tyJ11_ok : ∀ k, k < 8 → parseFieldDescriptor (TJ11 k).2.2.1 = some (tyJ11 k) := by decide +kernel
abbrev cJ11_init : ByteArray := prog_33_method_1_code
def yJ11_init : MethodName := ⟨RJ11, "<init>", "()V"⟩
theorem dJ11_init_0 : decode cJ11_init 0 = .ok (.aload_n 0, 1) := by decide +kernel
theorem dJ11_init_1 : decode cJ11_init 1 = .ok (.invokespecial 1, 3) := by decide +kernel
theorem dJ11_init_4 : decode cJ11_init 4 = .ok (.return_, 1) := by decide +kernel
theorem q150 : (Jvm.Cond.initialized "java/lang/NullPointerException") ∈ lw_all := lw_g (lw_at lw_m1 33 rfl) rfl
theorem q198 : (Jvm.Cond.selects "java/lang/NullPointerException" ({ cls := "java/lang/Throwable", name := "fillInStackTrace", desc := "()Ljava/lang/Throwable;" } : Jvm.MethodName) ({ cls := "java/lang/NullPointerException", name := "fillInStackTrace", desc := "()Ljava/lang/Throwable;" } : Jvm.MethodName)) ∈ lw_all := lw_g (lw_at lw_m1 81 rfl) rfl
theorem q199 : (Jvm.Cond.instanceMethod ({ cls := "java/lang/NullPointerException", name := "fillInStackTrace", desc := "()Ljava/lang/Throwable;" } : Jvm.MethodName)) ∈ lw_all := lw_g (lw_at lw_m1 82 rfl) rfl
theorem q200 : (Jvm.Cond.codeSync ({ cls := "java/lang/NullPointerException", name := "fillInStackTrace", desc := "()Ljava/lang/Throwable;" } : Jvm.MethodName) prog_33_method_3_code (1 : Nat) (Option.some (Jvm.ClassFile.FieldType.object "java/lang/Throwable"))) ∈ lw_all := lw_g (lw_at lw_m1 83 rfl) rfl
theorem q201 : (Jvm.Cond.methodLink "java/lang/NullPointerException" (16 : Nat) ({ cls := "java/lang/NullPointerException", name := "getExtendedNPEMessage", desc := "()Ljava/lang/String;" } : Jvm.MethodName)) ∈ lw_all := lw_g (lw_at lw_m1 84 rfl) rfl
theorem q202 : (Jvm.Cond.privateMethod ({ cls := "java/lang/NullPointerException", name := "getExtendedNPEMessage", desc := "()Ljava/lang/String;" } : Jvm.MethodName)) ∈ lw_tbl := lw_at lw_m1 85 rfl
theorem q203 : (Jvm.Cond.instanceMethod ({ cls := "java/lang/NullPointerException", name := "getExtendedNPEMessage", desc := "()Ljava/lang/String;" } : Jvm.MethodName)) ∈ lw_all := lw_g (lw_at lw_m1 86 rfl) rfl
theorem q204 : (Jvm.Cond.instantiable "java/lang/NullPointerException" (8 : Nat)) ∈ lw_all := lw_g (lw_at lw_m1 87 rfl) rfl
theorem q205 : (Jvm.Cond.native ({ cls := "java/lang/NullPointerException", name := "getExtendedNPEMessage", desc := "()Ljava/lang/String;" } : Jvm.MethodName)) ∈ lw_all := lw_g (lw_at lw_m1 88 rfl) rfl
theorem q206 : (Jvm.Cond.methodLink "java/lang/NullPointerException" (24 : Nat) ({ cls := "java/lang/RuntimeException", name := "fillInStackTrace", desc := "()Ljava/lang/Throwable;" } : Jvm.MethodName)) ∈ lw_all := lw_g (lw_at lw_m1 89 rfl) rfl
theorem q209 : (Jvm.Cond.superclass "java/lang/NullPointerException" "java/lang/RuntimeException") ∈ lw_all := lw_g (lw_at lw_m1 92 rfl) rfl
theorem q1270 : (Jvm.Cond.instanceMethod ({ cls := "java/lang/NullPointerException", name := "<init>", desc := "()V" } : Jvm.MethodName)) ∈ lw_all := lw_g (lw_at lw_m5 193 rfl) rfl
theorem q1271 : (Jvm.Cond.code ({ cls := "java/lang/NullPointerException", name := "<init>", desc := "()V" } : Jvm.MethodName) prog_33_method_1_code (1 : Nat) (Option.none : Option Jvm.ClassFile.FieldType)) ∈ lw_all := lw_g (lw_at lw_m5 194 rfl) rfl
theorem q1272 : (Jvm.Cond.methodLink "java/lang/NullPointerException" (1 : Nat) ({ cls := "java/lang/RuntimeException", name := "<init>", desc := "()V" } : Jvm.MethodName)) ∈ lw_all := lw_g (lw_at lw_m5 195 rfl) rfl
theorem q1279 : (Jvm.Cond.fieldLink "java/lang/NullPointerException" (10 : Nat) "java/lang/NullPointerException" "extendedMessageState" "I") ∈ lw_all := lw_g (lw_at lw_m5 202 rfl) rfl
theorem q1280 : (Jvm.Cond.fieldLink "java/lang/NullPointerException" (20 : Nat) "java/lang/NullPointerException" "extendedMessage" "Ljava/lang/String;") ∈ lw_all := lw_g (lw_at lw_m5 203 rfl) rfl
theorem q1281 : (Jvm.Cond.lays "java/lang/NullPointerException" "java/lang/NullPointerException" "extendedMessageState" "I") ∈ lw_all := lw_g (lw_at lw_m5 204 rfl) rfl
theorem q1282 : (Jvm.Cond.soleField "java/lang/NullPointerException" "extendedMessageState") ∈ lw_all := lw_g (lw_at lw_m5 205 rfl) rfl
theorem q1283 : (Jvm.Cond.lays "java/lang/NullPointerException" "java/lang/NullPointerException" "extendedMessage" "Ljava/lang/String;") ∈ lw_all := lw_g (lw_at lw_m5 206 rfl) rfl
theorem q1284 : (Jvm.Cond.soleField "java/lang/NullPointerException" "extendedMessage") ∈ lw_all := lw_g (lw_at lw_m5 207 rfl) rfl
theorem q1285 : (Jvm.Cond.lays "java/lang/NullPointerException" "java/lang/Throwable" "backtrace" "Ljava/lang/Object;") ∈ lw_all := lw_g (lw_at lw_m5 208 rfl) rfl
theorem q1286 : (Jvm.Cond.lays "java/lang/NullPointerException" "java/lang/Throwable" "detailMessage" "Ljava/lang/String;") ∈ lw_all := lw_g (lw_at lw_m5 209 rfl) rfl
theorem q1287 : (Jvm.Cond.lays "java/lang/NullPointerException" "java/lang/Throwable" "cause" "Ljava/lang/Throwable;") ∈ lw_all := lw_g (lw_at lw_m5 210 rfl) rfl
theorem q1288 : (Jvm.Cond.lays "java/lang/NullPointerException" "java/lang/Throwable" "stackTrace" "[Ljava/lang/StackTraceElement;") ∈ lw_all := lw_g (lw_at lw_m5 211 rfl) rfl
theorem q1289 : (Jvm.Cond.lays "java/lang/NullPointerException" "java/lang/Throwable" "depth" "I") ∈ lw_all := lw_g (lw_at lw_m5 212 rfl) rfl
theorem q1290 : (Jvm.Cond.lays "java/lang/NullPointerException" "java/lang/Throwable" "suppressedExceptions" "Ljava/util/List;") ∈ lw_all := lw_g (lw_at lw_m5 213 rfl) rfl
theorem q1291 : (Jvm.Cond.castable "java/lang/NullPointerException" "java/lang/NullPointerException") ∈ lw_tbl := lw_at lw_m5 214 rfl
theorem q1292 : (Jvm.Cond.selects "java/lang/NullPointerException" ({ cls := "java/lang/Throwable", name := "fillInStackTrace", desc := "(I)Ljava/lang/Throwable;" } : Jvm.MethodName) ({ cls := "java/lang/Throwable", name := "fillInStackTrace", desc := "(I)Ljava/lang/Throwable;" } : Jvm.MethodName)) ∈ lw_all := lw_g (lw_at lw_m5 215 rfl) rfl
theorem in_J11 : ∀ w ∈ wsJ110, w ∈ lw_all := lw_in wsJ110 [1285, 1286, 1287, 1288, 1289, 1290, 1281, 1283] (by decide +kernel) (by decide +kernel)
/-! java/lang/ArithmeticException -/
set_option maxRecDepth 100000
def RJ12 : String := "java/lang/ArithmeticException"
def TJ12 : u_T := fun k => match k with
  | 0 => ("java/lang/Throwable", "backtrace", "Ljava/lang/Object;", false)
  | 1 => ("java/lang/Throwable", "detailMessage", "Ljava/lang/String;", false)
  | 2 => ("java/lang/Throwable", "cause", "Ljava/lang/Throwable;", false)
  | 3 => ("java/lang/Throwable", "stackTrace", "[Ljava/lang/StackTraceElement;", false)
  | 4 => ("java/lang/Throwable", "depth", "I", false)
  | _ => ("java/lang/Throwable", "suppressedExceptions", "Ljava/util/List;", false)
def tyJ12 : Nat → FieldType := fun k => match k with
  | 0 => .object "java/lang/Object"
  | 1 => .object "java/lang/String"
  | 2 => .object "java/lang/Throwable"
  | 3 => .array (.object "java/lang/StackTraceElement")
  | 4 => .int
  | _ => .object "java/util/List"
abbrev wsJ120 : List Cond := u_ws RJ12 TJ12 6
theorem nmJ12 : ∀ a, a < 6 → ∀ b, b < 6 → a ≠ b → (TJ12 a).2.1 ≠ (TJ12 b).2.1 := by decide +kernel
theorem tyJ12_ok : ∀ k, k < 6 → parseFieldDescriptor (TJ12 k).2.2.1 = some (tyJ12 k) := by decide +kernel
abbrev cJ12_init : ByteArray := prog_27_method_2_code
def yJ12_init : MethodName := ⟨RJ12, "<init>", "(Ljava/lang/String;)V"⟩
def dkwJ12_init_0 : List UInt8 := [42, 43, 183, 0, 7, 177]
abbrev dktJ12_init_0 : List UInt8 := dkwJ12_init_0 ++ []
theorem dksJ12_init_0 : cJ12_init.data.toList.drop 0 = dktJ12_init_0 := by decide +kernel
theorem dJ12_init_0 : decode cJ12_init 0 = .ok (.aload_n 0, 1) := dk_42 (dk_at dksJ12_init_0 0 rfl rfl)
theorem dJ12_init_1 : decode cJ12_init 1 = .ok (.aload_n 1, 1) := dk_43 (dk_at dksJ12_init_0 1 rfl rfl)
theorem dJ12_init_2 : decode cJ12_init 2 = .ok (.invokespecial 7, 3) := dk_183 0 7 (dk_at dksJ12_init_0 2 rfl rfl)
theorem dJ12_init_5 : decode cJ12_init 5 = .ok (.return_, 1) := dk_177 (dk_at dksJ12_init_0 5 rfl rfl)
theorem q152 : (Jvm.Cond.initialized "java/lang/ArithmeticException") ∈ lw_all := lw_g (lw_at lw_m1 35 rfl) rfl
theorem q195 : (Jvm.Cond.selects "java/lang/ArithmeticException" ({ cls := "java/lang/Throwable", name := "fillInStackTrace", desc := "()Ljava/lang/Throwable;" } : Jvm.MethodName) ({ cls := "java/lang/Throwable", name := "fillInStackTrace", desc := "()Ljava/lang/Throwable;" } : Jvm.MethodName)) ∈ lw_all := lw_g (lw_at lw_m1 78 rfl) rfl
theorem q1352 : (Jvm.Cond.instantiable "java/lang/ArithmeticException" (6 : Nat)) ∈ lw_all := lw_g (lw_at lw_m6 35 rfl) rfl
theorem q1353 : (Jvm.Cond.instanceMethod ({ cls := "java/lang/ArithmeticException", name := "<init>", desc := "(Ljava/lang/String;)V" } : Jvm.MethodName)) ∈ lw_all := lw_g (lw_at lw_m6 36 rfl) rfl
theorem q1354 : (Jvm.Cond.code ({ cls := "java/lang/ArithmeticException", name := "<init>", desc := "(Ljava/lang/String;)V" } : Jvm.MethodName) prog_27_method_2_code (2 : Nat) (Option.none : Option Jvm.ClassFile.FieldType)) ∈ lw_all := lw_g (lw_at lw_m6 37 rfl) rfl
theorem q1355 : (Jvm.Cond.methodLink "java/lang/ArithmeticException" (7 : Nat) ({ cls := "java/lang/RuntimeException", name := "<init>", desc := "(Ljava/lang/String;)V" } : Jvm.MethodName)) ∈ lw_all := lw_g (lw_at lw_m6 38 rfl) rfl
theorem q1356 : (Jvm.Cond.lays "java/lang/ArithmeticException" "java/lang/Throwable" "backtrace" "Ljava/lang/Object;") ∈ lw_all := lw_g (lw_at lw_m6 39 rfl) rfl
theorem q1357 : (Jvm.Cond.lays "java/lang/ArithmeticException" "java/lang/Throwable" "detailMessage" "Ljava/lang/String;") ∈ lw_all := lw_g (lw_at lw_m6 40 rfl) rfl
theorem q1358 : (Jvm.Cond.lays "java/lang/ArithmeticException" "java/lang/Throwable" "cause" "Ljava/lang/Throwable;") ∈ lw_all := lw_g (lw_at lw_m6 41 rfl) rfl
theorem q1359 : (Jvm.Cond.lays "java/lang/ArithmeticException" "java/lang/Throwable" "stackTrace" "[Ljava/lang/StackTraceElement;") ∈ lw_all := lw_g (lw_at lw_m6 42 rfl) rfl
theorem q1360 : (Jvm.Cond.lays "java/lang/ArithmeticException" "java/lang/Throwable" "depth" "I") ∈ lw_all := lw_g (lw_at lw_m6 43 rfl) rfl
theorem q1361 : (Jvm.Cond.lays "java/lang/ArithmeticException" "java/lang/Throwable" "suppressedExceptions" "Ljava/util/List;") ∈ lw_all := lw_g (lw_at lw_m6 44 rfl) rfl
theorem q1362 : (Jvm.Cond.superclass "java/lang/ArithmeticException" "java/lang/RuntimeException") ∈ lw_all := lw_g (lw_at lw_m6 45 rfl) rfl
theorem q1363 : (Jvm.Cond.castable "java/lang/ArithmeticException" "java/lang/ArithmeticException") ∈ lw_tbl := lw_at lw_m6 46 rfl
theorem q1364 : (Jvm.Cond.selects "java/lang/ArithmeticException" ({ cls := "java/lang/Throwable", name := "fillInStackTrace", desc := "(I)Ljava/lang/Throwable;" } : Jvm.MethodName) ({ cls := "java/lang/Throwable", name := "fillInStackTrace", desc := "(I)Ljava/lang/Throwable;" } : Jvm.MethodName)) ∈ lw_all := lw_g (lw_at lw_m6 47 rfl) rfl
theorem in_J12 : ∀ w ∈ wsJ120, w ∈ lw_all := lw_in wsJ120 [1356, 1357, 1358, 1359, 1360, 1361] (by decide +kernel) (by decide +kernel)
/-! java/lang/Object -/
set_option maxRecDepth 100000
def RJ13 : String := "java/lang/Object"
abbrev cJ13_init : ByteArray := object_method_1_code
def yJ13_init : MethodName := ⟨RJ13, "<init>", "()V"⟩
theorem dJ13_init_0 : decode cJ13_init 0 = .ok (.return_, 1) := by decide +kernel
theorem q159 : (Jvm.Cond.instanceMethod ({ cls := "java/lang/Object", name := "<init>", desc := "()V" } : Jvm.MethodName)) ∈ lw_all := lw_g (lw_at lw_m1 42 rfl) rfl
theorem q160 : (Jvm.Cond.code ({ cls := "java/lang/Object", name := "<init>", desc := "()V" } : Jvm.MethodName) object_method_1_code (1 : Nat) (Option.none : Option Jvm.ClassFile.FieldType)) ∈ lw_all := lw_g (lw_at lw_m1 43 rfl) rfl
/-! java/lang/RuntimeException -/
set_option maxRecDepth 100000
def RJ2 : String := "java/lang/RuntimeException"
abbrev cJ2_init : ByteArray := prog_34_method_5_code
def yJ2_init : MethodName := ⟨RJ2, "<init>", "(Ljava/lang/String;Ljava/lang/Throwable;ZZ)V"⟩
def dkwJ2_init_0 : List UInt8 := [42, 43, 44, 29, 21, 4, 183, 0, 16, 177]
abbrev dktJ2_init_0 : List UInt8 := dkwJ2_init_0 ++ []
theorem dksJ2_init_0 : cJ2_init.data.toList.drop 0 = dktJ2_init_0 := by decide +kernel
theorem dJ2_init_0 : decode cJ2_init 0 = .ok (.aload_n 0, 1) := dk_42 (dk_at dksJ2_init_0 0 rfl rfl)
theorem dJ2_init_1 : decode cJ2_init 1 = .ok (.aload_n 1, 1) := dk_43 (dk_at dksJ2_init_0 1 rfl rfl)
theorem dJ2_init_2 : decode cJ2_init 2 = .ok (.aload_n 2, 1) := dk_44 (dk_at dksJ2_init_0 2 rfl rfl)
theorem dJ2_init_3 : decode cJ2_init 3 = .ok (.iload_n 3, 1) := dk_29 (dk_at dksJ2_init_0 3 rfl rfl)
theorem dJ2_init_4 : decode cJ2_init 4 = .ok (.iload 4, 2) := dk_21 4 (dk_at dksJ2_init_0 4 rfl rfl)
theorem dJ2_init_6 : decode cJ2_init 6 = .ok (.invokespecial 16, 3) := dk_183 0 16 (dk_at dksJ2_init_0 6 rfl rfl)
theorem dJ2_init_9 : decode cJ2_init 9 = .ok (.return_, 1) := dk_177 (dk_at dksJ2_init_0 9 rfl rfl)
abbrev cJ2_init_2 : ByteArray := prog_34_method_2_code
def yJ2_init_2 : MethodName := ⟨RJ2, "<init>", "(Ljava/lang/String;)V"⟩
def dkwJ2_init_2_0 : List UInt8 := [42, 43, 183, 0, 7, 177]
abbrev dktJ2_init_2_0 : List UInt8 := dkwJ2_init_2_0 ++ []
theorem dksJ2_init_2_0 : cJ2_init_2.data.toList.drop 0 = dktJ2_init_2_0 := by decide +kernel
theorem dJ2_init_2_0 : decode cJ2_init_2 0 = .ok (.aload_n 0, 1) := dk_42 (dk_at dksJ2_init_2_0 0 rfl rfl)
theorem dJ2_init_2_1 : decode cJ2_init_2 1 = .ok (.aload_n 1, 1) := dk_43 (dk_at dksJ2_init_2_0 1 rfl rfl)
theorem dJ2_init_2_2 : decode cJ2_init_2 2 = .ok (.invokespecial 7, 3) := dk_183 0 7 (dk_at dksJ2_init_2_0 2 rfl rfl)
theorem dJ2_init_2_5 : decode cJ2_init_2 5 = .ok (.return_, 1) := dk_177 (dk_at dksJ2_init_2_0 5 rfl rfl)
abbrev cJ2_init_3 : ByteArray := prog_34_method_1_code
def yJ2_init_3 : MethodName := ⟨RJ2, "<init>", "()V"⟩
theorem dJ2_init_3_0 : decode cJ2_init_3 0 = .ok (.aload_n 0, 1) := by decide +kernel
theorem dJ2_init_3_1 : decode cJ2_init_3 1 = .ok (.invokespecial 1, 3) := by decide +kernel
theorem dJ2_init_3_4 : decode cJ2_init_3 4 = .ok (.return_, 1) := by decide +kernel
theorem q121 : (Jvm.Cond.initialized "java/lang/RuntimeException") ∈ lw_all := lw_g (lw_at lw_m1 4 rfl) rfl
theorem q164 : (Jvm.Cond.declares ({ cls := "java/lang/RuntimeException", name := "<init>", desc := "()V" } : Jvm.MethodName)) ∈ lw_tbl := lw_at lw_m1 47 rfl
theorem q165 : (Jvm.Cond.declares ({ cls := "java/lang/RuntimeException", name := "<init>", desc := "(Ljava/lang/String;)V" } : Jvm.MethodName)) ∈ lw_tbl := lw_at lw_m1 48 rfl
theorem q207 : (Jvm.Cond.sameMethod "java/lang/RuntimeException" "java/lang/Throwable" "fillInStackTrace" "()Ljava/lang/Throwable;") ∈ lw_all := lw_g (lw_at lw_m1 90 rfl) rfl
theorem q210 : (Jvm.Cond.superclass "java/lang/RuntimeException" "java/lang/Exception") ∈ lw_all := lw_g (lw_at lw_m1 93 rfl) rfl
theorem q222 : (Jvm.Cond.instanceMethod ({ cls := "java/lang/RuntimeException", name := "<init>", desc := "(Ljava/lang/String;Ljava/lang/Throwable;ZZ)V" } : Jvm.MethodName)) ∈ lw_all := lw_g (lw_at lw_m1 105 rfl) rfl
theorem q223 : (Jvm.Cond.code ({ cls := "java/lang/RuntimeException", name := "<init>", desc := "(Ljava/lang/String;Ljava/lang/Throwable;ZZ)V" } : Jvm.MethodName) prog_34_method_5_code (5 : Nat) (Option.none : Option Jvm.ClassFile.FieldType)) ∈ lw_all := lw_g (lw_at lw_m1 106 rfl) rfl
theorem q224 : (Jvm.Cond.methodLink "java/lang/RuntimeException" (16 : Nat) ({ cls := "java/lang/Exception", name := "<init>", desc := "(Ljava/lang/String;Ljava/lang/Throwable;ZZ)V" } : Jvm.MethodName)) ∈ lw_all := lw_g (lw_at lw_m1 107 rfl) rfl
theorem q1200 : (Jvm.Cond.instanceMethod ({ cls := "java/lang/RuntimeException", name := "<init>", desc := "(Ljava/lang/String;)V" } : Jvm.MethodName)) ∈ lw_all := lw_g (lw_at lw_m5 123 rfl) rfl
theorem q1201 : (Jvm.Cond.code ({ cls := "java/lang/RuntimeException", name := "<init>", desc := "(Ljava/lang/String;)V" } : Jvm.MethodName) prog_34_method_2_code (2 : Nat) (Option.none : Option Jvm.ClassFile.FieldType)) ∈ lw_all := lw_g (lw_at lw_m5 124 rfl) rfl
theorem q1202 : (Jvm.Cond.methodLink "java/lang/RuntimeException" (7 : Nat) ({ cls := "java/lang/Exception", name := "<init>", desc := "(Ljava/lang/String;)V" } : Jvm.MethodName)) ∈ lw_all := lw_g (lw_at lw_m5 125 rfl) rfl
theorem q1273 : (Jvm.Cond.instanceMethod ({ cls := "java/lang/RuntimeException", name := "<init>", desc := "()V" } : Jvm.MethodName)) ∈ lw_all := lw_g (lw_at lw_m5 196 rfl) rfl
theorem q1274 : (Jvm.Cond.code ({ cls := "java/lang/RuntimeException", name := "<init>", desc := "()V" } : Jvm.MethodName) prog_34_method_1_code (1 : Nat) (Option.none : Option Jvm.ClassFile.FieldType)) ∈ lw_all := lw_g (lw_at lw_m5 197 rfl) rfl
theorem q1275 : (Jvm.Cond.methodLink "java/lang/RuntimeException" (1 : Nat) ({ cls := "java/lang/Exception", name := "<init>", desc := "()V" } : Jvm.MethodName)) ∈ lw_all := lw_g (lw_at lw_m5 198 rfl) rfl
theorem q1293 : (Jvm.Cond.castable "java/lang/RuntimeException" "java/lang/Throwable") ∈ lw_tbl := lw_at lw_m5 216 rfl
/-! java/lang/String -/
set_option maxRecDepth 100000
def RJ3 : String := "java/lang/String"
def TJ3 : u_T := fun k => match k with
  | 0 => ("java/lang/String", "value", "[B", true)
  | _ => ("java/lang/String", "coder", "B", true)
def tyJ3 : Nat → FieldType := fun k => match k with
  | 0 => .array .byte
  | _ => .byte
abbrev wsJ30 : List Cond := u_ws RJ3 TJ3 2
theorem nmJ3 : ∀ a, a < 2 → ∀ b, b < 2 → a ≠ b → (TJ3 a).2.1 ≠ (TJ3 b).2.1 := by decide +kernel
theorem tyJ3_ok : ∀ k, k < 2 → parseFieldDescriptor (TJ3 k).2.2.1 = some (tyJ3 k) := by decide +kernel
abbrev cJ3_length : ByteArray := prog_35_method_54_code
def yJ3_length : MethodName := ⟨RJ3, "length", "()I"⟩
def dkwJ3_length_0 : List UInt8 := [42, 180, 0, 9, 190, 42, 182, 1, 79, 122, 172]
abbrev dktJ3_length_0 : List UInt8 := dkwJ3_length_0 ++ []
theorem dksJ3_length_0 : cJ3_length.data.toList.drop 0 = dktJ3_length_0 := by decide +kernel
theorem dJ3_length_0 : decode cJ3_length 0 = .ok (.aload_n 0, 1) := dk_42 (dk_at dksJ3_length_0 0 rfl rfl)
theorem dJ3_length_1 : decode cJ3_length 1 = .ok (.getfield 9, 3) := dk_180 0 9 (dk_at dksJ3_length_0 1 rfl rfl)
theorem dJ3_length_4 : decode cJ3_length 4 = .ok (.arraylength, 1) := dk_190 (dk_at dksJ3_length_0 4 rfl rfl)
theorem dJ3_length_5 : decode cJ3_length 5 = .ok (.aload_n 0, 1) := dk_42 (dk_at dksJ3_length_0 5 rfl rfl)
theorem dJ3_length_6 : decode cJ3_length 6 = .ok (.invokevirtual 335, 3) := dk_182 1 79 (dk_at dksJ3_length_0 6 rfl rfl)
theorem dJ3_length_9 : decode cJ3_length 9 = .ok (.ishr, 1) := dk_122 (dk_at dksJ3_length_0 9 rfl rfl)
theorem dJ3_length_10 : decode cJ3_length 10 = .ok (.ireturn, 1) := dk_172 (dk_at dksJ3_length_0 10 rfl rfl)
abbrev cJ3_coder : ByteArray := prog_35_method_152_code
def yJ3_coder : MethodName := ⟨RJ3, "coder", "()B"⟩
def dkwJ3_coder_0 : List UInt8 := [178, 0, 38, 153, 0, 10, 42, 180, 0, 15, 167, 0, 4, 4, 172]
abbrev dktJ3_coder_0 : List UInt8 := dkwJ3_coder_0 ++ []
theorem dksJ3_coder_0 : cJ3_coder.data.toList.drop 0 = dktJ3_coder_0 := by decide +kernel
theorem dJ3_coder_0 : decode cJ3_coder 0 = .ok (.getstatic 38, 3) := dk_178 0 38 (dk_at dksJ3_coder_0 0 rfl rfl)
theorem dJ3_coder_3 : decode cJ3_coder 3 = .ok (.ifCond .eq 10, 3) := dk_153 0 10 (dk_at dksJ3_coder_0 3 rfl rfl)
theorem dJ3_coder_6 : decode cJ3_coder 6 = .ok (.aload_n 0, 1) := dk_42 (dk_at dksJ3_coder_0 6 rfl rfl)
theorem dJ3_coder_7 : decode cJ3_coder 7 = .ok (.getfield 15, 3) := dk_180 0 15 (dk_at dksJ3_coder_0 7 rfl rfl)
theorem dJ3_coder_10 : decode cJ3_coder 10 = .ok (.goto 4, 3) := dk_167 0 4 (dk_at dksJ3_coder_0 10 rfl rfl)
theorem dJ3_coder_13 : decode cJ3_coder 13 = .ok (.iconst 1, 1) := dk_4 (dk_at dksJ3_coder_0 13 rfl rfl)
theorem dJ3_coder_14 : decode cJ3_coder 14 = .ok (.ireturn, 1) := dk_172 (dk_at dksJ3_coder_0 14 rfl rfl)
abbrev cJ3_charAt : ByteArray := prog_35_method_56_code
def yJ3_charAt : MethodName := ⟨RJ3, "charAt", "(I)C"⟩
def dkwJ3_charAt_1 : List UInt8 := [172]
abbrev dktJ3_charAt_1 : List UInt8 := dkwJ3_charAt_1 ++ []
def dkwJ3_charAt_0 : List UInt8 := [42, 182, 1, 236, 153, 0, 12, 42, 180, 0, 9, 27, 184, 1, 239, 172, 42, 180, 0, 9, 27, 184, 1, 242]
abbrev dktJ3_charAt_0 : List UInt8 := dkwJ3_charAt_0 ++ dktJ3_charAt_1
theorem dksJ3_charAt_0 : cJ3_charAt.data.toList.drop 0 = dktJ3_charAt_0 := by decide +kernel
theorem dksJ3_charAt_1 : cJ3_charAt.data.toList.drop 24 = dktJ3_charAt_1 := dk_seg dksJ3_charAt_0 24 rfl rfl
theorem dJ3_charAt_0 : decode cJ3_charAt 0 = .ok (.aload_n 0, 1) := dk_42 (dk_at dksJ3_charAt_0 0 rfl rfl)
theorem dJ3_charAt_1 : decode cJ3_charAt 1 = .ok (.invokevirtual 492, 3) := dk_182 1 236 (dk_at dksJ3_charAt_0 1 rfl rfl)
theorem dJ3_charAt_4 : decode cJ3_charAt 4 = .ok (.ifCond .eq 12, 3) := dk_153 0 12 (dk_at dksJ3_charAt_0 4 rfl rfl)
theorem dJ3_charAt_7 : decode cJ3_charAt 7 = .ok (.aload_n 0, 1) := dk_42 (dk_at dksJ3_charAt_0 7 rfl rfl)
theorem dJ3_charAt_8 : decode cJ3_charAt 8 = .ok (.getfield 9, 3) := dk_180 0 9 (dk_at dksJ3_charAt_0 8 rfl rfl)
theorem dJ3_charAt_11 : decode cJ3_charAt 11 = .ok (.iload_n 1, 1) := dk_27 (dk_at dksJ3_charAt_0 11 rfl rfl)
theorem dJ3_charAt_12 : decode cJ3_charAt 12 = .ok (.invokestatic 495, 3) := dk_184 1 239 (dk_at dksJ3_charAt_0 12 rfl rfl)
theorem dJ3_charAt_15 : decode cJ3_charAt 15 = .ok (.ireturn, 1) := dk_172 (dk_at dksJ3_charAt_0 15 rfl rfl)
theorem dJ3_charAt_16 : decode cJ3_charAt 16 = .ok (.aload_n 0, 1) := dk_42 (dk_at dksJ3_charAt_0 16 rfl rfl)
theorem dJ3_charAt_17 : decode cJ3_charAt 17 = .ok (.getfield 9, 3) := dk_180 0 9 (dk_at dksJ3_charAt_0 17 rfl rfl)
theorem dJ3_charAt_20 : decode cJ3_charAt 20 = .ok (.iload_n 1, 1) := dk_27 (dk_at dksJ3_charAt_0 20 rfl rfl)
theorem dJ3_charAt_21 : decode cJ3_charAt 21 = .ok (.invokestatic 498, 3) := dk_184 1 242 (dk_at dksJ3_charAt_0 21 rfl rfl)
theorem dJ3_charAt_24 : decode cJ3_charAt 24 = .ok (.ireturn, 1) := dk_172 (dk_at dksJ3_charAt_1 0 rfl rfl)
abbrev cJ3_isLatin1 : ByteArray := prog_35_method_154_code
def yJ3_isLatin1 : MethodName := ⟨RJ3, "isLatin1", "()Z"⟩
def dkwJ3_isLatin1_0 : List UInt8 := [178, 0, 38, 153, 0, 14, 42, 180, 0, 15, 154, 0, 7, 4, 167, 0, 4, 3, 172]
abbrev dktJ3_isLatin1_0 : List UInt8 := dkwJ3_isLatin1_0 ++ []
theorem dksJ3_isLatin1_0 : cJ3_isLatin1.data.toList.drop 0 = dktJ3_isLatin1_0 := by decide +kernel
theorem dJ3_isLatin1_0 : decode cJ3_isLatin1 0 = .ok (.getstatic 38, 3) := dk_178 0 38 (dk_at dksJ3_isLatin1_0 0 rfl rfl)
theorem dJ3_isLatin1_3 : decode cJ3_isLatin1 3 = .ok (.ifCond .eq 14, 3) := dk_153 0 14 (dk_at dksJ3_isLatin1_0 3 rfl rfl)
theorem dJ3_isLatin1_6 : decode cJ3_isLatin1 6 = .ok (.aload_n 0, 1) := dk_42 (dk_at dksJ3_isLatin1_0 6 rfl rfl)
theorem dJ3_isLatin1_7 : decode cJ3_isLatin1 7 = .ok (.getfield 15, 3) := dk_180 0 15 (dk_at dksJ3_isLatin1_0 7 rfl rfl)
theorem dJ3_isLatin1_10 : decode cJ3_isLatin1 10 = .ok (.ifCond .ne 7, 3) := dk_154 0 7 (dk_at dksJ3_isLatin1_0 10 rfl rfl)
theorem dJ3_isLatin1_13 : decode cJ3_isLatin1 13 = .ok (.iconst 1, 1) := dk_4 (dk_at dksJ3_isLatin1_0 13 rfl rfl)
theorem dJ3_isLatin1_14 : decode cJ3_isLatin1 14 = .ok (.goto 4, 3) := dk_167 0 4 (dk_at dksJ3_isLatin1_0 14 rfl rfl)
theorem dJ3_isLatin1_17 : decode cJ3_isLatin1 17 = .ok (.iconst 0, 1) := dk_3 (dk_at dksJ3_isLatin1_0 17 rfl rfl)
theorem dJ3_isLatin1_18 : decode cJ3_isLatin1 18 = .ok (.ireturn, 1) := dk_172 (dk_at dksJ3_isLatin1_0 18 rfl rfl)
abbrev cJ3_checkIndex : ByteArray := prog_35_method_155_code
def yJ3_checkIndex : MethodName := ⟨RJ3, "checkIndex", "(II)V"⟩
def dkwJ3_checkIndex_0 : List UInt8 := [26, 27, 178, 4, 29, 184, 4, 35, 87, 177]
abbrev dktJ3_checkIndex_0 : List UInt8 := dkwJ3_checkIndex_0 ++ []
theorem dksJ3_checkIndex_0 : cJ3_checkIndex.data.toList.drop 0 = dktJ3_checkIndex_0 := by decide +kernel
theorem dJ3_checkIndex_0 : decode cJ3_checkIndex 0 = .ok (.iload_n 0, 1) := dk_26 (dk_at dksJ3_checkIndex_0 0 rfl rfl)
theorem dJ3_checkIndex_1 : decode cJ3_checkIndex 1 = .ok (.iload_n 1, 1) := dk_27 (dk_at dksJ3_checkIndex_0 1 rfl rfl)
theorem dJ3_checkIndex_2 : decode cJ3_checkIndex 2 = .ok (.getstatic 1053, 3) := dk_178 4 29 (dk_at dksJ3_checkIndex_0 2 rfl rfl)
theorem dJ3_checkIndex_5 : decode cJ3_checkIndex 5 = .ok (.invokestatic 1059, 3) := dk_184 4 35 (dk_at dksJ3_checkIndex_0 5 rfl rfl)
theorem dJ3_checkIndex_8 : decode cJ3_checkIndex 8 = .ok (.pop, 1) := dk_87 (dk_at dksJ3_checkIndex_0 8 rfl rfl)
theorem dJ3_checkIndex_9 : decode cJ3_checkIndex 9 = .ok (.return_, 1) := dk_177 (dk_at dksJ3_checkIndex_0 9 rfl rfl)
theorem q134 : (Jvm.Cond.initialized "java/lang/String") ∈ lw_all := lw_g (lw_at lw_m1 17 rfl) rfl
theorem q757 : (Jvm.Cond.instanceMethod ({ cls := "java/lang/String", name := "length", desc := "()I" } : Jvm.MethodName)) ∈ lw_all := lw_g (lw_at lw_m3 160 rfl) rfl
theorem q758 : (Jvm.Cond.selects "java/lang/String" ({ cls := "java/lang/String", name := "length", desc := "()I" } : Jvm.MethodName) ({ cls := "java/lang/String", name := "length", desc := "()I" } : Jvm.MethodName)) ∈ lw_all := lw_g (lw_at lw_m3 161 rfl) rfl
theorem q759 : (Jvm.Cond.code ({ cls := "java/lang/String", name := "length", desc := "()I" } : Jvm.MethodName) prog_35_method_54_code (1 : Nat) (Option.some Jvm.ClassFile.FieldType.int)) ∈ lw_all := lw_g (lw_at lw_m3 162 rfl) rfl
theorem q760 : (Jvm.Cond.methodLink "java/lang/String" (335 : Nat) ({ cls := "java/lang/String", name := "coder", desc := "()B" } : Jvm.MethodName)) ∈ lw_all := lw_g (lw_at lw_m3 163 rfl) rfl
theorem q761 : (Jvm.Cond.instanceMethod ({ cls := "java/lang/String", name := "coder", desc := "()B" } : Jvm.MethodName)) ∈ lw_all := lw_g (lw_at lw_m3 164 rfl) rfl
theorem q762 : (Jvm.Cond.selects "java/lang/String" ({ cls := "java/lang/String", name := "coder", desc := "()B" } : Jvm.MethodName) ({ cls := "java/lang/String", name := "coder", desc := "()B" } : Jvm.MethodName)) ∈ lw_all := lw_g (lw_at lw_m3 165 rfl) rfl
theorem q763 : (Jvm.Cond.code ({ cls := "java/lang/String", name := "coder", desc := "()B" } : Jvm.MethodName) prog_35_method_152_code (1 : Nat) (Option.some Jvm.ClassFile.FieldType.byte)) ∈ lw_all := lw_g (lw_at lw_m3 166 rfl) rfl
theorem q764 : (Jvm.Cond.fieldLink "java/lang/String" (38 : Nat) "java/lang/String" "COMPACT_STRINGS" "Z") ∈ lw_all := lw_g (lw_at lw_m3 167 rfl) rfl
theorem q765 : (Jvm.Cond.laysStatic "java/lang/String" "COMPACT_STRINGS" "Z") ∈ lw_tbl := lw_at lw_m3 168 rfl
theorem q767 : (Jvm.Cond.instanceMethod ({ cls := "java/lang/String", name := "charAt", desc := "(I)C" } : Jvm.MethodName)) ∈ lw_all := lw_g (lw_at lw_m3 170 rfl) rfl
theorem q768 : (Jvm.Cond.selects "java/lang/String" ({ cls := "java/lang/String", name := "charAt", desc := "(I)C" } : Jvm.MethodName) ({ cls := "java/lang/String", name := "charAt", desc := "(I)C" } : Jvm.MethodName)) ∈ lw_all := lw_g (lw_at lw_m3 171 rfl) rfl
theorem q769 : (Jvm.Cond.code ({ cls := "java/lang/String", name := "charAt", desc := "(I)C" } : Jvm.MethodName) prog_35_method_56_code (2 : Nat) (Option.some Jvm.ClassFile.FieldType.char)) ∈ lw_all := lw_g (lw_at lw_m3 172 rfl) rfl
theorem q770 : (Jvm.Cond.methodLink "java/lang/String" (492 : Nat) ({ cls := "java/lang/String", name := "isLatin1", desc := "()Z" } : Jvm.MethodName)) ∈ lw_all := lw_g (lw_at lw_m3 173 rfl) rfl
theorem q771 : (Jvm.Cond.instanceMethod ({ cls := "java/lang/String", name := "isLatin1", desc := "()Z" } : Jvm.MethodName)) ∈ lw_all := lw_g (lw_at lw_m3 174 rfl) rfl
theorem q772 : (Jvm.Cond.selects "java/lang/String" ({ cls := "java/lang/String", name := "isLatin1", desc := "()Z" } : Jvm.MethodName) ({ cls := "java/lang/String", name := "isLatin1", desc := "()Z" } : Jvm.MethodName)) ∈ lw_all := lw_g (lw_at lw_m3 175 rfl) rfl
theorem q773 : (Jvm.Cond.code ({ cls := "java/lang/String", name := "isLatin1", desc := "()Z" } : Jvm.MethodName) prog_35_method_154_code (1 : Nat) (Option.some Jvm.ClassFile.FieldType.boolean)) ∈ lw_all := lw_g (lw_at lw_m3 176 rfl) rfl
theorem q774 : (Jvm.Cond.methodLink "java/lang/String" (495 : Nat) ({ cls := "java/lang/StringLatin1", name := "charAt", desc := "([BI)C" } : Jvm.MethodName)) ∈ lw_all := lw_g (lw_at lw_m3 177 rfl) rfl
theorem q778 : (Jvm.Cond.static ({ cls := "java/lang/String", name := "checkIndex", desc := "(II)V" } : Jvm.MethodName)) ∈ lw_all := lw_g (lw_at lw_m3 181 rfl) rfl
theorem q779 : (Jvm.Cond.code ({ cls := "java/lang/String", name := "checkIndex", desc := "(II)V" } : Jvm.MethodName) prog_35_method_155_code (2 : Nat) (Option.none : Option Jvm.ClassFile.FieldType)) ∈ lw_all := lw_g (lw_at lw_m3 182 rfl) rfl
theorem q780 : (Jvm.Cond.fieldLink "java/lang/String" (1053 : Nat) "jdk/internal/util/Preconditions" "SIOOBE_FORMATTER" "Ljava/util/function/BiFunction;") ∈ lw_all := lw_g (lw_at lw_m3 183 rfl) rfl
theorem q782 : (Jvm.Cond.methodLink "java/lang/String" (1059 : Nat) ({ cls := "jdk/internal/util/Preconditions", name := "checkIndex", desc := "(IILjava/util/function/BiFunction;)I" } : Jvm.MethodName)) ∈ lw_all := lw_g (lw_at lw_m3 185 rfl) rfl
theorem q785 : (Jvm.Cond.methodLink "java/lang/String" (498 : Nat) ({ cls := "java/lang/StringUTF16", name := "charAt", desc := "([BI)C" } : Jvm.MethodName)) ∈ lw_all := lw_g (lw_at lw_m3 188 rfl) rfl
theorem q1217 : (Jvm.Cond.instantiable "java/lang/String" (4 : Nat)) ∈ lw_all := lw_g (lw_at lw_m5 140 rfl) rfl
theorem q1218 : (Jvm.Cond.laysFinal "java/lang/String" "java/lang/String" "value" "[B") ∈ lw_all := lw_g (lw_at lw_m5 141 rfl) rfl
theorem q1219 : (Jvm.Cond.soleField "java/lang/String" "value") ∈ lw_all := lw_g (lw_at lw_m5 142 rfl) rfl
theorem q1220 : (Jvm.Cond.laysFinal "java/lang/String" "java/lang/String" "coder" "B") ∈ lw_all := lw_g (lw_at lw_m5 143 rfl) rfl
theorem q1221 : (Jvm.Cond.soleField "java/lang/String" "coder") ∈ lw_all := lw_g (lw_at lw_m5 144 rfl) rfl
theorem q2248 : (Jvm.Cond.fieldLink "java/lang/String" (9 : Nat) "java/lang/String" "value" "[B") ∈ lw_all := lw_g (lw_at lw_m9 211 rfl) rfl
theorem q2249 : (Jvm.Cond.fieldLink "java/lang/String" (15 : Nat) "java/lang/String" "coder" "B") ∈ lw_all := lw_g (lw_at lw_m9 212 rfl) rfl
theorem in_J3 : ∀ w ∈ wsJ30, w ∈ lw_all := lw_in wsJ30 [1218, 1220] (by decide +kernel) (by decide +kernel)
/-! java/lang/StringLatin1 -/
set_option maxRecDepth 100000
def RJ4 : String := "java/lang/StringLatin1"
abbrev cJ4_charAt : ByteArray := prog_36_method_2_code
def yJ4_charAt : MethodName := ⟨RJ4, "charAt", "([BI)C"⟩
def dkwJ4_charAt_0 : List UInt8 := [27, 42, 190, 184, 0, 9, 42, 27, 51, 17, 0, 255, 126, 146, 172]
abbrev dktJ4_charAt_0 : List UInt8 := dkwJ4_charAt_0 ++ []
theorem dksJ4_charAt_0 : cJ4_charAt.data.toList.drop 0 = dktJ4_charAt_0 := by decide +kernel
theorem dJ4_charAt_0 : decode cJ4_charAt 0 = .ok (.iload_n 1, 1) := dk_27 (dk_at dksJ4_charAt_0 0 rfl rfl)
theorem dJ4_charAt_1 : decode cJ4_charAt 1 = .ok (.aload_n 0, 1) := dk_42 (dk_at dksJ4_charAt_0 1 rfl rfl)
theorem dJ4_charAt_2 : decode cJ4_charAt 2 = .ok (.arraylength, 1) := dk_190 (dk_at dksJ4_charAt_0 2 rfl rfl)
theorem dJ4_charAt_3 : decode cJ4_charAt 3 = .ok (.invokestatic 9, 3) := dk_184 0 9 (dk_at dksJ4_charAt_0 3 rfl rfl)
theorem dJ4_charAt_6 : decode cJ4_charAt 6 = .ok (.aload_n 0, 1) := dk_42 (dk_at dksJ4_charAt_0 6 rfl rfl)
theorem dJ4_charAt_7 : decode cJ4_charAt 7 = .ok (.iload_n 1, 1) := dk_27 (dk_at dksJ4_charAt_0 7 rfl rfl)
theorem dJ4_charAt_8 : decode cJ4_charAt 8 = .ok (.baload, 1) := dk_51 (dk_at dksJ4_charAt_0 8 rfl rfl)
theorem dJ4_charAt_9 : decode cJ4_charAt 9 = .ok (.sipush 255, 3) := dk_17 0 255 (dk_at dksJ4_charAt_0 9 rfl rfl)
theorem dJ4_charAt_12 : decode cJ4_charAt 12 = .ok (.iand, 1) := dk_126 (dk_at dksJ4_charAt_0 12 rfl rfl)
theorem dJ4_charAt_13 : decode cJ4_charAt 13 = .ok (.i2c, 1) := dk_146 (dk_at dksJ4_charAt_0 13 rfl rfl)
theorem dJ4_charAt_14 : decode cJ4_charAt 14 = .ok (.ireturn, 1) := dk_172 (dk_at dksJ4_charAt_0 14 rfl rfl)
theorem q135 : (Jvm.Cond.initialized "java/lang/StringLatin1") ∈ lw_all := lw_g (lw_at lw_m1 18 rfl) rfl
theorem q775 : (Jvm.Cond.static ({ cls := "java/lang/StringLatin1", name := "charAt", desc := "([BI)C" } : Jvm.MethodName)) ∈ lw_all := lw_g (lw_at lw_m3 178 rfl) rfl
theorem q776 : (Jvm.Cond.code ({ cls := "java/lang/StringLatin1", name := "charAt", desc := "([BI)C" } : Jvm.MethodName) prog_36_method_2_code (2 : Nat) (Option.some Jvm.ClassFile.FieldType.char)) ∈ lw_all := lw_g (lw_at lw_m3 179 rfl) rfl
theorem q777 : (Jvm.Cond.methodLink "java/lang/StringLatin1" (9 : Nat) ({ cls := "java/lang/String", name := "checkIndex", desc := "(II)V" } : Jvm.MethodName)) ∈ lw_all := lw_g (lw_at lw_m3 180 rfl) rfl
/-! jdk/internal/util/Preconditions -/
set_option maxRecDepth 100000
def RJ5 : String := "jdk/internal/util/Preconditions"
abbrev cJ5_checkIndex : ByteArray := prog_40_method_11_code
def yJ5_checkIndex : MethodName := ⟨RJ5, "checkIndex", "(IILjava/util/function/BiFunction;)I"⟩
def dkwJ5_checkIndex_0 : List UInt8 := [26, 155, 0, 8, 26, 27, 161, 0, 10, 44, 26, 27, 184, 0, 95, 191, 26, 172]
abbrev dktJ5_checkIndex_0 : List UInt8 := dkwJ5_checkIndex_0 ++ []
theorem dksJ5_checkIndex_0 : cJ5_checkIndex.data.toList.drop 0 = dktJ5_checkIndex_0 := by decide +kernel
theorem dJ5_checkIndex_0 : decode cJ5_checkIndex 0 = .ok (.iload_n 0, 1) := dk_26 (dk_at dksJ5_checkIndex_0 0 rfl rfl)
theorem dJ5_checkIndex_1 : decode cJ5_checkIndex 1 = .ok (.ifCond .lt 8, 3) := dk_155 0 8 (dk_at dksJ5_checkIndex_0 1 rfl rfl)
theorem dJ5_checkIndex_4 : decode cJ5_checkIndex 4 = .ok (.iload_n 0, 1) := dk_26 (dk_at dksJ5_checkIndex_0 4 rfl rfl)
theorem dJ5_checkIndex_5 : decode cJ5_checkIndex 5 = .ok (.iload_n 1, 1) := dk_27 (dk_at dksJ5_checkIndex_0 5 rfl rfl)
theorem dJ5_checkIndex_6 : decode cJ5_checkIndex 6 = .ok (.if_icmp .lt 10, 3) := dk_161 0 10 (dk_at dksJ5_checkIndex_0 6 rfl rfl)
theorem dJ5_checkIndex_9 : decode cJ5_checkIndex 9 = .ok (.aload_n 2, 1) := dk_44 (dk_at dksJ5_checkIndex_0 9 rfl rfl)
theorem dJ5_checkIndex_10 : decode cJ5_checkIndex 10 = .ok (.iload_n 0, 1) := dk_26 (dk_at dksJ5_checkIndex_0 10 rfl rfl)
theorem dJ5_checkIndex_11 : decode cJ5_checkIndex 11 = .ok (.iload_n 1, 1) := dk_27 (dk_at dksJ5_checkIndex_0 11 rfl rfl)
theorem dJ5_checkIndex_12 : decode cJ5_checkIndex 12 = .ok (.invokestatic 95, 3) := dk_184 0 95 (dk_at dksJ5_checkIndex_0 12 rfl rfl)
theorem dJ5_checkIndex_15 : decode cJ5_checkIndex 15 = .ok (.athrow, 1) := dk_191 (dk_at dksJ5_checkIndex_0 15 rfl rfl)
theorem dJ5_checkIndex_16 : decode cJ5_checkIndex 16 = .ok (.iload_n 0, 1) := dk_26 (dk_at dksJ5_checkIndex_0 16 rfl rfl)
theorem dJ5_checkIndex_17 : decode cJ5_checkIndex 17 = .ok (.ireturn, 1) := dk_172 (dk_at dksJ5_checkIndex_0 17 rfl rfl)
theorem q136 : (Jvm.Cond.initialized "jdk/internal/util/Preconditions") ∈ lw_all := lw_g (lw_at lw_m1 19 rfl) rfl
theorem q781 : (Jvm.Cond.laysStatic "jdk/internal/util/Preconditions" "SIOOBE_FORMATTER" "Ljava/util/function/BiFunction;") ∈ lw_tbl := lw_at lw_m3 184 rfl
theorem q783 : (Jvm.Cond.static ({ cls := "jdk/internal/util/Preconditions", name := "checkIndex", desc := "(IILjava/util/function/BiFunction;)I" } : Jvm.MethodName)) ∈ lw_all := lw_g (lw_at lw_m3 186 rfl) rfl
theorem q784 : (Jvm.Cond.code ({ cls := "jdk/internal/util/Preconditions", name := "checkIndex", desc := "(IILjava/util/function/BiFunction;)I" } : Jvm.MethodName) prog_40_method_11_code (3 : Nat) (Option.some Jvm.ClassFile.FieldType.int)) ∈ lw_all := lw_g (lw_at lw_m3 187 rfl) rfl
/-! java/lang/StringUTF16 -/
set_option maxRecDepth 100000
def RJ6 : String := "java/lang/StringUTF16"
abbrev cJ6_charAt : ByteArray := prog_37_method_83_code
def yJ6_charAt : MethodName := ⟨RJ6, "charAt", "([BI)C"⟩
def dkwJ6_charAt_0 : List UInt8 := [27, 42, 184, 0, 67, 42, 27, 184, 0, 71, 172]
abbrev dktJ6_charAt_0 : List UInt8 := dkwJ6_charAt_0 ++ []
theorem dksJ6_charAt_0 : cJ6_charAt.data.toList.drop 0 = dktJ6_charAt_0 := by decide +kernel
theorem dJ6_charAt_0 : decode cJ6_charAt 0 = .ok (.iload_n 1, 1) := dk_27 (dk_at dksJ6_charAt_0 0 rfl rfl)
theorem dJ6_charAt_1 : decode cJ6_charAt 1 = .ok (.aload_n 0, 1) := dk_42 (dk_at dksJ6_charAt_0 1 rfl rfl)
theorem dJ6_charAt_2 : decode cJ6_charAt 2 = .ok (.invokestatic 67, 3) := dk_184 0 67 (dk_at dksJ6_charAt_0 2 rfl rfl)
theorem dJ6_charAt_5 : decode cJ6_charAt 5 = .ok (.aload_n 0, 1) := dk_42 (dk_at dksJ6_charAt_0 5 rfl rfl)
theorem dJ6_charAt_6 : decode cJ6_charAt 6 = .ok (.iload_n 1, 1) := dk_27 (dk_at dksJ6_charAt_0 6 rfl rfl)
theorem dJ6_charAt_7 : decode cJ6_charAt 7 = .ok (.invokestatic 71, 3) := dk_184 0 71 (dk_at dksJ6_charAt_0 7 rfl rfl)
theorem dJ6_charAt_10 : decode cJ6_charAt 10 = .ok (.ireturn, 1) := dk_172 (dk_at dksJ6_charAt_0 10 rfl rfl)
abbrev cJ6_checkIndex : ByteArray := prog_37_method_91_code
def yJ6_checkIndex : MethodName := ⟨RJ6, "checkIndex", "(I[B)V"⟩
def dkwJ6_checkIndex_0 : List UInt8 := [26, 43, 184, 0, 48, 184, 1, 158, 177]
abbrev dktJ6_checkIndex_0 : List UInt8 := dkwJ6_checkIndex_0 ++ []
theorem dksJ6_checkIndex_0 : cJ6_checkIndex.data.toList.drop 0 = dktJ6_checkIndex_0 := by decide +kernel
theorem dJ6_checkIndex_0 : decode cJ6_checkIndex 0 = .ok (.iload_n 0, 1) := dk_26 (dk_at dksJ6_checkIndex_0 0 rfl rfl)
theorem dJ6_checkIndex_1 : decode cJ6_checkIndex 1 = .ok (.aload_n 1, 1) := dk_43 (dk_at dksJ6_checkIndex_0 1 rfl rfl)
theorem dJ6_checkIndex_2 : decode cJ6_checkIndex 2 = .ok (.invokestatic 48, 3) := dk_184 0 48 (dk_at dksJ6_checkIndex_0 2 rfl rfl)
theorem dJ6_checkIndex_5 : decode cJ6_checkIndex 5 = .ok (.invokestatic 414, 3) := dk_184 1 158 (dk_at dksJ6_checkIndex_0 5 rfl rfl)
theorem dJ6_checkIndex_8 : decode cJ6_checkIndex 8 = .ok (.return_, 1) := dk_177 (dk_at dksJ6_checkIndex_0 8 rfl rfl)
abbrev cJ6_length : ByteArray := prog_37_method_6_code
def yJ6_length : MethodName := ⟨RJ6, "length", "([B)I"⟩
def dkwJ6_length_0 : List UInt8 := [42, 190, 4, 122, 172]
abbrev dktJ6_length_0 : List UInt8 := dkwJ6_length_0 ++ []
theorem dksJ6_length_0 : cJ6_length.data.toList.drop 0 = dktJ6_length_0 := by decide +kernel
theorem dJ6_length_0 : decode cJ6_length 0 = .ok (.aload_n 0, 1) := dk_42 (dk_at dksJ6_length_0 0 rfl rfl)
theorem dJ6_length_1 : decode cJ6_length 1 = .ok (.arraylength, 1) := dk_190 (dk_at dksJ6_length_0 1 rfl rfl)
theorem dJ6_length_2 : decode cJ6_length 2 = .ok (.iconst 1, 1) := dk_4 (dk_at dksJ6_length_0 2 rfl rfl)
theorem dJ6_length_3 : decode cJ6_length 3 = .ok (.ishr, 1) := dk_122 (dk_at dksJ6_length_0 3 rfl rfl)
theorem dJ6_length_4 : decode cJ6_length 4 = .ok (.ireturn, 1) := dk_172 (dk_at dksJ6_length_0 4 rfl rfl)
abbrev cJ6_getChar : ByteArray := prog_37_method_5_code
def yJ6_getChar : MethodName := ⟨RJ6, "getChar", "([BI)C"⟩
def dkwJ6_getChar_2 : List UInt8 := [51, 17, 0, 255, 126, 178, 0, 63, 120, 128, 146, 172]
abbrev dktJ6_getChar_2 : List UInt8 := dkwJ6_getChar_2 ++ []
def dkwJ6_getChar_1 : List UInt8 := [183, 0, 56, 191, 27, 4, 120, 60, 42, 27, 132, 1, 1, 51, 17, 0, 255, 126, 178, 0, 59, 120, 42, 27]
abbrev dktJ6_getChar_1 : List UInt8 := dkwJ6_getChar_1 ++ dktJ6_getChar_2
def dkwJ6_getChar_0 : List UInt8 := [178, 0, 44, 154, 0, 25, 27, 155, 0, 11, 27, 42, 184, 0, 48, 161, 0, 13, 187, 0, 52, 89, 18, 54]
abbrev dktJ6_getChar_0 : List UInt8 := dkwJ6_getChar_0 ++ dktJ6_getChar_1
theorem dksJ6_getChar_0 : cJ6_getChar.data.toList.drop 0 = dktJ6_getChar_0 := by decide +kernel
theorem dksJ6_getChar_1 : cJ6_getChar.data.toList.drop 24 = dktJ6_getChar_1 := dk_seg dksJ6_getChar_0 24 rfl rfl
theorem dksJ6_getChar_2 : cJ6_getChar.data.toList.drop 48 = dktJ6_getChar_2 := dk_seg dksJ6_getChar_1 24 rfl rfl
theorem dJ6_getChar_0 : decode cJ6_getChar 0 = .ok (.getstatic 44, 3) := dk_178 0 44 (dk_at dksJ6_getChar_0 0 rfl rfl)
theorem dJ6_getChar_3 : decode cJ6_getChar 3 = .ok (.ifCond .ne 25, 3) := dk_154 0 25 (dk_at dksJ6_getChar_0 3 rfl rfl)
theorem dJ6_getChar_6 : decode cJ6_getChar 6 = .ok (.iload_n 1, 1) := dk_27 (dk_at dksJ6_getChar_0 6 rfl rfl)
theorem dJ6_getChar_7 : decode cJ6_getChar 7 = .ok (.ifCond .lt 11, 3) := dk_155 0 11 (dk_at dksJ6_getChar_0 7 rfl rfl)
theorem dJ6_getChar_10 : decode cJ6_getChar 10 = .ok (.iload_n 1, 1) := dk_27 (dk_at dksJ6_getChar_0 10 rfl rfl)
theorem dJ6_getChar_11 : decode cJ6_getChar 11 = .ok (.aload_n 0, 1) := dk_42 (dk_at dksJ6_getChar_0 11 rfl rfl)
theorem dJ6_getChar_12 : decode cJ6_getChar 12 = .ok (.invokestatic 48, 3) := dk_184 0 48 (dk_at dksJ6_getChar_0 12 rfl rfl)
theorem dJ6_getChar_15 : decode cJ6_getChar 15 = .ok (.if_icmp .lt 13, 3) := dk_161 0 13 (dk_at dksJ6_getChar_0 15 rfl rfl)
theorem dJ6_getChar_18 : decode cJ6_getChar 18 = .ok (.new 52, 3) := dk_187 0 52 (dk_at dksJ6_getChar_0 18 rfl rfl)
theorem dJ6_getChar_21 : decode cJ6_getChar 21 = .ok (.dup, 1) := dk_89 (dk_at dksJ6_getChar_0 21 rfl rfl)
theorem dJ6_getChar_22 : decode cJ6_getChar 22 = .ok (.ldc 54, 2) := dk_18 54 (dk_at dksJ6_getChar_0 22 rfl rfl)
theorem dJ6_getChar_24 : decode cJ6_getChar 24 = .ok (.invokespecial 56, 3) := dk_183 0 56 (dk_at dksJ6_getChar_1 0 rfl rfl)
theorem dJ6_getChar_27 : decode cJ6_getChar 27 = .ok (.athrow, 1) := dk_191 (dk_at dksJ6_getChar_1 3 rfl rfl)
theorem dJ6_getChar_28 : decode cJ6_getChar 28 = .ok (.iload_n 1, 1) := dk_27 (dk_at dksJ6_getChar_1 4 rfl rfl)
theorem dJ6_getChar_29 : decode cJ6_getChar 29 = .ok (.iconst 1, 1) := dk_4 (dk_at dksJ6_getChar_1 5 rfl rfl)
theorem dJ6_getChar_30 : decode cJ6_getChar 30 = .ok (.ishl, 1) := dk_120 (dk_at dksJ6_getChar_1 6 rfl rfl)
theorem dJ6_getChar_31 : decode cJ6_getChar 31 = .ok (.istore_n 1, 1) := dk_60 (dk_at dksJ6_getChar_1 7 rfl rfl)
theorem dJ6_getChar_32 : decode cJ6_getChar 32 = .ok (.aload_n 0, 1) := dk_42 (dk_at dksJ6_getChar_1 8 rfl rfl)
theorem dJ6_getChar_33 : decode cJ6_getChar 33 = .ok (.iload_n 1, 1) := dk_27 (dk_at dksJ6_getChar_1 9 rfl rfl)
theorem dJ6_getChar_34 : decode cJ6_getChar 34 = .ok (.iinc 1 1, 3) := dk_132 1 1 (dk_at dksJ6_getChar_1 10 rfl rfl)
theorem dJ6_getChar_37 : decode cJ6_getChar 37 = .ok (.baload, 1) := dk_51 (dk_at dksJ6_getChar_1 13 rfl rfl)
theorem dJ6_getChar_38 : decode cJ6_getChar 38 = .ok (.sipush 255, 3) := dk_17 0 255 (dk_at dksJ6_getChar_1 14 rfl rfl)
theorem dJ6_getChar_41 : decode cJ6_getChar 41 = .ok (.iand, 1) := dk_126 (dk_at dksJ6_getChar_1 17 rfl rfl)
theorem dJ6_getChar_42 : decode cJ6_getChar 42 = .ok (.getstatic 59, 3) := dk_178 0 59 (dk_at dksJ6_getChar_1 18 rfl rfl)
theorem dJ6_getChar_45 : decode cJ6_getChar 45 = .ok (.ishl, 1) := dk_120 (dk_at dksJ6_getChar_1 21 rfl rfl)
theorem dJ6_getChar_46 : decode cJ6_getChar 46 = .ok (.aload_n 0, 1) := dk_42 (dk_at dksJ6_getChar_1 22 rfl rfl)
theorem dJ6_getChar_47 : decode cJ6_getChar 47 = .ok (.iload_n 1, 1) := dk_27 (dk_at dksJ6_getChar_1 23 rfl rfl)
theorem dJ6_getChar_48 : decode cJ6_getChar 48 = .ok (.baload, 1) := dk_51 (dk_at dksJ6_getChar_2 0 rfl rfl)
theorem dJ6_getChar_49 : decode cJ6_getChar 49 = .ok (.sipush 255, 3) := dk_17 0 255 (dk_at dksJ6_getChar_2 1 rfl rfl)
theorem dJ6_getChar_52 : decode cJ6_getChar 52 = .ok (.iand, 1) := dk_126 (dk_at dksJ6_getChar_2 4 rfl rfl)
theorem dJ6_getChar_53 : decode cJ6_getChar 53 = .ok (.getstatic 63, 3) := dk_178 0 63 (dk_at dksJ6_getChar_2 5 rfl rfl)
theorem dJ6_getChar_56 : decode cJ6_getChar 56 = .ok (.ishl, 1) := dk_120 (dk_at dksJ6_getChar_2 8 rfl rfl)
theorem dJ6_getChar_57 : decode cJ6_getChar 57 = .ok (.ior, 1) := dk_128 (dk_at dksJ6_getChar_2 9 rfl rfl)
theorem dJ6_getChar_58 : decode cJ6_getChar 58 = .ok (.i2c, 1) := dk_146 (dk_at dksJ6_getChar_2 10 rfl rfl)
theorem dJ6_getChar_59 : decode cJ6_getChar 59 = .ok (.ireturn, 1) := dk_172 (dk_at dksJ6_getChar_2 11 rfl rfl)
theorem q137 : (Jvm.Cond.initialized "java/lang/StringUTF16") ∈ lw_all := lw_g (lw_at lw_m1 20 rfl) rfl
theorem q786 : (Jvm.Cond.static ({ cls := "java/lang/StringUTF16", name := "charAt", desc := "([BI)C" } : Jvm.MethodName)) ∈ lw_all := lw_g (lw_at lw_m3 189 rfl) rfl
theorem q787 : (Jvm.Cond.code ({ cls := "java/lang/StringUTF16", name := "charAt", desc := "([BI)C" } : Jvm.MethodName) prog_37_method_83_code (2 : Nat) (Option.some Jvm.ClassFile.FieldType.char)) ∈ lw_all := lw_g (lw_at lw_m3 190 rfl) rfl
theorem q788 : (Jvm.Cond.methodLink "java/lang/StringUTF16" (67 : Nat) ({ cls := "java/lang/StringUTF16", name := "checkIndex", desc := "(I[B)V" } : Jvm.MethodName)) ∈ lw_all := lw_g (lw_at lw_m3 191 rfl) rfl
theorem q789 : (Jvm.Cond.static ({ cls := "java/lang/StringUTF16", name := "checkIndex", desc := "(I[B)V" } : Jvm.MethodName)) ∈ lw_all := lw_g (lw_at lw_m3 192 rfl) rfl
theorem q790 : (Jvm.Cond.code ({ cls := "java/lang/StringUTF16", name := "checkIndex", desc := "(I[B)V" } : Jvm.MethodName) prog_37_method_91_code (2 : Nat) (Option.none : Option Jvm.ClassFile.FieldType)) ∈ lw_all := lw_g (lw_at lw_m3 193 rfl) rfl
theorem q791 : (Jvm.Cond.methodLink "java/lang/StringUTF16" (48 : Nat) ({ cls := "java/lang/StringUTF16", name := "length", desc := "([B)I" } : Jvm.MethodName)) ∈ lw_all := lw_g (lw_at lw_m3 194 rfl) rfl
theorem q792 : (Jvm.Cond.static ({ cls := "java/lang/StringUTF16", name := "length", desc := "([B)I" } : Jvm.MethodName)) ∈ lw_all := lw_g (lw_at lw_m3 195 rfl) rfl
theorem q793 : (Jvm.Cond.code ({ cls := "java/lang/StringUTF16", name := "length", desc := "([B)I" } : Jvm.MethodName) prog_37_method_6_code (1 : Nat) (Option.some Jvm.ClassFile.FieldType.int)) ∈ lw_all := lw_g (lw_at lw_m3 196 rfl) rfl
theorem q794 : (Jvm.Cond.methodLink "java/lang/StringUTF16" (414 : Nat) ({ cls := "java/lang/String", name := "checkIndex", desc := "(II)V" } : Jvm.MethodName)) ∈ lw_all := lw_g (lw_at lw_m3 197 rfl) rfl
theorem q795 : (Jvm.Cond.methodLink "java/lang/StringUTF16" (71 : Nat) ({ cls := "java/lang/StringUTF16", name := "getChar", desc := "([BI)C" } : Jvm.MethodName)) ∈ lw_all := lw_g (lw_at lw_m3 198 rfl) rfl
theorem q796 : (Jvm.Cond.static ({ cls := "java/lang/StringUTF16", name := "getChar", desc := "([BI)C" } : Jvm.MethodName)) ∈ lw_all := lw_g (lw_at lw_m3 199 rfl) rfl
theorem q797 : (Jvm.Cond.code ({ cls := "java/lang/StringUTF16", name := "getChar", desc := "([BI)C" } : Jvm.MethodName) prog_37_method_5_code (2 : Nat) (Option.some Jvm.ClassFile.FieldType.char)) ∈ lw_all := lw_g (lw_at lw_m3 200 rfl) rfl
theorem q798 : (Jvm.Cond.fieldLink "java/lang/StringUTF16" (44 : Nat) "java/lang/StringUTF16" "$assertionsDisabled" "Z") ∈ lw_all := lw_g (lw_at lw_m3 201 rfl) rfl
theorem q799 : (Jvm.Cond.laysStatic "java/lang/StringUTF16" "$assertionsDisabled" "Z") ∈ lw_tbl := lw_at lw_m3 202 rfl
theorem q800 : (Jvm.Cond.fieldLink "java/lang/StringUTF16" (59 : Nat) "java/lang/StringUTF16" "HI_BYTE_SHIFT" "I") ∈ lw_all := lw_g (lw_at lw_m3 203 rfl) rfl
theorem q801 : (Jvm.Cond.laysStatic "java/lang/StringUTF16" "HI_BYTE_SHIFT" "I") ∈ lw_tbl := lw_at lw_m3 204 rfl
theorem q802 : (Jvm.Cond.fieldLink "java/lang/StringUTF16" (63 : Nat) "java/lang/StringUTF16" "LO_BYTE_SHIFT" "I") ∈ lw_all := lw_g (lw_at lw_m3 205 rfl) rfl
theorem q803 : (Jvm.Cond.laysStatic "java/lang/StringUTF16" "LO_BYTE_SHIFT" "I") ∈ lw_tbl := lw_at lw_m3 206 rfl
/-! java/lang/Math -/
set_option maxRecDepth 100000
def RJ7 : String := "java/lang/Math"
abbrev cJ7_max : ByteArray := prog_31_method_65_code
def yJ7_max : MethodName := ⟨RJ7, "max", "(II)I"⟩
def dkwJ7_max_0 : List UInt8 := [26, 27, 161, 0, 7, 26, 167, 0, 4, 27, 172]
abbrev dktJ7_max_0 : List UInt8 := dkwJ7_max_0 ++ []
theorem dksJ7_max_0 : cJ7_max.data.toList.drop 0 = dktJ7_max_0 := by decide +kernel
theorem dJ7_max_0 : decode cJ7_max 0 = .ok (.iload_n 0, 1) := dk_26 (dk_at dksJ7_max_0 0 rfl rfl)
theorem dJ7_max_1 : decode cJ7_max 1 = .ok (.iload_n 1, 1) := dk_27 (dk_at dksJ7_max_0 1 rfl rfl)
theorem dJ7_max_2 : decode cJ7_max 2 = .ok (.if_icmp .lt 7, 3) := dk_161 0 7 (dk_at dksJ7_max_0 2 rfl rfl)
theorem dJ7_max_5 : decode cJ7_max 5 = .ok (.iload_n 0, 1) := dk_26 (dk_at dksJ7_max_0 5 rfl rfl)
theorem dJ7_max_6 : decode cJ7_max 6 = .ok (.goto 4, 3) := dk_167 0 4 (dk_at dksJ7_max_0 6 rfl rfl)
theorem dJ7_max_9 : decode cJ7_max 9 = .ok (.iload_n 1, 1) := dk_27 (dk_at dksJ7_max_0 9 rfl rfl)
theorem dJ7_max_10 : decode cJ7_max 10 = .ok (.ireturn, 1) := dk_172 (dk_at dksJ7_max_0 10 rfl rfl)
abbrev cJ7_min : ByteArray := prog_31_method_69_code
def yJ7_min : MethodName := ⟨RJ7, "min", "(II)I"⟩
def dkwJ7_min_0 : List UInt8 := [26, 27, 163, 0, 7, 26, 167, 0, 4, 27, 172]
abbrev dktJ7_min_0 : List UInt8 := dkwJ7_min_0 ++ []
theorem dksJ7_min_0 : cJ7_min.data.toList.drop 0 = dktJ7_min_0 := by decide +kernel
theorem dJ7_min_0 : decode cJ7_min 0 = .ok (.iload_n 0, 1) := dk_26 (dk_at dksJ7_min_0 0 rfl rfl)
theorem dJ7_min_1 : decode cJ7_min 1 = .ok (.iload_n 1, 1) := dk_27 (dk_at dksJ7_min_0 1 rfl rfl)
theorem dJ7_min_2 : decode cJ7_min 2 = .ok (.if_icmp .gt 7, 3) := dk_163 0 7 (dk_at dksJ7_min_0 2 rfl rfl)
theorem dJ7_min_5 : decode cJ7_min 5 = .ok (.iload_n 0, 1) := dk_26 (dk_at dksJ7_min_0 5 rfl rfl)
theorem dJ7_min_6 : decode cJ7_min 6 = .ok (.goto 4, 3) := dk_167 0 4 (dk_at dksJ7_min_0 6 rfl rfl)
theorem dJ7_min_9 : decode cJ7_min 9 = .ok (.iload_n 1, 1) := dk_27 (dk_at dksJ7_min_0 9 rfl rfl)
theorem dJ7_min_10 : decode cJ7_min 10 = .ok (.ireturn, 1) := dk_172 (dk_at dksJ7_min_0 10 rfl rfl)
theorem q146 : (Jvm.Cond.initialized "java/lang/Math") ∈ lw_all := lw_g (lw_at lw_m1 29 rfl) rfl
theorem q1011 : (Jvm.Cond.static ({ cls := "java/lang/Math", name := "max", desc := "(II)I" } : Jvm.MethodName)) ∈ lw_all := lw_g (lw_at lw_m4 174 rfl) rfl
theorem q1012 : (Jvm.Cond.code ({ cls := "java/lang/Math", name := "max", desc := "(II)I" } : Jvm.MethodName) prog_31_method_65_code (2 : Nat) (Option.some Jvm.ClassFile.FieldType.int)) ∈ lw_all := lw_g (lw_at lw_m4 175 rfl) rfl
theorem q1096 : (Jvm.Cond.static ({ cls := "java/lang/Math", name := "min", desc := "(II)I" } : Jvm.MethodName)) ∈ lw_all := lw_g (lw_at lw_m5 19 rfl) rfl
theorem q1097 : (Jvm.Cond.code ({ cls := "java/lang/Math", name := "min", desc := "(II)I" } : Jvm.MethodName) prog_31_method_69_code (2 : Nat) (Option.some Jvm.ClassFile.FieldType.int)) ∈ lw_all := lw_g (lw_at lw_m5 20 rfl) rfl
/-! java/lang/Integer -/
set_option maxRecDepth 100000
def RJ8 : String := "java/lang/Integer"
abbrev cJ8_bitCount : ByteArray := prog_30_method_49_code
def yJ8_bitCount : MethodName := ⟨RJ8, "bitCount", "(I)I"⟩
def dkwJ8_bitCount_2 : List UInt8 := [26, 16, 63, 126, 172]
abbrev dktJ8_bitCount_2 : List UInt8 := dkwJ8_bitCount_2 ++ []
def dkwJ8_bitCount_1 : List UInt8 := [26, 26, 7, 124, 96, 19, 1, 11, 126, 59, 26, 26, 16, 8, 124, 96, 59, 26, 26, 16, 16, 124, 96, 59]
abbrev dktJ8_bitCount_1 : List UInt8 := dkwJ8_bitCount_1 ++ dktJ8_bitCount_2
def dkwJ8_bitCount_0 : List UInt8 := [26, 26, 4, 124, 19, 1, 9, 126, 100, 59, 26, 19, 1, 10, 126, 26, 5, 124, 19, 1, 10, 126, 96, 59]
abbrev dktJ8_bitCount_0 : List UInt8 := dkwJ8_bitCount_0 ++ dktJ8_bitCount_1
theorem dksJ8_bitCount_0 : cJ8_bitCount.data.toList.drop 0 = dktJ8_bitCount_0 := by decide +kernel
theorem dksJ8_bitCount_1 : cJ8_bitCount.data.toList.drop 24 = dktJ8_bitCount_1 := dk_seg dksJ8_bitCount_0 24 rfl rfl
theorem dksJ8_bitCount_2 : cJ8_bitCount.data.toList.drop 48 = dktJ8_bitCount_2 := dk_seg dksJ8_bitCount_1 24 rfl rfl
theorem dJ8_bitCount_0 : decode cJ8_bitCount 0 = .ok (.iload_n 0, 1) := dk_26 (dk_at dksJ8_bitCount_0 0 rfl rfl)
theorem dJ8_bitCount_1 : decode cJ8_bitCount 1 = .ok (.iload_n 0, 1) := dk_26 (dk_at dksJ8_bitCount_0 1 rfl rfl)
theorem dJ8_bitCount_2 : decode cJ8_bitCount 2 = .ok (.iconst 1, 1) := dk_4 (dk_at dksJ8_bitCount_0 2 rfl rfl)
theorem dJ8_bitCount_3 : decode cJ8_bitCount 3 = .ok (.iushr, 1) := dk_124 (dk_at dksJ8_bitCount_0 3 rfl rfl)
theorem dJ8_bitCount_4 : decode cJ8_bitCount 4 = .ok (.ldc_w 265, 3) := dk_19 1 9 (dk_at dksJ8_bitCount_0 4 rfl rfl)
theorem dJ8_bitCount_7 : decode cJ8_bitCount 7 = .ok (.iand, 1) := dk_126 (dk_at dksJ8_bitCount_0 7 rfl rfl)
theorem dJ8_bitCount_8 : decode cJ8_bitCount 8 = .ok (.isub, 1) := dk_100 (dk_at dksJ8_bitCount_0 8 rfl rfl)
theorem dJ8_bitCount_9 : decode cJ8_bitCount 9 = .ok (.istore_n 0, 1) := dk_59 (dk_at dksJ8_bitCount_0 9 rfl rfl)
theorem dJ8_bitCount_10 : decode cJ8_bitCount 10 = .ok (.iload_n 0, 1) := dk_26 (dk_at dksJ8_bitCount_0 10 rfl rfl)
theorem dJ8_bitCount_11 : decode cJ8_bitCount 11 = .ok (.ldc_w 266, 3) := dk_19 1 10 (dk_at dksJ8_bitCount_0 11 rfl rfl)
theorem dJ8_bitCount_14 : decode cJ8_bitCount 14 = .ok (.iand, 1) := dk_126 (dk_at dksJ8_bitCount_0 14 rfl rfl)
theorem dJ8_bitCount_15 : decode cJ8_bitCount 15 = .ok (.iload_n 0, 1) := dk_26 (dk_at dksJ8_bitCount_0 15 rfl rfl)
theorem dJ8_bitCount_16 : decode cJ8_bitCount 16 = .ok (.iconst 2, 1) := dk_5 (dk_at dksJ8_bitCount_0 16 rfl rfl)
theorem dJ8_bitCount_17 : decode cJ8_bitCount 17 = .ok (.iushr, 1) := dk_124 (dk_at dksJ8_bitCount_0 17 rfl rfl)
theorem dJ8_bitCount_18 : decode cJ8_bitCount 18 = .ok (.ldc_w 266, 3) := dk_19 1 10 (dk_at dksJ8_bitCount_0 18 rfl rfl)
theorem dJ8_bitCount_21 : decode cJ8_bitCount 21 = .ok (.iand, 1) := dk_126 (dk_at dksJ8_bitCount_0 21 rfl rfl)
theorem dJ8_bitCount_22 : decode cJ8_bitCount 22 = .ok (.iadd, 1) := dk_96 (dk_at dksJ8_bitCount_0 22 rfl rfl)
theorem dJ8_bitCount_23 : decode cJ8_bitCount 23 = .ok (.istore_n 0, 1) := dk_59 (dk_at dksJ8_bitCount_0 23 rfl rfl)
theorem dJ8_bitCount_24 : decode cJ8_bitCount 24 = .ok (.iload_n 0, 1) := dk_26 (dk_at dksJ8_bitCount_1 0 rfl rfl)
theorem dJ8_bitCount_25 : decode cJ8_bitCount 25 = .ok (.iload_n 0, 1) := dk_26 (dk_at dksJ8_bitCount_1 1 rfl rfl)
theorem dJ8_bitCount_26 : decode cJ8_bitCount 26 = .ok (.iconst 4, 1) := dk_7 (dk_at dksJ8_bitCount_1 2 rfl rfl)
theorem dJ8_bitCount_27 : decode cJ8_bitCount 27 = .ok (.iushr, 1) := dk_124 (dk_at dksJ8_bitCount_1 3 rfl rfl)
theorem dJ8_bitCount_28 : decode cJ8_bitCount 28 = .ok (.iadd, 1) := dk_96 (dk_at dksJ8_bitCount_1 4 rfl rfl)
theorem dJ8_bitCount_29 : decode cJ8_bitCount 29 = .ok (.ldc_w 267, 3) := dk_19 1 11 (dk_at dksJ8_bitCount_1 5 rfl rfl)
theorem dJ8_bitCount_32 : decode cJ8_bitCount 32 = .ok (.iand, 1) := dk_126 (dk_at dksJ8_bitCount_1 8 rfl rfl)
theorem dJ8_bitCount_33 : decode cJ8_bitCount 33 = .ok (.istore_n 0, 1) := dk_59 (dk_at dksJ8_bitCount_1 9 rfl rfl)
theorem dJ8_bitCount_34 : decode cJ8_bitCount 34 = .ok (.iload_n 0, 1) := dk_26 (dk_at dksJ8_bitCount_1 10 rfl rfl)
theorem dJ8_bitCount_35 : decode cJ8_bitCount 35 = .ok (.iload_n 0, 1) := dk_26 (dk_at dksJ8_bitCount_1 11 rfl rfl)
theorem dJ8_bitCount_36 : decode cJ8_bitCount 36 = .ok (.bipush 8, 2) := dk_16 8 (dk_at dksJ8_bitCount_1 12 rfl rfl)
theorem dJ8_bitCount_38 : decode cJ8_bitCount 38 = .ok (.iushr, 1) := dk_124 (dk_at dksJ8_bitCount_1 14 rfl rfl)
theorem dJ8_bitCount_39 : decode cJ8_bitCount 39 = .ok (.iadd, 1) := dk_96 (dk_at dksJ8_bitCount_1 15 rfl rfl)
theorem dJ8_bitCount_40 : decode cJ8_bitCount 40 = .ok (.istore_n 0, 1) := dk_59 (dk_at dksJ8_bitCount_1 16 rfl rfl)
theorem dJ8_bitCount_41 : decode cJ8_bitCount 41 = .ok (.iload_n 0, 1) := dk_26 (dk_at dksJ8_bitCount_1 17 rfl rfl)
theorem dJ8_bitCount_42 : decode cJ8_bitCount 42 = .ok (.iload_n 0, 1) := dk_26 (dk_at dksJ8_bitCount_1 18 rfl rfl)
theorem dJ8_bitCount_43 : decode cJ8_bitCount 43 = .ok (.bipush 16, 2) := dk_16 16 (dk_at dksJ8_bitCount_1 19 rfl rfl)
theorem dJ8_bitCount_45 : decode cJ8_bitCount 45 = .ok (.iushr, 1) := dk_124 (dk_at dksJ8_bitCount_1 21 rfl rfl)
theorem dJ8_bitCount_46 : decode cJ8_bitCount 46 = .ok (.iadd, 1) := dk_96 (dk_at dksJ8_bitCount_1 22 rfl rfl)
theorem dJ8_bitCount_47 : decode cJ8_bitCount 47 = .ok (.istore_n 0, 1) := dk_59 (dk_at dksJ8_bitCount_1 23 rfl rfl)
theorem dJ8_bitCount_48 : decode cJ8_bitCount 48 = .ok (.iload_n 0, 1) := dk_26 (dk_at dksJ8_bitCount_2 0 rfl rfl)
theorem dJ8_bitCount_49 : decode cJ8_bitCount 49 = .ok (.bipush 63, 2) := dk_16 63 (dk_at dksJ8_bitCount_2 1 rfl rfl)
theorem dJ8_bitCount_51 : decode cJ8_bitCount 51 = .ok (.iand, 1) := dk_126 (dk_at dksJ8_bitCount_2 3 rfl rfl)
theorem dJ8_bitCount_52 : decode cJ8_bitCount 52 = .ok (.ireturn, 1) := dk_172 (dk_at dksJ8_bitCount_2 4 rfl rfl)
abbrev cJ8_numberOfTrailingZeros : ByteArray := prog_30_method_48_code
def yJ8_numberOfTrailingZeros : MethodName := ⟨RJ8, "numberOfTrailingZeros", "(I)I"⟩
def dkwJ8_numberOfTrailingZeros_3 : List UInt8 := [5, 124, 59, 27, 26, 4, 124, 96, 172]
abbrev dktJ8_numberOfTrailingZeros_3 : List UInt8 := dkwJ8_numberOfTrailingZeros_3 ++ []
def dkwJ8_numberOfTrailingZeros_2 : List UInt8 := [124, 59, 26, 16, 16, 164, 0, 10, 132, 1, 4, 26, 7, 124, 59, 26, 7, 164, 0, 10, 132, 1, 2, 26]
abbrev dktJ8_numberOfTrailingZeros_2 : List UInt8 := dkwJ8_numberOfTrailingZeros_2 ++ dktJ8_numberOfTrailingZeros_3
def dkwJ8_numberOfTrailingZeros_1 : List UInt8 := [164, 0, 11, 132, 1, 16, 26, 16, 16, 124, 59, 26, 17, 1, 0, 164, 0, 11, 132, 1, 8, 26, 16, 8]
abbrev dktJ8_numberOfTrailingZeros_1 : List UInt8 := dkwJ8_numberOfTrailingZeros_1 ++ dktJ8_numberOfTrailingZeros_2
def dkwJ8_numberOfTrailingZeros_0 : List UInt8 := [26, 2, 130, 26, 4, 100, 126, 59, 26, 157, 0, 8, 26, 16, 32, 126, 172, 4, 60, 26, 19, 1, 8]
abbrev dktJ8_numberOfTrailingZeros_0 : List UInt8 := dkwJ8_numberOfTrailingZeros_0 ++ dktJ8_numberOfTrailingZeros_1
theorem dksJ8_numberOfTrailingZeros_0 : cJ8_numberOfTrailingZeros.data.toList.drop 0 = dktJ8_numberOfTrailingZeros_0 := by decide +kernel
theorem dksJ8_numberOfTrailingZeros_1 : cJ8_numberOfTrailingZeros.data.toList.drop 23 = dktJ8_numberOfTrailingZeros_1 := dk_seg dksJ8_numberOfTrailingZeros_0 23 rfl rfl
theorem dksJ8_numberOfTrailingZeros_2 : cJ8_numberOfTrailingZeros.data.toList.drop 47 = dktJ8_numberOfTrailingZeros_2 := dk_seg dksJ8_numberOfTrailingZeros_1 24 rfl rfl
theorem dksJ8_numberOfTrailingZeros_3 : cJ8_numberOfTrailingZeros.data.toList.drop 71 = dktJ8_numberOfTrailingZeros_3 := dk_seg dksJ8_numberOfTrailingZeros_2 24 rfl rfl
theorem dJ8_numberOfTrailingZeros_0 : decode cJ8_numberOfTrailingZeros 0 = .ok (.iload_n 0, 1) := dk_26 (dk_at dksJ8_numberOfTrailingZeros_0 0 rfl rfl)
theorem dJ8_numberOfTrailingZeros_1 : decode cJ8_numberOfTrailingZeros 1 = .ok (.iconst (-1), 1) := dk_2 (dk_at dksJ8_numberOfTrailingZeros_0 1 rfl rfl)
theorem dJ8_numberOfTrailingZeros_2 : decode cJ8_numberOfTrailingZeros 2 = .ok (.ixor, 1) := dk_130 (dk_at dksJ8_numberOfTrailingZeros_0 2 rfl rfl)
theorem dJ8_numberOfTrailingZeros_3 : decode cJ8_numberOfTrailingZeros 3 = .ok (.iload_n 0, 1) := dk_26 (dk_at dksJ8_numberOfTrailingZeros_0 3 rfl rfl)
theorem dJ8_numberOfTrailingZeros_4 : decode cJ8_numberOfTrailingZeros 4 = .ok (.iconst 1, 1) := dk_4 (dk_at dksJ8_numberOfTrailingZeros_0 4 rfl rfl)
theorem dJ8_numberOfTrailingZeros_5 : decode cJ8_numberOfTrailingZeros 5 = .ok (.isub, 1) := dk_100 (dk_at dksJ8_numberOfTrailingZeros_0 5 rfl rfl)
theorem dJ8_numberOfTrailingZeros_6 : decode cJ8_numberOfTrailingZeros 6 = .ok (.iand, 1) := dk_126 (dk_at dksJ8_numberOfTrailingZeros_0 6 rfl rfl)
theorem dJ8_numberOfTrailingZeros_7 : decode cJ8_numberOfTrailingZeros 7 = .ok (.istore_n 0, 1) := dk_59 (dk_at dksJ8_numberOfTrailingZeros_0 7 rfl rfl)
theorem dJ8_numberOfTrailingZeros_8 : decode cJ8_numberOfTrailingZeros 8 = .ok (.iload_n 0, 1) := dk_26 (dk_at dksJ8_numberOfTrailingZeros_0 8 rfl rfl)
theorem dJ8_numberOfTrailingZeros_9 : decode cJ8_numberOfTrailingZeros 9 = .ok (.ifCond .gt 8, 3) := dk_157 0 8 (dk_at dksJ8_numberOfTrailingZeros_0 9 rfl rfl)
theorem dJ8_numberOfTrailingZeros_12 : decode cJ8_numberOfTrailingZeros 12 = .ok (.iload_n 0, 1) := dk_26 (dk_at dksJ8_numberOfTrailingZeros_0 12 rfl rfl)
theorem dJ8_numberOfTrailingZeros_13 : decode cJ8_numberOfTrailingZeros 13 = .ok (.bipush 32, 2) := dk_16 32 (dk_at dksJ8_numberOfTrailingZeros_0 13 rfl rfl)
theorem dJ8_numberOfTrailingZeros_15 : decode cJ8_numberOfTrailingZeros 15 = .ok (.iand, 1) := dk_126 (dk_at dksJ8_numberOfTrailingZeros_0 15 rfl rfl)
theorem dJ8_numberOfTrailingZeros_16 : decode cJ8_numberOfTrailingZeros 16 = .ok (.ireturn, 1) := dk_172 (dk_at dksJ8_numberOfTrailingZeros_0 16 rfl rfl)
theorem dJ8_numberOfTrailingZeros_17 : decode cJ8_numberOfTrailingZeros 17 = .ok (.iconst 1, 1) := dk_4 (dk_at dksJ8_numberOfTrailingZeros_0 17 rfl rfl)
theorem dJ8_numberOfTrailingZeros_18 : decode cJ8_numberOfTrailingZeros 18 = .ok (.istore_n 1, 1) := dk_60 (dk_at dksJ8_numberOfTrailingZeros_0 18 rfl rfl)
theorem dJ8_numberOfTrailingZeros_19 : decode cJ8_numberOfTrailingZeros 19 = .ok (.iload_n 0, 1) := dk_26 (dk_at dksJ8_numberOfTrailingZeros_0 19 rfl rfl)
theorem dJ8_numberOfTrailingZeros_20 : decode cJ8_numberOfTrailingZeros 20 = .ok (.ldc_w 264, 3) := dk_19 1 8 (dk_at dksJ8_numberOfTrailingZeros_0 20 rfl rfl)
theorem dJ8_numberOfTrailingZeros_23 : decode cJ8_numberOfTrailingZeros 23 = .ok (.if_icmp .le 11, 3) := dk_164 0 11 (dk_at dksJ8_numberOfTrailingZeros_1 0 rfl rfl)
theorem dJ8_numberOfTrailingZeros_26 : decode cJ8_numberOfTrailingZeros 26 = .ok (.iinc 1 16, 3) := dk_132 1 16 (dk_at dksJ8_numberOfTrailingZeros_1 3 rfl rfl)
theorem dJ8_numberOfTrailingZeros_29 : decode cJ8_numberOfTrailingZeros 29 = .ok (.iload_n 0, 1) := dk_26 (dk_at dksJ8_numberOfTrailingZeros_1 6 rfl rfl)
theorem dJ8_numberOfTrailingZeros_30 : decode cJ8_numberOfTrailingZeros 30 = .ok (.bipush 16, 2) := dk_16 16 (dk_at dksJ8_numberOfTrailingZeros_1 7 rfl rfl)
theorem dJ8_numberOfTrailingZeros_32 : decode cJ8_numberOfTrailingZeros 32 = .ok (.iushr, 1) := dk_124 (dk_at dksJ8_numberOfTrailingZeros_1 9 rfl rfl)
theorem dJ8_numberOfTrailingZeros_33 : decode cJ8_numberOfTrailingZeros 33 = .ok (.istore_n 0, 1) := dk_59 (dk_at dksJ8_numberOfTrailingZeros_1 10 rfl rfl)
theorem dJ8_numberOfTrailingZeros_34 : decode cJ8_numberOfTrailingZeros 34 = .ok (.iload_n 0, 1) := dk_26 (dk_at dksJ8_numberOfTrailingZeros_1 11 rfl rfl)
theorem dJ8_numberOfTrailingZeros_35 : decode cJ8_numberOfTrailingZeros 35 = .ok (.sipush 256, 3) := dk_17 1 0 (dk_at dksJ8_numberOfTrailingZeros_1 12 rfl rfl)
theorem dJ8_numberOfTrailingZeros_38 : decode cJ8_numberOfTrailingZeros 38 = .ok (.if_icmp .le 11, 3) := dk_164 0 11 (dk_at dksJ8_numberOfTrailingZeros_1 15 rfl rfl)
theorem dJ8_numberOfTrailingZeros_41 : decode cJ8_numberOfTrailingZeros 41 = .ok (.iinc 1 8, 3) := dk_132 1 8 (dk_at dksJ8_numberOfTrailingZeros_1 18 rfl rfl)
theorem dJ8_numberOfTrailingZeros_44 : decode cJ8_numberOfTrailingZeros 44 = .ok (.iload_n 0, 1) := dk_26 (dk_at dksJ8_numberOfTrailingZeros_1 21 rfl rfl)
theorem dJ8_numberOfTrailingZeros_45 : decode cJ8_numberOfTrailingZeros 45 = .ok (.bipush 8, 2) := dk_16 8 (dk_at dksJ8_numberOfTrailingZeros_1 22 rfl rfl)
theorem dJ8_numberOfTrailingZeros_47 : decode cJ8_numberOfTrailingZeros 47 = .ok (.iushr, 1) := dk_124 (dk_at dksJ8_numberOfTrailingZeros_2 0 rfl rfl)
theorem dJ8_numberOfTrailingZeros_48 : decode cJ8_numberOfTrailingZeros 48 = .ok (.istore_n 0, 1) := dk_59 (dk_at dksJ8_numberOfTrailingZeros_2 1 rfl rfl)
theorem dJ8_numberOfTrailingZeros_49 : decode cJ8_numberOfTrailingZeros 49 = .ok (.iload_n 0, 1) := dk_26 (dk_at dksJ8_numberOfTrailingZeros_2 2 rfl rfl)
theorem dJ8_numberOfTrailingZeros_50 : decode cJ8_numberOfTrailingZeros 50 = .ok (.bipush 16, 2) := dk_16 16 (dk_at dksJ8_numberOfTrailingZeros_2 3 rfl rfl)
theorem dJ8_numberOfTrailingZeros_52 : decode cJ8_numberOfTrailingZeros 52 = .ok (.if_icmp .le 10, 3) := dk_164 0 10 (dk_at dksJ8_numberOfTrailingZeros_2 5 rfl rfl)
theorem dJ8_numberOfTrailingZeros_55 : decode cJ8_numberOfTrailingZeros 55 = .ok (.iinc 1 4, 3) := dk_132 1 4 (dk_at dksJ8_numberOfTrailingZeros_2 8 rfl rfl)
theorem dJ8_numberOfTrailingZeros_58 : decode cJ8_numberOfTrailingZeros 58 = .ok (.iload_n 0, 1) := dk_26 (dk_at dksJ8_numberOfTrailingZeros_2 11 rfl rfl)
theorem dJ8_numberOfTrailingZeros_59 : decode cJ8_numberOfTrailingZeros 59 = .ok (.iconst 4, 1) := dk_7 (dk_at dksJ8_numberOfTrailingZeros_2 12 rfl rfl)
theorem dJ8_numberOfTrailingZeros_60 : decode cJ8_numberOfTrailingZeros 60 = .ok (.iushr, 1) := dk_124 (dk_at dksJ8_numberOfTrailingZeros_2 13 rfl rfl)
theorem dJ8_numberOfTrailingZeros_61 : decode cJ8_numberOfTrailingZeros 61 = .ok (.istore_n 0, 1) := dk_59 (dk_at dksJ8_numberOfTrailingZeros_2 14 rfl rfl)
theorem dJ8_numberOfTrailingZeros_62 : decode cJ8_numberOfTrailingZeros 62 = .ok (.iload_n 0, 1) := dk_26 (dk_at dksJ8_numberOfTrailingZeros_2 15 rfl rfl)
theorem dJ8_numberOfTrailingZeros_63 : decode cJ8_numberOfTrailingZeros 63 = .ok (.iconst 4, 1) := dk_7 (dk_at dksJ8_numberOfTrailingZeros_2 16 rfl rfl)
theorem dJ8_numberOfTrailingZeros_64 : decode cJ8_numberOfTrailingZeros 64 = .ok (.if_icmp .le 10, 3) := dk_164 0 10 (dk_at dksJ8_numberOfTrailingZeros_2 17 rfl rfl)
theorem dJ8_numberOfTrailingZeros_67 : decode cJ8_numberOfTrailingZeros 67 = .ok (.iinc 1 2, 3) := dk_132 1 2 (dk_at dksJ8_numberOfTrailingZeros_2 20 rfl rfl)
theorem dJ8_numberOfTrailingZeros_70 : decode cJ8_numberOfTrailingZeros 70 = .ok (.iload_n 0, 1) := dk_26 (dk_at dksJ8_numberOfTrailingZeros_2 23 rfl rfl)
theorem dJ8_numberOfTrailingZeros_71 : decode cJ8_numberOfTrailingZeros 71 = .ok (.iconst 2, 1) := dk_5 (dk_at dksJ8_numberOfTrailingZeros_3 0 rfl rfl)
theorem dJ8_numberOfTrailingZeros_72 : decode cJ8_numberOfTrailingZeros 72 = .ok (.iushr, 1) := dk_124 (dk_at dksJ8_numberOfTrailingZeros_3 1 rfl rfl)
theorem dJ8_numberOfTrailingZeros_73 : decode cJ8_numberOfTrailingZeros 73 = .ok (.istore_n 0, 1) := dk_59 (dk_at dksJ8_numberOfTrailingZeros_3 2 rfl rfl)
theorem dJ8_numberOfTrailingZeros_74 : decode cJ8_numberOfTrailingZeros 74 = .ok (.iload_n 1, 1) := dk_27 (dk_at dksJ8_numberOfTrailingZeros_3 3 rfl rfl)
theorem dJ8_numberOfTrailingZeros_75 : decode cJ8_numberOfTrailingZeros 75 = .ok (.iload_n 0, 1) := dk_26 (dk_at dksJ8_numberOfTrailingZeros_3 4 rfl rfl)
theorem dJ8_numberOfTrailingZeros_76 : decode cJ8_numberOfTrailingZeros 76 = .ok (.iconst 1, 1) := dk_4 (dk_at dksJ8_numberOfTrailingZeros_3 5 rfl rfl)
theorem dJ8_numberOfTrailingZeros_77 : decode cJ8_numberOfTrailingZeros 77 = .ok (.iushr, 1) := dk_124 (dk_at dksJ8_numberOfTrailingZeros_3 6 rfl rfl)
theorem dJ8_numberOfTrailingZeros_78 : decode cJ8_numberOfTrailingZeros 78 = .ok (.iadd, 1) := dk_96 (dk_at dksJ8_numberOfTrailingZeros_3 7 rfl rfl)
theorem dJ8_numberOfTrailingZeros_79 : decode cJ8_numberOfTrailingZeros 79 = .ok (.ireturn, 1) := dk_172 (dk_at dksJ8_numberOfTrailingZeros_3 8 rfl rfl)
theorem q147 : (Jvm.Cond.initialized "java/lang/Integer") ∈ lw_all := lw_g (lw_at lw_m1 30 rfl) rfl
theorem q1050 : (Jvm.Cond.static ({ cls := "java/lang/Integer", name := "bitCount", desc := "(I)I" } : Jvm.MethodName)) ∈ lw_all := lw_g (lw_at lw_m4 213 rfl) rfl
theorem q1051 : (Jvm.Cond.code ({ cls := "java/lang/Integer", name := "bitCount", desc := "(I)I" } : Jvm.MethodName) prog_30_method_49_code (1 : Nat) (Option.some Jvm.ClassFile.FieldType.int)) ∈ lw_all := lw_g (lw_at lw_m4 214 rfl) rfl
theorem q1052 : (Jvm.Cond.constant "java/lang/Integer" (265 : Nat) (1431655765 : Int32)) ∈ lw_all := lw_g (lw_at lw_m4 215 rfl) rfl
theorem q1053 : (Jvm.Cond.constant "java/lang/Integer" (266 : Nat) (858993459 : Int32)) ∈ lw_all := lw_g (lw_at lw_m4 216 rfl) rfl
theorem q1054 : (Jvm.Cond.constant "java/lang/Integer" (267 : Nat) (252645135 : Int32)) ∈ lw_all := lw_g (lw_at lw_m4 217 rfl) rfl
theorem q1103 : (Jvm.Cond.static ({ cls := "java/lang/Integer", name := "numberOfTrailingZeros", desc := "(I)I" } : Jvm.MethodName)) ∈ lw_all := lw_g (lw_at lw_m5 26 rfl) rfl
theorem q1104 : (Jvm.Cond.code ({ cls := "java/lang/Integer", name := "numberOfTrailingZeros", desc := "(I)I" } : Jvm.MethodName) prog_30_method_48_code (2 : Nat) (Option.some Jvm.ClassFile.FieldType.int)) ∈ lw_all := lw_g (lw_at lw_m5 27 rfl) rfl
theorem q1105 : (Jvm.Cond.constant "java/lang/Integer" (264 : Nat) (65536 : Int32)) ∈ lw_all := lw_g (lw_at lw_m5 28 rfl) rfl
/-! java/lang/NegativeArraySizeException -/
set_option maxRecDepth 100000
def RJ9 : String := "java/lang/NegativeArraySizeException"
def TJ9 : u_T := fun k => match k with
  | 0 => ("java/lang/Throwable", "backtrace", "Ljava/lang/Object;", false)
  | 1 => ("java/lang/Throwable", "detailMessage", "Ljava/lang/String;", false)
  | 2 => ("java/lang/Throwable", "cause", "Ljava/lang/Throwable;", false)
  | 3 => ("java/lang/Throwable", "stackTrace", "[Ljava/lang/StackTraceElement;", false)
  | 4 => ("java/lang/Throwable", "depth", "I", false)
  | _ => ("java/lang/Throwable", "suppressedExceptions", "Ljava/util/List;", false)
def tyJ9 : Nat → FieldType := fun k => match k with
  | 0 => .object "java/lang/Object"
  | 1 => .object "java/lang/String"
  | 2 => .object "java/lang/Throwable"
  | 3 => .array (.object "java/lang/StackTraceElement")
  | 4 => .int
  | _ => .object "java/util/List"
abbrev wsJ90 : List Cond := u_ws RJ9 TJ9 6
theorem nmJ9 : ∀ a, a < 6 → ∀ b, b < 6 → a ≠ b → (TJ9 a).2.1 ≠ (TJ9 b).2.1 := by decide +kernel
theorem tyJ9_ok : ∀ k, k < 6 → parseFieldDescriptor (TJ9 k).2.2.1 = some (tyJ9 k) := by decide +kernel
abbrev cJ9_init : ByteArray := prog_32_method_2_code
def yJ9_init : MethodName := ⟨RJ9, "<init>", "(Ljava/lang/String;)V"⟩
def dkwJ9_init_0 : List UInt8 := [42, 43, 183, 0, 7, 177]
abbrev dktJ9_init_0 : List UInt8 := dkwJ9_init_0 ++ []
theorem dksJ9_init_0 : cJ9_init.data.toList.drop 0 = dktJ9_init_0 := by decide +kernel
theorem dJ9_init_0 : decode cJ9_init 0 = .ok (.aload_n 0, 1) := dk_42 (dk_at dksJ9_init_0 0 rfl rfl)
theorem dJ9_init_1 : decode cJ9_init 1 = .ok (.aload_n 1, 1) := dk_43 (dk_at dksJ9_init_0 1 rfl rfl)
theorem dJ9_init_2 : decode cJ9_init 2 = .ok (.invokespecial 7, 3) := dk_183 0 7 (dk_at dksJ9_init_0 2 rfl rfl)
theorem dJ9_init_5 : decode cJ9_init 5 = .ok (.return_, 1) := dk_177 (dk_at dksJ9_init_0 5 rfl rfl)
theorem q148 : (Jvm.Cond.initialized "java/lang/NegativeArraySizeException") ∈ lw_all := lw_g (lw_at lw_m1 31 rfl) rfl
theorem q197 : (Jvm.Cond.selects "java/lang/NegativeArraySizeException" ({ cls := "java/lang/Throwable", name := "fillInStackTrace", desc := "()Ljava/lang/Throwable;" } : Jvm.MethodName) ({ cls := "java/lang/Throwable", name := "fillInStackTrace", desc := "()Ljava/lang/Throwable;" } : Jvm.MethodName)) ∈ lw_all := lw_g (lw_at lw_m1 80 rfl) rfl
theorem q1196 : (Jvm.Cond.instantiable "java/lang/NegativeArraySizeException" (6 : Nat)) ∈ lw_all := lw_g (lw_at lw_m5 119 rfl) rfl
theorem q1197 : (Jvm.Cond.instanceMethod ({ cls := "java/lang/NegativeArraySizeException", name := "<init>", desc := "(Ljava/lang/String;)V" } : Jvm.MethodName)) ∈ lw_all := lw_g (lw_at lw_m5 120 rfl) rfl
theorem q1198 : (Jvm.Cond.code ({ cls := "java/lang/NegativeArraySizeException", name := "<init>", desc := "(Ljava/lang/String;)V" } : Jvm.MethodName) prog_32_method_2_code (2 : Nat) (Option.none : Option Jvm.ClassFile.FieldType)) ∈ lw_all := lw_g (lw_at lw_m5 121 rfl) rfl
theorem q1199 : (Jvm.Cond.methodLink "java/lang/NegativeArraySizeException" (7 : Nat) ({ cls := "java/lang/RuntimeException", name := "<init>", desc := "(Ljava/lang/String;)V" } : Jvm.MethodName)) ∈ lw_all := lw_g (lw_at lw_m5 122 rfl) rfl
theorem q1208 : (Jvm.Cond.lays "java/lang/NegativeArraySizeException" "java/lang/Throwable" "backtrace" "Ljava/lang/Object;") ∈ lw_all := lw_g (lw_at lw_m5 131 rfl) rfl
theorem q1209 : (Jvm.Cond.lays "java/lang/NegativeArraySizeException" "java/lang/Throwable" "detailMessage" "Ljava/lang/String;") ∈ lw_all := lw_g (lw_at lw_m5 132 rfl) rfl
theorem q1210 : (Jvm.Cond.lays "java/lang/NegativeArraySizeException" "java/lang/Throwable" "cause" "Ljava/lang/Throwable;") ∈ lw_all := lw_g (lw_at lw_m5 133 rfl) rfl
theorem q1211 : (Jvm.Cond.lays "java/lang/NegativeArraySizeException" "java/lang/Throwable" "stackTrace" "[Ljava/lang/StackTraceElement;") ∈ lw_all := lw_g (lw_at lw_m5 134 rfl) rfl
theorem q1212 : (Jvm.Cond.lays "java/lang/NegativeArraySizeException" "java/lang/Throwable" "depth" "I") ∈ lw_all := lw_g (lw_at lw_m5 135 rfl) rfl
theorem q1213 : (Jvm.Cond.lays "java/lang/NegativeArraySizeException" "java/lang/Throwable" "suppressedExceptions" "Ljava/util/List;") ∈ lw_all := lw_g (lw_at lw_m5 136 rfl) rfl
theorem q1214 : (Jvm.Cond.superclass "java/lang/NegativeArraySizeException" "java/lang/RuntimeException") ∈ lw_all := lw_g (lw_at lw_m5 137 rfl) rfl
theorem q1215 : (Jvm.Cond.castable "java/lang/NegativeArraySizeException" "java/lang/NegativeArraySizeException") ∈ lw_tbl := lw_at lw_m5 138 rfl
theorem q1216 : (Jvm.Cond.selects "java/lang/NegativeArraySizeException" ({ cls := "java/lang/Throwable", name := "fillInStackTrace", desc := "(I)Ljava/lang/Throwable;" } : Jvm.MethodName) ({ cls := "java/lang/Throwable", name := "fillInStackTrace", desc := "(I)Ljava/lang/Throwable;" } : Jvm.MethodName)) ∈ lw_all := lw_g (lw_at lw_m5 139 rfl) rfl
theorem in_J9 : ∀ w ∈ wsJ90, w ∈ lw_all := lw_in wsJ90 [1208, 1209, 1210, 1211, 1212, 1213] (by decide +kernel) (by decide +kernel)
theorem q145 : (Jvm.Cond.initialized "java/lang/System") ∈ lw_all := lw_g (lw_at lw_m1 28 rfl) rfl
set_option maxRecDepth 100000
theorem q931 : (Jvm.Cond.static ({ cls := "java/lang/System", name := "arraycopy", desc := "(Ljava/lang/Object;ILjava/lang/Object;II)V" } : Jvm.MethodName)) ∈ lw_all := lw_g (lw_at lw_m4 94 rfl) rfl
theorem q932 : (Jvm.Cond.native ({ cls := "java/lang/System", name := "arraycopy", desc := "(Ljava/lang/Object;ILjava/lang/Object;II)V" } : Jvm.MethodName)) ∈ lw_all := lw_g (lw_at lw_m4 95 rfl) rfl
