/-! WildBells$Refusal -/
set_option maxRecDepth 100000
def RX1 : String := "WildBells$Refusal"
def TX1 : u_T := fun k => match k with
  | 0 => ("java/lang/Throwable", "cause", "Ljava/lang/Throwable;", false)
  | 1 => ("java/lang/Throwable", "stackTrace", "[Ljava/lang/StackTraceElement;", false)
  | 2 => ("java/lang/Throwable", "suppressedExceptions", "Ljava/util/List;", false)
  | 3 => ("java/lang/Throwable", "detailMessage", "Ljava/lang/String;", false)
  | 4 => ("java/lang/Throwable", "backtrace", "Ljava/lang/Object;", false)
  | 5 => ("java/lang/Throwable", "depth", "I", false)
  | _ => ("WildBells$Refusal", "finding", "I", false)
def tyX1 : Nat → FieldType := fun k => match k with
  | 0 => .object "java/lang/Throwable"
  | 1 => .array (.object "java/lang/StackTraceElement")
  | 2 => .object "java/util/List"
  | 3 => .object "java/lang/String"
  | 4 => .object "java/lang/Object"
  | 5 => .int
  | _ => .int
abbrev wsX10 : List Cond := u_ws RX1 TX1 7
theorem nmX1 : ∀ a, a < 7 → ∀ b, b < 7 → a ≠ b → (TX1 a).2.1 ≠ (TX1 b).2.1 := by decide +kernel
theorem tyX1_ok : ∀ k, k < 7 → parseFieldDescriptor (TX1 k).2.2.1 = some (tyX1 k) := by decide +kernel
abbrev cX1_init : ByteArray := prog_8_method_1_code
def yX1_init : MethodName := ⟨RX1, "<init>", "()V"⟩
def dkwX1_init_0 : List UInt8 := [42, 1, 1, 3, 3, 183, 0, 1, 177]
abbrev dktX1_init_0 : List UInt8 := dkwX1_init_0 ++ []
theorem dksX1_init_0 : cX1_init.data.toList.drop 0 = dktX1_init_0 := by decide +kernel
theorem dX1_init_0 : decode cX1_init 0 = .ok (.aload_n 0, 1) := dk_42 (dk_at dksX1_init_0 0 rfl rfl)
theorem dX1_init_1 : decode cX1_init 1 = .ok (.aconst_null, 1) := dk_1 (dk_at dksX1_init_0 1 rfl rfl)
theorem dX1_init_2 : decode cX1_init 2 = .ok (.aconst_null, 1) := dk_1 (dk_at dksX1_init_0 2 rfl rfl)
theorem dX1_init_3 : decode cX1_init 3 = .ok (.iconst 0, 1) := dk_3 (dk_at dksX1_init_0 3 rfl rfl)
theorem dX1_init_4 : decode cX1_init 4 = .ok (.iconst 0, 1) := dk_3 (dk_at dksX1_init_0 4 rfl rfl)
theorem dX1_init_5 : decode cX1_init 5 = .ok (.invokespecial 1, 3) := dk_183 0 1 (dk_at dksX1_init_0 5 rfl rfl)
theorem dX1_init_8 : decode cX1_init 8 = .ok (.return_, 1) := dk_177 (dk_at dksX1_init_0 8 rfl rfl)
theorem q103 : (Jvm.Cond.initialized "WildBells$Refusal") ∈ lw_all := lw_g (lw_at lw_m1 5 rfl) rfl
theorem q132 : (Jvm.Cond.instantiable "WildBells$Refusal" (7 : Nat)) ∈ lw_all := lw_g (lw_at lw_m1 34 rfl) rfl
theorem q133 : (Jvm.Cond.castable "WildBells$Refusal" "WildBells$Refusal") ∈ lw_tbl := lw_at lw_m1 35 rfl
theorem q140 : (Jvm.Cond.selects "WildBells$Refusal" ({ cls := "java/lang/Throwable", name := "fillInStackTrace", desc := "(I)Ljava/lang/Throwable;" } : Jvm.MethodName) ({ cls := "java/lang/Throwable", name := "fillInStackTrace", desc := "(I)Ljava/lang/Throwable;" } : Jvm.MethodName)) ∈ lw_all := lw_g (lw_at lw_m1 42 rfl) rfl
theorem q141 : (Jvm.Cond.selects "WildBells$Refusal" ({ cls := "java/lang/Throwable", name := "fillInStackTrace", desc := "()Ljava/lang/Throwable;" } : Jvm.MethodName) ({ cls := "java/lang/Throwable", name := "fillInStackTrace", desc := "()Ljava/lang/Throwable;" } : Jvm.MethodName)) ∈ lw_all := lw_g (lw_at lw_m1 43 rfl) rfl
theorem q142 : (Jvm.Cond.lays "WildBells$Refusal" "java/lang/Throwable" "cause" "Ljava/lang/Throwable;") ∈ lw_all := lw_g (lw_at lw_m1 44 rfl) rfl
theorem q144 : (Jvm.Cond.lays "WildBells$Refusal" "java/lang/Throwable" "stackTrace" "[Ljava/lang/StackTraceElement;") ∈ lw_all := lw_g (lw_at lw_m1 46 rfl) rfl
theorem q146 : (Jvm.Cond.lays "WildBells$Refusal" "java/lang/Throwable" "suppressedExceptions" "Ljava/util/List;") ∈ lw_all := lw_g (lw_at lw_m1 48 rfl) rfl
theorem q148 : (Jvm.Cond.lays "WildBells$Refusal" "java/lang/Throwable" "detailMessage" "Ljava/lang/String;") ∈ lw_all := lw_g (lw_at lw_m1 50 rfl) rfl
theorem q150 : (Jvm.Cond.lays "WildBells$Refusal" "java/lang/Throwable" "backtrace" "Ljava/lang/Object;") ∈ lw_all := lw_g (lw_at lw_m1 52 rfl) rfl
theorem q172 : (Jvm.Cond.instanceMethod ({ cls := "WildBells$Refusal", name := "<init>", desc := "()V" } : Jvm.MethodName)) ∈ lw_all := lw_g (lw_at lw_m1 74 rfl) rfl
theorem q173 : (Jvm.Cond.code ({ cls := "WildBells$Refusal", name := "<init>", desc := "()V" } : Jvm.MethodName) prog_8_method_1_code (1 : Nat) (Option.none : Option Jvm.ClassFile.FieldType)) ∈ lw_all := lw_g (lw_at lw_m1 75 rfl) rfl
theorem q174 : (Jvm.Cond.methodLink "WildBells$Refusal" (1 : Nat) ({ cls := "java/lang/RuntimeException", name := "<init>", desc := "(Ljava/lang/String;Ljava/lang/Throwable;ZZ)V" } : Jvm.MethodName)) ∈ lw_all := lw_g (lw_at lw_m1 76 rfl) rfl
theorem q189 : (Jvm.Cond.lays "WildBells$Refusal" "WildBells$Refusal" "finding" "I") ∈ lw_all := lw_g (lw_at lw_m1 91 rfl) rfl
theorem q190 : (Jvm.Cond.soleField "WildBells$Refusal" "finding") ∈ lw_all := lw_g (lw_at lw_m1 92 rfl) rfl
theorem q195 : (Jvm.Cond.lays "WildBells$Refusal" "java/lang/Throwable" "depth" "I") ∈ lw_all := lw_g (lw_at lw_m1 97 rfl) rfl
theorem q198 : (Jvm.Cond.superclass "WildBells$Refusal" "java/lang/RuntimeException") ∈ lw_all := lw_g (lw_at lw_m1 100 rfl) rfl
theorem in_X1 : ∀ w ∈ wsX10, w ∈ lw_all := lw_in wsX10 [142, 144, 146, 148, 150, 195, 189] (by decide +kernel) (by decide +kernel)
/-! WildBells$Wrong -/
set_option maxRecDepth 100000
def RX3 : String := "WildBells$Wrong"
def TX3 : u_T := fun k => match k with
  | 0 => ("java/lang/Throwable", "cause", "Ljava/lang/Throwable;", false)
  | 1 => ("java/lang/Throwable", "stackTrace", "[Ljava/lang/StackTraceElement;", false)
  | 2 => ("java/lang/Throwable", "suppressedExceptions", "Ljava/util/List;", false)
  | 3 => ("java/lang/Throwable", "detailMessage", "Ljava/lang/String;", false)
  | 4 => ("java/lang/Throwable", "backtrace", "Ljava/lang/Object;", false)
  | _ => ("java/lang/Throwable", "depth", "I", false)
def tyX3 : Nat → FieldType := fun k => match k with
  | 0 => .object "java/lang/Throwable"
  | 1 => .array (.object "java/lang/StackTraceElement")
  | 2 => .object "java/util/List"
  | 3 => .object "java/lang/String"
  | 4 => .object "java/lang/Object"
  | _ => .int
abbrev wsX30 : List Cond := u_ws RX3 TX3 6
theorem nmX3 : ∀ a, a < 6 → ∀ b, b < 6 → a ≠ b → (TX3 a).2.1 ≠ (TX3 b).2.1 := by decide +kernel
theorem tyX3_ok : ∀ k, k < 6 → parseFieldDescriptor (TX3 k).2.2.1 = some (tyX3 k) := by decide +kernel
abbrev cX3_init : ByteArray := prog_13_method_1_code
def yX3_init : MethodName := ⟨RX3, "<init>", "()V"⟩
def dkwX3_init_0 : List UInt8 := [42, 1, 1, 3, 3, 183, 0, 1, 177]
abbrev dktX3_init_0 : List UInt8 := dkwX3_init_0 ++ []
theorem dksX3_init_0 : cX3_init.data.toList.drop 0 = dktX3_init_0 := by decide +kernel
theorem dX3_init_0 : decode cX3_init 0 = .ok (.aload_n 0, 1) := dk_42 (dk_at dksX3_init_0 0 rfl rfl)
theorem dX3_init_1 : decode cX3_init 1 = .ok (.aconst_null, 1) := dk_1 (dk_at dksX3_init_0 1 rfl rfl)
theorem dX3_init_2 : decode cX3_init 2 = .ok (.aconst_null, 1) := dk_1 (dk_at dksX3_init_0 2 rfl rfl)
theorem dX3_init_3 : decode cX3_init 3 = .ok (.iconst 0, 1) := dk_3 (dk_at dksX3_init_0 3 rfl rfl)
theorem dX3_init_4 : decode cX3_init 4 = .ok (.iconst 0, 1) := dk_3 (dk_at dksX3_init_0 4 rfl rfl)
theorem dX3_init_5 : decode cX3_init 5 = .ok (.invokespecial 1, 3) := dk_183 0 1 (dk_at dksX3_init_0 5 rfl rfl)
theorem dX3_init_8 : decode cX3_init 8 = .ok (.return_, 1) := dk_177 (dk_at dksX3_init_0 8 rfl rfl)
theorem q105 : (Jvm.Cond.initialized "WildBells$Wrong") ∈ lw_all := lw_g (lw_at lw_m1 7 rfl) rfl
theorem q164 : (Jvm.Cond.selects "WildBells$Wrong" ({ cls := "java/lang/Throwable", name := "fillInStackTrace", desc := "()Ljava/lang/Throwable;" } : Jvm.MethodName) ({ cls := "java/lang/Throwable", name := "fillInStackTrace", desc := "()Ljava/lang/Throwable;" } : Jvm.MethodName)) ∈ lw_all := lw_g (lw_at lw_m1 66 rfl) rfl
theorem q206 : (Jvm.Cond.instantiable "WildBells$Wrong" (6 : Nat)) ∈ lw_all := lw_g (lw_at lw_m1 108 rfl) rfl
theorem q207 : (Jvm.Cond.castable "WildBells$Wrong" "WildBells$Wrong") ∈ lw_tbl := lw_at lw_m1 109 rfl
theorem q208 : (Jvm.Cond.selects "WildBells$Wrong" ({ cls := "java/lang/Throwable", name := "fillInStackTrace", desc := "(I)Ljava/lang/Throwable;" } : Jvm.MethodName) ({ cls := "java/lang/Throwable", name := "fillInStackTrace", desc := "(I)Ljava/lang/Throwable;" } : Jvm.MethodName)) ∈ lw_all := lw_g (lw_at lw_m1 110 rfl) rfl
theorem q209 : (Jvm.Cond.lays "WildBells$Wrong" "java/lang/Throwable" "cause" "Ljava/lang/Throwable;") ∈ lw_all := lw_g (lw_at lw_m1 111 rfl) rfl
theorem q210 : (Jvm.Cond.lays "WildBells$Wrong" "java/lang/Throwable" "stackTrace" "[Ljava/lang/StackTraceElement;") ∈ lw_all := lw_g (lw_at lw_m1 112 rfl) rfl
theorem q211 : (Jvm.Cond.lays "WildBells$Wrong" "java/lang/Throwable" "suppressedExceptions" "Ljava/util/List;") ∈ lw_all := lw_g (lw_at lw_m1 113 rfl) rfl
theorem q212 : (Jvm.Cond.lays "WildBells$Wrong" "java/lang/Throwable" "detailMessage" "Ljava/lang/String;") ∈ lw_all := lw_g (lw_at lw_m1 114 rfl) rfl
theorem q213 : (Jvm.Cond.lays "WildBells$Wrong" "java/lang/Throwable" "backtrace" "Ljava/lang/Object;") ∈ lw_all := lw_g (lw_at lw_m1 115 rfl) rfl
theorem q215 : (Jvm.Cond.instanceMethod ({ cls := "WildBells$Wrong", name := "<init>", desc := "()V" } : Jvm.MethodName)) ∈ lw_all := lw_g (lw_at lw_m1 117 rfl) rfl
theorem q216 : (Jvm.Cond.code ({ cls := "WildBells$Wrong", name := "<init>", desc := "()V" } : Jvm.MethodName) prog_13_method_1_code (1 : Nat) (Option.none : Option Jvm.ClassFile.FieldType)) ∈ lw_all := lw_g (lw_at lw_m1 118 rfl) rfl
theorem q217 : (Jvm.Cond.methodLink "WildBells$Wrong" (1 : Nat) ({ cls := "java/lang/RuntimeException", name := "<init>", desc := "(Ljava/lang/String;Ljava/lang/Throwable;ZZ)V" } : Jvm.MethodName)) ∈ lw_all := lw_g (lw_at lw_m1 119 rfl) rfl
theorem q218 : (Jvm.Cond.lays "WildBells$Wrong" "java/lang/Throwable" "depth" "I") ∈ lw_all := lw_g (lw_at lw_m1 120 rfl) rfl
theorem q219 : (Jvm.Cond.superclass "WildBells$Wrong" "java/lang/RuntimeException") ∈ lw_all := lw_g (lw_at lw_m1 121 rfl) rfl
theorem in_X3 : ∀ w ∈ wsX30, w ∈ lw_all := lw_in wsX30 [209, 210, 211, 212, 213, 218] (by decide +kernel) (by decide +kernel)
/-! WildBells$Slot -/
set_option maxRecDepth 100000
def RX5 : String := "WildBells$Slot"
def TX5 : u_T := fun k => match k with
  | _ => ("WildBells$Slot", "thing", "Ljava/lang/Object;", false)
def tyX5 : Nat → FieldType := fun k => match k with
  | _ => .object "java/lang/Object"
abbrev wsX50 : List Cond := u_ws RX5 TX5 1
theorem nmX5 : ∀ a, a < 1 → ∀ b, b < 1 → a ≠ b → (TX5 a).2.1 ≠ (TX5 b).2.1 := by decide +kernel
theorem tyX5_ok : ∀ k, k < 1 → parseFieldDescriptor (TX5 k).2.2.1 = some (tyX5 k) := by decide +kernel
abbrev cX5_init : ByteArray := prog_9_method_1_code
def yX5_init : MethodName := ⟨RX5, "<init>", "()V"⟩
theorem dX5_init_0 : decode cX5_init 0 = .ok (.aload_n 0, 1) := by decide +kernel
theorem dX5_init_1 : decode cX5_init 1 = .ok (.invokespecial 1, 3) := by decide +kernel
theorem dX5_init_4 : decode cX5_init 4 = .ok (.return_, 1) := by decide +kernel
theorem q107 : (Jvm.Cond.initialized "WildBells$Slot") ∈ lw_all := lw_g (lw_at lw_m1 9 rfl) rfl
theorem q303 : (Jvm.Cond.instantiable "WildBells$Slot" (1 : Nat)) ∈ lw_all := lw_g (lw_at lw_m1 205 rfl) rfl
theorem q305 : (Jvm.Cond.instanceMethod ({ cls := "WildBells$Slot", name := "<init>", desc := "()V" } : Jvm.MethodName)) ∈ lw_all := lw_g (lw_at lw_m1 207 rfl) rfl
theorem q306 : (Jvm.Cond.code ({ cls := "WildBells$Slot", name := "<init>", desc := "()V" } : Jvm.MethodName) prog_9_method_1_code (1 : Nat) (Option.none : Option Jvm.ClassFile.FieldType)) ∈ lw_all := lw_g (lw_at lw_m1 208 rfl) rfl
theorem q307 : (Jvm.Cond.methodLink "WildBells$Slot" (1 : Nat) ({ cls := "java/lang/Object", name := "<init>", desc := "()V" } : Jvm.MethodName)) ∈ lw_all := lw_g (lw_at lw_m1 209 rfl) rfl
theorem q309 : (Jvm.Cond.lays "WildBells$Slot" "WildBells$Slot" "thing" "Ljava/lang/Object;") ∈ lw_all := lw_g (lw_at lw_m1 211 rfl) rfl
theorem q310 : (Jvm.Cond.soleField "WildBells$Slot" "thing") ∈ lw_all := lw_g (lw_at lw_m1 212 rfl) rfl
theorem q311 : (Jvm.Cond.superclass "WildBells$Slot" "java/lang/Object") ∈ lw_all := lw_g (lw_at lw_m1 213 rfl) rfl
theorem in_X5 : ∀ w ∈ wsX50, w ∈ lw_all := lw_in wsX50 [309] (by decide +kernel) (by decide +kernel)
/-! WildBells$Bell -/
set_option maxRecDepth 100000
def RX6 : String := "WildBells$Bell"
def TX6 : u_T := fun k => match k with
  | 0 => ("WildBells$Bell", "number", "I", true)
  | _ => ("WildBells$Bell", "this$0", "LWildBells;", true)
def tyX6 : Nat → FieldType := fun k => match k with
  | 0 => .int
  | _ => .object "WildBells"
abbrev wsX60 : List Cond := u_ws RX6 TX6 2
theorem nmX6 : ∀ a, a < 2 → ∀ b, b < 2 → a ≠ b → (TX6 a).2.1 ≠ (TX6 b).2.1 := by decide +kernel
theorem tyX6_ok : ∀ k, k < 2 → parseFieldDescriptor (TX6 k).2.2.1 = some (tyX6 k) := by decide +kernel
abbrev cX6_init : ByteArray := prog_2_method_1_code
def yX6_init : MethodName := ⟨RX6, "<init>", "(LWildBells;I)V"⟩
def dkwX6_init_0 : List UInt8 := [42, 43, 181, 0, 3, 42, 183, 0, 9, 42, 28, 181, 0, 15, 177]
abbrev dktX6_init_0 : List UInt8 := dkwX6_init_0 ++ []
theorem dksX6_init_0 : cX6_init.data.toList.drop 0 = dktX6_init_0 := by decide +kernel
theorem dX6_init_0 : decode cX6_init 0 = .ok (.aload_n 0, 1) := dk_42 (dk_at dksX6_init_0 0 rfl rfl)
theorem dX6_init_1 : decode cX6_init 1 = .ok (.aload_n 1, 1) := dk_43 (dk_at dksX6_init_0 1 rfl rfl)
theorem dX6_init_2 : decode cX6_init 2 = .ok (.putfield 3, 3) := dk_181 0 3 (dk_at dksX6_init_0 2 rfl rfl)
theorem dX6_init_5 : decode cX6_init 5 = .ok (.aload_n 0, 1) := dk_42 (dk_at dksX6_init_0 5 rfl rfl)
theorem dX6_init_6 : decode cX6_init 6 = .ok (.invokespecial 9, 3) := dk_183 0 9 (dk_at dksX6_init_0 6 rfl rfl)
theorem dX6_init_9 : decode cX6_init 9 = .ok (.aload_n 0, 1) := dk_42 (dk_at dksX6_init_0 9 rfl rfl)
theorem dX6_init_10 : decode cX6_init 10 = .ok (.iload_n 2, 1) := dk_28 (dk_at dksX6_init_0 10 rfl rfl)
theorem dX6_init_11 : decode cX6_init 11 = .ok (.putfield 15, 3) := dk_181 0 15 (dk_at dksX6_init_0 11 rfl rfl)
theorem dX6_init_14 : decode cX6_init 14 = .ok (.return_, 1) := dk_177 (dk_at dksX6_init_0 14 rfl rfl)
abbrev cX6_kind : ByteArray := prog_2_method_2_code
def yX6_kind : MethodName := ⟨RX6, "kind", "()I"⟩
theorem dX6_kind_0 : decode cX6_kind 0 = .ok (.iconst 0, 1) := by decide +kernel
theorem dX6_kind_1 : decode cX6_kind 1 = .ok (.ireturn, 1) := by decide +kernel
abbrev cX6_worth : ByteArray := prog_2_method_4_code
def yX6_worth : MethodName := ⟨RX6, "worth", "(I)I"⟩
def dkwX6_worth_1 : List UInt8 := [180, 0, 33, 4, 50, 27, 46, 100, 172]
abbrev dktX6_worth_1 : List UInt8 := dkwX6_worth_1 ++ []
def dkwX6_worth_0 : List UInt8 := [16, 10, 42, 180, 0, 3, 180, 0, 23, 27, 182, 0, 27, 104, 16, 9, 96, 42, 180, 0, 3, 180, 0, 23]
abbrev dktX6_worth_0 : List UInt8 := dkwX6_worth_0 ++ dktX6_worth_1
theorem dksX6_worth_0 : cX6_worth.data.toList.drop 0 = dktX6_worth_0 := by decide +kernel
theorem dksX6_worth_1 : cX6_worth.data.toList.drop 24 = dktX6_worth_1 := dk_seg dksX6_worth_0 24 rfl rfl
theorem dX6_worth_0 : decode cX6_worth 0 = .ok (.bipush 10, 2) := dk_16 10 (dk_at dksX6_worth_0 0 rfl rfl)
theorem dX6_worth_2 : decode cX6_worth 2 = .ok (.aload_n 0, 1) := dk_42 (dk_at dksX6_worth_0 2 rfl rfl)
theorem dX6_worth_3 : decode cX6_worth 3 = .ok (.getfield 3, 3) := dk_180 0 3 (dk_at dksX6_worth_0 3 rfl rfl)
theorem dX6_worth_6 : decode cX6_worth 6 = .ok (.getfield 23, 3) := dk_180 0 23 (dk_at dksX6_worth_0 6 rfl rfl)
theorem dX6_worth_9 : decode cX6_worth 9 = .ok (.iload_n 1, 1) := dk_27 (dk_at dksX6_worth_0 9 rfl rfl)
theorem dX6_worth_10 : decode cX6_worth 10 = .ok (.invokevirtual 27, 3) := dk_182 0 27 (dk_at dksX6_worth_0 10 rfl rfl)
theorem dX6_worth_13 : decode cX6_worth 13 = .ok (.imul, 1) := dk_104 (dk_at dksX6_worth_0 13 rfl rfl)
theorem dX6_worth_14 : decode cX6_worth 14 = .ok (.bipush 9, 2) := dk_16 9 (dk_at dksX6_worth_0 14 rfl rfl)
theorem dX6_worth_16 : decode cX6_worth 16 = .ok (.iadd, 1) := dk_96 (dk_at dksX6_worth_0 16 rfl rfl)
theorem dX6_worth_17 : decode cX6_worth 17 = .ok (.aload_n 0, 1) := dk_42 (dk_at dksX6_worth_0 17 rfl rfl)
theorem dX6_worth_18 : decode cX6_worth 18 = .ok (.getfield 3, 3) := dk_180 0 3 (dk_at dksX6_worth_0 18 rfl rfl)
theorem dX6_worth_21 : decode cX6_worth 21 = .ok (.getfield 23, 3) := dk_180 0 23 (dk_at dksX6_worth_0 21 rfl rfl)
theorem dX6_worth_24 : decode cX6_worth 24 = .ok (.getfield 33, 3) := dk_180 0 33 (dk_at dksX6_worth_1 0 rfl rfl)
theorem dX6_worth_27 : decode cX6_worth 27 = .ok (.iconst 1, 1) := dk_4 (dk_at dksX6_worth_1 3 rfl rfl)
theorem dX6_worth_28 : decode cX6_worth 28 = .ok (.aaload, 1) := dk_50 (dk_at dksX6_worth_1 4 rfl rfl)
theorem dX6_worth_29 : decode cX6_worth 29 = .ok (.iload_n 1, 1) := dk_27 (dk_at dksX6_worth_1 5 rfl rfl)
theorem dX6_worth_30 : decode cX6_worth 30 = .ok (.iaload, 1) := dk_46 (dk_at dksX6_worth_1 6 rfl rfl)
theorem dX6_worth_31 : decode cX6_worth 31 = .ok (.isub, 1) := dk_100 (dk_at dksX6_worth_1 7 rfl rfl)
theorem dX6_worth_32 : decode cX6_worth 32 = .ok (.ireturn, 1) := dk_172 (dk_at dksX6_worth_1 8 rfl rfl)
abbrev cX6_isUnder : ByteArray := prog_2_method_3_code
def yX6_isUnder : MethodName := ⟨RX6, "isUnder", "(I)Z"⟩
def dkwX6_isUnder_0 : List UInt8 := [27, 153, 0, 11, 27, 42, 182, 0, 19, 160, 0, 7, 4, 167, 0, 4, 3, 172]
abbrev dktX6_isUnder_0 : List UInt8 := dkwX6_isUnder_0 ++ []
theorem dksX6_isUnder_0 : cX6_isUnder.data.toList.drop 0 = dktX6_isUnder_0 := by decide +kernel
theorem dX6_isUnder_0 : decode cX6_isUnder 0 = .ok (.iload_n 1, 1) := dk_27 (dk_at dksX6_isUnder_0 0 rfl rfl)
theorem dX6_isUnder_1 : decode cX6_isUnder 1 = .ok (.ifCond .eq 11, 3) := dk_153 0 11 (dk_at dksX6_isUnder_0 1 rfl rfl)
theorem dX6_isUnder_4 : decode cX6_isUnder 4 = .ok (.iload_n 1, 1) := dk_27 (dk_at dksX6_isUnder_0 4 rfl rfl)
theorem dX6_isUnder_5 : decode cX6_isUnder 5 = .ok (.aload_n 0, 1) := dk_42 (dk_at dksX6_isUnder_0 5 rfl rfl)
theorem dX6_isUnder_6 : decode cX6_isUnder 6 = .ok (.invokevirtual 19, 3) := dk_182 0 19 (dk_at dksX6_isUnder_0 6 rfl rfl)
theorem dX6_isUnder_9 : decode cX6_isUnder 9 = .ok (.if_icmp .ne 7, 3) := dk_160 0 7 (dk_at dksX6_isUnder_0 9 rfl rfl)
theorem dX6_isUnder_12 : decode cX6_isUnder 12 = .ok (.iconst 1, 1) := dk_4 (dk_at dksX6_isUnder_0 12 rfl rfl)
theorem dX6_isUnder_13 : decode cX6_isUnder 13 = .ok (.goto 4, 3) := dk_167 0 4 (dk_at dksX6_isUnder_0 13 rfl rfl)
theorem dX6_isUnder_16 : decode cX6_isUnder 16 = .ok (.iconst 0, 1) := dk_3 (dk_at dksX6_isUnder_0 16 rfl rfl)
theorem dX6_isUnder_17 : decode cX6_isUnder 17 = .ok (.ireturn, 1) := dk_172 (dk_at dksX6_isUnder_0 17 rfl rfl)
theorem q108 : (Jvm.Cond.initialized "WildBells$Bell") ∈ lw_all := lw_g (lw_at lw_m1 10 rfl) rfl
theorem q230 : (Jvm.Cond.fieldLinkNest "WildBells$Bell" (33 : Nat) "WildBells$World" "cell" "[[I" "WildBells") ∈ lw_tbl := lw_at lw_m1 132 rfl
theorem q323 : (Jvm.Cond.instanceMethod ({ cls := "WildBells$Bell", name := "<init>", desc := "(LWildBells;I)V" } : Jvm.MethodName)) ∈ lw_all := lw_g (lw_at lw_m1 225 rfl) rfl
theorem q324 : (Jvm.Cond.code ({ cls := "WildBells$Bell", name := "<init>", desc := "(LWildBells;I)V" } : Jvm.MethodName) prog_2_method_1_code (3 : Nat) (Option.none : Option Jvm.ClassFile.FieldType)) ∈ lw_all := lw_g (lw_at lw_m1 226 rfl) rfl
theorem q325 : (Jvm.Cond.methodLink "WildBells$Bell" (9 : Nat) ({ cls := "java/lang/Object", name := "<init>", desc := "()V" } : Jvm.MethodName)) ∈ lw_all := lw_g (lw_at lw_m1 227 rfl) rfl
theorem q327 : (Jvm.Cond.fieldLink "WildBells$Bell" (15 : Nat) "WildBells$Bell" "number" "I") ∈ lw_all := lw_g (lw_at lw_m1 229 rfl) rfl
theorem q333 : (Jvm.Cond.fieldLink "WildBells$Bell" (3 : Nat) "WildBells$Bell" "this$0" "LWildBells;") ∈ lw_all := lw_g (lw_at lw_m1 235 rfl) rfl
theorem q337 : (Jvm.Cond.soleField "WildBells$Bell" "number") ∈ lw_all := lw_g (lw_at lw_m1 239 rfl) rfl
theorem q339 : (Jvm.Cond.soleField "WildBells$Bell" "this$0") ∈ lw_all := lw_g (lw_at lw_m2 1 rfl) rfl
theorem q406 : (Jvm.Cond.instantiable "WildBells$Bell" (2 : Nat)) ∈ lw_all := lw_g (lw_at lw_m2 68 rfl) rfl
theorem q408 : (Jvm.Cond.laysFinal "WildBells$Bell" "WildBells$Bell" "number" "I") ∈ lw_all := lw_g (lw_at lw_m2 70 rfl) rfl
theorem q409 : (Jvm.Cond.laysFinal "WildBells$Bell" "WildBells$Bell" "this$0" "LWildBells;") ∈ lw_all := lw_g (lw_at lw_m2 71 rfl) rfl
theorem q410 : (Jvm.Cond.superclass "WildBells$Bell" "java/lang/Object") ∈ lw_all := lw_g (lw_at lw_m2 72 rfl) rfl
theorem q415 : (Jvm.Cond.fieldLinkNest "WildBells$Bell" (23 : Nat) "WildBells" "d" "LWildBells$World;" "WildBells") ∈ lw_tbl := lw_at lw_m2 77 rfl
theorem q546 : (Jvm.Cond.instanceMethod ({ cls := "WildBells$Bell", name := "kind", desc := "()I" } : Jvm.MethodName)) ∈ lw_all := lw_g (lw_at lw_m2 208 rfl) rfl
theorem q547 : (Jvm.Cond.selects "WildBells$Bell" ({ cls := "WildBells$Bell", name := "kind", desc := "()I" } : Jvm.MethodName) ({ cls := "WildBells$Bell", name := "kind", desc := "()I" } : Jvm.MethodName)) ∈ lw_all := lw_g (lw_at lw_m2 209 rfl) rfl
theorem q548 : (Jvm.Cond.sameMethod "WildBells$Bell" "WildBells$Bell" "kind" "()I") ∈ lw_all := lw_g (lw_at lw_m2 210 rfl) rfl
theorem q573 : (Jvm.Cond.code ({ cls := "WildBells$Bell", name := "kind", desc := "()I" } : Jvm.MethodName) prog_2_method_2_code (1 : Nat) (Option.some Jvm.ClassFile.FieldType.int)) ∈ lw_all := lw_g (lw_at lw_m2 235 rfl) rfl
theorem q586 : (Jvm.Cond.castable "WildBells$Bell" "WildBells$Likes") ∈ lw_tbl := lw_at lw_m3 8 rfl
theorem q587 : (Jvm.Cond.selects "WildBells$Bell" ({ cls := "WildBells$Likes", name := "worth", desc := "(I)I" } : Jvm.MethodName) ({ cls := "WildBells$Bell", name := "worth", desc := "(I)I" } : Jvm.MethodName)) ∈ lw_all := lw_g (lw_at lw_m3 9 rfl) rfl
theorem q588 : (Jvm.Cond.unhidden "WildBells$Bell" "worth" "(I)I") ∈ lw_tbl := lw_at lw_m3 10 rfl
theorem q589 : (Jvm.Cond.instanceMethod ({ cls := "WildBells$Bell", name := "worth", desc := "(I)I" } : Jvm.MethodName)) ∈ lw_all := lw_g (lw_at lw_m3 11 rfl) rfl
theorem q590 : (Jvm.Cond.publicMethod ({ cls := "WildBells$Bell", name := "worth", desc := "(I)I" } : Jvm.MethodName)) ∈ lw_tbl := lw_at lw_m3 12 rfl
theorem q591 : (Jvm.Cond.code ({ cls := "WildBells$Bell", name := "worth", desc := "(I)I" } : Jvm.MethodName) prog_2_method_4_code (2 : Nat) (Option.some Jvm.ClassFile.FieldType.int)) ∈ lw_all := lw_g (lw_at lw_m3 13 rfl) rfl
theorem q592 : (Jvm.Cond.methodLink "WildBells$Bell" (27 : Nat) ({ cls := "WildBells$World", name := "fearAt", desc := "(I)I" } : Jvm.MethodName)) ∈ lw_all := lw_g (lw_at lw_m3 14 rfl) rfl
theorem q618 : (Jvm.Cond.instanceMethod ({ cls := "WildBells$Bell", name := "isUnder", desc := "(I)Z" } : Jvm.MethodName)) ∈ lw_all := lw_g (lw_at lw_m3 40 rfl) rfl
theorem q619 : (Jvm.Cond.selects "WildBells$Bell" ({ cls := "WildBells$Bell", name := "isUnder", desc := "(I)Z" } : Jvm.MethodName) ({ cls := "WildBells$Bell", name := "isUnder", desc := "(I)Z" } : Jvm.MethodName)) ∈ lw_all := lw_g (lw_at lw_m3 41 rfl) rfl
theorem q620 : (Jvm.Cond.sameMethod "WildBells$Bell" "WildBells$Bell" "isUnder" "(I)Z") ∈ lw_all := lw_g (lw_at lw_m3 42 rfl) rfl
theorem q636 : (Jvm.Cond.code ({ cls := "WildBells$Bell", name := "isUnder", desc := "(I)Z" } : Jvm.MethodName) prog_2_method_3_code (2 : Nat) (Option.some Jvm.ClassFile.FieldType.boolean)) ∈ lw_all := lw_g (lw_at lw_m3 58 rfl) rfl
theorem q637 : (Jvm.Cond.methodLink "WildBells$Bell" (19 : Nat) ({ cls := "WildBells$Bell", name := "kind", desc := "()I" } : Jvm.MethodName)) ∈ lw_all := lw_g (lw_at lw_m3 59 rfl) rfl
theorem q1734 : (Jvm.Cond.sameMethod "WildBells$Bell" "WildBells$Bell" "worth" "(I)I") ∈ lw_all := lw_g (lw_at lw_m7 196 rfl) rfl
theorem in_X6 : ∀ w ∈ wsX60, w ∈ lw_all := lw_in wsX60 [408, 409] (by decide +kernel) (by decide +kernel)
/-! WildBells$Herd -/
set_option maxRecDepth 100000
def RX7 : String := "WildBells$Herd"
def TX7 : u_T := fun k => match k with
  | 0 => ("WildBells$Bell", "number", "I", true)
  | 1 => ("WildBells$Bell", "this$0", "LWildBells;", true)
  | _ => ("WildBells$Herd", "this$0", "LWildBells;", true)
def tyX7 : Nat → FieldType := fun k => match k with
  | 0 => .int
  | 1 => .object "WildBells"
  | _ => .object "WildBells"
abbrev wsX70 : List Cond := u_ws RX7 TX7 3
-- two fields of one name: no nmX7
theorem tyX7_ok : ∀ k, k < 3 → parseFieldDescriptor (TX7 k).2.2.1 = some (tyX7 k) := by decide +kernel
abbrev cX7_init : ByteArray := prog_4_method_1_code
def yX7_init : MethodName := ⟨RX7, "<init>", "(LWildBells;I)V"⟩
def dkwX7_init_0 : List UInt8 := [42, 43, 181, 0, 3, 42, 43, 28, 183, 0, 9, 177]
abbrev dktX7_init_0 : List UInt8 := dkwX7_init_0 ++ []
theorem dksX7_init_0 : cX7_init.data.toList.drop 0 = dktX7_init_0 := by decide +kernel
theorem dX7_init_0 : decode cX7_init 0 = .ok (.aload_n 0, 1) := dk_42 (dk_at dksX7_init_0 0 rfl rfl)
theorem dX7_init_1 : decode cX7_init 1 = .ok (.aload_n 1, 1) := dk_43 (dk_at dksX7_init_0 1 rfl rfl)
theorem dX7_init_2 : decode cX7_init 2 = .ok (.putfield 3, 3) := dk_181 0 3 (dk_at dksX7_init_0 2 rfl rfl)
theorem dX7_init_5 : decode cX7_init 5 = .ok (.aload_n 0, 1) := dk_42 (dk_at dksX7_init_0 5 rfl rfl)
theorem dX7_init_6 : decode cX7_init 6 = .ok (.aload_n 1, 1) := dk_43 (dk_at dksX7_init_0 6 rfl rfl)
theorem dX7_init_7 : decode cX7_init 7 = .ok (.iload_n 2, 1) := dk_28 (dk_at dksX7_init_0 7 rfl rfl)
theorem dX7_init_8 : decode cX7_init 8 = .ok (.invokespecial 9, 3) := dk_183 0 9 (dk_at dksX7_init_0 8 rfl rfl)
theorem dX7_init_11 : decode cX7_init 11 = .ok (.return_, 1) := dk_177 (dk_at dksX7_init_0 11 rfl rfl)
abbrev cX7_kind : ByteArray := prog_4_method_2_code
def yX7_kind : MethodName := ⟨RX7, "kind", "()I"⟩
def dkwX7_kind_0 : List UInt8 := [4, 42, 183, 0, 15, 96, 172]
abbrev dktX7_kind_0 : List UInt8 := dkwX7_kind_0 ++ []
theorem dksX7_kind_0 : cX7_kind.data.toList.drop 0 = dktX7_kind_0 := by decide +kernel
theorem dX7_kind_0 : decode cX7_kind 0 = .ok (.iconst 1, 1) := dk_4 (dk_at dksX7_kind_0 0 rfl rfl)
theorem dX7_kind_1 : decode cX7_kind 1 = .ok (.aload_n 0, 1) := dk_42 (dk_at dksX7_kind_0 1 rfl rfl)
theorem dX7_kind_2 : decode cX7_kind 2 = .ok (.invokespecial 15, 3) := dk_183 0 15 (dk_at dksX7_kind_0 2 rfl rfl)
theorem dX7_kind_5 : decode cX7_kind 5 = .ok (.iadd, 1) := dk_96 (dk_at dksX7_kind_0 5 rfl rfl)
theorem dX7_kind_6 : decode cX7_kind 6 = .ok (.ireturn, 1) := dk_172 (dk_at dksX7_kind_0 6 rfl rfl)
abbrev cX7_isUnder : ByteArray := prog_4_method_3_code
def yX7_isUnder : MethodName := ⟨RX7, "isUnder", "(I)Z"⟩
def dkwX7_isUnder_0 : List UInt8 := [27, 4, 159, 0, 11, 42, 27, 183, 0, 19, 153, 0, 7, 4, 167, 0, 4, 3, 172]
abbrev dktX7_isUnder_0 : List UInt8 := dkwX7_isUnder_0 ++ []
theorem dksX7_isUnder_0 : cX7_isUnder.data.toList.drop 0 = dktX7_isUnder_0 := by decide +kernel
theorem dX7_isUnder_0 : decode cX7_isUnder 0 = .ok (.iload_n 1, 1) := dk_27 (dk_at dksX7_isUnder_0 0 rfl rfl)
theorem dX7_isUnder_1 : decode cX7_isUnder 1 = .ok (.iconst 1, 1) := dk_4 (dk_at dksX7_isUnder_0 1 rfl rfl)
theorem dX7_isUnder_2 : decode cX7_isUnder 2 = .ok (.if_icmp .eq 11, 3) := dk_159 0 11 (dk_at dksX7_isUnder_0 2 rfl rfl)
theorem dX7_isUnder_5 : decode cX7_isUnder 5 = .ok (.aload_n 0, 1) := dk_42 (dk_at dksX7_isUnder_0 5 rfl rfl)
theorem dX7_isUnder_6 : decode cX7_isUnder 6 = .ok (.iload_n 1, 1) := dk_27 (dk_at dksX7_isUnder_0 6 rfl rfl)
theorem dX7_isUnder_7 : decode cX7_isUnder 7 = .ok (.invokespecial 19, 3) := dk_183 0 19 (dk_at dksX7_isUnder_0 7 rfl rfl)
theorem dX7_isUnder_10 : decode cX7_isUnder 10 = .ok (.ifCond .eq 7, 3) := dk_153 0 7 (dk_at dksX7_isUnder_0 10 rfl rfl)
theorem dX7_isUnder_13 : decode cX7_isUnder 13 = .ok (.iconst 1, 1) := dk_4 (dk_at dksX7_isUnder_0 13 rfl rfl)
theorem dX7_isUnder_14 : decode cX7_isUnder 14 = .ok (.goto 4, 3) := dk_167 0 4 (dk_at dksX7_isUnder_0 14 rfl rfl)
theorem dX7_isUnder_17 : decode cX7_isUnder 17 = .ok (.iconst 0, 1) := dk_3 (dk_at dksX7_isUnder_0 17 rfl rfl)
theorem dX7_isUnder_18 : decode cX7_isUnder 18 = .ok (.ireturn, 1) := dk_172 (dk_at dksX7_isUnder_0 18 rfl rfl)
abbrev cX7_worth : ByteArray := prog_4_method_4_code
def yX7_worth : MethodName := ⟨RX7, "worth", "(I)I"⟩
def dkwX7_worth_1 : List UInt8 := [3, 167, 0, 11, 3, 16, 20, 28, 100, 184, 0, 35, 96, 172]
abbrev dktX7_worth_1 : List UInt8 := dkwX7_worth_1 ++ []
def dkwX7_worth_0 : List UInt8 := [42, 180, 0, 3, 42, 180, 0, 23, 27, 4, 182, 0, 27, 61, 42, 27, 183, 0, 31, 28, 2, 160, 0, 7]
abbrev dktX7_worth_0 : List UInt8 := dkwX7_worth_0 ++ dktX7_worth_1
theorem dksX7_worth_0 : cX7_worth.data.toList.drop 0 = dktX7_worth_0 := by decide +kernel
theorem dksX7_worth_1 : cX7_worth.data.toList.drop 24 = dktX7_worth_1 := dk_seg dksX7_worth_0 24 rfl rfl
theorem dX7_worth_0 : decode cX7_worth 0 = .ok (.aload_n 0, 1) := dk_42 (dk_at dksX7_worth_0 0 rfl rfl)
theorem dX7_worth_1 : decode cX7_worth 1 = .ok (.getfield 3, 3) := dk_180 0 3 (dk_at dksX7_worth_0 1 rfl rfl)
theorem dX7_worth_4 : decode cX7_worth 4 = .ok (.aload_n 0, 1) := dk_42 (dk_at dksX7_worth_0 4 rfl rfl)
theorem dX7_worth_5 : decode cX7_worth 5 = .ok (.getfield 23, 3) := dk_180 0 23 (dk_at dksX7_worth_0 5 rfl rfl)
theorem dX7_worth_8 : decode cX7_worth 8 = .ok (.iload_n 1, 1) := dk_27 (dk_at dksX7_worth_0 8 rfl rfl)
theorem dX7_worth_9 : decode cX7_worth 9 = .ok (.iconst 1, 1) := dk_4 (dk_at dksX7_worth_0 9 rfl rfl)
theorem dX7_worth_10 : decode cX7_worth 10 = .ok (.invokevirtual 27, 3) := dk_182 0 27 (dk_at dksX7_worth_0 10 rfl rfl)
theorem dX7_worth_13 : decode cX7_worth 13 = .ok (.istore_n 2, 1) := dk_61 (dk_at dksX7_worth_0 13 rfl rfl)
theorem dX7_worth_14 : decode cX7_worth 14 = .ok (.aload_n 0, 1) := dk_42 (dk_at dksX7_worth_0 14 rfl rfl)
theorem dX7_worth_15 : decode cX7_worth 15 = .ok (.iload_n 1, 1) := dk_27 (dk_at dksX7_worth_0 15 rfl rfl)
theorem dX7_worth_16 : decode cX7_worth 16 = .ok (.invokespecial 31, 3) := dk_183 0 31 (dk_at dksX7_worth_0 16 rfl rfl)
theorem dX7_worth_19 : decode cX7_worth 19 = .ok (.iload_n 2, 1) := dk_28 (dk_at dksX7_worth_0 19 rfl rfl)
theorem dX7_worth_20 : decode cX7_worth 20 = .ok (.iconst (-1), 1) := dk_2 (dk_at dksX7_worth_0 20 rfl rfl)
theorem dX7_worth_21 : decode cX7_worth 21 = .ok (.if_icmp .ne 7, 3) := dk_160 0 7 (dk_at dksX7_worth_0 21 rfl rfl)
theorem dX7_worth_24 : decode cX7_worth 24 = .ok (.iconst 0, 1) := dk_3 (dk_at dksX7_worth_1 0 rfl rfl)
theorem dX7_worth_25 : decode cX7_worth 25 = .ok (.goto 11, 3) := dk_167 0 11 (dk_at dksX7_worth_1 1 rfl rfl)
theorem dX7_worth_28 : decode cX7_worth 28 = .ok (.iconst 0, 1) := dk_3 (dk_at dksX7_worth_1 4 rfl rfl)
theorem dX7_worth_29 : decode cX7_worth 29 = .ok (.bipush 20, 2) := dk_16 20 (dk_at dksX7_worth_1 5 rfl rfl)
theorem dX7_worth_31 : decode cX7_worth 31 = .ok (.iload_n 2, 1) := dk_28 (dk_at dksX7_worth_1 7 rfl rfl)
theorem dX7_worth_32 : decode cX7_worth 32 = .ok (.isub, 1) := dk_100 (dk_at dksX7_worth_1 8 rfl rfl)
theorem dX7_worth_33 : decode cX7_worth 33 = .ok (.invokestatic 35, 3) := dk_184 0 35 (dk_at dksX7_worth_1 9 rfl rfl)
theorem dX7_worth_36 : decode cX7_worth 36 = .ok (.iadd, 1) := dk_96 (dk_at dksX7_worth_1 12 rfl rfl)
theorem dX7_worth_37 : decode cX7_worth 37 = .ok (.ireturn, 1) := dk_172 (dk_at dksX7_worth_1 13 rfl rfl)
theorem q109 : (Jvm.Cond.initialized "WildBells$Herd") ∈ lw_all := lw_g (lw_at lw_m1 11 rfl) rfl
theorem q318 : (Jvm.Cond.instantiable "WildBells$Herd" (3 : Nat)) ∈ lw_all := lw_g (lw_at lw_m1 220 rfl) rfl
theorem q320 : (Jvm.Cond.instanceMethod ({ cls := "WildBells$Herd", name := "<init>", desc := "(LWildBells;I)V" } : Jvm.MethodName)) ∈ lw_all := lw_g (lw_at lw_m1 222 rfl) rfl
theorem q321 : (Jvm.Cond.code ({ cls := "WildBells$Herd", name := "<init>", desc := "(LWildBells;I)V" } : Jvm.MethodName) prog_4_method_1_code (3 : Nat) (Option.none : Option Jvm.ClassFile.FieldType)) ∈ lw_all := lw_g (lw_at lw_m1 223 rfl) rfl
theorem q322 : (Jvm.Cond.methodLink "WildBells$Herd" (9 : Nat) ({ cls := "WildBells$Bell", name := "<init>", desc := "(LWildBells;I)V" } : Jvm.MethodName)) ∈ lw_all := lw_g (lw_at lw_m1 224 rfl) rfl
theorem q326 : (Jvm.Cond.fieldLink "WildBells$Herd" (3 : Nat) "WildBells$Herd" "this$0" "LWildBells;") ∈ lw_all := lw_g (lw_at lw_m1 228 rfl) rfl
theorem q328 : (Jvm.Cond.fieldLink "WildBells$Herd" (23 : Nat) "WildBells$Herd" "number" "I") ∈ lw_all := lw_g (lw_at lw_m1 230 rfl) rfl
theorem q329 : (Jvm.Cond.sameField "WildBells$Herd" "WildBells$Bell" "number" "I") ∈ lw_all := lw_g (lw_at lw_m1 231 rfl) rfl
theorem q334 : (Jvm.Cond.laysFinal "WildBells$Herd" "WildBells$Herd" "this$0" "LWildBells;") ∈ lw_all := lw_g (lw_at lw_m1 236 rfl) rfl
theorem q335 : (Jvm.Cond.soleField "WildBells$Herd" "this$0") ∈ lw_all := lw_g (lw_at lw_m1 237 rfl) rfl
theorem q336 : (Jvm.Cond.laysFinal "WildBells$Herd" "WildBells$Bell" "number" "I") ∈ lw_all := lw_g (lw_at lw_m1 238 rfl) rfl
theorem q338 : (Jvm.Cond.laysFinal "WildBells$Herd" "WildBells$Bell" "this$0" "LWildBells;") ∈ lw_all := lw_g (lw_at lw_m2 0 rfl) rfl
theorem q340 : (Jvm.Cond.superclass "WildBells$Herd" "WildBells$Bell") ∈ lw_all := lw_g (lw_at lw_m2 2 rfl) rfl
theorem q559 : (Jvm.Cond.selects "WildBells$Herd" ({ cls := "WildBells$Bell", name := "kind", desc := "()I" } : Jvm.MethodName) ({ cls := "WildBells$Herd", name := "kind", desc := "()I" } : Jvm.MethodName)) ∈ lw_all := lw_g (lw_at lw_m2 221 rfl) rfl
theorem q560 : (Jvm.Cond.instanceMethod ({ cls := "WildBells$Herd", name := "kind", desc := "()I" } : Jvm.MethodName)) ∈ lw_all := lw_g (lw_at lw_m2 222 rfl) rfl
theorem q561 : (Jvm.Cond.code ({ cls := "WildBells$Herd", name := "kind", desc := "()I" } : Jvm.MethodName) prog_4_method_2_code (1 : Nat) (Option.some Jvm.ClassFile.FieldType.int)) ∈ lw_all := lw_g (lw_at lw_m2 223 rfl) rfl
theorem q562 : (Jvm.Cond.methodLink "WildBells$Herd" (15 : Nat) ({ cls := "WildBells$Bell", name := "kind", desc := "()I" } : Jvm.MethodName)) ∈ lw_all := lw_g (lw_at lw_m2 224 rfl) rfl
theorem q628 : (Jvm.Cond.selects "WildBells$Herd" ({ cls := "WildBells$Bell", name := "isUnder", desc := "(I)Z" } : Jvm.MethodName) ({ cls := "WildBells$Herd", name := "isUnder", desc := "(I)Z" } : Jvm.MethodName)) ∈ lw_all := lw_g (lw_at lw_m3 50 rfl) rfl
theorem q629 : (Jvm.Cond.instanceMethod ({ cls := "WildBells$Herd", name := "isUnder", desc := "(I)Z" } : Jvm.MethodName)) ∈ lw_all := lw_g (lw_at lw_m3 51 rfl) rfl
theorem q630 : (Jvm.Cond.code ({ cls := "WildBells$Herd", name := "isUnder", desc := "(I)Z" } : Jvm.MethodName) prog_4_method_3_code (2 : Nat) (Option.some Jvm.ClassFile.FieldType.boolean)) ∈ lw_all := lw_g (lw_at lw_m3 52 rfl) rfl
theorem q631 : (Jvm.Cond.methodLink "WildBells$Herd" (19 : Nat) ({ cls := "WildBells$Bell", name := "isUnder", desc := "(I)Z" } : Jvm.MethodName)) ∈ lw_all := lw_g (lw_at lw_m3 53 rfl) rfl
theorem q645 : (Jvm.Cond.castable "WildBells$Herd" "WildBells$Likes") ∈ lw_tbl := lw_at lw_m3 67 rfl
theorem q646 : (Jvm.Cond.selects "WildBells$Herd" ({ cls := "WildBells$Likes", name := "worth", desc := "(I)I" } : Jvm.MethodName) ({ cls := "WildBells$Herd", name := "worth", desc := "(I)I" } : Jvm.MethodName)) ∈ lw_all := lw_g (lw_at lw_m3 68 rfl) rfl
theorem q647 : (Jvm.Cond.unhidden "WildBells$Herd" "worth" "(I)I") ∈ lw_tbl := lw_at lw_m3 69 rfl
theorem q648 : (Jvm.Cond.instanceMethod ({ cls := "WildBells$Herd", name := "worth", desc := "(I)I" } : Jvm.MethodName)) ∈ lw_all := lw_g (lw_at lw_m3 70 rfl) rfl
theorem q649 : (Jvm.Cond.publicMethod ({ cls := "WildBells$Herd", name := "worth", desc := "(I)I" } : Jvm.MethodName)) ∈ lw_tbl := lw_at lw_m3 71 rfl
theorem q650 : (Jvm.Cond.code ({ cls := "WildBells$Herd", name := "worth", desc := "(I)I" } : Jvm.MethodName) prog_4_method_4_code (3 : Nat) (Option.some Jvm.ClassFile.FieldType.int)) ∈ lw_all := lw_g (lw_at lw_m3 72 rfl) rfl
theorem q651 : (Jvm.Cond.methodLinkNest "WildBells$Herd" (27 : Nat) ({ cls := "WildBells", name := "nearest", desc := "(III)I" } : Jvm.MethodName) "WildBells") ∈ lw_tbl := lw_at lw_m3 73 rfl
theorem q652 : (Jvm.Cond.methodLink "WildBells$Herd" (31 : Nat) ({ cls := "WildBells$Bell", name := "worth", desc := "(I)I" } : Jvm.MethodName)) ∈ lw_all := lw_g (lw_at lw_m3 74 rfl) rfl
theorem q653 : (Jvm.Cond.methodLink "WildBells$Herd" (35 : Nat) ({ cls := "java/lang/Math", name := "max", desc := "(II)I" } : Jvm.MethodName)) ∈ lw_all := lw_g (lw_at lw_m3 75 rfl) rfl
theorem q1731 : (Jvm.Cond.sameMethod "WildBells$Herd" "WildBells$Herd" "kind" "()I") ∈ lw_all := lw_g (lw_at lw_m7 193 rfl) rfl
theorem q1736 : (Jvm.Cond.sameMethod "WildBells$Herd" "WildBells$Herd" "worth" "(I)I") ∈ lw_all := lw_g (lw_at lw_m7 198 rfl) rfl
theorem q1738 : (Jvm.Cond.castable "WildBells$Herd" "WildBells$Bell") ∈ lw_tbl := lw_at lw_m7 200 rfl
theorem in_X7 : ∀ w ∈ wsX70, w ∈ lw_all := lw_in wsX70 [336, 338, 334] (by decide +kernel) (by decide +kernel)
/-! WildBells$Lone -/
set_option maxRecDepth 100000
def RX8 : String := "WildBells$Lone"
def TX8 : u_T := fun k => match k with
  | 0 => ("WildBells$Bell", "number", "I", true)
  | 1 => ("WildBells$Bell", "this$0", "LWildBells;", true)
  | _ => ("WildBells$Lone", "this$0", "LWildBells;", true)
def tyX8 : Nat → FieldType := fun k => match k with
  | 0 => .int
  | 1 => .object "WildBells"
  | _ => .object "WildBells"
abbrev wsX80 : List Cond := u_ws RX8 TX8 3
-- two fields of one name: no nmX8
theorem tyX8_ok : ∀ k, k < 3 → parseFieldDescriptor (TX8 k).2.2.1 = some (tyX8 k) := by decide +kernel
abbrev cX8_init : ByteArray := prog_6_method_1_code
def yX8_init : MethodName := ⟨RX8, "<init>", "(LWildBells;I)V"⟩
def dkwX8_init_0 : List UInt8 := [42, 43, 181, 0, 3, 42, 43, 28, 183, 0, 9, 177]
abbrev dktX8_init_0 : List UInt8 := dkwX8_init_0 ++ []
theorem dksX8_init_0 : cX8_init.data.toList.drop 0 = dktX8_init_0 := by decide +kernel
theorem dX8_init_0 : decode cX8_init 0 = .ok (.aload_n 0, 1) := dk_42 (dk_at dksX8_init_0 0 rfl rfl)
theorem dX8_init_1 : decode cX8_init 1 = .ok (.aload_n 1, 1) := dk_43 (dk_at dksX8_init_0 1 rfl rfl)
theorem dX8_init_2 : decode cX8_init 2 = .ok (.putfield 3, 3) := dk_181 0 3 (dk_at dksX8_init_0 2 rfl rfl)
theorem dX8_init_5 : decode cX8_init 5 = .ok (.aload_n 0, 1) := dk_42 (dk_at dksX8_init_0 5 rfl rfl)
theorem dX8_init_6 : decode cX8_init 6 = .ok (.aload_n 1, 1) := dk_43 (dk_at dksX8_init_0 6 rfl rfl)
theorem dX8_init_7 : decode cX8_init 7 = .ok (.iload_n 2, 1) := dk_28 (dk_at dksX8_init_0 7 rfl rfl)
theorem dX8_init_8 : decode cX8_init 8 = .ok (.invokespecial 9, 3) := dk_183 0 9 (dk_at dksX8_init_0 8 rfl rfl)
theorem dX8_init_11 : decode cX8_init 11 = .ok (.return_, 1) := dk_177 (dk_at dksX8_init_0 11 rfl rfl)
abbrev cX8_kind : ByteArray := prog_6_method_2_code
def yX8_kind : MethodName := ⟨RX8, "kind", "()I"⟩
def dkwX8_kind_0 : List UInt8 := [5, 42, 183, 0, 15, 96, 172]
abbrev dktX8_kind_0 : List UInt8 := dkwX8_kind_0 ++ []
theorem dksX8_kind_0 : cX8_kind.data.toList.drop 0 = dktX8_kind_0 := by decide +kernel
theorem dX8_kind_0 : decode cX8_kind 0 = .ok (.iconst 2, 1) := dk_5 (dk_at dksX8_kind_0 0 rfl rfl)
theorem dX8_kind_1 : decode cX8_kind 1 = .ok (.aload_n 0, 1) := dk_42 (dk_at dksX8_kind_0 1 rfl rfl)
theorem dX8_kind_2 : decode cX8_kind 2 = .ok (.invokespecial 15, 3) := dk_183 0 15 (dk_at dksX8_kind_0 2 rfl rfl)
theorem dX8_kind_5 : decode cX8_kind 5 = .ok (.iadd, 1) := dk_96 (dk_at dksX8_kind_0 5 rfl rfl)
theorem dX8_kind_6 : decode cX8_kind 6 = .ok (.ireturn, 1) := dk_172 (dk_at dksX8_kind_0 6 rfl rfl)
abbrev cX8_worth : ByteArray := prog_6_method_4_code
def yX8_worth : MethodName := ⟨RX8, "worth", "(I)I"⟩
def dkwX8_worth_0 : List UInt8 := [42, 27, 183, 0, 23, 3, 42, 180, 0, 3, 42, 180, 0, 27, 27, 3, 182, 0, 31, 184, 0, 35, 96, 172]
abbrev dktX8_worth_0 : List UInt8 := dkwX8_worth_0 ++ []
theorem dksX8_worth_0 : cX8_worth.data.toList.drop 0 = dktX8_worth_0 := by decide +kernel
theorem dX8_worth_0 : decode cX8_worth 0 = .ok (.aload_n 0, 1) := dk_42 (dk_at dksX8_worth_0 0 rfl rfl)
theorem dX8_worth_1 : decode cX8_worth 1 = .ok (.iload_n 1, 1) := dk_27 (dk_at dksX8_worth_0 1 rfl rfl)
theorem dX8_worth_2 : decode cX8_worth 2 = .ok (.invokespecial 23, 3) := dk_183 0 23 (dk_at dksX8_worth_0 2 rfl rfl)
theorem dX8_worth_5 : decode cX8_worth 5 = .ok (.iconst 0, 1) := dk_3 (dk_at dksX8_worth_0 5 rfl rfl)
theorem dX8_worth_6 : decode cX8_worth 6 = .ok (.aload_n 0, 1) := dk_42 (dk_at dksX8_worth_0 6 rfl rfl)
theorem dX8_worth_7 : decode cX8_worth 7 = .ok (.getfield 3, 3) := dk_180 0 3 (dk_at dksX8_worth_0 7 rfl rfl)
theorem dX8_worth_10 : decode cX8_worth 10 = .ok (.aload_n 0, 1) := dk_42 (dk_at dksX8_worth_0 10 rfl rfl)
theorem dX8_worth_11 : decode cX8_worth 11 = .ok (.getfield 27, 3) := dk_180 0 27 (dk_at dksX8_worth_0 11 rfl rfl)
theorem dX8_worth_14 : decode cX8_worth 14 = .ok (.iload_n 1, 1) := dk_27 (dk_at dksX8_worth_0 14 rfl rfl)
theorem dX8_worth_15 : decode cX8_worth 15 = .ok (.iconst 0, 1) := dk_3 (dk_at dksX8_worth_0 15 rfl rfl)
theorem dX8_worth_16 : decode cX8_worth 16 = .ok (.invokevirtual 31, 3) := dk_182 0 31 (dk_at dksX8_worth_0 16 rfl rfl)
theorem dX8_worth_19 : decode cX8_worth 19 = .ok (.invokestatic 35, 3) := dk_184 0 35 (dk_at dksX8_worth_0 19 rfl rfl)
theorem dX8_worth_22 : decode cX8_worth 22 = .ok (.iadd, 1) := dk_96 (dk_at dksX8_worth_0 22 rfl rfl)
theorem dX8_worth_23 : decode cX8_worth 23 = .ok (.ireturn, 1) := dk_172 (dk_at dksX8_worth_0 23 rfl rfl)
abbrev cX8_isUnder : ByteArray := prog_6_method_3_code
def yX8_isUnder : MethodName := ⟨RX8, "isUnder", "(I)Z"⟩
def dkwX8_isUnder_0 : List UInt8 := [27, 5, 159, 0, 11, 42, 27, 183, 0, 19, 153, 0, 7, 4, 167, 0, 4, 3, 172]
abbrev dktX8_isUnder_0 : List UInt8 := dkwX8_isUnder_0 ++ []
theorem dksX8_isUnder_0 : cX8_isUnder.data.toList.drop 0 = dktX8_isUnder_0 := by decide +kernel
theorem dX8_isUnder_0 : decode cX8_isUnder 0 = .ok (.iload_n 1, 1) := dk_27 (dk_at dksX8_isUnder_0 0 rfl rfl)
theorem dX8_isUnder_1 : decode cX8_isUnder 1 = .ok (.iconst 2, 1) := dk_5 (dk_at dksX8_isUnder_0 1 rfl rfl)
theorem dX8_isUnder_2 : decode cX8_isUnder 2 = .ok (.if_icmp .eq 11, 3) := dk_159 0 11 (dk_at dksX8_isUnder_0 2 rfl rfl)
theorem dX8_isUnder_5 : decode cX8_isUnder 5 = .ok (.aload_n 0, 1) := dk_42 (dk_at dksX8_isUnder_0 5 rfl rfl)
theorem dX8_isUnder_6 : decode cX8_isUnder 6 = .ok (.iload_n 1, 1) := dk_27 (dk_at dksX8_isUnder_0 6 rfl rfl)
theorem dX8_isUnder_7 : decode cX8_isUnder 7 = .ok (.invokespecial 19, 3) := dk_183 0 19 (dk_at dksX8_isUnder_0 7 rfl rfl)
theorem dX8_isUnder_10 : decode cX8_isUnder 10 = .ok (.ifCond .eq 7, 3) := dk_153 0 7 (dk_at dksX8_isUnder_0 10 rfl rfl)
theorem dX8_isUnder_13 : decode cX8_isUnder 13 = .ok (.iconst 1, 1) := dk_4 (dk_at dksX8_isUnder_0 13 rfl rfl)
theorem dX8_isUnder_14 : decode cX8_isUnder 14 = .ok (.goto 4, 3) := dk_167 0 4 (dk_at dksX8_isUnder_0 14 rfl rfl)
theorem dX8_isUnder_17 : decode cX8_isUnder 17 = .ok (.iconst 0, 1) := dk_3 (dk_at dksX8_isUnder_0 17 rfl rfl)
theorem dX8_isUnder_18 : decode cX8_isUnder 18 = .ok (.ireturn, 1) := dk_172 (dk_at dksX8_isUnder_0 18 rfl rfl)
theorem q110 : (Jvm.Cond.initialized "WildBells$Lone") ∈ lw_all := lw_g (lw_at lw_m1 12 rfl) rfl
theorem q330 : (Jvm.Cond.fieldLink "WildBells$Lone" (27 : Nat) "WildBells$Lone" "number" "I") ∈ lw_all := lw_g (lw_at lw_m1 232 rfl) rfl
theorem q331 : (Jvm.Cond.sameField "WildBells$Lone" "WildBells$Bell" "number" "I") ∈ lw_all := lw_g (lw_at lw_m1 233 rfl) rfl
theorem q342 : (Jvm.Cond.instantiable "WildBells$Lone" (3 : Nat)) ∈ lw_all := lw_g (lw_at lw_m2 4 rfl) rfl
theorem q344 : (Jvm.Cond.instanceMethod ({ cls := "WildBells$Lone", name := "<init>", desc := "(LWildBells;I)V" } : Jvm.MethodName)) ∈ lw_all := lw_g (lw_at lw_m2 6 rfl) rfl
theorem q345 : (Jvm.Cond.code ({ cls := "WildBells$Lone", name := "<init>", desc := "(LWildBells;I)V" } : Jvm.MethodName) prog_6_method_1_code (3 : Nat) (Option.none : Option Jvm.ClassFile.FieldType)) ∈ lw_all := lw_g (lw_at lw_m2 7 rfl) rfl
theorem q346 : (Jvm.Cond.methodLink "WildBells$Lone" (9 : Nat) ({ cls := "WildBells$Bell", name := "<init>", desc := "(LWildBells;I)V" } : Jvm.MethodName)) ∈ lw_all := lw_g (lw_at lw_m2 8 rfl) rfl
theorem q347 : (Jvm.Cond.fieldLink "WildBells$Lone" (3 : Nat) "WildBells$Lone" "this$0" "LWildBells;") ∈ lw_all := lw_g (lw_at lw_m2 9 rfl) rfl
theorem q348 : (Jvm.Cond.laysFinal "WildBells$Lone" "WildBells$Lone" "this$0" "LWildBells;") ∈ lw_all := lw_g (lw_at lw_m2 10 rfl) rfl
theorem q349 : (Jvm.Cond.soleField "WildBells$Lone" "this$0") ∈ lw_all := lw_g (lw_at lw_m2 11 rfl) rfl
theorem q350 : (Jvm.Cond.laysFinal "WildBells$Lone" "WildBells$Bell" "number" "I") ∈ lw_all := lw_g (lw_at lw_m2 12 rfl) rfl
theorem q351 : (Jvm.Cond.laysFinal "WildBells$Lone" "WildBells$Bell" "this$0" "LWildBells;") ∈ lw_all := lw_g (lw_at lw_m2 13 rfl) rfl
theorem q352 : (Jvm.Cond.superclass "WildBells$Lone" "WildBells$Bell") ∈ lw_all := lw_g (lw_at lw_m2 14 rfl) rfl
theorem q556 : (Jvm.Cond.instanceMethod ({ cls := "WildBells$Lone", name := "kind", desc := "()I" } : Jvm.MethodName)) ∈ lw_all := lw_g (lw_at lw_m2 218 rfl) rfl
theorem q557 : (Jvm.Cond.code ({ cls := "WildBells$Lone", name := "kind", desc := "()I" } : Jvm.MethodName) prog_6_method_2_code (1 : Nat) (Option.some Jvm.ClassFile.FieldType.int)) ∈ lw_all := lw_g (lw_at lw_m2 219 rfl) rfl
theorem q558 : (Jvm.Cond.methodLink "WildBells$Lone" (15 : Nat) ({ cls := "WildBells$Bell", name := "kind", desc := "()I" } : Jvm.MethodName)) ∈ lw_all := lw_g (lw_at lw_m2 220 rfl) rfl
theorem q563 : (Jvm.Cond.selects "WildBells$Lone" ({ cls := "WildBells$Bell", name := "kind", desc := "()I" } : Jvm.MethodName) ({ cls := "WildBells$Lone", name := "kind", desc := "()I" } : Jvm.MethodName)) ∈ lw_all := lw_g (lw_at lw_m2 225 rfl) rfl
theorem q609 : (Jvm.Cond.instanceMethod ({ cls := "WildBells$Lone", name := "worth", desc := "(I)I" } : Jvm.MethodName)) ∈ lw_all := lw_g (lw_at lw_m3 31 rfl) rfl
theorem q610 : (Jvm.Cond.code ({ cls := "WildBells$Lone", name := "worth", desc := "(I)I" } : Jvm.MethodName) prog_6_method_4_code (2 : Nat) (Option.some Jvm.ClassFile.FieldType.int)) ∈ lw_all := lw_g (lw_at lw_m3 32 rfl) rfl
theorem q611 : (Jvm.Cond.methodLink "WildBells$Lone" (23 : Nat) ({ cls := "WildBells$Bell", name := "worth", desc := "(I)I" } : Jvm.MethodName)) ∈ lw_all := lw_g (lw_at lw_m3 33 rfl) rfl
theorem q612 : (Jvm.Cond.methodLinkNest "WildBells$Lone" (31 : Nat) ({ cls := "WildBells", name := "nearest", desc := "(III)I" } : Jvm.MethodName) "WildBells") ∈ lw_tbl := lw_at lw_m3 34 rfl
theorem q625 : (Jvm.Cond.instanceMethod ({ cls := "WildBells$Lone", name := "isUnder", desc := "(I)Z" } : Jvm.MethodName)) ∈ lw_all := lw_g (lw_at lw_m3 47 rfl) rfl
theorem q626 : (Jvm.Cond.code ({ cls := "WildBells$Lone", name := "isUnder", desc := "(I)Z" } : Jvm.MethodName) prog_6_method_3_code (2 : Nat) (Option.some Jvm.ClassFile.FieldType.boolean)) ∈ lw_all := lw_g (lw_at lw_m3 48 rfl) rfl
theorem q627 : (Jvm.Cond.methodLink "WildBells$Lone" (19 : Nat) ({ cls := "WildBells$Bell", name := "isUnder", desc := "(I)Z" } : Jvm.MethodName)) ∈ lw_all := lw_g (lw_at lw_m3 49 rfl) rfl
theorem q632 : (Jvm.Cond.selects "WildBells$Lone" ({ cls := "WildBells$Bell", name := "isUnder", desc := "(I)Z" } : Jvm.MethodName) ({ cls := "WildBells$Lone", name := "isUnder", desc := "(I)Z" } : Jvm.MethodName)) ∈ lw_all := lw_g (lw_at lw_m3 54 rfl) rfl
theorem q639 : (Jvm.Cond.methodLink "WildBells$Lone" (35 : Nat) ({ cls := "java/lang/Math", name := "max", desc := "(II)I" } : Jvm.MethodName)) ∈ lw_all := lw_g (lw_at lw_m3 61 rfl) rfl
theorem q654 : (Jvm.Cond.castable "WildBells$Lone" "WildBells$Likes") ∈ lw_tbl := lw_at lw_m3 76 rfl
theorem q655 : (Jvm.Cond.selects "WildBells$Lone" ({ cls := "WildBells$Likes", name := "worth", desc := "(I)I" } : Jvm.MethodName) ({ cls := "WildBells$Lone", name := "worth", desc := "(I)I" } : Jvm.MethodName)) ∈ lw_all := lw_g (lw_at lw_m3 77 rfl) rfl
theorem q656 : (Jvm.Cond.unhidden "WildBells$Lone" "worth" "(I)I") ∈ lw_tbl := lw_at lw_m3 78 rfl
theorem q657 : (Jvm.Cond.publicMethod ({ cls := "WildBells$Lone", name := "worth", desc := "(I)I" } : Jvm.MethodName)) ∈ lw_tbl := lw_at lw_m3 79 rfl
theorem q1730 : (Jvm.Cond.sameMethod "WildBells$Lone" "WildBells$Lone" "kind" "()I") ∈ lw_all := lw_g (lw_at lw_m7 192 rfl) rfl
theorem q1733 : (Jvm.Cond.sameMethod "WildBells$Lone" "WildBells$Lone" "worth" "(I)I") ∈ lw_all := lw_g (lw_at lw_m7 195 rfl) rfl
theorem q1735 : (Jvm.Cond.sameMethod "WildBells$Lone" "WildBells$Lone" "isUnder" "(I)Z") ∈ lw_all := lw_g (lw_at lw_m7 197 rfl) rfl
theorem q1739 : (Jvm.Cond.castable "WildBells$Lone" "WildBells$Bell") ∈ lw_tbl := lw_at lw_m7 201 rfl
theorem in_X8 : ∀ w ∈ wsX80, w ∈ lw_all := lw_in wsX80 [350, 351, 348] (by decide +kernel) (by decide +kernel)
/-! WildBells$Tenor -/
set_option maxRecDepth 100000
def RX9 : String := "WildBells$Tenor"
def TX9 : u_T := fun k => match k with
  | 0 => ("WildBells$Bell", "number", "I", true)
  | 1 => ("WildBells$Bell", "this$0", "LWildBells;", true)
  | 2 => ("WildBells$Lone", "this$0", "LWildBells;", true)
  | _ => ("WildBells$Tenor", "this$0", "LWildBells;", true)
def tyX9 : Nat → FieldType := fun k => match k with
  | 0 => .int
  | 1 => .object "WildBells"
  | 2 => .object "WildBells"
  | _ => .object "WildBells"
abbrev wsX90 : List Cond := u_ws RX9 TX9 4
-- two fields of one name: no nmX9
theorem tyX9_ok : ∀ k, k < 4 → parseFieldDescriptor (TX9 k).2.2.1 = some (tyX9 k) := by decide +kernel
abbrev cX9_init : ByteArray := prog_11_method_1_code
def yX9_init : MethodName := ⟨RX9, "<init>", "(LWildBells;I)V"⟩
def dkwX9_init_0 : List UInt8 := [42, 43, 181, 0, 3, 42, 43, 28, 183, 0, 9, 177]
abbrev dktX9_init_0 : List UInt8 := dkwX9_init_0 ++ []
theorem dksX9_init_0 : cX9_init.data.toList.drop 0 = dktX9_init_0 := by decide +kernel
theorem dX9_init_0 : decode cX9_init 0 = .ok (.aload_n 0, 1) := dk_42 (dk_at dksX9_init_0 0 rfl rfl)
theorem dX9_init_1 : decode cX9_init 1 = .ok (.aload_n 1, 1) := dk_43 (dk_at dksX9_init_0 1 rfl rfl)
theorem dX9_init_2 : decode cX9_init 2 = .ok (.putfield 3, 3) := dk_181 0 3 (dk_at dksX9_init_0 2 rfl rfl)
theorem dX9_init_5 : decode cX9_init 5 = .ok (.aload_n 0, 1) := dk_42 (dk_at dksX9_init_0 5 rfl rfl)
theorem dX9_init_6 : decode cX9_init 6 = .ok (.aload_n 1, 1) := dk_43 (dk_at dksX9_init_0 6 rfl rfl)
theorem dX9_init_7 : decode cX9_init 7 = .ok (.iload_n 2, 1) := dk_28 (dk_at dksX9_init_0 7 rfl rfl)
theorem dX9_init_8 : decode cX9_init 8 = .ok (.invokespecial 9, 3) := dk_183 0 9 (dk_at dksX9_init_0 8 rfl rfl)
theorem dX9_init_11 : decode cX9_init 11 = .ok (.return_, 1) := dk_177 (dk_at dksX9_init_0 11 rfl rfl)
abbrev cX9_kind : ByteArray := prog_11_method_2_code
def yX9_kind : MethodName := ⟨RX9, "kind", "()I"⟩
def dkwX9_kind_0 : List UInt8 := [4, 42, 183, 0, 15, 96, 172]
abbrev dktX9_kind_0 : List UInt8 := dkwX9_kind_0 ++ []
theorem dksX9_kind_0 : cX9_kind.data.toList.drop 0 = dktX9_kind_0 := by decide +kernel
theorem dX9_kind_0 : decode cX9_kind 0 = .ok (.iconst 1, 1) := dk_4 (dk_at dksX9_kind_0 0 rfl rfl)
theorem dX9_kind_1 : decode cX9_kind 1 = .ok (.aload_n 0, 1) := dk_42 (dk_at dksX9_kind_0 1 rfl rfl)
theorem dX9_kind_2 : decode cX9_kind 2 = .ok (.invokespecial 15, 3) := dk_183 0 15 (dk_at dksX9_kind_0 2 rfl rfl)
theorem dX9_kind_5 : decode cX9_kind 5 = .ok (.iadd, 1) := dk_96 (dk_at dksX9_kind_0 5 rfl rfl)
theorem dX9_kind_6 : decode cX9_kind 6 = .ok (.ireturn, 1) := dk_172 (dk_at dksX9_kind_0 6 rfl rfl)
abbrev cX9_worth : ByteArray := prog_11_method_4_code
def yX9_worth : MethodName := ⟨RX9, "worth", "(I)I"⟩
def dkwX9_worth_0 : List UInt8 := [42, 27, 183, 0, 23, 16, 8, 96, 4, 100, 27, 16, 8, 108, 100, 172]
abbrev dktX9_worth_0 : List UInt8 := dkwX9_worth_0 ++ []
theorem dksX9_worth_0 : cX9_worth.data.toList.drop 0 = dktX9_worth_0 := by decide +kernel
theorem dX9_worth_0 : decode cX9_worth 0 = .ok (.aload_n 0, 1) := dk_42 (dk_at dksX9_worth_0 0 rfl rfl)
theorem dX9_worth_1 : decode cX9_worth 1 = .ok (.iload_n 1, 1) := dk_27 (dk_at dksX9_worth_0 1 rfl rfl)
theorem dX9_worth_2 : decode cX9_worth 2 = .ok (.invokespecial 23, 3) := dk_183 0 23 (dk_at dksX9_worth_0 2 rfl rfl)
theorem dX9_worth_5 : decode cX9_worth 5 = .ok (.bipush 8, 2) := dk_16 8 (dk_at dksX9_worth_0 5 rfl rfl)
theorem dX9_worth_7 : decode cX9_worth 7 = .ok (.iadd, 1) := dk_96 (dk_at dksX9_worth_0 7 rfl rfl)
theorem dX9_worth_8 : decode cX9_worth 8 = .ok (.iconst 1, 1) := dk_4 (dk_at dksX9_worth_0 8 rfl rfl)
theorem dX9_worth_9 : decode cX9_worth 9 = .ok (.isub, 1) := dk_100 (dk_at dksX9_worth_0 9 rfl rfl)
theorem dX9_worth_10 : decode cX9_worth 10 = .ok (.iload_n 1, 1) := dk_27 (dk_at dksX9_worth_0 10 rfl rfl)
theorem dX9_worth_11 : decode cX9_worth 11 = .ok (.bipush 8, 2) := dk_16 8 (dk_at dksX9_worth_0 11 rfl rfl)
theorem dX9_worth_13 : decode cX9_worth 13 = .ok (.idiv, 1) := dk_108 (dk_at dksX9_worth_0 13 rfl rfl)
theorem dX9_worth_14 : decode cX9_worth 14 = .ok (.isub, 1) := dk_100 (dk_at dksX9_worth_0 14 rfl rfl)
theorem dX9_worth_15 : decode cX9_worth 15 = .ok (.ireturn, 1) := dk_172 (dk_at dksX9_worth_0 15 rfl rfl)
abbrev cX9_isUnder : ByteArray := prog_11_method_3_code
def yX9_isUnder : MethodName := ⟨RX9, "isUnder", "(I)Z"⟩
def dkwX9_isUnder_0 : List UInt8 := [27, 6, 159, 0, 11, 42, 27, 183, 0, 19, 153, 0, 7, 4, 167, 0, 4, 3, 172]
abbrev dktX9_isUnder_0 : List UInt8 := dkwX9_isUnder_0 ++ []
theorem dksX9_isUnder_0 : cX9_isUnder.data.toList.drop 0 = dktX9_isUnder_0 := by decide +kernel
theorem dX9_isUnder_0 : decode cX9_isUnder 0 = .ok (.iload_n 1, 1) := dk_27 (dk_at dksX9_isUnder_0 0 rfl rfl)
theorem dX9_isUnder_1 : decode cX9_isUnder 1 = .ok (.iconst 3, 1) := dk_6 (dk_at dksX9_isUnder_0 1 rfl rfl)
theorem dX9_isUnder_2 : decode cX9_isUnder 2 = .ok (.if_icmp .eq 11, 3) := dk_159 0 11 (dk_at dksX9_isUnder_0 2 rfl rfl)
theorem dX9_isUnder_5 : decode cX9_isUnder 5 = .ok (.aload_n 0, 1) := dk_42 (dk_at dksX9_isUnder_0 5 rfl rfl)
theorem dX9_isUnder_6 : decode cX9_isUnder 6 = .ok (.iload_n 1, 1) := dk_27 (dk_at dksX9_isUnder_0 6 rfl rfl)
theorem dX9_isUnder_7 : decode cX9_isUnder 7 = .ok (.invokespecial 19, 3) := dk_183 0 19 (dk_at dksX9_isUnder_0 7 rfl rfl)
theorem dX9_isUnder_10 : decode cX9_isUnder 10 = .ok (.ifCond .eq 7, 3) := dk_153 0 7 (dk_at dksX9_isUnder_0 10 rfl rfl)
theorem dX9_isUnder_13 : decode cX9_isUnder 13 = .ok (.iconst 1, 1) := dk_4 (dk_at dksX9_isUnder_0 13 rfl rfl)
theorem dX9_isUnder_14 : decode cX9_isUnder 14 = .ok (.goto 4, 3) := dk_167 0 4 (dk_at dksX9_isUnder_0 14 rfl rfl)
theorem dX9_isUnder_17 : decode cX9_isUnder 17 = .ok (.iconst 0, 1) := dk_3 (dk_at dksX9_isUnder_0 17 rfl rfl)
theorem dX9_isUnder_18 : decode cX9_isUnder 18 = .ok (.ireturn, 1) := dk_172 (dk_at dksX9_isUnder_0 18 rfl rfl)
theorem q111 : (Jvm.Cond.initialized "WildBells$Tenor") ∈ lw_all := lw_g (lw_at lw_m1 13 rfl) rfl
theorem q354 : (Jvm.Cond.instantiable "WildBells$Tenor" (4 : Nat)) ∈ lw_all := lw_g (lw_at lw_m2 16 rfl) rfl
theorem q356 : (Jvm.Cond.instanceMethod ({ cls := "WildBells$Tenor", name := "<init>", desc := "(LWildBells;I)V" } : Jvm.MethodName)) ∈ lw_all := lw_g (lw_at lw_m2 18 rfl) rfl
theorem q357 : (Jvm.Cond.code ({ cls := "WildBells$Tenor", name := "<init>", desc := "(LWildBells;I)V" } : Jvm.MethodName) prog_11_method_1_code (3 : Nat) (Option.none : Option Jvm.ClassFile.FieldType)) ∈ lw_all := lw_g (lw_at lw_m2 19 rfl) rfl
theorem q358 : (Jvm.Cond.methodLink "WildBells$Tenor" (9 : Nat) ({ cls := "WildBells$Lone", name := "<init>", desc := "(LWildBells;I)V" } : Jvm.MethodName)) ∈ lw_all := lw_g (lw_at lw_m2 20 rfl) rfl
theorem q359 : (Jvm.Cond.fieldLink "WildBells$Tenor" (3 : Nat) "WildBells$Tenor" "this$0" "LWildBells;") ∈ lw_all := lw_g (lw_at lw_m2 21 rfl) rfl
theorem q360 : (Jvm.Cond.laysFinal "WildBells$Tenor" "WildBells$Tenor" "this$0" "LWildBells;") ∈ lw_all := lw_g (lw_at lw_m2 22 rfl) rfl
theorem q361 : (Jvm.Cond.soleField "WildBells$Tenor" "this$0") ∈ lw_all := lw_g (lw_at lw_m2 23 rfl) rfl
theorem q362 : (Jvm.Cond.laysFinal "WildBells$Tenor" "WildBells$Lone" "this$0" "LWildBells;") ∈ lw_all := lw_g (lw_at lw_m2 24 rfl) rfl
theorem q363 : (Jvm.Cond.laysFinal "WildBells$Tenor" "WildBells$Bell" "number" "I") ∈ lw_all := lw_g (lw_at lw_m2 25 rfl) rfl
theorem q364 : (Jvm.Cond.laysFinal "WildBells$Tenor" "WildBells$Bell" "this$0" "LWildBells;") ∈ lw_all := lw_g (lw_at lw_m2 26 rfl) rfl
theorem q365 : (Jvm.Cond.superclass "WildBells$Tenor" "WildBells$Lone") ∈ lw_all := lw_g (lw_at lw_m2 27 rfl) rfl
theorem q553 : (Jvm.Cond.instanceMethod ({ cls := "WildBells$Tenor", name := "kind", desc := "()I" } : Jvm.MethodName)) ∈ lw_all := lw_g (lw_at lw_m2 215 rfl) rfl
theorem q554 : (Jvm.Cond.code ({ cls := "WildBells$Tenor", name := "kind", desc := "()I" } : Jvm.MethodName) prog_11_method_2_code (1 : Nat) (Option.some Jvm.ClassFile.FieldType.int)) ∈ lw_all := lw_g (lw_at lw_m2 216 rfl) rfl
theorem q555 : (Jvm.Cond.methodLink "WildBells$Tenor" (15 : Nat) ({ cls := "WildBells$Lone", name := "kind", desc := "()I" } : Jvm.MethodName)) ∈ lw_all := lw_g (lw_at lw_m2 217 rfl) rfl
theorem q568 : (Jvm.Cond.selects "WildBells$Tenor" ({ cls := "WildBells$Bell", name := "kind", desc := "()I" } : Jvm.MethodName) ({ cls := "WildBells$Tenor", name := "kind", desc := "()I" } : Jvm.MethodName)) ∈ lw_all := lw_g (lw_at lw_m2 230 rfl) rfl
theorem q606 : (Jvm.Cond.instanceMethod ({ cls := "WildBells$Tenor", name := "worth", desc := "(I)I" } : Jvm.MethodName)) ∈ lw_all := lw_g (lw_at lw_m3 28 rfl) rfl
theorem q607 : (Jvm.Cond.code ({ cls := "WildBells$Tenor", name := "worth", desc := "(I)I" } : Jvm.MethodName) prog_11_method_4_code (2 : Nat) (Option.some Jvm.ClassFile.FieldType.int)) ∈ lw_all := lw_g (lw_at lw_m3 29 rfl) rfl
theorem q608 : (Jvm.Cond.methodLink "WildBells$Tenor" (23 : Nat) ({ cls := "WildBells$Lone", name := "worth", desc := "(I)I" } : Jvm.MethodName)) ∈ lw_all := lw_g (lw_at lw_m3 30 rfl) rfl
theorem q622 : (Jvm.Cond.instanceMethod ({ cls := "WildBells$Tenor", name := "isUnder", desc := "(I)Z" } : Jvm.MethodName)) ∈ lw_all := lw_g (lw_at lw_m3 44 rfl) rfl
theorem q623 : (Jvm.Cond.code ({ cls := "WildBells$Tenor", name := "isUnder", desc := "(I)Z" } : Jvm.MethodName) prog_11_method_3_code (2 : Nat) (Option.some Jvm.ClassFile.FieldType.boolean)) ∈ lw_all := lw_g (lw_at lw_m3 45 rfl) rfl
theorem q624 : (Jvm.Cond.methodLink "WildBells$Tenor" (19 : Nat) ({ cls := "WildBells$Lone", name := "isUnder", desc := "(I)Z" } : Jvm.MethodName)) ∈ lw_all := lw_g (lw_at lw_m3 46 rfl) rfl
theorem q634 : (Jvm.Cond.selects "WildBells$Tenor" ({ cls := "WildBells$Bell", name := "isUnder", desc := "(I)Z" } : Jvm.MethodName) ({ cls := "WildBells$Tenor", name := "isUnder", desc := "(I)Z" } : Jvm.MethodName)) ∈ lw_all := lw_g (lw_at lw_m3 56 rfl) rfl
theorem q667 : (Jvm.Cond.castable "WildBells$Tenor" "WildBells$Likes") ∈ lw_tbl := lw_at lw_m3 89 rfl
theorem q668 : (Jvm.Cond.selects "WildBells$Tenor" ({ cls := "WildBells$Likes", name := "worth", desc := "(I)I" } : Jvm.MethodName) ({ cls := "WildBells$Tenor", name := "worth", desc := "(I)I" } : Jvm.MethodName)) ∈ lw_all := lw_g (lw_at lw_m3 90 rfl) rfl
theorem q669 : (Jvm.Cond.unhidden "WildBells$Tenor" "worth" "(I)I") ∈ lw_tbl := lw_at lw_m3 91 rfl
theorem q670 : (Jvm.Cond.publicMethod ({ cls := "WildBells$Tenor", name := "worth", desc := "(I)I" } : Jvm.MethodName)) ∈ lw_tbl := lw_at lw_m3 92 rfl
theorem q1729 : (Jvm.Cond.sameMethod "WildBells$Tenor" "WildBells$Tenor" "kind" "()I") ∈ lw_all := lw_g (lw_at lw_m7 191 rfl) rfl
theorem q1732 : (Jvm.Cond.sameMethod "WildBells$Tenor" "WildBells$Tenor" "worth" "(I)I") ∈ lw_all := lw_g (lw_at lw_m7 194 rfl) rfl
theorem q1741 : (Jvm.Cond.castable "WildBells$Tenor" "WildBells$Bell") ∈ lw_tbl := lw_at lw_m7 203 rfl
theorem q1745 : (Jvm.Cond.castable "WildBells$Tenor" "WildBells$Lone") ∈ lw_tbl := lw_at lw_m7 207 rfl
theorem in_X9 : ∀ w ∈ wsX90, w ∈ lw_all := lw_in wsX90 [363, 364, 362, 360] (by decide +kernel) (by decide +kernel)
/-! WildBells$Eldest -/
set_option maxRecDepth 100000
def RX10 : String := "WildBells$Eldest"
def TX10 : u_T := fun k => match k with
  | 0 => ("WildBells$Bell", "number", "I", true)
  | 1 => ("WildBells$Bell", "this$0", "LWildBells;", true)
  | 2 => ("WildBells$Lone", "this$0", "LWildBells;", true)
  | 3 => ("WildBells$Tenor", "this$0", "LWildBells;", true)
  | _ => ("WildBells$Eldest", "this$0", "LWildBells;", true)
def tyX10 : Nat → FieldType := fun k => match k with
  | 0 => .int
  | 1 => .object "WildBells"
  | 2 => .object "WildBells"
  | 3 => .object "WildBells"
  | _ => .object "WildBells"
abbrev wsX100 : List Cond := u_ws RX10 TX10 5
-- two fields of one name: no nmX10
theorem tyX10_ok : ∀ k, k < 5 → parseFieldDescriptor (TX10 k).2.2.1 = some (tyX10 k) := by decide +kernel
abbrev cX10_init : ByteArray := prog_3_method_1_code
def yX10_init : MethodName := ⟨RX10, "<init>", "(LWildBells;I)V"⟩
def dkwX10_init_0 : List UInt8 := [42, 43, 181, 0, 1, 42, 43, 28, 183, 0, 7, 177]
abbrev dktX10_init_0 : List UInt8 := dkwX10_init_0 ++ []
theorem dksX10_init_0 : cX10_init.data.toList.drop 0 = dktX10_init_0 := by decide +kernel
theorem dX10_init_0 : decode cX10_init 0 = .ok (.aload_n 0, 1) := dk_42 (dk_at dksX10_init_0 0 rfl rfl)
theorem dX10_init_1 : decode cX10_init 1 = .ok (.aload_n 1, 1) := dk_43 (dk_at dksX10_init_0 1 rfl rfl)
theorem dX10_init_2 : decode cX10_init 2 = .ok (.putfield 1, 3) := dk_181 0 1 (dk_at dksX10_init_0 2 rfl rfl)
theorem dX10_init_5 : decode cX10_init 5 = .ok (.aload_n 0, 1) := dk_42 (dk_at dksX10_init_0 5 rfl rfl)
theorem dX10_init_6 : decode cX10_init 6 = .ok (.aload_n 1, 1) := dk_43 (dk_at dksX10_init_0 6 rfl rfl)
theorem dX10_init_7 : decode cX10_init 7 = .ok (.iload_n 2, 1) := dk_28 (dk_at dksX10_init_0 7 rfl rfl)
theorem dX10_init_8 : decode cX10_init 8 = .ok (.invokespecial 7, 3) := dk_183 0 7 (dk_at dksX10_init_0 8 rfl rfl)
theorem dX10_init_11 : decode cX10_init 11 = .ok (.return_, 1) := dk_177 (dk_at dksX10_init_0 11 rfl rfl)
abbrev cX10_kind : ByteArray := prog_3_method_2_code
def yX10_kind : MethodName := ⟨RX10, "kind", "()I"⟩
def dkwX10_kind_0 : List UInt8 := [4, 42, 183, 0, 13, 96, 172]
abbrev dktX10_kind_0 : List UInt8 := dkwX10_kind_0 ++ []
theorem dksX10_kind_0 : cX10_kind.data.toList.drop 0 = dktX10_kind_0 := by decide +kernel
theorem dX10_kind_0 : decode cX10_kind 0 = .ok (.iconst 1, 1) := dk_4 (dk_at dksX10_kind_0 0 rfl rfl)
theorem dX10_kind_1 : decode cX10_kind 1 = .ok (.aload_n 0, 1) := dk_42 (dk_at dksX10_kind_0 1 rfl rfl)
theorem dX10_kind_2 : decode cX10_kind 2 = .ok (.invokespecial 13, 3) := dk_183 0 13 (dk_at dksX10_kind_0 2 rfl rfl)
theorem dX10_kind_5 : decode cX10_kind 5 = .ok (.iadd, 1) := dk_96 (dk_at dksX10_kind_0 5 rfl rfl)
theorem dX10_kind_6 : decode cX10_kind 6 = .ok (.ireturn, 1) := dk_172 (dk_at dksX10_kind_0 6 rfl rfl)
abbrev cX10_worth : ByteArray := prog_3_method_3_code
def yX10_worth : MethodName := ⟨RX10, "worth", "(I)I"⟩
def dkwX10_worth_0 : List UInt8 := [42, 42, 27, 183, 0, 17, 182, 0, 21, 172]
abbrev dktX10_worth_0 : List UInt8 := dkwX10_worth_0 ++ []
theorem dksX10_worth_0 : cX10_worth.data.toList.drop 0 = dktX10_worth_0 := by decide +kernel
theorem dX10_worth_0 : decode cX10_worth 0 = .ok (.aload_n 0, 1) := dk_42 (dk_at dksX10_worth_0 0 rfl rfl)
theorem dX10_worth_1 : decode cX10_worth 1 = .ok (.aload_n 0, 1) := dk_42 (dk_at dksX10_worth_0 1 rfl rfl)
theorem dX10_worth_2 : decode cX10_worth 2 = .ok (.iload_n 1, 1) := dk_27 (dk_at dksX10_worth_0 2 rfl rfl)
theorem dX10_worth_3 : decode cX10_worth 3 = .ok (.invokespecial 17, 3) := dk_183 0 17 (dk_at dksX10_worth_0 3 rfl rfl)
theorem dX10_worth_6 : decode cX10_worth 6 = .ok (.invokevirtual 21, 3) := dk_182 0 21 (dk_at dksX10_worth_0 6 rfl rfl)
theorem dX10_worth_9 : decode cX10_worth 9 = .ok (.ireturn, 1) := dk_172 (dk_at dksX10_worth_0 9 rfl rfl)
theorem q112 : (Jvm.Cond.initialized "WildBells$Eldest") ∈ lw_all := lw_g (lw_at lw_m1 14 rfl) rfl
theorem q367 : (Jvm.Cond.instantiable "WildBells$Eldest" (5 : Nat)) ∈ lw_all := lw_g (lw_at lw_m2 29 rfl) rfl
theorem q369 : (Jvm.Cond.instanceMethod ({ cls := "WildBells$Eldest", name := "<init>", desc := "(LWildBells;I)V" } : Jvm.MethodName)) ∈ lw_all := lw_g (lw_at lw_m2 31 rfl) rfl
theorem q370 : (Jvm.Cond.code ({ cls := "WildBells$Eldest", name := "<init>", desc := "(LWildBells;I)V" } : Jvm.MethodName) prog_3_method_1_code (3 : Nat) (Option.none : Option Jvm.ClassFile.FieldType)) ∈ lw_all := lw_g (lw_at lw_m2 32 rfl) rfl
theorem q371 : (Jvm.Cond.methodLink "WildBells$Eldest" (7 : Nat) ({ cls := "WildBells$Tenor", name := "<init>", desc := "(LWildBells;I)V" } : Jvm.MethodName)) ∈ lw_all := lw_g (lw_at lw_m2 33 rfl) rfl
theorem q372 : (Jvm.Cond.fieldLink "WildBells$Eldest" (1 : Nat) "WildBells$Eldest" "this$0" "LWildBells;") ∈ lw_all := lw_g (lw_at lw_m2 34 rfl) rfl
theorem q373 : (Jvm.Cond.laysFinal "WildBells$Eldest" "WildBells$Eldest" "this$0" "LWildBells;") ∈ lw_all := lw_g (lw_at lw_m2 35 rfl) rfl
theorem q374 : (Jvm.Cond.soleField "WildBells$Eldest" "this$0") ∈ lw_all := lw_g (lw_at lw_m2 36 rfl) rfl
theorem q375 : (Jvm.Cond.laysFinal "WildBells$Eldest" "WildBells$Tenor" "this$0" "LWildBells;") ∈ lw_all := lw_g (lw_at lw_m2 37 rfl) rfl
theorem q376 : (Jvm.Cond.laysFinal "WildBells$Eldest" "WildBells$Lone" "this$0" "LWildBells;") ∈ lw_all := lw_g (lw_at lw_m2 38 rfl) rfl
theorem q377 : (Jvm.Cond.laysFinal "WildBells$Eldest" "WildBells$Bell" "number" "I") ∈ lw_all := lw_g (lw_at lw_m2 39 rfl) rfl
theorem q378 : (Jvm.Cond.laysFinal "WildBells$Eldest" "WildBells$Bell" "this$0" "LWildBells;") ∈ lw_all := lw_g (lw_at lw_m2 40 rfl) rfl
theorem q379 : (Jvm.Cond.superclass "WildBells$Eldest" "WildBells$Tenor") ∈ lw_all := lw_g (lw_at lw_m2 41 rfl) rfl
theorem q549 : (Jvm.Cond.selects "WildBells$Eldest" ({ cls := "WildBells$Bell", name := "kind", desc := "()I" } : Jvm.MethodName) ({ cls := "WildBells$Eldest", name := "kind", desc := "()I" } : Jvm.MethodName)) ∈ lw_all := lw_g (lw_at lw_m2 211 rfl) rfl
theorem q550 : (Jvm.Cond.instanceMethod ({ cls := "WildBells$Eldest", name := "kind", desc := "()I" } : Jvm.MethodName)) ∈ lw_all := lw_g (lw_at lw_m2 212 rfl) rfl
theorem q551 : (Jvm.Cond.code ({ cls := "WildBells$Eldest", name := "kind", desc := "()I" } : Jvm.MethodName) prog_3_method_2_code (1 : Nat) (Option.some Jvm.ClassFile.FieldType.int)) ∈ lw_all := lw_g (lw_at lw_m2 213 rfl) rfl
theorem q552 : (Jvm.Cond.methodLink "WildBells$Eldest" (13 : Nat) ({ cls := "WildBells$Tenor", name := "kind", desc := "()I" } : Jvm.MethodName)) ∈ lw_all := lw_g (lw_at lw_m2 214 rfl) rfl
theorem q599 : (Jvm.Cond.castable "WildBells$Eldest" "WildBells$Likes") ∈ lw_tbl := lw_at lw_m3 21 rfl
theorem q600 : (Jvm.Cond.selects "WildBells$Eldest" ({ cls := "WildBells$Likes", name := "worth", desc := "(I)I" } : Jvm.MethodName) ({ cls := "WildBells$Eldest", name := "worth", desc := "(I)I" } : Jvm.MethodName)) ∈ lw_all := lw_g (lw_at lw_m3 22 rfl) rfl
theorem q601 : (Jvm.Cond.unhidden "WildBells$Eldest" "worth" "(I)I") ∈ lw_tbl := lw_at lw_m3 23 rfl
theorem q602 : (Jvm.Cond.instanceMethod ({ cls := "WildBells$Eldest", name := "worth", desc := "(I)I" } : Jvm.MethodName)) ∈ lw_all := lw_g (lw_at lw_m3 24 rfl) rfl
theorem q603 : (Jvm.Cond.publicMethod ({ cls := "WildBells$Eldest", name := "worth", desc := "(I)I" } : Jvm.MethodName)) ∈ lw_tbl := lw_at lw_m3 25 rfl
theorem q604 : (Jvm.Cond.code ({ cls := "WildBells$Eldest", name := "worth", desc := "(I)I" } : Jvm.MethodName) prog_3_method_3_code (2 : Nat) (Option.some Jvm.ClassFile.FieldType.int)) ∈ lw_all := lw_g (lw_at lw_m3 26 rfl) rfl
theorem q605 : (Jvm.Cond.methodLink "WildBells$Eldest" (17 : Nat) ({ cls := "WildBells$Tenor", name := "worth", desc := "(I)I" } : Jvm.MethodName)) ∈ lw_all := lw_g (lw_at lw_m3 27 rfl) rfl
theorem q621 : (Jvm.Cond.selects "WildBells$Eldest" ({ cls := "WildBells$Bell", name := "isUnder", desc := "(I)Z" } : Jvm.MethodName) ({ cls := "WildBells$Tenor", name := "isUnder", desc := "(I)Z" } : Jvm.MethodName)) ∈ lw_all := lw_g (lw_at lw_m3 43 rfl) rfl
theorem q641 : (Jvm.Cond.unhidden "WildBells$Eldest" "twice" "(I)I") ∈ lw_tbl := lw_at lw_m3 63 rfl
theorem q1737 : (Jvm.Cond.castable "WildBells$Eldest" "WildBells$Bell") ∈ lw_tbl := lw_at lw_m7 199 rfl
theorem q1744 : (Jvm.Cond.castable "WildBells$Eldest" "WildBells$Lone") ∈ lw_tbl := lw_at lw_m7 206 rfl
theorem q1746 : (Jvm.Cond.castable "WildBells$Eldest" "WildBells$Tenor") ∈ lw_tbl := lw_at lw_m7 208 rfl
theorem in_X10 : ∀ w ∈ wsX100, w ∈ lw_all := lw_in wsX100 [377, 378, 376, 375, 373] (by decide +kernel) (by decide +kernel)
/-! WildBells$Tame -/
set_option maxRecDepth 100000
def RX11 : String := "WildBells$Tame"
def TX11 : u_T := fun k => match k with
  | 0 => ("WildBells$Bell", "number", "I", true)
  | 1 => ("WildBells$Bell", "this$0", "LWildBells;", true)
  | _ => ("WildBells$Tame", "this$0", "LWildBells;", true)
def tyX11 : Nat → FieldType := fun k => match k with
  | 0 => .int
  | 1 => .object "WildBells"
  | _ => .object "WildBells"
abbrev wsX110 : List Cond := u_ws RX11 TX11 3
-- two fields of one name: no nmX11
theorem tyX11_ok : ∀ k, k < 3 → parseFieldDescriptor (TX11 k).2.2.1 = some (tyX11 k) := by decide +kernel
abbrev cX11_init : ByteArray := prog_10_method_1_code
def yX11_init : MethodName := ⟨RX11, "<init>", "(LWildBells;I)V"⟩
def dkwX11_init_0 : List UInt8 := [42, 43, 181, 0, 1, 42, 43, 28, 183, 0, 7, 177]
abbrev dktX11_init_0 : List UInt8 := dkwX11_init_0 ++ []
theorem dksX11_init_0 : cX11_init.data.toList.drop 0 = dktX11_init_0 := by decide +kernel
theorem dX11_init_0 : decode cX11_init 0 = .ok (.aload_n 0, 1) := dk_42 (dk_at dksX11_init_0 0 rfl rfl)
theorem dX11_init_1 : decode cX11_init 1 = .ok (.aload_n 1, 1) := dk_43 (dk_at dksX11_init_0 1 rfl rfl)
theorem dX11_init_2 : decode cX11_init 2 = .ok (.putfield 1, 3) := dk_181 0 1 (dk_at dksX11_init_0 2 rfl rfl)
theorem dX11_init_5 : decode cX11_init 5 = .ok (.aload_n 0, 1) := dk_42 (dk_at dksX11_init_0 5 rfl rfl)
theorem dX11_init_6 : decode cX11_init 6 = .ok (.aload_n 1, 1) := dk_43 (dk_at dksX11_init_0 6 rfl rfl)
theorem dX11_init_7 : decode cX11_init 7 = .ok (.iload_n 2, 1) := dk_28 (dk_at dksX11_init_0 7 rfl rfl)
theorem dX11_init_8 : decode cX11_init 8 = .ok (.invokespecial 7, 3) := dk_183 0 7 (dk_at dksX11_init_0 8 rfl rfl)
theorem dX11_init_11 : decode cX11_init 11 = .ok (.return_, 1) := dk_177 (dk_at dksX11_init_0 11 rfl rfl)
abbrev cX11_kind : ByteArray := prog_10_method_2_code
def yX11_kind : MethodName := ⟨RX11, "kind", "()I"⟩
def dkwX11_kind_0 : List UInt8 := [8, 42, 183, 0, 13, 96, 172]
abbrev dktX11_kind_0 : List UInt8 := dkwX11_kind_0 ++ []
theorem dksX11_kind_0 : cX11_kind.data.toList.drop 0 = dktX11_kind_0 := by decide +kernel
theorem dX11_kind_0 : decode cX11_kind 0 = .ok (.iconst 5, 1) := dk_8 (dk_at dksX11_kind_0 0 rfl rfl)
theorem dX11_kind_1 : decode cX11_kind 1 = .ok (.aload_n 0, 1) := dk_42 (dk_at dksX11_kind_0 1 rfl rfl)
theorem dX11_kind_2 : decode cX11_kind 2 = .ok (.invokespecial 13, 3) := dk_183 0 13 (dk_at dksX11_kind_0 2 rfl rfl)
theorem dX11_kind_5 : decode cX11_kind 5 = .ok (.iadd, 1) := dk_96 (dk_at dksX11_kind_0 5 rfl rfl)
theorem dX11_kind_6 : decode cX11_kind 6 = .ok (.ireturn, 1) := dk_172 (dk_at dksX11_kind_0 6 rfl rfl)
abbrev cX11_worth : ByteArray := prog_10_method_3_code
def yX11_worth : MethodName := ⟨RX11, "worth", "(I)I"⟩
def dkwX11_worth_0 : List UInt8 := [42, 27, 183, 0, 17, 42, 27, 3, 184, 0, 21, 182, 0, 27, 100, 172]
abbrev dktX11_worth_0 : List UInt8 := dkwX11_worth_0 ++ []
theorem dksX11_worth_0 : cX11_worth.data.toList.drop 0 = dktX11_worth_0 := by decide +kernel
theorem dX11_worth_0 : decode cX11_worth 0 = .ok (.aload_n 0, 1) := dk_42 (dk_at dksX11_worth_0 0 rfl rfl)
theorem dX11_worth_1 : decode cX11_worth 1 = .ok (.iload_n 1, 1) := dk_27 (dk_at dksX11_worth_0 1 rfl rfl)
theorem dX11_worth_2 : decode cX11_worth 2 = .ok (.invokespecial 17, 3) := dk_183 0 17 (dk_at dksX11_worth_0 2 rfl rfl)
theorem dX11_worth_5 : decode cX11_worth 5 = .ok (.aload_n 0, 1) := dk_42 (dk_at dksX11_worth_0 5 rfl rfl)
theorem dX11_worth_6 : decode cX11_worth 6 = .ok (.iload_n 1, 1) := dk_27 (dk_at dksX11_worth_0 6 rfl rfl)
theorem dX11_worth_7 : decode cX11_worth 7 = .ok (.iconst 0, 1) := dk_3 (dk_at dksX11_worth_0 7 rfl rfl)
theorem dX11_worth_8 : decode cX11_worth 8 = .ok (.invokestatic 21, 3) := dk_184 0 21 (dk_at dksX11_worth_0 8 rfl rfl)
theorem dX11_worth_11 : decode cX11_worth 11 = .ok (.invokevirtual 27, 3) := dk_182 0 27 (dk_at dksX11_worth_0 11 rfl rfl)
theorem dX11_worth_14 : decode cX11_worth 14 = .ok (.isub, 1) := dk_100 (dk_at dksX11_worth_0 14 rfl rfl)
theorem dX11_worth_15 : decode cX11_worth 15 = .ok (.ireturn, 1) := dk_172 (dk_at dksX11_worth_0 15 rfl rfl)
theorem q113 : (Jvm.Cond.initialized "WildBells$Tame") ∈ lw_all := lw_g (lw_at lw_m1 15 rfl) rfl
theorem q381 : (Jvm.Cond.instantiable "WildBells$Tame" (3 : Nat)) ∈ lw_all := lw_g (lw_at lw_m2 43 rfl) rfl
theorem q383 : (Jvm.Cond.instanceMethod ({ cls := "WildBells$Tame", name := "<init>", desc := "(LWildBells;I)V" } : Jvm.MethodName)) ∈ lw_all := lw_g (lw_at lw_m2 45 rfl) rfl
theorem q384 : (Jvm.Cond.code ({ cls := "WildBells$Tame", name := "<init>", desc := "(LWildBells;I)V" } : Jvm.MethodName) prog_10_method_1_code (3 : Nat) (Option.none : Option Jvm.ClassFile.FieldType)) ∈ lw_all := lw_g (lw_at lw_m2 46 rfl) rfl
theorem q385 : (Jvm.Cond.methodLink "WildBells$Tame" (7 : Nat) ({ cls := "WildBells$Bell", name := "<init>", desc := "(LWildBells;I)V" } : Jvm.MethodName)) ∈ lw_all := lw_g (lw_at lw_m2 47 rfl) rfl
theorem q386 : (Jvm.Cond.fieldLink "WildBells$Tame" (1 : Nat) "WildBells$Tame" "this$0" "LWildBells;") ∈ lw_all := lw_g (lw_at lw_m2 48 rfl) rfl
theorem q387 : (Jvm.Cond.laysFinal "WildBells$Tame" "WildBells$Tame" "this$0" "LWildBells;") ∈ lw_all := lw_g (lw_at lw_m2 49 rfl) rfl
theorem q388 : (Jvm.Cond.soleField "WildBells$Tame" "this$0") ∈ lw_all := lw_g (lw_at lw_m2 50 rfl) rfl
theorem q389 : (Jvm.Cond.laysFinal "WildBells$Tame" "WildBells$Bell" "number" "I") ∈ lw_all := lw_g (lw_at lw_m2 51 rfl) rfl
theorem q390 : (Jvm.Cond.laysFinal "WildBells$Tame" "WildBells$Bell" "this$0" "LWildBells;") ∈ lw_all := lw_g (lw_at lw_m2 52 rfl) rfl
theorem q391 : (Jvm.Cond.superclass "WildBells$Tame" "WildBells$Bell") ∈ lw_all := lw_g (lw_at lw_m2 53 rfl) rfl
theorem q564 : (Jvm.Cond.selects "WildBells$Tame" ({ cls := "WildBells$Bell", name := "kind", desc := "()I" } : Jvm.MethodName) ({ cls := "WildBells$Tame", name := "kind", desc := "()I" } : Jvm.MethodName)) ∈ lw_all := lw_g (lw_at lw_m2 226 rfl) rfl
theorem q565 : (Jvm.Cond.instanceMethod ({ cls := "WildBells$Tame", name := "kind", desc := "()I" } : Jvm.MethodName)) ∈ lw_all := lw_g (lw_at lw_m2 227 rfl) rfl
theorem q566 : (Jvm.Cond.code ({ cls := "WildBells$Tame", name := "kind", desc := "()I" } : Jvm.MethodName) prog_10_method_2_code (1 : Nat) (Option.some Jvm.ClassFile.FieldType.int)) ∈ lw_all := lw_g (lw_at lw_m2 228 rfl) rfl
theorem q567 : (Jvm.Cond.methodLink "WildBells$Tame" (13 : Nat) ({ cls := "WildBells$Bell", name := "kind", desc := "()I" } : Jvm.MethodName)) ∈ lw_all := lw_g (lw_at lw_m2 229 rfl) rfl
theorem q633 : (Jvm.Cond.selects "WildBells$Tame" ({ cls := "WildBells$Bell", name := "isUnder", desc := "(I)Z" } : Jvm.MethodName) ({ cls := "WildBells$Bell", name := "isUnder", desc := "(I)Z" } : Jvm.MethodName)) ∈ lw_all := lw_g (lw_at lw_m3 55 rfl) rfl
theorem q658 : (Jvm.Cond.castable "WildBells$Tame" "WildBells$Likes") ∈ lw_tbl := lw_at lw_m3 80 rfl
theorem q659 : (Jvm.Cond.selects "WildBells$Tame" ({ cls := "WildBells$Likes", name := "worth", desc := "(I)I" } : Jvm.MethodName) ({ cls := "WildBells$Tame", name := "worth", desc := "(I)I" } : Jvm.MethodName)) ∈ lw_all := lw_g (lw_at lw_m3 81 rfl) rfl
theorem q660 : (Jvm.Cond.unhidden "WildBells$Tame" "worth" "(I)I") ∈ lw_tbl := lw_at lw_m3 82 rfl
theorem q661 : (Jvm.Cond.instanceMethod ({ cls := "WildBells$Tame", name := "worth", desc := "(I)I" } : Jvm.MethodName)) ∈ lw_all := lw_g (lw_at lw_m3 83 rfl) rfl
theorem q662 : (Jvm.Cond.publicMethod ({ cls := "WildBells$Tame", name := "worth", desc := "(I)I" } : Jvm.MethodName)) ∈ lw_tbl := lw_at lw_m3 84 rfl
theorem q663 : (Jvm.Cond.code ({ cls := "WildBells$Tame", name := "worth", desc := "(I)I" } : Jvm.MethodName) prog_10_method_3_code (2 : Nat) (Option.some Jvm.ClassFile.FieldType.int)) ∈ lw_all := lw_g (lw_at lw_m3 85 rfl) rfl
theorem q664 : (Jvm.Cond.methodLink "WildBells$Tame" (17 : Nat) ({ cls := "WildBells$Bell", name := "worth", desc := "(I)I" } : Jvm.MethodName)) ∈ lw_all := lw_g (lw_at lw_m3 86 rfl) rfl
theorem q665 : (Jvm.Cond.methodLinkNest "WildBells$Tame" (21 : Nat) ({ cls := "WildBells", name := "apart", desc := "(II)I" } : Jvm.MethodName) "WildBells") ∈ lw_tbl := lw_at lw_m3 87 rfl
theorem q666 : (Jvm.Cond.unhidden "WildBells$Tame" "twice" "(I)I") ∈ lw_tbl := lw_at lw_m3 88 rfl
theorem q1740 : (Jvm.Cond.castable "WildBells$Tame" "WildBells$Bell") ∈ lw_tbl := lw_at lw_m7 202 rfl
theorem in_X11 : ∀ w ∈ wsX110, w ∈ lw_all := lw_in wsX110 [389, 390, 387] (by decide +kernel) (by decide +kernel)
/-! WildBells$Young -/
set_option maxRecDepth 100000
def RX12 : String := "WildBells$Young"
def TX12 : u_T := fun k => match k with
  | 0 => ("WildBells$Bell", "number", "I", true)
  | 1 => ("WildBells$Bell", "this$0", "LWildBells;", true)
  | 2 => ("WildBells$Herd", "this$0", "LWildBells;", true)
  | _ => ("WildBells$Young", "this$0", "LWildBells;", true)
def tyX12 : Nat → FieldType := fun k => match k with
  | 0 => .int
  | 1 => .object "WildBells"
  | 2 => .object "WildBells"
  | _ => .object "WildBells"
abbrev wsX120 : List Cond := u_ws RX12 TX12 4
-- two fields of one name: no nmX12
theorem tyX12_ok : ∀ k, k < 4 → parseFieldDescriptor (TX12 k).2.2.1 = some (tyX12 k) := by decide +kernel
abbrev cX12_init : ByteArray := prog_14_method_1_code
def yX12_init : MethodName := ⟨RX12, "<init>", "(LWildBells;I)V"⟩
def dkwX12_init_0 : List UInt8 := [42, 43, 181, 0, 3, 42, 43, 28, 183, 0, 9, 177]
abbrev dktX12_init_0 : List UInt8 := dkwX12_init_0 ++ []
theorem dksX12_init_0 : cX12_init.data.toList.drop 0 = dktX12_init_0 := by decide +kernel
theorem dX12_init_0 : decode cX12_init 0 = .ok (.aload_n 0, 1) := dk_42 (dk_at dksX12_init_0 0 rfl rfl)
theorem dX12_init_1 : decode cX12_init 1 = .ok (.aload_n 1, 1) := dk_43 (dk_at dksX12_init_0 1 rfl rfl)
theorem dX12_init_2 : decode cX12_init 2 = .ok (.putfield 3, 3) := dk_181 0 3 (dk_at dksX12_init_0 2 rfl rfl)
theorem dX12_init_5 : decode cX12_init 5 = .ok (.aload_n 0, 1) := dk_42 (dk_at dksX12_init_0 5 rfl rfl)
theorem dX12_init_6 : decode cX12_init 6 = .ok (.aload_n 1, 1) := dk_43 (dk_at dksX12_init_0 6 rfl rfl)
theorem dX12_init_7 : decode cX12_init 7 = .ok (.iload_n 2, 1) := dk_28 (dk_at dksX12_init_0 7 rfl rfl)
theorem dX12_init_8 : decode cX12_init 8 = .ok (.invokespecial 9, 3) := dk_183 0 9 (dk_at dksX12_init_0 8 rfl rfl)
theorem dX12_init_11 : decode cX12_init 11 = .ok (.return_, 1) := dk_177 (dk_at dksX12_init_0 11 rfl rfl)
abbrev cX12_kind : ByteArray := prog_14_method_2_code
def yX12_kind : MethodName := ⟨RX12, "kind", "()I"⟩
def dkwX12_kind_0 : List UInt8 := [8, 42, 183, 0, 15, 96, 172]
abbrev dktX12_kind_0 : List UInt8 := dkwX12_kind_0 ++ []
theorem dksX12_kind_0 : cX12_kind.data.toList.drop 0 = dktX12_kind_0 := by decide +kernel
theorem dX12_kind_0 : decode cX12_kind 0 = .ok (.iconst 5, 1) := dk_8 (dk_at dksX12_kind_0 0 rfl rfl)
theorem dX12_kind_1 : decode cX12_kind 1 = .ok (.aload_n 0, 1) := dk_42 (dk_at dksX12_kind_0 1 rfl rfl)
theorem dX12_kind_2 : decode cX12_kind 2 = .ok (.invokespecial 15, 3) := dk_183 0 15 (dk_at dksX12_kind_0 2 rfl rfl)
theorem dX12_kind_5 : decode cX12_kind 5 = .ok (.iadd, 1) := dk_96 (dk_at dksX12_kind_0 5 rfl rfl)
theorem dX12_kind_6 : decode cX12_kind 6 = .ok (.ireturn, 1) := dk_172 (dk_at dksX12_kind_0 6 rfl rfl)
abbrev cX12_worth : ByteArray := prog_14_method_3_code
def yX12_worth : MethodName := ⟨RX12, "worth", "(I)I"⟩
def dkwX12_worth_1 : List UInt8 := [172]
abbrev dktX12_worth_1 : List UInt8 := dkwX12_worth_1 ++ []
def dkwX12_worth_0 : List UInt8 := [42, 27, 183, 0, 19, 42, 42, 180, 0, 3, 180, 0, 23, 180, 0, 27, 4, 50, 27, 46, 182, 0, 33, 96]
abbrev dktX12_worth_0 : List UInt8 := dkwX12_worth_0 ++ dktX12_worth_1
theorem dksX12_worth_0 : cX12_worth.data.toList.drop 0 = dktX12_worth_0 := by decide +kernel
theorem dksX12_worth_1 : cX12_worth.data.toList.drop 24 = dktX12_worth_1 := dk_seg dksX12_worth_0 24 rfl rfl
theorem dX12_worth_0 : decode cX12_worth 0 = .ok (.aload_n 0, 1) := dk_42 (dk_at dksX12_worth_0 0 rfl rfl)
theorem dX12_worth_1 : decode cX12_worth 1 = .ok (.iload_n 1, 1) := dk_27 (dk_at dksX12_worth_0 1 rfl rfl)
theorem dX12_worth_2 : decode cX12_worth 2 = .ok (.invokespecial 19, 3) := dk_183 0 19 (dk_at dksX12_worth_0 2 rfl rfl)
theorem dX12_worth_5 : decode cX12_worth 5 = .ok (.aload_n 0, 1) := dk_42 (dk_at dksX12_worth_0 5 rfl rfl)
theorem dX12_worth_6 : decode cX12_worth 6 = .ok (.aload_n 0, 1) := dk_42 (dk_at dksX12_worth_0 6 rfl rfl)
theorem dX12_worth_7 : decode cX12_worth 7 = .ok (.getfield 3, 3) := dk_180 0 3 (dk_at dksX12_worth_0 7 rfl rfl)
theorem dX12_worth_10 : decode cX12_worth 10 = .ok (.getfield 23, 3) := dk_180 0 23 (dk_at dksX12_worth_0 10 rfl rfl)
theorem dX12_worth_13 : decode cX12_worth 13 = .ok (.getfield 27, 3) := dk_180 0 27 (dk_at dksX12_worth_0 13 rfl rfl)
theorem dX12_worth_16 : decode cX12_worth 16 = .ok (.iconst 1, 1) := dk_4 (dk_at dksX12_worth_0 16 rfl rfl)
theorem dX12_worth_17 : decode cX12_worth 17 = .ok (.aaload, 1) := dk_50 (dk_at dksX12_worth_0 17 rfl rfl)
theorem dX12_worth_18 : decode cX12_worth 18 = .ok (.iload_n 1, 1) := dk_27 (dk_at dksX12_worth_0 18 rfl rfl)
theorem dX12_worth_19 : decode cX12_worth 19 = .ok (.iaload, 1) := dk_46 (dk_at dksX12_worth_0 19 rfl rfl)
theorem dX12_worth_20 : decode cX12_worth 20 = .ok (.invokevirtual 33, 3) := dk_182 0 33 (dk_at dksX12_worth_0 20 rfl rfl)
theorem dX12_worth_23 : decode cX12_worth 23 = .ok (.iadd, 1) := dk_96 (dk_at dksX12_worth_0 23 rfl rfl)
theorem dX12_worth_24 : decode cX12_worth 24 = .ok (.ireturn, 1) := dk_172 (dk_at dksX12_worth_1 0 rfl rfl)
theorem q114 : (Jvm.Cond.initialized "WildBells$Young") ∈ lw_all := lw_g (lw_at lw_m1 16 rfl) rfl
theorem q229 : (Jvm.Cond.fieldLinkNest "WildBells$Young" (27 : Nat) "WildBells$World" "cell" "[[I" "WildBells") ∈ lw_tbl := lw_at lw_m1 131 rfl
theorem q393 : (Jvm.Cond.instantiable "WildBells$Young" (4 : Nat)) ∈ lw_all := lw_g (lw_at lw_m2 55 rfl) rfl
theorem q395 : (Jvm.Cond.instanceMethod ({ cls := "WildBells$Young", name := "<init>", desc := "(LWildBells;I)V" } : Jvm.MethodName)) ∈ lw_all := lw_g (lw_at lw_m2 57 rfl) rfl
theorem q396 : (Jvm.Cond.code ({ cls := "WildBells$Young", name := "<init>", desc := "(LWildBells;I)V" } : Jvm.MethodName) prog_14_method_1_code (3 : Nat) (Option.none : Option Jvm.ClassFile.FieldType)) ∈ lw_all := lw_g (lw_at lw_m2 58 rfl) rfl
theorem q397 : (Jvm.Cond.methodLink "WildBells$Young" (9 : Nat) ({ cls := "WildBells$Herd", name := "<init>", desc := "(LWildBells;I)V" } : Jvm.MethodName)) ∈ lw_all := lw_g (lw_at lw_m2 59 rfl) rfl
theorem q398 : (Jvm.Cond.fieldLink "WildBells$Young" (3 : Nat) "WildBells$Young" "this$0" "LWildBells;") ∈ lw_all := lw_g (lw_at lw_m2 60 rfl) rfl
theorem q399 : (Jvm.Cond.laysFinal "WildBells$Young" "WildBells$Young" "this$0" "LWildBells;") ∈ lw_all := lw_g (lw_at lw_m2 61 rfl) rfl
theorem q400 : (Jvm.Cond.soleField "WildBells$Young" "this$0") ∈ lw_all := lw_g (lw_at lw_m2 62 rfl) rfl
theorem q401 : (Jvm.Cond.laysFinal "WildBells$Young" "WildBells$Herd" "this$0" "LWildBells;") ∈ lw_all := lw_g (lw_at lw_m2 63 rfl) rfl
theorem q402 : (Jvm.Cond.laysFinal "WildBells$Young" "WildBells$Bell" "number" "I") ∈ lw_all := lw_g (lw_at lw_m2 64 rfl) rfl
theorem q403 : (Jvm.Cond.laysFinal "WildBells$Young" "WildBells$Bell" "this$0" "LWildBells;") ∈ lw_all := lw_g (lw_at lw_m2 65 rfl) rfl
theorem q404 : (Jvm.Cond.superclass "WildBells$Young" "WildBells$Herd") ∈ lw_all := lw_g (lw_at lw_m2 66 rfl) rfl
theorem q414 : (Jvm.Cond.fieldLinkNest "WildBells$Young" (23 : Nat) "WildBells" "d" "LWildBells$World;" "WildBells") ∈ lw_tbl := lw_at lw_m2 76 rfl
theorem q569 : (Jvm.Cond.selects "WildBells$Young" ({ cls := "WildBells$Bell", name := "kind", desc := "()I" } : Jvm.MethodName) ({ cls := "WildBells$Young", name := "kind", desc := "()I" } : Jvm.MethodName)) ∈ lw_all := lw_g (lw_at lw_m2 231 rfl) rfl
theorem q570 : (Jvm.Cond.instanceMethod ({ cls := "WildBells$Young", name := "kind", desc := "()I" } : Jvm.MethodName)) ∈ lw_all := lw_g (lw_at lw_m2 232 rfl) rfl
theorem q571 : (Jvm.Cond.code ({ cls := "WildBells$Young", name := "kind", desc := "()I" } : Jvm.MethodName) prog_14_method_2_code (1 : Nat) (Option.some Jvm.ClassFile.FieldType.int)) ∈ lw_all := lw_g (lw_at lw_m2 233 rfl) rfl
theorem q572 : (Jvm.Cond.methodLink "WildBells$Young" (15 : Nat) ({ cls := "WildBells$Herd", name := "kind", desc := "()I" } : Jvm.MethodName)) ∈ lw_all := lw_g (lw_at lw_m2 234 rfl) rfl
theorem q635 : (Jvm.Cond.selects "WildBells$Young" ({ cls := "WildBells$Bell", name := "isUnder", desc := "(I)Z" } : Jvm.MethodName) ({ cls := "WildBells$Herd", name := "isUnder", desc := "(I)Z" } : Jvm.MethodName)) ∈ lw_all := lw_g (lw_at lw_m3 57 rfl) rfl
theorem q671 : (Jvm.Cond.castable "WildBells$Young" "WildBells$Likes") ∈ lw_tbl := lw_at lw_m3 93 rfl
theorem q672 : (Jvm.Cond.selects "WildBells$Young" ({ cls := "WildBells$Likes", name := "worth", desc := "(I)I" } : Jvm.MethodName) ({ cls := "WildBells$Young", name := "worth", desc := "(I)I" } : Jvm.MethodName)) ∈ lw_all := lw_g (lw_at lw_m3 94 rfl) rfl
theorem q673 : (Jvm.Cond.unhidden "WildBells$Young" "worth" "(I)I") ∈ lw_tbl := lw_at lw_m3 95 rfl
theorem q674 : (Jvm.Cond.instanceMethod ({ cls := "WildBells$Young", name := "worth", desc := "(I)I" } : Jvm.MethodName)) ∈ lw_all := lw_g (lw_at lw_m3 96 rfl) rfl
theorem q675 : (Jvm.Cond.publicMethod ({ cls := "WildBells$Young", name := "worth", desc := "(I)I" } : Jvm.MethodName)) ∈ lw_tbl := lw_at lw_m3 97 rfl
theorem q676 : (Jvm.Cond.code ({ cls := "WildBells$Young", name := "worth", desc := "(I)I" } : Jvm.MethodName) prog_14_method_3_code (2 : Nat) (Option.some Jvm.ClassFile.FieldType.int)) ∈ lw_all := lw_g (lw_at lw_m3 98 rfl) rfl
theorem q677 : (Jvm.Cond.methodLink "WildBells$Young" (19 : Nat) ({ cls := "WildBells$Herd", name := "worth", desc := "(I)I" } : Jvm.MethodName)) ∈ lw_all := lw_g (lw_at lw_m3 99 rfl) rfl
theorem q678 : (Jvm.Cond.unhidden "WildBells$Young" "twice" "(I)I") ∈ lw_tbl := lw_at lw_m3 100 rfl
theorem q1742 : (Jvm.Cond.castable "WildBells$Young" "WildBells$Bell") ∈ lw_tbl := lw_at lw_m7 204 rfl
theorem q1743 : (Jvm.Cond.castable "WildBells$Young" "WildBells$Herd") ∈ lw_tbl := lw_at lw_m7 205 rfl
theorem in_X12 : ∀ w ∈ wsX120, w ∈ lw_all := lw_in wsX120 [402, 403, 401, 399] (by decide +kernel) (by decide +kernel)
/-! WildBells$Likes -/
set_option maxRecDepth 100000
def RX14 : String := "WildBells$Likes"
abbrev cX14_twice : ByteArray := prog_5_method_2_code
def yX14_twice : MethodName := ⟨RX14, "twice", "(I)I"⟩
def dkwX14_twice_0 : List UInt8 := [5, 27, 104, 172]
abbrev dktX14_twice_0 : List UInt8 := dkwX14_twice_0 ++ []
theorem dksX14_twice_0 : cX14_twice.data.toList.drop 0 = dktX14_twice_0 := by decide +kernel
theorem dX14_twice_0 : decode cX14_twice 0 = .ok (.iconst 2, 1) := dk_5 (dk_at dksX14_twice_0 0 rfl rfl)
theorem dX14_twice_1 : decode cX14_twice 1 = .ok (.iload_n 1, 1) := dk_27 (dk_at dksX14_twice_0 1 rfl rfl)
theorem dX14_twice_2 : decode cX14_twice 2 = .ok (.imul, 1) := dk_104 (dk_at dksX14_twice_0 2 rfl rfl)
theorem dX14_twice_3 : decode cX14_twice 3 = .ok (.ireturn, 1) := dk_172 (dk_at dksX14_twice_0 3 rfl rfl)
theorem q584 : (Jvm.Cond.interfaceMethod "WildBells$Likes" "WildBells$Likes" "worth" "(I)I") ∈ lw_tbl := lw_at lw_m3 6 rfl
theorem q585 : (Jvm.Cond.declares ({ cls := "WildBells$Likes", name := "worth", desc := "(I)I" } : Jvm.MethodName)) ∈ lw_tbl := lw_at lw_m3 7 rfl
theorem q640 : (Jvm.Cond.declares ({ cls := "WildBells$Likes", name := "twice", desc := "(I)I" } : Jvm.MethodName)) ∈ lw_tbl := lw_at lw_m3 62 rfl
theorem q642 : (Jvm.Cond.instanceMethod ({ cls := "WildBells$Likes", name := "twice", desc := "(I)I" } : Jvm.MethodName)) ∈ lw_all := lw_g (lw_at lw_m3 64 rfl) rfl
theorem q643 : (Jvm.Cond.publicMethod ({ cls := "WildBells$Likes", name := "twice", desc := "(I)I" } : Jvm.MethodName)) ∈ lw_tbl := lw_at lw_m3 65 rfl
theorem q644 : (Jvm.Cond.code ({ cls := "WildBells$Likes", name := "twice", desc := "(I)I" } : Jvm.MethodName) prog_5_method_2_code (2 : Nat) (Option.some Jvm.ClassFile.FieldType.int)) ∈ lw_all := lw_g (lw_at lw_m3 66 rfl) rfl
