/-! PlyHouse$Grades -/
set_option maxRecDepth 100000
def RX1 : String := "PlyHouse$Grades"
def TX1 : u_T := fun k => match k with
  | 0 => ("PlyHouse$Grades", "widths", "[I", true)
  | 1 => ("PlyHouse$Grades", "worths", "[I", true)
  | 2 => ("PlyHouse$Grades", "whens", "[LPlyHouse$Node;", true)
  | _ => ("PlyHouse$Grades", "many", "I", false)
def tyX1 : Nat → FieldType := fun k => match k with
  | 0 => .array .int
  | 1 => .array .int
  | 2 => .array (.object "PlyHouse$Node")
  | _ => .int
abbrev wsX10 : List Cond := u_ws RX1 TX1 4
theorem nmX1 : ∀ a, a < 4 → ∀ b, b < 4 → a ≠ b → (TX1 a).2.1 ≠ (TX1 b).2.1 := by decide +kernel
theorem tyX1_ok : ∀ k, k < 4 → parseFieldDescriptor (TX1 k).2.2.1 = some (tyX1 k) := by decide +kernel
abbrev cX1_init : ByteArray := prog_4_method_1_code
def yX1_init : MethodName := ⟨RX1, "<init>", "()V"⟩
def dkwX1_init_1 : List UInt8 := [189, 0, 18, 181, 0, 20, 177]
abbrev dktX1_init_1 : List UInt8 := dkwX1_init_1 ++ []
def dkwX1_init_0 : List UInt8 := [42, 183, 0, 3, 42, 16, 8, 188, 10, 181, 0, 9, 42, 16, 8, 188, 10, 181, 0, 15, 42, 16, 8]
abbrev dktX1_init_0 : List UInt8 := dkwX1_init_0 ++ dktX1_init_1
theorem dksX1_init_0 : cX1_init.data.toList.drop 0 = dktX1_init_0 := by decide +kernel
theorem dksX1_init_1 : cX1_init.data.toList.drop 23 = dktX1_init_1 := dk_seg dksX1_init_0 23 rfl rfl
theorem dX1_init_0 : decode cX1_init 0 = .ok (.aload_n 0, 1) := dk_42 (dk_at dksX1_init_0 0 rfl rfl)
theorem dX1_init_1 : decode cX1_init 1 = .ok (.invokespecial 3, 3) := dk_183 0 3 (dk_at dksX1_init_0 1 rfl rfl)
theorem dX1_init_4 : decode cX1_init 4 = .ok (.aload_n 0, 1) := dk_42 (dk_at dksX1_init_0 4 rfl rfl)
theorem dX1_init_5 : decode cX1_init 5 = .ok (.bipush 8, 2) := dk_16 8 (dk_at dksX1_init_0 5 rfl rfl)
theorem dX1_init_7 : decode cX1_init 7 = .ok (.newarray .int, 2) := dk_188_10 (dk_at dksX1_init_0 7 rfl rfl)
theorem dX1_init_9 : decode cX1_init 9 = .ok (.putfield 9, 3) := dk_181 0 9 (dk_at dksX1_init_0 9 rfl rfl)
theorem dX1_init_12 : decode cX1_init 12 = .ok (.aload_n 0, 1) := dk_42 (dk_at dksX1_init_0 12 rfl rfl)
theorem dX1_init_13 : decode cX1_init 13 = .ok (.bipush 8, 2) := dk_16 8 (dk_at dksX1_init_0 13 rfl rfl)
theorem dX1_init_15 : decode cX1_init 15 = .ok (.newarray .int, 2) := dk_188_10 (dk_at dksX1_init_0 15 rfl rfl)
theorem dX1_init_17 : decode cX1_init 17 = .ok (.putfield 15, 3) := dk_181 0 15 (dk_at dksX1_init_0 17 rfl rfl)
theorem dX1_init_20 : decode cX1_init 20 = .ok (.aload_n 0, 1) := dk_42 (dk_at dksX1_init_0 20 rfl rfl)
theorem dX1_init_21 : decode cX1_init 21 = .ok (.bipush 8, 2) := dk_16 8 (dk_at dksX1_init_0 21 rfl rfl)
theorem dX1_init_23 : decode cX1_init 23 = .ok (.anewarray 18, 3) := dk_189 0 18 (dk_at dksX1_init_1 0 rfl rfl)
theorem dX1_init_26 : decode cX1_init 26 = .ok (.putfield 20, 3) := dk_181 0 20 (dk_at dksX1_init_1 3 rfl rfl)
theorem dX1_init_29 : decode cX1_init 29 = .ok (.return_, 1) := dk_177 (dk_at dksX1_init_1 6 rfl rfl)
theorem q55 : (Jvm.Cond.initialized "PlyHouse$Grades") ∈ lw_all := lw_g (lw_at lw_m1 2 rfl) rfl
theorem q163 : (Jvm.Cond.instantiable "PlyHouse$Grades" (4 : Nat)) ∈ lw_all := lw_g (lw_at lw_m1 110 rfl) rfl
theorem q165 : (Jvm.Cond.instanceMethod ({ cls := "PlyHouse$Grades", name := "<init>", desc := "()V" } : Jvm.MethodName)) ∈ lw_all := lw_g (lw_at lw_m1 112 rfl) rfl
theorem q166 : (Jvm.Cond.code ({ cls := "PlyHouse$Grades", name := "<init>", desc := "()V" } : Jvm.MethodName) prog_4_method_1_code (1 : Nat) (Option.none : Option Jvm.ClassFile.FieldType)) ∈ lw_all := lw_g (lw_at lw_m1 113 rfl) rfl
theorem q167 : (Jvm.Cond.methodLink "PlyHouse$Grades" (3 : Nat) ({ cls := "java/lang/Object", name := "<init>", desc := "()V" } : Jvm.MethodName)) ∈ lw_all := lw_g (lw_at lw_m1 114 rfl) rfl
theorem q168 : (Jvm.Cond.classLink "PlyHouse$Grades" (18 : Nat) "PlyHouse$Node") ∈ lw_all := lw_g (lw_at lw_m1 115 rfl) rfl
theorem q170 : (Jvm.Cond.fieldLink "PlyHouse$Grades" (9 : Nat) "PlyHouse$Grades" "widths" "[I") ∈ lw_all := lw_g (lw_at lw_m1 117 rfl) rfl
theorem q173 : (Jvm.Cond.fieldLink "PlyHouse$Grades" (15 : Nat) "PlyHouse$Grades" "worths" "[I") ∈ lw_all := lw_g (lw_at lw_m1 120 rfl) rfl
theorem q176 : (Jvm.Cond.fieldLink "PlyHouse$Grades" (20 : Nat) "PlyHouse$Grades" "whens" "[LPlyHouse$Node;") ∈ lw_all := lw_g (lw_at lw_m1 123 rfl) rfl
theorem q181 : (Jvm.Cond.laysFinal "PlyHouse$Grades" "PlyHouse$Grades" "widths" "[I") ∈ lw_all := lw_g (lw_at lw_m1 128 rfl) rfl
theorem q182 : (Jvm.Cond.soleField "PlyHouse$Grades" "widths") ∈ lw_all := lw_g (lw_at lw_m1 129 rfl) rfl
theorem q183 : (Jvm.Cond.laysFinal "PlyHouse$Grades" "PlyHouse$Grades" "worths" "[I") ∈ lw_all := lw_g (lw_at lw_m1 130 rfl) rfl
theorem q184 : (Jvm.Cond.soleField "PlyHouse$Grades" "worths") ∈ lw_all := lw_g (lw_at lw_m1 131 rfl) rfl
theorem q185 : (Jvm.Cond.laysFinal "PlyHouse$Grades" "PlyHouse$Grades" "whens" "[LPlyHouse$Node;") ∈ lw_all := lw_g (lw_at lw_m1 132 rfl) rfl
theorem q186 : (Jvm.Cond.soleField "PlyHouse$Grades" "whens") ∈ lw_all := lw_g (lw_at lw_m1 133 rfl) rfl
theorem q187 : (Jvm.Cond.lays "PlyHouse$Grades" "PlyHouse$Grades" "many" "I") ∈ lw_all := lw_g (lw_at lw_m1 134 rfl) rfl
theorem q188 : (Jvm.Cond.soleField "PlyHouse$Grades" "many") ∈ lw_all := lw_g (lw_at lw_m1 135 rfl) rfl
theorem q189 : (Jvm.Cond.superclass "PlyHouse$Grades" "java/lang/Object") ∈ lw_all := lw_g (lw_at lw_m1 136 rfl) rfl
theorem in_X1 : ∀ w ∈ wsX10, w ∈ lw_all := lw_in wsX10 [181, 183, 185, 187] (by decide +kernel) (by decide +kernel)
/-! PlyHouse$Part -/
set_option maxRecDepth 100000
def RX2 : String := "PlyHouse$Part"
def TX2 : u_T := fun k => match k with
  | 0 => ("PlyHouse$Part", "knots", "I", false)
  | 1 => ("PlyHouse$Part", "splits", "I", false)
  | 2 => ("PlyHouse$Part", "holes", "I", false)
  | 3 => ("PlyHouse$Part", "plugs", "I", false)
  | _ => ("PlyHouse$Part", "run", "I", false)
def tyX2 : Nat → FieldType := fun k => match k with
  | 0 => .int
  | 1 => .int
  | 2 => .int
  | 3 => .int
  | _ => .int
abbrev wsX20 : List Cond := u_ws RX2 TX2 5
theorem nmX2 : ∀ a, a < 5 → ∀ b, b < 5 → a ≠ b → (TX2 a).2.1 ≠ (TX2 b).2.1 := by decide +kernel
theorem tyX2_ok : ∀ k, k < 5 → parseFieldDescriptor (TX2 k).2.2.1 = some (tyX2 k) := by decide +kernel
abbrev cX2_init : ByteArray := prog_9_method_1_code
def yX2_init : MethodName := ⟨RX2, "<init>", "()V"⟩
theorem dX2_init_0 : decode cX2_init 0 = .ok (.aload_n 0, 1) := by decide +kernel
theorem dX2_init_1 : decode cX2_init 1 = .ok (.invokespecial 1, 3) := by decide +kernel
theorem dX2_init_4 : decode cX2_init 4 = .ok (.return_, 1) := by decide +kernel
theorem q56 : (Jvm.Cond.initialized "PlyHouse$Part") ∈ lw_all := lw_g (lw_at lw_m1 3 rfl) rfl
theorem q624 : (Jvm.Cond.instantiable "PlyHouse$Part" (5 : Nat)) ∈ lw_all := lw_g (lw_at lw_m3 91 rfl) rfl
theorem q626 : (Jvm.Cond.instanceMethod ({ cls := "PlyHouse$Part", name := "<init>", desc := "()V" } : Jvm.MethodName)) ∈ lw_all := lw_g (lw_at lw_m3 93 rfl) rfl
theorem q627 : (Jvm.Cond.code ({ cls := "PlyHouse$Part", name := "<init>", desc := "()V" } : Jvm.MethodName) prog_9_method_1_code (1 : Nat) (Option.none : Option Jvm.ClassFile.FieldType)) ∈ lw_all := lw_g (lw_at lw_m3 94 rfl) rfl
theorem q628 : (Jvm.Cond.methodLink "PlyHouse$Part" (1 : Nat) ({ cls := "java/lang/Object", name := "<init>", desc := "()V" } : Jvm.MethodName)) ∈ lw_all := lw_g (lw_at lw_m3 95 rfl) rfl
theorem q639 : (Jvm.Cond.lays "PlyHouse$Part" "PlyHouse$Part" "knots" "I") ∈ lw_all := lw_g (lw_at lw_m3 106 rfl) rfl
theorem q640 : (Jvm.Cond.soleField "PlyHouse$Part" "knots") ∈ lw_all := lw_g (lw_at lw_m3 107 rfl) rfl
theorem q641 : (Jvm.Cond.lays "PlyHouse$Part" "PlyHouse$Part" "splits" "I") ∈ lw_all := lw_g (lw_at lw_m3 108 rfl) rfl
theorem q642 : (Jvm.Cond.soleField "PlyHouse$Part" "splits") ∈ lw_all := lw_g (lw_at lw_m3 109 rfl) rfl
theorem q643 : (Jvm.Cond.lays "PlyHouse$Part" "PlyHouse$Part" "holes" "I") ∈ lw_all := lw_g (lw_at lw_m3 110 rfl) rfl
theorem q644 : (Jvm.Cond.soleField "PlyHouse$Part" "holes") ∈ lw_all := lw_g (lw_at lw_m3 111 rfl) rfl
theorem q645 : (Jvm.Cond.lays "PlyHouse$Part" "PlyHouse$Part" "plugs" "I") ∈ lw_all := lw_g (lw_at lw_m3 112 rfl) rfl
theorem q646 : (Jvm.Cond.soleField "PlyHouse$Part" "plugs") ∈ lw_all := lw_g (lw_at lw_m3 113 rfl) rfl
theorem q647 : (Jvm.Cond.lays "PlyHouse$Part" "PlyHouse$Part" "run" "I") ∈ lw_all := lw_g (lw_at lw_m3 114 rfl) rfl
theorem q648 : (Jvm.Cond.soleField "PlyHouse$Part" "run") ∈ lw_all := lw_g (lw_at lw_m3 115 rfl) rfl
theorem q649 : (Jvm.Cond.superclass "PlyHouse$Part" "java/lang/Object") ∈ lw_all := lw_g (lw_at lw_m3 116 rfl) rfl
theorem in_X2 : ∀ w ∈ wsX20, w ∈ lw_all := lw_in wsX20 [639, 641, 643, 645, 647] (by decide +kernel) (by decide +kernel)
/-! PlyHouse$Wrong -/
set_option maxRecDepth 100000
def RX5 : String := "PlyHouse$Wrong"
def TX5 : u_T := fun k => match k with
  | 0 => ("java/lang/Throwable", "cause", "Ljava/lang/Throwable;", false)
  | 1 => ("java/lang/Throwable", "stackTrace", "[Ljava/lang/StackTraceElement;", false)
  | 2 => ("java/lang/Throwable", "suppressedExceptions", "Ljava/util/List;", false)
  | 3 => ("java/lang/Throwable", "detailMessage", "Ljava/lang/String;", false)
  | 4 => ("java/lang/Throwable", "backtrace", "Ljava/lang/Object;", false)
  | 5 => ("java/lang/Throwable", "depth", "I", false)
  | 6 => ("PlyHouse$Wrong", "kind", "I", true)
  | _ => ("PlyHouse$Wrong", "place", "I", true)
def tyX5 : Nat → FieldType := fun k => match k with
  | 0 => .object "java/lang/Throwable"
  | 1 => .array (.object "java/lang/StackTraceElement")
  | 2 => .object "java/util/List"
  | 3 => .object "java/lang/String"
  | 4 => .object "java/lang/Object"
  | 5 => .int
  | 6 => .int
  | _ => .int
abbrev wsX50 : List Cond := u_ws RX5 TX5 8
theorem nmX5 : ∀ a, a < 8 → ∀ b, b < 8 → a ≠ b → (TX5 a).2.1 ≠ (TX5 b).2.1 := by decide +kernel
theorem tyX5_ok : ∀ k, k < 8 → parseFieldDescriptor (TX5 k).2.2.1 = some (tyX5 k) := by decide +kernel
abbrev cX5_init : ByteArray := prog_14_method_1_code
def yX5_init : MethodName := ⟨RX5, "<init>", "(II)V"⟩
def dkwX5_init_0 : List UInt8 := [42, 183, 0, 1, 42, 27, 181, 0, 7, 42, 28, 181, 0, 13, 177]
abbrev dktX5_init_0 : List UInt8 := dkwX5_init_0 ++ []
theorem dksX5_init_0 : cX5_init.data.toList.drop 0 = dktX5_init_0 := by decide +kernel
theorem dX5_init_0 : decode cX5_init 0 = .ok (.aload_n 0, 1) := dk_42 (dk_at dksX5_init_0 0 rfl rfl)
theorem dX5_init_1 : decode cX5_init 1 = .ok (.invokespecial 1, 3) := dk_183 0 1 (dk_at dksX5_init_0 1 rfl rfl)
theorem dX5_init_4 : decode cX5_init 4 = .ok (.aload_n 0, 1) := dk_42 (dk_at dksX5_init_0 4 rfl rfl)
theorem dX5_init_5 : decode cX5_init 5 = .ok (.iload_n 1, 1) := dk_27 (dk_at dksX5_init_0 5 rfl rfl)
theorem dX5_init_6 : decode cX5_init 6 = .ok (.putfield 7, 3) := dk_181 0 7 (dk_at dksX5_init_0 6 rfl rfl)
theorem dX5_init_9 : decode cX5_init 9 = .ok (.aload_n 0, 1) := dk_42 (dk_at dksX5_init_0 9 rfl rfl)
theorem dX5_init_10 : decode cX5_init 10 = .ok (.iload_n 2, 1) := dk_28 (dk_at dksX5_init_0 10 rfl rfl)
theorem dX5_init_11 : decode cX5_init 11 = .ok (.putfield 13, 3) := dk_181 0 13 (dk_at dksX5_init_0 11 rfl rfl)
theorem dX5_init_14 : decode cX5_init 14 = .ok (.return_, 1) := dk_177 (dk_at dksX5_init_0 14 rfl rfl)
theorem q61 : (Jvm.Cond.initialized "PlyHouse$Wrong") ∈ lw_all := lw_g (lw_at lw_m1 8 rfl) rfl
theorem q203 : (Jvm.Cond.instantiable "PlyHouse$Wrong" (8 : Nat)) ∈ lw_all := lw_g (lw_at lw_m1 150 rfl) rfl
theorem q204 : (Jvm.Cond.castable "PlyHouse$Wrong" "PlyHouse$Wrong") ∈ lw_tbl := lw_at lw_m1 151 rfl
theorem q209 : (Jvm.Cond.selects "PlyHouse$Wrong" ({ cls := "java/lang/Throwable", name := "fillInStackTrace", desc := "(I)Ljava/lang/Throwable;" } : Jvm.MethodName) ({ cls := "java/lang/Throwable", name := "fillInStackTrace", desc := "(I)Ljava/lang/Throwable;" } : Jvm.MethodName)) ∈ lw_all := lw_g (lw_at lw_m1 156 rfl) rfl
theorem q210 : (Jvm.Cond.selects "PlyHouse$Wrong" ({ cls := "java/lang/Throwable", name := "fillInStackTrace", desc := "()Ljava/lang/Throwable;" } : Jvm.MethodName) ({ cls := "java/lang/Throwable", name := "fillInStackTrace", desc := "()Ljava/lang/Throwable;" } : Jvm.MethodName)) ∈ lw_all := lw_g (lw_at lw_m1 157 rfl) rfl
theorem q211 : (Jvm.Cond.lays "PlyHouse$Wrong" "java/lang/Throwable" "cause" "Ljava/lang/Throwable;") ∈ lw_all := lw_g (lw_at lw_m1 158 rfl) rfl
theorem q213 : (Jvm.Cond.lays "PlyHouse$Wrong" "java/lang/Throwable" "stackTrace" "[Ljava/lang/StackTraceElement;") ∈ lw_all := lw_g (lw_at lw_m1 160 rfl) rfl
theorem q215 : (Jvm.Cond.lays "PlyHouse$Wrong" "java/lang/Throwable" "suppressedExceptions" "Ljava/util/List;") ∈ lw_all := lw_g (lw_at lw_m1 162 rfl) rfl
theorem q217 : (Jvm.Cond.lays "PlyHouse$Wrong" "java/lang/Throwable" "detailMessage" "Ljava/lang/String;") ∈ lw_all := lw_g (lw_at lw_m1 164 rfl) rfl
theorem q219 : (Jvm.Cond.lays "PlyHouse$Wrong" "java/lang/Throwable" "backtrace" "Ljava/lang/Object;") ∈ lw_all := lw_g (lw_at lw_m1 166 rfl) rfl
theorem q240 : (Jvm.Cond.instanceMethod ({ cls := "PlyHouse$Wrong", name := "<init>", desc := "(II)V" } : Jvm.MethodName)) ∈ lw_all := lw_g (lw_at lw_m1 187 rfl) rfl
theorem q241 : (Jvm.Cond.code ({ cls := "PlyHouse$Wrong", name := "<init>", desc := "(II)V" } : Jvm.MethodName) prog_14_method_1_code (3 : Nat) (Option.none : Option Jvm.ClassFile.FieldType)) ∈ lw_all := lw_g (lw_at lw_m1 188 rfl) rfl
theorem q242 : (Jvm.Cond.methodLink "PlyHouse$Wrong" (1 : Nat) ({ cls := "java/lang/Exception", name := "<init>", desc := "()V" } : Jvm.MethodName)) ∈ lw_all := lw_g (lw_at lw_m1 189 rfl) rfl
theorem q246 : (Jvm.Cond.fieldLink "PlyHouse$Wrong" (7 : Nat) "PlyHouse$Wrong" "kind" "I") ∈ lw_all := lw_g (lw_at lw_m1 193 rfl) rfl
theorem q248 : (Jvm.Cond.fieldLink "PlyHouse$Wrong" (13 : Nat) "PlyHouse$Wrong" "place" "I") ∈ lw_all := lw_g (lw_at lw_m1 195 rfl) rfl
theorem q254 : (Jvm.Cond.laysFinal "PlyHouse$Wrong" "PlyHouse$Wrong" "kind" "I") ∈ lw_all := lw_g (lw_at lw_m1 201 rfl) rfl
theorem q255 : (Jvm.Cond.soleField "PlyHouse$Wrong" "kind") ∈ lw_all := lw_g (lw_at lw_m1 202 rfl) rfl
theorem q256 : (Jvm.Cond.laysFinal "PlyHouse$Wrong" "PlyHouse$Wrong" "place" "I") ∈ lw_all := lw_g (lw_at lw_m1 203 rfl) rfl
theorem q257 : (Jvm.Cond.soleField "PlyHouse$Wrong" "place") ∈ lw_all := lw_g (lw_at lw_m1 204 rfl) rfl
theorem q262 : (Jvm.Cond.lays "PlyHouse$Wrong" "java/lang/Throwable" "depth" "I") ∈ lw_all := lw_g (lw_at lw_m1 209 rfl) rfl
theorem q265 : (Jvm.Cond.superclass "PlyHouse$Wrong" "java/lang/Exception") ∈ lw_all := lw_g (lw_at lw_m1 212 rfl) rfl
theorem in_X5 : ∀ w ∈ wsX50, w ∈ lw_all := lw_in wsX50 [211, 213, 215, 217, 219, 262, 254, 256] (by decide +kernel) (by decide +kernel)
/-! PlyHouse$Node -/
set_option maxRecDepth 100000
def RX6 : String := "PlyHouse$Node"
abbrev cX6_init : ByteArray := prog_6_method_1_code
def yX6_init : MethodName := ⟨RX6, "<init>", "()V"⟩
theorem dX6_init_0 : decode cX6_init 0 = .ok (.aload_n 0, 1) := by decide +kernel
theorem dX6_init_1 : decode cX6_init 1 = .ok (.invokespecial 1, 3) := by decide +kernel
theorem dX6_init_4 : decode cX6_init 4 = .ok (.return_, 1) := by decide +kernel
abbrev cX6_holds : ByteArray := prog_6_method_2_code
def yX6_holds : MethodName := ⟨RX6, "holds", "(LPlyHouse$Part;)Z"⟩
def dkwX6_holds_0 : List UInt8 := [42, 43, 182, 0, 7, 153, 0, 7, 4, 167, 0, 4, 3, 172]
abbrev dktX6_holds_0 : List UInt8 := dkwX6_holds_0 ++ []
theorem dksX6_holds_0 : cX6_holds.data.toList.drop 0 = dktX6_holds_0 := by decide +kernel
theorem dX6_holds_0 : decode cX6_holds 0 = .ok (.aload_n 0, 1) := dk_42 (dk_at dksX6_holds_0 0 rfl rfl)
theorem dX6_holds_1 : decode cX6_holds 1 = .ok (.aload_n 1, 1) := dk_43 (dk_at dksX6_holds_0 1 rfl rfl)
theorem dX6_holds_2 : decode cX6_holds 2 = .ok (.invokevirtual 7, 3) := dk_182 0 7 (dk_at dksX6_holds_0 2 rfl rfl)
theorem dX6_holds_5 : decode cX6_holds 5 = .ok (.ifCond .eq 7, 3) := dk_153 0 7 (dk_at dksX6_holds_0 5 rfl rfl)
theorem dX6_holds_8 : decode cX6_holds 8 = .ok (.iconst 1, 1) := dk_4 (dk_at dksX6_holds_0 8 rfl rfl)
theorem dX6_holds_9 : decode cX6_holds 9 = .ok (.goto 4, 3) := dk_167 0 4 (dk_at dksX6_holds_0 9 rfl rfl)
theorem dX6_holds_12 : decode cX6_holds 12 = .ok (.iconst 0, 1) := dk_3 (dk_at dksX6_holds_0 12 rfl rfl)
theorem dX6_holds_13 : decode cX6_holds 13 = .ok (.ireturn, 1) := dk_172 (dk_at dksX6_holds_0 13 rfl rfl)
theorem q68 : (Jvm.Cond.initialized "PlyHouse$Node") ∈ lw_all := lw_g (lw_at lw_m1 15 rfl) rfl
theorem q419 : (Jvm.Cond.instanceMethod ({ cls := "PlyHouse$Node", name := "<init>", desc := "()V" } : Jvm.MethodName)) ∈ lw_all := lw_g (lw_at lw_m2 126 rfl) rfl
theorem q420 : (Jvm.Cond.code ({ cls := "PlyHouse$Node", name := "<init>", desc := "()V" } : Jvm.MethodName) prog_6_method_1_code (1 : Nat) (Option.none : Option Jvm.ClassFile.FieldType)) ∈ lw_all := lw_g (lw_at lw_m2 127 rfl) rfl
theorem q421 : (Jvm.Cond.methodLink "PlyHouse$Node" (1 : Nat) ({ cls := "java/lang/Object", name := "<init>", desc := "()V" } : Jvm.MethodName)) ∈ lw_all := lw_g (lw_at lw_m2 128 rfl) rfl
theorem q565 : (Jvm.Cond.instanceMethod ({ cls := "PlyHouse$Node", name := "holds", desc := "(LPlyHouse$Part;)Z" } : Jvm.MethodName)) ∈ lw_all := lw_g (lw_at lw_m3 32 rfl) rfl
theorem q566 : (Jvm.Cond.sameMethod "PlyHouse$Node" "PlyHouse$Node" "holds" "(LPlyHouse$Part;)Z") ∈ lw_all := lw_g (lw_at lw_m3 33 rfl) rfl
theorem q573 : (Jvm.Cond.code ({ cls := "PlyHouse$Node", name := "holds", desc := "(LPlyHouse$Part;)Z" } : Jvm.MethodName) prog_6_method_2_code (2 : Nat) (Option.some Jvm.ClassFile.FieldType.boolean)) ∈ lw_all := lw_g (lw_at lw_m3 40 rfl) rfl
theorem q574 : (Jvm.Cond.superclass "PlyHouse$Node" "java/lang/Object") ∈ lw_all := lw_g (lw_at lw_m3 41 rfl) rfl
/-! PlyHouse$Not -/
set_option maxRecDepth 100000
def RX7 : String := "PlyHouse$Not"
def TX7 : u_T := fun k => match k with
  | _ => ("PlyHouse$Not", "one", "LPlyHouse$Node;", true)
def tyX7 : Nat → FieldType := fun k => match k with
  | _ => .object "PlyHouse$Node"
abbrev wsX70 : List Cond := u_ws RX7 TX7 1
theorem nmX7 : ∀ a, a < 1 → ∀ b, b < 1 → a ≠ b → (TX7 a).2.1 ≠ (TX7 b).2.1 := by decide +kernel
theorem tyX7_ok : ∀ k, k < 1 → parseFieldDescriptor (TX7 k).2.2.1 = some (tyX7 k) := by decide +kernel
abbrev cX7_init : ByteArray := prog_7_method_1_code
def yX7_init : MethodName := ⟨RX7, "<init>", "(LPlyHouse$Node;)V"⟩
def dkwX7_init_0 : List UInt8 := [42, 183, 0, 1, 42, 43, 181, 0, 7, 177]
abbrev dktX7_init_0 : List UInt8 := dkwX7_init_0 ++ []
theorem dksX7_init_0 : cX7_init.data.toList.drop 0 = dktX7_init_0 := by decide +kernel
theorem dX7_init_0 : decode cX7_init 0 = .ok (.aload_n 0, 1) := dk_42 (dk_at dksX7_init_0 0 rfl rfl)
theorem dX7_init_1 : decode cX7_init 1 = .ok (.invokespecial 1, 3) := dk_183 0 1 (dk_at dksX7_init_0 1 rfl rfl)
theorem dX7_init_4 : decode cX7_init 4 = .ok (.aload_n 0, 1) := dk_42 (dk_at dksX7_init_0 4 rfl rfl)
theorem dX7_init_5 : decode cX7_init 5 = .ok (.aload_n 1, 1) := dk_43 (dk_at dksX7_init_0 5 rfl rfl)
theorem dX7_init_6 : decode cX7_init 6 = .ok (.putfield 7, 3) := dk_181 0 7 (dk_at dksX7_init_0 6 rfl rfl)
theorem dX7_init_9 : decode cX7_init 9 = .ok (.return_, 1) := dk_177 (dk_at dksX7_init_0 9 rfl rfl)
abbrev cX7_of : ByteArray := prog_7_method_2_code
def yX7_of : MethodName := ⟨RX7, "of", "(LPlyHouse$Part;)I"⟩
def dkwX7_of_0 : List UInt8 := [42, 180, 0, 7, 43, 182, 0, 13, 153, 0, 7, 3, 167, 0, 4, 4, 172]
abbrev dktX7_of_0 : List UInt8 := dkwX7_of_0 ++ []
theorem dksX7_of_0 : cX7_of.data.toList.drop 0 = dktX7_of_0 := by decide +kernel
theorem dX7_of_0 : decode cX7_of 0 = .ok (.aload_n 0, 1) := dk_42 (dk_at dksX7_of_0 0 rfl rfl)
theorem dX7_of_1 : decode cX7_of 1 = .ok (.getfield 7, 3) := dk_180 0 7 (dk_at dksX7_of_0 1 rfl rfl)
theorem dX7_of_4 : decode cX7_of 4 = .ok (.aload_n 1, 1) := dk_43 (dk_at dksX7_of_0 4 rfl rfl)
theorem dX7_of_5 : decode cX7_of 5 = .ok (.invokevirtual 13, 3) := dk_182 0 13 (dk_at dksX7_of_0 5 rfl rfl)
theorem dX7_of_8 : decode cX7_of 8 = .ok (.ifCond .eq 7, 3) := dk_153 0 7 (dk_at dksX7_of_0 8 rfl rfl)
theorem dX7_of_11 : decode cX7_of 11 = .ok (.iconst 0, 1) := dk_3 (dk_at dksX7_of_0 11 rfl rfl)
theorem dX7_of_12 : decode cX7_of 12 = .ok (.goto 4, 3) := dk_167 0 4 (dk_at dksX7_of_0 12 rfl rfl)
theorem dX7_of_15 : decode cX7_of 15 = .ok (.iconst 1, 1) := dk_4 (dk_at dksX7_of_0 15 rfl rfl)
theorem dX7_of_16 : decode cX7_of 16 = .ok (.ireturn, 1) := dk_172 (dk_at dksX7_of_0 16 rfl rfl)
theorem q69 : (Jvm.Cond.initialized "PlyHouse$Not") ∈ lw_all := lw_g (lw_at lw_m1 16 rfl) rfl
theorem q414 : (Jvm.Cond.instantiable "PlyHouse$Not" (1 : Nat)) ∈ lw_all := lw_g (lw_at lw_m2 121 rfl) rfl
theorem q416 : (Jvm.Cond.instanceMethod ({ cls := "PlyHouse$Not", name := "<init>", desc := "(LPlyHouse$Node;)V" } : Jvm.MethodName)) ∈ lw_all := lw_g (lw_at lw_m2 123 rfl) rfl
theorem q417 : (Jvm.Cond.code ({ cls := "PlyHouse$Not", name := "<init>", desc := "(LPlyHouse$Node;)V" } : Jvm.MethodName) prog_7_method_1_code (2 : Nat) (Option.none : Option Jvm.ClassFile.FieldType)) ∈ lw_all := lw_g (lw_at lw_m2 124 rfl) rfl
theorem q418 : (Jvm.Cond.methodLinkNest "PlyHouse$Not" (1 : Nat) ({ cls := "PlyHouse$Node", name := "<init>", desc := "()V" } : Jvm.MethodName) "PlyHouse") ∈ lw_tbl := lw_at lw_m2 125 rfl
theorem q422 : (Jvm.Cond.fieldLink "PlyHouse$Not" (7 : Nat) "PlyHouse$Not" "one" "LPlyHouse$Node;") ∈ lw_all := lw_g (lw_at lw_m2 129 rfl) rfl
theorem q423 : (Jvm.Cond.laysFinal "PlyHouse$Not" "PlyHouse$Not" "one" "LPlyHouse$Node;") ∈ lw_all := lw_g (lw_at lw_m2 130 rfl) rfl
theorem q424 : (Jvm.Cond.soleField "PlyHouse$Not" "one") ∈ lw_all := lw_g (lw_at lw_m2 131 rfl) rfl
theorem q425 : (Jvm.Cond.superclass "PlyHouse$Not" "PlyHouse$Node") ∈ lw_all := lw_g (lw_at lw_m2 132 rfl) rfl
theorem q570 : (Jvm.Cond.selects "PlyHouse$Not" ({ cls := "PlyHouse$Node", name := "holds", desc := "(LPlyHouse$Part;)Z" } : Jvm.MethodName) ({ cls := "PlyHouse$Node", name := "holds", desc := "(LPlyHouse$Part;)Z" } : Jvm.MethodName)) ∈ lw_all := lw_g (lw_at lw_m3 37 rfl) rfl
theorem q586 : (Jvm.Cond.selects "PlyHouse$Not" ({ cls := "PlyHouse$Values", name := "of", desc := "(LPlyHouse$Part;)I" } : Jvm.MethodName) ({ cls := "PlyHouse$Not", name := "of", desc := "(LPlyHouse$Part;)I" } : Jvm.MethodName)) ∈ lw_all := lw_g (lw_at lw_m3 53 rfl) rfl
theorem q587 : (Jvm.Cond.instanceMethod ({ cls := "PlyHouse$Not", name := "of", desc := "(LPlyHouse$Part;)I" } : Jvm.MethodName)) ∈ lw_all := lw_g (lw_at lw_m3 54 rfl) rfl
theorem q588 : (Jvm.Cond.code ({ cls := "PlyHouse$Not", name := "of", desc := "(LPlyHouse$Part;)I" } : Jvm.MethodName) prog_7_method_2_code (2 : Nat) (Option.some Jvm.ClassFile.FieldType.int)) ∈ lw_all := lw_g (lw_at lw_m3 55 rfl) rfl
theorem q589 : (Jvm.Cond.methodLink "PlyHouse$Not" (13 : Nat) ({ cls := "PlyHouse$Node", name := "holds", desc := "(LPlyHouse$Part;)Z" } : Jvm.MethodName)) ∈ lw_all := lw_g (lw_at lw_m3 56 rfl) rfl
theorem q1278 : (Jvm.Cond.castable "PlyHouse$Not" "PlyHouse$Node") ∈ lw_tbl := lw_at lw_m6 25 rfl
theorem in_X7 : ∀ w ∈ wsX70, w ∈ lw_all := lw_in wsX70 [423] (by decide +kernel) (by decide +kernel)
/-! PlyHouse$Number -/
set_option maxRecDepth 100000
def RX8 : String := "PlyHouse$Number"
def TX8 : u_T := fun k => match k with
  | _ => ("PlyHouse$Number", "value", "I", true)
def tyX8 : Nat → FieldType := fun k => match k with
  | _ => .int
abbrev wsX80 : List Cond := u_ws RX8 TX8 1
theorem nmX8 : ∀ a, a < 1 → ∀ b, b < 1 → a ≠ b → (TX8 a).2.1 ≠ (TX8 b).2.1 := by decide +kernel
theorem tyX8_ok : ∀ k, k < 1 → parseFieldDescriptor (TX8 k).2.2.1 = some (tyX8 k) := by decide +kernel
abbrev cX8_init : ByteArray := prog_8_method_1_code
def yX8_init : MethodName := ⟨RX8, "<init>", "(I)V"⟩
def dkwX8_init_0 : List UInt8 := [42, 183, 0, 1, 42, 27, 181, 0, 7, 177]
abbrev dktX8_init_0 : List UInt8 := dkwX8_init_0 ++ []
theorem dksX8_init_0 : cX8_init.data.toList.drop 0 = dktX8_init_0 := by decide +kernel
theorem dX8_init_0 : decode cX8_init 0 = .ok (.aload_n 0, 1) := dk_42 (dk_at dksX8_init_0 0 rfl rfl)
theorem dX8_init_1 : decode cX8_init 1 = .ok (.invokespecial 1, 3) := dk_183 0 1 (dk_at dksX8_init_0 1 rfl rfl)
theorem dX8_init_4 : decode cX8_init 4 = .ok (.aload_n 0, 1) := dk_42 (dk_at dksX8_init_0 4 rfl rfl)
theorem dX8_init_5 : decode cX8_init 5 = .ok (.iload_n 1, 1) := dk_27 (dk_at dksX8_init_0 5 rfl rfl)
theorem dX8_init_6 : decode cX8_init 6 = .ok (.putfield 7, 3) := dk_181 0 7 (dk_at dksX8_init_0 6 rfl rfl)
theorem dX8_init_9 : decode cX8_init 9 = .ok (.return_, 1) := dk_177 (dk_at dksX8_init_0 9 rfl rfl)
abbrev cX8_of : ByteArray := prog_8_method_2_code
def yX8_of : MethodName := ⟨RX8, "of", "(LPlyHouse$Part;)I"⟩
theorem dX8_of_0 : decode cX8_of 0 = .ok (.aload_n 0, 1) := by decide +kernel
theorem dX8_of_1 : decode cX8_of 1 = .ok (.getfield 7, 3) := by decide +kernel
theorem dX8_of_4 : decode cX8_of 4 = .ok (.ireturn, 1) := by decide +kernel
theorem q70 : (Jvm.Cond.initialized "PlyHouse$Number") ∈ lw_all := lw_g (lw_at lw_m1 17 rfl) rfl
theorem q453 : (Jvm.Cond.instantiable "PlyHouse$Number" (1 : Nat)) ∈ lw_all := lw_g (lw_at lw_m2 160 rfl) rfl
theorem q455 : (Jvm.Cond.instanceMethod ({ cls := "PlyHouse$Number", name := "<init>", desc := "(I)V" } : Jvm.MethodName)) ∈ lw_all := lw_g (lw_at lw_m2 162 rfl) rfl
theorem q456 : (Jvm.Cond.code ({ cls := "PlyHouse$Number", name := "<init>", desc := "(I)V" } : Jvm.MethodName) prog_8_method_1_code (2 : Nat) (Option.none : Option Jvm.ClassFile.FieldType)) ∈ lw_all := lw_g (lw_at lw_m2 163 rfl) rfl
theorem q457 : (Jvm.Cond.methodLinkNest "PlyHouse$Number" (1 : Nat) ({ cls := "PlyHouse$Node", name := "<init>", desc := "()V" } : Jvm.MethodName) "PlyHouse") ∈ lw_tbl := lw_at lw_m2 164 rfl
theorem q458 : (Jvm.Cond.fieldLink "PlyHouse$Number" (7 : Nat) "PlyHouse$Number" "value" "I") ∈ lw_all := lw_g (lw_at lw_m2 165 rfl) rfl
theorem q459 : (Jvm.Cond.laysFinal "PlyHouse$Number" "PlyHouse$Number" "value" "I") ∈ lw_all := lw_g (lw_at lw_m2 166 rfl) rfl
theorem q460 : (Jvm.Cond.soleField "PlyHouse$Number" "value") ∈ lw_all := lw_g (lw_at lw_m2 167 rfl) rfl
theorem q461 : (Jvm.Cond.superclass "PlyHouse$Number" "PlyHouse$Node") ∈ lw_all := lw_g (lw_at lw_m2 168 rfl) rfl
theorem q571 : (Jvm.Cond.selects "PlyHouse$Number" ({ cls := "PlyHouse$Node", name := "holds", desc := "(LPlyHouse$Part;)Z" } : Jvm.MethodName) ({ cls := "PlyHouse$Node", name := "holds", desc := "(LPlyHouse$Part;)Z" } : Jvm.MethodName)) ∈ lw_all := lw_g (lw_at lw_m3 38 rfl) rfl
theorem q590 : (Jvm.Cond.selects "PlyHouse$Number" ({ cls := "PlyHouse$Values", name := "of", desc := "(LPlyHouse$Part;)I" } : Jvm.MethodName) ({ cls := "PlyHouse$Number", name := "of", desc := "(LPlyHouse$Part;)I" } : Jvm.MethodName)) ∈ lw_all := lw_g (lw_at lw_m3 57 rfl) rfl
theorem q591 : (Jvm.Cond.instanceMethod ({ cls := "PlyHouse$Number", name := "of", desc := "(LPlyHouse$Part;)I" } : Jvm.MethodName)) ∈ lw_all := lw_g (lw_at lw_m3 58 rfl) rfl
theorem q592 : (Jvm.Cond.code ({ cls := "PlyHouse$Number", name := "of", desc := "(LPlyHouse$Part;)I" } : Jvm.MethodName) prog_8_method_2_code (2 : Nat) (Option.some Jvm.ClassFile.FieldType.int)) ∈ lw_all := lw_g (lw_at lw_m3 59 rfl) rfl
theorem q1279 : (Jvm.Cond.castable "PlyHouse$Number" "PlyHouse$Node") ∈ lw_tbl := lw_at lw_m6 26 rfl
theorem in_X8 : ∀ w ∈ wsX80, w ∈ lw_all := lw_in wsX80 [459] (by decide +kernel) (by decide +kernel)
/-! PlyHouse$Count -/
set_option maxRecDepth 100000
def RX9 : String := "PlyHouse$Count"
def TX9 : u_T := fun k => match k with
  | _ => ("PlyHouse$Count", "what", "I", true)
def tyX9 : Nat → FieldType := fun k => match k with
  | _ => .int
abbrev wsX90 : List Cond := u_ws RX9 TX9 1
theorem nmX9 : ∀ a, a < 1 → ∀ b, b < 1 → a ≠ b → (TX9 a).2.1 ≠ (TX9 b).2.1 := by decide +kernel
theorem tyX9_ok : ∀ k, k < 1 → parseFieldDescriptor (TX9 k).2.2.1 = some (tyX9 k) := by decide +kernel
abbrev cX9_init : ByteArray := prog_3_method_1_code
def yX9_init : MethodName := ⟨RX9, "<init>", "(I)V"⟩
def dkwX9_init_0 : List UInt8 := [42, 183, 0, 1, 42, 27, 181, 0, 7, 177]
abbrev dktX9_init_0 : List UInt8 := dkwX9_init_0 ++ []
theorem dksX9_init_0 : cX9_init.data.toList.drop 0 = dktX9_init_0 := by decide +kernel
theorem dX9_init_0 : decode cX9_init 0 = .ok (.aload_n 0, 1) := dk_42 (dk_at dksX9_init_0 0 rfl rfl)
theorem dX9_init_1 : decode cX9_init 1 = .ok (.invokespecial 1, 3) := dk_183 0 1 (dk_at dksX9_init_0 1 rfl rfl)
theorem dX9_init_4 : decode cX9_init 4 = .ok (.aload_n 0, 1) := dk_42 (dk_at dksX9_init_0 4 rfl rfl)
theorem dX9_init_5 : decode cX9_init 5 = .ok (.iload_n 1, 1) := dk_27 (dk_at dksX9_init_0 5 rfl rfl)
theorem dX9_init_6 : decode cX9_init 6 = .ok (.putfield 7, 3) := dk_181 0 7 (dk_at dksX9_init_0 6 rfl rfl)
theorem dX9_init_9 : decode cX9_init 9 = .ok (.return_, 1) := dk_177 (dk_at dksX9_init_0 9 rfl rfl)
abbrev cX9_of : ByteArray := prog_3_method_2_code
def yX9_of : MethodName := ⟨RX9, "of", "(LPlyHouse$Part;)I"⟩
def dkwX9_of_3 : List UInt8 := [172]
abbrev dktX9_of_3 : List UInt8 := dkwX9_of_3 ++ []
def dkwX9_of_2 : List UInt8 := [43, 180, 0, 13, 172, 43, 180, 0, 18, 172, 43, 180, 0, 21, 172, 43, 180, 0, 24, 172, 43, 180, 0, 27]
abbrev dktX9_of_2 : List UInt8 := dkwX9_of_2 ++ dktX9_of_3
def dkwX9_of_1 : List UInt8 := [170, 0, 0, 0, 0, 0, 0, 52, 0, 0, 0, 0, 0, 0, 0, 3, 0, 0, 0, 32, 0, 0, 0, 37, 0, 0, 0, 42, 0, 0, 0, 47]
abbrev dktX9_of_1 : List UInt8 := dkwX9_of_1 ++ dktX9_of_2
def dkwX9_of_0 : List UInt8 := [42, 180, 0, 7]
abbrev dktX9_of_0 : List UInt8 := dkwX9_of_0 ++ dktX9_of_1
theorem dksX9_of_0 : cX9_of.data.toList.drop 0 = dktX9_of_0 := by decide +kernel
theorem dksX9_of_1 : cX9_of.data.toList.drop 4 = dktX9_of_1 := dk_seg dksX9_of_0 4 rfl rfl
theorem dksX9_of_2 : cX9_of.data.toList.drop 36 = dktX9_of_2 := dk_seg dksX9_of_1 32 rfl rfl
theorem dksX9_of_3 : cX9_of.data.toList.drop 60 = dktX9_of_3 := dk_seg dksX9_of_2 24 rfl rfl
theorem dX9_of_0 : decode cX9_of 0 = .ok (.aload_n 0, 1) := dk_42 (dk_at dksX9_of_0 0 rfl rfl)
theorem dX9_of_1 : decode cX9_of 1 = .ok (.getfield 7, 3) := dk_180 0 7 (dk_at dksX9_of_0 1 rfl rfl)
theorem dX9_of_4 : decode cX9_of 4 = .ok (.tableswitch 52 0 3 #[32, 37, 42, 47], 32) := by decide +kernel
theorem dX9_of_36 : decode cX9_of 36 = .ok (.aload_n 1, 1) := dk_43 (dk_at dksX9_of_2 0 rfl rfl)
theorem dX9_of_37 : decode cX9_of 37 = .ok (.getfield 13, 3) := dk_180 0 13 (dk_at dksX9_of_2 1 rfl rfl)
theorem dX9_of_40 : decode cX9_of 40 = .ok (.ireturn, 1) := dk_172 (dk_at dksX9_of_2 4 rfl rfl)
theorem dX9_of_41 : decode cX9_of 41 = .ok (.aload_n 1, 1) := dk_43 (dk_at dksX9_of_2 5 rfl rfl)
theorem dX9_of_42 : decode cX9_of 42 = .ok (.getfield 18, 3) := dk_180 0 18 (dk_at dksX9_of_2 6 rfl rfl)
theorem dX9_of_45 : decode cX9_of 45 = .ok (.ireturn, 1) := dk_172 (dk_at dksX9_of_2 9 rfl rfl)
theorem dX9_of_46 : decode cX9_of 46 = .ok (.aload_n 1, 1) := dk_43 (dk_at dksX9_of_2 10 rfl rfl)
theorem dX9_of_47 : decode cX9_of 47 = .ok (.getfield 21, 3) := dk_180 0 21 (dk_at dksX9_of_2 11 rfl rfl)
theorem dX9_of_50 : decode cX9_of 50 = .ok (.ireturn, 1) := dk_172 (dk_at dksX9_of_2 14 rfl rfl)
theorem dX9_of_51 : decode cX9_of 51 = .ok (.aload_n 1, 1) := dk_43 (dk_at dksX9_of_2 15 rfl rfl)
theorem dX9_of_52 : decode cX9_of 52 = .ok (.getfield 24, 3) := dk_180 0 24 (dk_at dksX9_of_2 16 rfl rfl)
theorem dX9_of_55 : decode cX9_of 55 = .ok (.ireturn, 1) := dk_172 (dk_at dksX9_of_2 19 rfl rfl)
theorem dX9_of_56 : decode cX9_of 56 = .ok (.aload_n 1, 1) := dk_43 (dk_at dksX9_of_2 20 rfl rfl)
theorem dX9_of_57 : decode cX9_of 57 = .ok (.getfield 27, 3) := dk_180 0 27 (dk_at dksX9_of_2 21 rfl rfl)
theorem dX9_of_60 : decode cX9_of 60 = .ok (.ireturn, 1) := dk_172 (dk_at dksX9_of_3 0 rfl rfl)
theorem q71 : (Jvm.Cond.initialized "PlyHouse$Count") ∈ lw_all := lw_g (lw_at lw_m1 18 rfl) rfl
theorem q463 : (Jvm.Cond.instantiable "PlyHouse$Count" (1 : Nat)) ∈ lw_all := lw_g (lw_at lw_m2 170 rfl) rfl
theorem q465 : (Jvm.Cond.instanceMethod ({ cls := "PlyHouse$Count", name := "<init>", desc := "(I)V" } : Jvm.MethodName)) ∈ lw_all := lw_g (lw_at lw_m2 172 rfl) rfl
theorem q466 : (Jvm.Cond.code ({ cls := "PlyHouse$Count", name := "<init>", desc := "(I)V" } : Jvm.MethodName) prog_3_method_1_code (2 : Nat) (Option.none : Option Jvm.ClassFile.FieldType)) ∈ lw_all := lw_g (lw_at lw_m2 173 rfl) rfl
theorem q467 : (Jvm.Cond.methodLinkNest "PlyHouse$Count" (1 : Nat) ({ cls := "PlyHouse$Node", name := "<init>", desc := "()V" } : Jvm.MethodName) "PlyHouse") ∈ lw_tbl := lw_at lw_m2 174 rfl
theorem q468 : (Jvm.Cond.fieldLink "PlyHouse$Count" (7 : Nat) "PlyHouse$Count" "what" "I") ∈ lw_all := lw_g (lw_at lw_m2 175 rfl) rfl
theorem q469 : (Jvm.Cond.laysFinal "PlyHouse$Count" "PlyHouse$Count" "what" "I") ∈ lw_all := lw_g (lw_at lw_m2 176 rfl) rfl
theorem q470 : (Jvm.Cond.soleField "PlyHouse$Count" "what") ∈ lw_all := lw_g (lw_at lw_m2 177 rfl) rfl
theorem q471 : (Jvm.Cond.superclass "PlyHouse$Count" "PlyHouse$Node") ∈ lw_all := lw_g (lw_at lw_m2 178 rfl) rfl
theorem q568 : (Jvm.Cond.selects "PlyHouse$Count" ({ cls := "PlyHouse$Node", name := "holds", desc := "(LPlyHouse$Part;)Z" } : Jvm.MethodName) ({ cls := "PlyHouse$Node", name := "holds", desc := "(LPlyHouse$Part;)Z" } : Jvm.MethodName)) ∈ lw_all := lw_g (lw_at lw_m3 35 rfl) rfl
theorem q579 : (Jvm.Cond.selects "PlyHouse$Count" ({ cls := "PlyHouse$Values", name := "of", desc := "(LPlyHouse$Part;)I" } : Jvm.MethodName) ({ cls := "PlyHouse$Count", name := "of", desc := "(LPlyHouse$Part;)I" } : Jvm.MethodName)) ∈ lw_all := lw_g (lw_at lw_m3 46 rfl) rfl
theorem q580 : (Jvm.Cond.instanceMethod ({ cls := "PlyHouse$Count", name := "of", desc := "(LPlyHouse$Part;)I" } : Jvm.MethodName)) ∈ lw_all := lw_g (lw_at lw_m3 47 rfl) rfl
theorem q581 : (Jvm.Cond.code ({ cls := "PlyHouse$Count", name := "of", desc := "(LPlyHouse$Part;)I" } : Jvm.MethodName) prog_3_method_2_code (2 : Nat) (Option.some Jvm.ClassFile.FieldType.int)) ∈ lw_all := lw_g (lw_at lw_m3 48 rfl) rfl
theorem q629 : (Jvm.Cond.fieldLinkNest "PlyHouse$Count" (13 : Nat) "PlyHouse$Part" "knots" "I" "PlyHouse") ∈ lw_tbl := lw_at lw_m3 96 rfl
theorem q631 : (Jvm.Cond.fieldLinkNest "PlyHouse$Count" (18 : Nat) "PlyHouse$Part" "splits" "I" "PlyHouse") ∈ lw_tbl := lw_at lw_m3 98 rfl
theorem q633 : (Jvm.Cond.fieldLinkNest "PlyHouse$Count" (21 : Nat) "PlyHouse$Part" "holes" "I" "PlyHouse") ∈ lw_tbl := lw_at lw_m3 100 rfl
theorem q635 : (Jvm.Cond.fieldLinkNest "PlyHouse$Count" (24 : Nat) "PlyHouse$Part" "plugs" "I" "PlyHouse") ∈ lw_tbl := lw_at lw_m3 102 rfl
theorem q637 : (Jvm.Cond.fieldLinkNest "PlyHouse$Count" (27 : Nat) "PlyHouse$Part" "run" "I" "PlyHouse") ∈ lw_tbl := lw_at lw_m3 104 rfl
theorem q1280 : (Jvm.Cond.castable "PlyHouse$Count" "PlyHouse$Node") ∈ lw_tbl := lw_at lw_m6 27 rfl
theorem in_X9 : ∀ w ∈ wsX90, w ∈ lw_all := lw_in wsX90 [469] (by decide +kernel) (by decide +kernel)
/-! PlyHouse$Two -/
set_option maxRecDepth 100000
def RX10 : String := "PlyHouse$Two"
abbrev cX10_init : ByteArray := prog_12_method_1_code
def yX10_init : MethodName := ⟨RX10, "<init>", "(LPlyHouse$Node;LPlyHouse$Node;)V"⟩
def dkwX10_init_0 : List UInt8 := [42, 183, 0, 1, 42, 43, 181, 0, 7, 42, 44, 181, 0, 13, 177]
abbrev dktX10_init_0 : List UInt8 := dkwX10_init_0 ++ []
theorem dksX10_init_0 : cX10_init.data.toList.drop 0 = dktX10_init_0 := by decide +kernel
theorem dX10_init_0 : decode cX10_init 0 = .ok (.aload_n 0, 1) := dk_42 (dk_at dksX10_init_0 0 rfl rfl)
theorem dX10_init_1 : decode cX10_init 1 = .ok (.invokespecial 1, 3) := dk_183 0 1 (dk_at dksX10_init_0 1 rfl rfl)
theorem dX10_init_4 : decode cX10_init 4 = .ok (.aload_n 0, 1) := dk_42 (dk_at dksX10_init_0 4 rfl rfl)
theorem dX10_init_5 : decode cX10_init 5 = .ok (.aload_n 1, 1) := dk_43 (dk_at dksX10_init_0 5 rfl rfl)
theorem dX10_init_6 : decode cX10_init 6 = .ok (.putfield 7, 3) := dk_181 0 7 (dk_at dksX10_init_0 6 rfl rfl)
theorem dX10_init_9 : decode cX10_init 9 = .ok (.aload_n 0, 1) := dk_42 (dk_at dksX10_init_0 9 rfl rfl)
theorem dX10_init_10 : decode cX10_init 10 = .ok (.aload_n 2, 1) := dk_44 (dk_at dksX10_init_0 10 rfl rfl)
theorem dX10_init_11 : decode cX10_init 11 = .ok (.putfield 13, 3) := dk_181 0 13 (dk_at dksX10_init_0 11 rfl rfl)
theorem dX10_init_14 : decode cX10_init 14 = .ok (.return_, 1) := dk_177 (dk_at dksX10_init_0 14 rfl rfl)
theorem q72 : (Jvm.Cond.initialized "PlyHouse$Two") ∈ lw_all := lw_g (lw_at lw_m1 19 rfl) rfl
theorem q478 : (Jvm.Cond.instanceMethod ({ cls := "PlyHouse$Two", name := "<init>", desc := "(LPlyHouse$Node;LPlyHouse$Node;)V" } : Jvm.MethodName)) ∈ lw_all := lw_g (lw_at lw_m2 185 rfl) rfl
theorem q479 : (Jvm.Cond.code ({ cls := "PlyHouse$Two", name := "<init>", desc := "(LPlyHouse$Node;LPlyHouse$Node;)V" } : Jvm.MethodName) prog_12_method_1_code (3 : Nat) (Option.none : Option Jvm.ClassFile.FieldType)) ∈ lw_all := lw_g (lw_at lw_m2 186 rfl) rfl
theorem q480 : (Jvm.Cond.methodLinkNest "PlyHouse$Two" (1 : Nat) ({ cls := "PlyHouse$Node", name := "<init>", desc := "()V" } : Jvm.MethodName) "PlyHouse") ∈ lw_tbl := lw_at lw_m2 187 rfl
theorem q482 : (Jvm.Cond.fieldLink "PlyHouse$Two" (7 : Nat) "PlyHouse$Two" "one" "LPlyHouse$Node;") ∈ lw_all := lw_g (lw_at lw_m2 189 rfl) rfl
theorem q489 : (Jvm.Cond.fieldLink "PlyHouse$Two" (13 : Nat) "PlyHouse$Two" "two" "LPlyHouse$Node;") ∈ lw_all := lw_g (lw_at lw_m2 196 rfl) rfl
theorem q499 : (Jvm.Cond.soleField "PlyHouse$Two" "one") ∈ lw_all := lw_g (lw_at lw_m2 206 rfl) rfl
theorem q501 : (Jvm.Cond.soleField "PlyHouse$Two" "two") ∈ lw_all := lw_g (lw_at lw_m2 208 rfl) rfl
/-! PlyHouse$Sum -/
set_option maxRecDepth 100000
def RX11 : String := "PlyHouse$Sum"
def TX11 : u_T := fun k => match k with
  | 0 => ("PlyHouse$Two", "one", "LPlyHouse$Node;", true)
  | 1 => ("PlyHouse$Two", "two", "LPlyHouse$Node;", true)
  | _ => ("PlyHouse$Sum", "way", "I", true)
def tyX11 : Nat → FieldType := fun k => match k with
  | 0 => .object "PlyHouse$Node"
  | 1 => .object "PlyHouse$Node"
  | _ => .int
abbrev wsX110 : List Cond := u_ws RX11 TX11 3
theorem nmX11 : ∀ a, a < 3 → ∀ b, b < 3 → a ≠ b → (TX11 a).2.1 ≠ (TX11 b).2.1 := by decide +kernel
theorem tyX11_ok : ∀ k, k < 3 → parseFieldDescriptor (TX11 k).2.2.1 = some (tyX11 k) := by decide +kernel
abbrev cX11_init : ByteArray := prog_11_method_1_code
def yX11_init : MethodName := ⟨RX11, "<init>", "(ILPlyHouse$Node;LPlyHouse$Node;)V"⟩
def dkwX11_init_0 : List UInt8 := [42, 44, 45, 183, 0, 1, 42, 27, 181, 0, 7, 177]
abbrev dktX11_init_0 : List UInt8 := dkwX11_init_0 ++ []
theorem dksX11_init_0 : cX11_init.data.toList.drop 0 = dktX11_init_0 := by decide +kernel
theorem dX11_init_0 : decode cX11_init 0 = .ok (.aload_n 0, 1) := dk_42 (dk_at dksX11_init_0 0 rfl rfl)
theorem dX11_init_1 : decode cX11_init 1 = .ok (.aload_n 2, 1) := dk_44 (dk_at dksX11_init_0 1 rfl rfl)
theorem dX11_init_2 : decode cX11_init 2 = .ok (.aload_n 3, 1) := dk_45 (dk_at dksX11_init_0 2 rfl rfl)
theorem dX11_init_3 : decode cX11_init 3 = .ok (.invokespecial 1, 3) := dk_183 0 1 (dk_at dksX11_init_0 3 rfl rfl)
theorem dX11_init_6 : decode cX11_init 6 = .ok (.aload_n 0, 1) := dk_42 (dk_at dksX11_init_0 6 rfl rfl)
theorem dX11_init_7 : decode cX11_init 7 = .ok (.iload_n 1, 1) := dk_27 (dk_at dksX11_init_0 7 rfl rfl)
theorem dX11_init_8 : decode cX11_init 8 = .ok (.putfield 7, 3) := dk_181 0 7 (dk_at dksX11_init_0 8 rfl rfl)
theorem dX11_init_11 : decode cX11_init 11 = .ok (.return_, 1) := dk_177 (dk_at dksX11_init_0 11 rfl rfl)
abbrev cX11_of : ByteArray := prog_11_method_2_code
def yX11_of : MethodName := ⟨RX11, "of", "(LPlyHouse$Part;)I"⟩
def dkwX11_of_0 : List UInt8 := [42, 180, 0, 13, 43, 182, 0, 17, 42, 180, 0, 7, 42, 180, 0, 23, 43, 182, 0, 17, 104, 96, 172]
abbrev dktX11_of_0 : List UInt8 := dkwX11_of_0 ++ []
theorem dksX11_of_0 : cX11_of.data.toList.drop 0 = dktX11_of_0 := by decide +kernel
theorem dX11_of_0 : decode cX11_of 0 = .ok (.aload_n 0, 1) := dk_42 (dk_at dksX11_of_0 0 rfl rfl)
theorem dX11_of_1 : decode cX11_of 1 = .ok (.getfield 13, 3) := dk_180 0 13 (dk_at dksX11_of_0 1 rfl rfl)
theorem dX11_of_4 : decode cX11_of 4 = .ok (.aload_n 1, 1) := dk_43 (dk_at dksX11_of_0 4 rfl rfl)
theorem dX11_of_5 : decode cX11_of 5 = .ok (.invokevirtual 17, 3) := dk_182 0 17 (dk_at dksX11_of_0 5 rfl rfl)
theorem dX11_of_8 : decode cX11_of 8 = .ok (.aload_n 0, 1) := dk_42 (dk_at dksX11_of_0 8 rfl rfl)
theorem dX11_of_9 : decode cX11_of 9 = .ok (.getfield 7, 3) := dk_180 0 7 (dk_at dksX11_of_0 9 rfl rfl)
theorem dX11_of_12 : decode cX11_of 12 = .ok (.aload_n 0, 1) := dk_42 (dk_at dksX11_of_0 12 rfl rfl)
theorem dX11_of_13 : decode cX11_of 13 = .ok (.getfield 23, 3) := dk_180 0 23 (dk_at dksX11_of_0 13 rfl rfl)
theorem dX11_of_16 : decode cX11_of 16 = .ok (.aload_n 1, 1) := dk_43 (dk_at dksX11_of_0 16 rfl rfl)
theorem dX11_of_17 : decode cX11_of 17 = .ok (.invokevirtual 17, 3) := dk_182 0 17 (dk_at dksX11_of_0 17 rfl rfl)
theorem dX11_of_20 : decode cX11_of 20 = .ok (.imul, 1) := dk_104 (dk_at dksX11_of_0 20 rfl rfl)
theorem dX11_of_21 : decode cX11_of 21 = .ok (.iadd, 1) := dk_96 (dk_at dksX11_of_0 21 rfl rfl)
theorem dX11_of_22 : decode cX11_of 22 = .ok (.ireturn, 1) := dk_172 (dk_at dksX11_of_0 22 rfl rfl)
theorem q73 : (Jvm.Cond.initialized "PlyHouse$Sum") ∈ lw_all := lw_g (lw_at lw_m1 20 rfl) rfl
theorem q473 : (Jvm.Cond.instantiable "PlyHouse$Sum" (3 : Nat)) ∈ lw_all := lw_g (lw_at lw_m2 180 rfl) rfl
theorem q475 : (Jvm.Cond.instanceMethod ({ cls := "PlyHouse$Sum", name := "<init>", desc := "(ILPlyHouse$Node;LPlyHouse$Node;)V" } : Jvm.MethodName)) ∈ lw_all := lw_g (lw_at lw_m2 182 rfl) rfl
theorem q476 : (Jvm.Cond.code ({ cls := "PlyHouse$Sum", name := "<init>", desc := "(ILPlyHouse$Node;LPlyHouse$Node;)V" } : Jvm.MethodName) prog_11_method_1_code (4 : Nat) (Option.none : Option Jvm.ClassFile.FieldType)) ∈ lw_all := lw_g (lw_at lw_m2 183 rfl) rfl
theorem q477 : (Jvm.Cond.methodLink "PlyHouse$Sum" (1 : Nat) ({ cls := "PlyHouse$Two", name := "<init>", desc := "(LPlyHouse$Node;LPlyHouse$Node;)V" } : Jvm.MethodName)) ∈ lw_all := lw_g (lw_at lw_m2 184 rfl) rfl
theorem q481 : (Jvm.Cond.fieldLink "PlyHouse$Sum" (7 : Nat) "PlyHouse$Sum" "way" "I") ∈ lw_all := lw_g (lw_at lw_m2 188 rfl) rfl
theorem q485 : (Jvm.Cond.fieldLink "PlyHouse$Sum" (13 : Nat) "PlyHouse$Sum" "one" "LPlyHouse$Node;") ∈ lw_all := lw_g (lw_at lw_m2 192 rfl) rfl
theorem q486 : (Jvm.Cond.sameField "PlyHouse$Sum" "PlyHouse$Two" "one" "LPlyHouse$Node;") ∈ lw_all := lw_g (lw_at lw_m2 193 rfl) rfl
theorem q492 : (Jvm.Cond.fieldLink "PlyHouse$Sum" (23 : Nat) "PlyHouse$Sum" "two" "LPlyHouse$Node;") ∈ lw_all := lw_g (lw_at lw_m2 199 rfl) rfl
theorem q493 : (Jvm.Cond.sameField "PlyHouse$Sum" "PlyHouse$Two" "two" "LPlyHouse$Node;") ∈ lw_all := lw_g (lw_at lw_m2 200 rfl) rfl
theorem q496 : (Jvm.Cond.laysFinal "PlyHouse$Sum" "PlyHouse$Sum" "way" "I") ∈ lw_all := lw_g (lw_at lw_m2 203 rfl) rfl
theorem q497 : (Jvm.Cond.soleField "PlyHouse$Sum" "way") ∈ lw_all := lw_g (lw_at lw_m2 204 rfl) rfl
theorem q498 : (Jvm.Cond.laysFinal "PlyHouse$Sum" "PlyHouse$Two" "one" "LPlyHouse$Node;") ∈ lw_all := lw_g (lw_at lw_m2 205 rfl) rfl
theorem q500 : (Jvm.Cond.laysFinal "PlyHouse$Sum" "PlyHouse$Two" "two" "LPlyHouse$Node;") ∈ lw_all := lw_g (lw_at lw_m2 207 rfl) rfl
theorem q502 : (Jvm.Cond.superclass "PlyHouse$Sum" "PlyHouse$Two") ∈ lw_all := lw_g (lw_at lw_m2 209 rfl) rfl
theorem q572 : (Jvm.Cond.selects "PlyHouse$Sum" ({ cls := "PlyHouse$Node", name := "holds", desc := "(LPlyHouse$Part;)Z" } : Jvm.MethodName) ({ cls := "PlyHouse$Node", name := "holds", desc := "(LPlyHouse$Part;)Z" } : Jvm.MethodName)) ∈ lw_all := lw_g (lw_at lw_m3 39 rfl) rfl
theorem q593 : (Jvm.Cond.selects "PlyHouse$Sum" ({ cls := "PlyHouse$Values", name := "of", desc := "(LPlyHouse$Part;)I" } : Jvm.MethodName) ({ cls := "PlyHouse$Sum", name := "of", desc := "(LPlyHouse$Part;)I" } : Jvm.MethodName)) ∈ lw_all := lw_g (lw_at lw_m3 60 rfl) rfl
theorem q594 : (Jvm.Cond.instanceMethod ({ cls := "PlyHouse$Sum", name := "of", desc := "(LPlyHouse$Part;)I" } : Jvm.MethodName)) ∈ lw_all := lw_g (lw_at lw_m3 61 rfl) rfl
theorem q595 : (Jvm.Cond.code ({ cls := "PlyHouse$Sum", name := "of", desc := "(LPlyHouse$Part;)I" } : Jvm.MethodName) prog_11_method_2_code (2 : Nat) (Option.some Jvm.ClassFile.FieldType.int)) ∈ lw_all := lw_g (lw_at lw_m3 62 rfl) rfl
theorem q1281 : (Jvm.Cond.castable "PlyHouse$Sum" "PlyHouse$Node") ∈ lw_tbl := lw_at lw_m6 28 rfl
theorem in_X11 : ∀ w ∈ wsX110, w ∈ lw_all := lw_in wsX110 [498, 500, 496] (by decide +kernel) (by decide +kernel)
/-! PlyHouse$Compared -/
set_option maxRecDepth 100000
def RX12 : String := "PlyHouse$Compared"
def TX12 : u_T := fun k => match k with
  | 0 => ("PlyHouse$Two", "one", "LPlyHouse$Node;", true)
  | 1 => ("PlyHouse$Two", "two", "LPlyHouse$Node;", true)
  | _ => ("PlyHouse$Compared", "sign", "I", true)
def tyX12 : Nat → FieldType := fun k => match k with
  | 0 => .object "PlyHouse$Node"
  | 1 => .object "PlyHouse$Node"
  | _ => .int
abbrev wsX120 : List Cond := u_ws RX12 TX12 3
theorem nmX12 : ∀ a, a < 3 → ∀ b, b < 3 → a ≠ b → (TX12 a).2.1 ≠ (TX12 b).2.1 := by decide +kernel
theorem tyX12_ok : ∀ k, k < 3 → parseFieldDescriptor (TX12 k).2.2.1 = some (tyX12 k) := by decide +kernel
abbrev cX12_init : ByteArray := prog_2_method_1_code
def yX12_init : MethodName := ⟨RX12, "<init>", "(ILPlyHouse$Node;LPlyHouse$Node;)V"⟩
def dkwX12_init_0 : List UInt8 := [42, 44, 45, 183, 0, 1, 42, 27, 181, 0, 7, 177]
abbrev dktX12_init_0 : List UInt8 := dkwX12_init_0 ++ []
theorem dksX12_init_0 : cX12_init.data.toList.drop 0 = dktX12_init_0 := by decide +kernel
theorem dX12_init_0 : decode cX12_init 0 = .ok (.aload_n 0, 1) := dk_42 (dk_at dksX12_init_0 0 rfl rfl)
theorem dX12_init_1 : decode cX12_init 1 = .ok (.aload_n 2, 1) := dk_44 (dk_at dksX12_init_0 1 rfl rfl)
theorem dX12_init_2 : decode cX12_init 2 = .ok (.aload_n 3, 1) := dk_45 (dk_at dksX12_init_0 2 rfl rfl)
theorem dX12_init_3 : decode cX12_init 3 = .ok (.invokespecial 1, 3) := dk_183 0 1 (dk_at dksX12_init_0 3 rfl rfl)
theorem dX12_init_6 : decode cX12_init 6 = .ok (.aload_n 0, 1) := dk_42 (dk_at dksX12_init_0 6 rfl rfl)
theorem dX12_init_7 : decode cX12_init 7 = .ok (.iload_n 1, 1) := dk_27 (dk_at dksX12_init_0 7 rfl rfl)
theorem dX12_init_8 : decode cX12_init 8 = .ok (.putfield 7, 3) := dk_181 0 7 (dk_at dksX12_init_0 8 rfl rfl)
theorem dX12_init_11 : decode cX12_init 11 = .ok (.return_, 1) := dk_177 (dk_at dksX12_init_0 11 rfl rfl)
abbrev cX12_of : ByteArray := prog_2_method_2_code
def yX12_of : MethodName := ⟨RX12, "of", "(LPlyHouse$Part;)I"⟩
def dkwX12_of_2 : List UInt8 := [164, 0, 15, 167, 0, 8, 28, 29, 160, 0, 7, 4, 167, 0, 4, 3, 172]
abbrev dktX12_of_2 : List UInt8 := dkwX12_of_2 ++ []
def dkwX12_of_1 : List UInt8 := [160, 0, 11, 28, 29, 162, 0, 32, 167, 0, 25, 42, 180, 0, 7, 16, 62, 160, 0, 11, 28, 29]
abbrev dktX12_of_1 : List UInt8 := dkwX12_of_1 ++ dktX12_of_2
def dkwX12_of_0 : List UInt8 := [42, 180, 0, 13, 43, 182, 0, 17, 61, 42, 180, 0, 23, 43, 182, 0, 17, 62, 42, 180, 0, 7, 16, 60]
abbrev dktX12_of_0 : List UInt8 := dkwX12_of_0 ++ dktX12_of_1
theorem dksX12_of_0 : cX12_of.data.toList.drop 0 = dktX12_of_0 := by decide +kernel
theorem dksX12_of_1 : cX12_of.data.toList.drop 24 = dktX12_of_1 := dk_seg dksX12_of_0 24 rfl rfl
theorem dksX12_of_2 : cX12_of.data.toList.drop 46 = dktX12_of_2 := dk_seg dksX12_of_1 22 rfl rfl
theorem dX12_of_0 : decode cX12_of 0 = .ok (.aload_n 0, 1) := dk_42 (dk_at dksX12_of_0 0 rfl rfl)
theorem dX12_of_1 : decode cX12_of 1 = .ok (.getfield 13, 3) := dk_180 0 13 (dk_at dksX12_of_0 1 rfl rfl)
theorem dX12_of_4 : decode cX12_of 4 = .ok (.aload_n 1, 1) := dk_43 (dk_at dksX12_of_0 4 rfl rfl)
theorem dX12_of_5 : decode cX12_of 5 = .ok (.invokevirtual 17, 3) := dk_182 0 17 (dk_at dksX12_of_0 5 rfl rfl)
theorem dX12_of_8 : decode cX12_of 8 = .ok (.istore_n 2, 1) := dk_61 (dk_at dksX12_of_0 8 rfl rfl)
theorem dX12_of_9 : decode cX12_of 9 = .ok (.aload_n 0, 1) := dk_42 (dk_at dksX12_of_0 9 rfl rfl)
theorem dX12_of_10 : decode cX12_of 10 = .ok (.getfield 23, 3) := dk_180 0 23 (dk_at dksX12_of_0 10 rfl rfl)
theorem dX12_of_13 : decode cX12_of 13 = .ok (.aload_n 1, 1) := dk_43 (dk_at dksX12_of_0 13 rfl rfl)
theorem dX12_of_14 : decode cX12_of 14 = .ok (.invokevirtual 17, 3) := dk_182 0 17 (dk_at dksX12_of_0 14 rfl rfl)
theorem dX12_of_17 : decode cX12_of 17 = .ok (.istore_n 3, 1) := dk_62 (dk_at dksX12_of_0 17 rfl rfl)
theorem dX12_of_18 : decode cX12_of 18 = .ok (.aload_n 0, 1) := dk_42 (dk_at dksX12_of_0 18 rfl rfl)
theorem dX12_of_19 : decode cX12_of 19 = .ok (.getfield 7, 3) := dk_180 0 7 (dk_at dksX12_of_0 19 rfl rfl)
theorem dX12_of_22 : decode cX12_of 22 = .ok (.bipush 60, 2) := dk_16 60 (dk_at dksX12_of_0 22 rfl rfl)
theorem dX12_of_24 : decode cX12_of 24 = .ok (.if_icmp .ne 11, 3) := dk_160 0 11 (dk_at dksX12_of_1 0 rfl rfl)
theorem dX12_of_27 : decode cX12_of 27 = .ok (.iload_n 2, 1) := dk_28 (dk_at dksX12_of_1 3 rfl rfl)
theorem dX12_of_28 : decode cX12_of 28 = .ok (.iload_n 3, 1) := dk_29 (dk_at dksX12_of_1 4 rfl rfl)
theorem dX12_of_29 : decode cX12_of 29 = .ok (.if_icmp .ge 32, 3) := dk_162 0 32 (dk_at dksX12_of_1 5 rfl rfl)
theorem dX12_of_32 : decode cX12_of 32 = .ok (.goto 25, 3) := dk_167 0 25 (dk_at dksX12_of_1 8 rfl rfl)
theorem dX12_of_35 : decode cX12_of 35 = .ok (.aload_n 0, 1) := dk_42 (dk_at dksX12_of_1 11 rfl rfl)
theorem dX12_of_36 : decode cX12_of 36 = .ok (.getfield 7, 3) := dk_180 0 7 (dk_at dksX12_of_1 12 rfl rfl)
theorem dX12_of_39 : decode cX12_of 39 = .ok (.bipush 62, 2) := dk_16 62 (dk_at dksX12_of_1 15 rfl rfl)
theorem dX12_of_41 : decode cX12_of 41 = .ok (.if_icmp .ne 11, 3) := dk_160 0 11 (dk_at dksX12_of_1 17 rfl rfl)
theorem dX12_of_44 : decode cX12_of 44 = .ok (.iload_n 2, 1) := dk_28 (dk_at dksX12_of_1 20 rfl rfl)
theorem dX12_of_45 : decode cX12_of 45 = .ok (.iload_n 3, 1) := dk_29 (dk_at dksX12_of_1 21 rfl rfl)
theorem dX12_of_46 : decode cX12_of 46 = .ok (.if_icmp .le 15, 3) := dk_164 0 15 (dk_at dksX12_of_2 0 rfl rfl)
theorem dX12_of_49 : decode cX12_of 49 = .ok (.goto 8, 3) := dk_167 0 8 (dk_at dksX12_of_2 3 rfl rfl)
theorem dX12_of_52 : decode cX12_of 52 = .ok (.iload_n 2, 1) := dk_28 (dk_at dksX12_of_2 6 rfl rfl)
theorem dX12_of_53 : decode cX12_of 53 = .ok (.iload_n 3, 1) := dk_29 (dk_at dksX12_of_2 7 rfl rfl)
theorem dX12_of_54 : decode cX12_of 54 = .ok (.if_icmp .ne 7, 3) := dk_160 0 7 (dk_at dksX12_of_2 8 rfl rfl)
theorem dX12_of_57 : decode cX12_of 57 = .ok (.iconst 1, 1) := dk_4 (dk_at dksX12_of_2 11 rfl rfl)
theorem dX12_of_58 : decode cX12_of 58 = .ok (.goto 4, 3) := dk_167 0 4 (dk_at dksX12_of_2 12 rfl rfl)
theorem dX12_of_61 : decode cX12_of 61 = .ok (.iconst 0, 1) := dk_3 (dk_at dksX12_of_2 15 rfl rfl)
theorem dX12_of_62 : decode cX12_of 62 = .ok (.ireturn, 1) := dk_172 (dk_at dksX12_of_2 16 rfl rfl)
theorem q74 : (Jvm.Cond.initialized "PlyHouse$Compared") ∈ lw_all := lw_g (lw_at lw_m1 21 rfl) rfl
theorem q483 : (Jvm.Cond.fieldLink "PlyHouse$Compared" (13 : Nat) "PlyHouse$Compared" "one" "LPlyHouse$Node;") ∈ lw_all := lw_g (lw_at lw_m2 190 rfl) rfl
theorem q484 : (Jvm.Cond.sameField "PlyHouse$Compared" "PlyHouse$Two" "one" "LPlyHouse$Node;") ∈ lw_all := lw_g (lw_at lw_m2 191 rfl) rfl
theorem q490 : (Jvm.Cond.fieldLink "PlyHouse$Compared" (23 : Nat) "PlyHouse$Compared" "two" "LPlyHouse$Node;") ∈ lw_all := lw_g (lw_at lw_m2 197 rfl) rfl
theorem q491 : (Jvm.Cond.sameField "PlyHouse$Compared" "PlyHouse$Two" "two" "LPlyHouse$Node;") ∈ lw_all := lw_g (lw_at lw_m2 198 rfl) rfl
theorem q504 : (Jvm.Cond.instantiable "PlyHouse$Compared" (3 : Nat)) ∈ lw_all := lw_g (lw_at lw_m2 211 rfl) rfl
theorem q506 : (Jvm.Cond.instanceMethod ({ cls := "PlyHouse$Compared", name := "<init>", desc := "(ILPlyHouse$Node;LPlyHouse$Node;)V" } : Jvm.MethodName)) ∈ lw_all := lw_g (lw_at lw_m2 213 rfl) rfl
theorem q507 : (Jvm.Cond.code ({ cls := "PlyHouse$Compared", name := "<init>", desc := "(ILPlyHouse$Node;LPlyHouse$Node;)V" } : Jvm.MethodName) prog_2_method_1_code (4 : Nat) (Option.none : Option Jvm.ClassFile.FieldType)) ∈ lw_all := lw_g (lw_at lw_m2 214 rfl) rfl
theorem q508 : (Jvm.Cond.methodLink "PlyHouse$Compared" (1 : Nat) ({ cls := "PlyHouse$Two", name := "<init>", desc := "(LPlyHouse$Node;LPlyHouse$Node;)V" } : Jvm.MethodName)) ∈ lw_all := lw_g (lw_at lw_m2 215 rfl) rfl
theorem q509 : (Jvm.Cond.fieldLink "PlyHouse$Compared" (7 : Nat) "PlyHouse$Compared" "sign" "I") ∈ lw_all := lw_g (lw_at lw_m2 216 rfl) rfl
theorem q510 : (Jvm.Cond.laysFinal "PlyHouse$Compared" "PlyHouse$Compared" "sign" "I") ∈ lw_all := lw_g (lw_at lw_m2 217 rfl) rfl
theorem q511 : (Jvm.Cond.soleField "PlyHouse$Compared" "sign") ∈ lw_all := lw_g (lw_at lw_m2 218 rfl) rfl
theorem q512 : (Jvm.Cond.laysFinal "PlyHouse$Compared" "PlyHouse$Two" "one" "LPlyHouse$Node;") ∈ lw_all := lw_g (lw_at lw_m2 219 rfl) rfl
theorem q513 : (Jvm.Cond.laysFinal "PlyHouse$Compared" "PlyHouse$Two" "two" "LPlyHouse$Node;") ∈ lw_all := lw_g (lw_at lw_m2 220 rfl) rfl
theorem q514 : (Jvm.Cond.superclass "PlyHouse$Compared" "PlyHouse$Two") ∈ lw_all := lw_g (lw_at lw_m2 221 rfl) rfl
theorem q567 : (Jvm.Cond.selects "PlyHouse$Compared" ({ cls := "PlyHouse$Node", name := "holds", desc := "(LPlyHouse$Part;)Z" } : Jvm.MethodName) ({ cls := "PlyHouse$Node", name := "holds", desc := "(LPlyHouse$Part;)Z" } : Jvm.MethodName)) ∈ lw_all := lw_g (lw_at lw_m3 34 rfl) rfl
theorem q576 : (Jvm.Cond.selects "PlyHouse$Compared" ({ cls := "PlyHouse$Values", name := "of", desc := "(LPlyHouse$Part;)I" } : Jvm.MethodName) ({ cls := "PlyHouse$Compared", name := "of", desc := "(LPlyHouse$Part;)I" } : Jvm.MethodName)) ∈ lw_all := lw_g (lw_at lw_m3 43 rfl) rfl
theorem q577 : (Jvm.Cond.instanceMethod ({ cls := "PlyHouse$Compared", name := "of", desc := "(LPlyHouse$Part;)I" } : Jvm.MethodName)) ∈ lw_all := lw_g (lw_at lw_m3 44 rfl) rfl
theorem q578 : (Jvm.Cond.code ({ cls := "PlyHouse$Compared", name := "of", desc := "(LPlyHouse$Part;)I" } : Jvm.MethodName) prog_2_method_2_code (4 : Nat) (Option.some Jvm.ClassFile.FieldType.int)) ∈ lw_all := lw_g (lw_at lw_m3 45 rfl) rfl
theorem q1282 : (Jvm.Cond.castable "PlyHouse$Compared" "PlyHouse$Node") ∈ lw_tbl := lw_at lw_m6 29 rfl
theorem in_X12 : ∀ w ∈ wsX120, w ∈ lw_all := lw_in wsX120 [512, 513, 510] (by decide +kernel) (by decide +kernel)
/-! PlyHouse$Joined -/
set_option maxRecDepth 100000
def RX13 : String := "PlyHouse$Joined"
def TX13 : u_T := fun k => match k with
  | 0 => ("PlyHouse$Two", "one", "LPlyHouse$Node;", true)
  | 1 => ("PlyHouse$Two", "two", "LPlyHouse$Node;", true)
  | _ => ("PlyHouse$Joined", "and", "Z", true)
def tyX13 : Nat → FieldType := fun k => match k with
  | 0 => .object "PlyHouse$Node"
  | 1 => .object "PlyHouse$Node"
  | _ => .boolean
abbrev wsX130 : List Cond := u_ws RX13 TX13 3
theorem nmX13 : ∀ a, a < 3 → ∀ b, b < 3 → a ≠ b → (TX13 a).2.1 ≠ (TX13 b).2.1 := by decide +kernel
theorem tyX13_ok : ∀ k, k < 3 → parseFieldDescriptor (TX13 k).2.2.1 = some (tyX13 k) := by decide +kernel
abbrev cX13_init : ByteArray := prog_5_method_1_code
def yX13_init : MethodName := ⟨RX13, "<init>", "(ZLPlyHouse$Node;LPlyHouse$Node;)V"⟩
def dkwX13_init_0 : List UInt8 := [42, 44, 45, 183, 0, 1, 42, 27, 181, 0, 7, 177]
abbrev dktX13_init_0 : List UInt8 := dkwX13_init_0 ++ []
theorem dksX13_init_0 : cX13_init.data.toList.drop 0 = dktX13_init_0 := by decide +kernel
theorem dX13_init_0 : decode cX13_init 0 = .ok (.aload_n 0, 1) := dk_42 (dk_at dksX13_init_0 0 rfl rfl)
theorem dX13_init_1 : decode cX13_init 1 = .ok (.aload_n 2, 1) := dk_44 (dk_at dksX13_init_0 1 rfl rfl)
theorem dX13_init_2 : decode cX13_init 2 = .ok (.aload_n 3, 1) := dk_45 (dk_at dksX13_init_0 2 rfl rfl)
theorem dX13_init_3 : decode cX13_init 3 = .ok (.invokespecial 1, 3) := dk_183 0 1 (dk_at dksX13_init_0 3 rfl rfl)
theorem dX13_init_6 : decode cX13_init 6 = .ok (.aload_n 0, 1) := dk_42 (dk_at dksX13_init_0 6 rfl rfl)
theorem dX13_init_7 : decode cX13_init 7 = .ok (.iload_n 1, 1) := dk_27 (dk_at dksX13_init_0 7 rfl rfl)
theorem dX13_init_8 : decode cX13_init 8 = .ok (.putfield 7, 3) := dk_181 0 7 (dk_at dksX13_init_0 8 rfl rfl)
theorem dX13_init_11 : decode cX13_init 11 = .ok (.return_, 1) := dk_177 (dk_at dksX13_init_0 11 rfl rfl)
abbrev cX13_of : ByteArray := prog_5_method_2_code
def yX13_of : MethodName := ⟨RX13, "of", "(LPlyHouse$Part;)I"⟩
def dkwX13_of_2 : List UInt8 := [43, 182, 0, 17, 153, 0, 7, 4, 167, 0, 4, 3, 172]
abbrev dktX13_of_2 : List UInt8 := dkwX13_of_2 ++ []
def dkwX13_of_1 : List UInt8 := [182, 0, 17, 153, 0, 32, 167, 0, 25, 42, 180, 0, 13, 43, 182, 0, 17, 154, 0, 14, 42, 180, 0, 23]
abbrev dktX13_of_1 : List UInt8 := dkwX13_of_1 ++ dktX13_of_2
def dkwX13_of_0 : List UInt8 := [42, 180, 0, 7, 153, 0, 28, 42, 180, 0, 13, 43, 182, 0, 17, 153, 0, 43, 42, 180, 0, 23, 43]
abbrev dktX13_of_0 : List UInt8 := dkwX13_of_0 ++ dktX13_of_1
theorem dksX13_of_0 : cX13_of.data.toList.drop 0 = dktX13_of_0 := by decide +kernel
theorem dksX13_of_1 : cX13_of.data.toList.drop 23 = dktX13_of_1 := dk_seg dksX13_of_0 23 rfl rfl
theorem dksX13_of_2 : cX13_of.data.toList.drop 47 = dktX13_of_2 := dk_seg dksX13_of_1 24 rfl rfl
theorem dX13_of_0 : decode cX13_of 0 = .ok (.aload_n 0, 1) := dk_42 (dk_at dksX13_of_0 0 rfl rfl)
theorem dX13_of_1 : decode cX13_of 1 = .ok (.getfield 7, 3) := dk_180 0 7 (dk_at dksX13_of_0 1 rfl rfl)
theorem dX13_of_4 : decode cX13_of 4 = .ok (.ifCond .eq 28, 3) := dk_153 0 28 (dk_at dksX13_of_0 4 rfl rfl)
theorem dX13_of_7 : decode cX13_of 7 = .ok (.aload_n 0, 1) := dk_42 (dk_at dksX13_of_0 7 rfl rfl)
theorem dX13_of_8 : decode cX13_of 8 = .ok (.getfield 13, 3) := dk_180 0 13 (dk_at dksX13_of_0 8 rfl rfl)
theorem dX13_of_11 : decode cX13_of 11 = .ok (.aload_n 1, 1) := dk_43 (dk_at dksX13_of_0 11 rfl rfl)
theorem dX13_of_12 : decode cX13_of 12 = .ok (.invokevirtual 17, 3) := dk_182 0 17 (dk_at dksX13_of_0 12 rfl rfl)
theorem dX13_of_15 : decode cX13_of 15 = .ok (.ifCond .eq 43, 3) := dk_153 0 43 (dk_at dksX13_of_0 15 rfl rfl)
theorem dX13_of_18 : decode cX13_of 18 = .ok (.aload_n 0, 1) := dk_42 (dk_at dksX13_of_0 18 rfl rfl)
theorem dX13_of_19 : decode cX13_of 19 = .ok (.getfield 23, 3) := dk_180 0 23 (dk_at dksX13_of_0 19 rfl rfl)
theorem dX13_of_22 : decode cX13_of 22 = .ok (.aload_n 1, 1) := dk_43 (dk_at dksX13_of_0 22 rfl rfl)
theorem dX13_of_23 : decode cX13_of 23 = .ok (.invokevirtual 17, 3) := dk_182 0 17 (dk_at dksX13_of_1 0 rfl rfl)
theorem dX13_of_26 : decode cX13_of 26 = .ok (.ifCond .eq 32, 3) := dk_153 0 32 (dk_at dksX13_of_1 3 rfl rfl)
theorem dX13_of_29 : decode cX13_of 29 = .ok (.goto 25, 3) := dk_167 0 25 (dk_at dksX13_of_1 6 rfl rfl)
theorem dX13_of_32 : decode cX13_of 32 = .ok (.aload_n 0, 1) := dk_42 (dk_at dksX13_of_1 9 rfl rfl)
theorem dX13_of_33 : decode cX13_of 33 = .ok (.getfield 13, 3) := dk_180 0 13 (dk_at dksX13_of_1 10 rfl rfl)
theorem dX13_of_36 : decode cX13_of 36 = .ok (.aload_n 1, 1) := dk_43 (dk_at dksX13_of_1 13 rfl rfl)
theorem dX13_of_37 : decode cX13_of 37 = .ok (.invokevirtual 17, 3) := dk_182 0 17 (dk_at dksX13_of_1 14 rfl rfl)
theorem dX13_of_40 : decode cX13_of 40 = .ok (.ifCond .ne 14, 3) := dk_154 0 14 (dk_at dksX13_of_1 17 rfl rfl)
theorem dX13_of_43 : decode cX13_of 43 = .ok (.aload_n 0, 1) := dk_42 (dk_at dksX13_of_1 20 rfl rfl)
theorem dX13_of_44 : decode cX13_of 44 = .ok (.getfield 23, 3) := dk_180 0 23 (dk_at dksX13_of_1 21 rfl rfl)
theorem dX13_of_47 : decode cX13_of 47 = .ok (.aload_n 1, 1) := dk_43 (dk_at dksX13_of_2 0 rfl rfl)
theorem dX13_of_48 : decode cX13_of 48 = .ok (.invokevirtual 17, 3) := dk_182 0 17 (dk_at dksX13_of_2 1 rfl rfl)
theorem dX13_of_51 : decode cX13_of 51 = .ok (.ifCond .eq 7, 3) := dk_153 0 7 (dk_at dksX13_of_2 4 rfl rfl)
theorem dX13_of_54 : decode cX13_of 54 = .ok (.iconst 1, 1) := dk_4 (dk_at dksX13_of_2 7 rfl rfl)
theorem dX13_of_55 : decode cX13_of 55 = .ok (.goto 4, 3) := dk_167 0 4 (dk_at dksX13_of_2 8 rfl rfl)
theorem dX13_of_58 : decode cX13_of 58 = .ok (.iconst 0, 1) := dk_3 (dk_at dksX13_of_2 11 rfl rfl)
theorem dX13_of_59 : decode cX13_of 59 = .ok (.ireturn, 1) := dk_172 (dk_at dksX13_of_2 12 rfl rfl)
theorem q75 : (Jvm.Cond.initialized "PlyHouse$Joined") ∈ lw_all := lw_g (lw_at lw_m1 22 rfl) rfl
theorem q487 : (Jvm.Cond.fieldLink "PlyHouse$Joined" (13 : Nat) "PlyHouse$Joined" "one" "LPlyHouse$Node;") ∈ lw_all := lw_g (lw_at lw_m2 194 rfl) rfl
theorem q488 : (Jvm.Cond.sameField "PlyHouse$Joined" "PlyHouse$Two" "one" "LPlyHouse$Node;") ∈ lw_all := lw_g (lw_at lw_m2 195 rfl) rfl
theorem q494 : (Jvm.Cond.fieldLink "PlyHouse$Joined" (23 : Nat) "PlyHouse$Joined" "two" "LPlyHouse$Node;") ∈ lw_all := lw_g (lw_at lw_m2 201 rfl) rfl
theorem q495 : (Jvm.Cond.sameField "PlyHouse$Joined" "PlyHouse$Two" "two" "LPlyHouse$Node;") ∈ lw_all := lw_g (lw_at lw_m2 202 rfl) rfl
theorem q517 : (Jvm.Cond.instantiable "PlyHouse$Joined" (3 : Nat)) ∈ lw_all := lw_g (lw_at lw_m2 224 rfl) rfl
theorem q519 : (Jvm.Cond.instanceMethod ({ cls := "PlyHouse$Joined", name := "<init>", desc := "(ZLPlyHouse$Node;LPlyHouse$Node;)V" } : Jvm.MethodName)) ∈ lw_all := lw_g (lw_at lw_m2 226 rfl) rfl
theorem q520 : (Jvm.Cond.code ({ cls := "PlyHouse$Joined", name := "<init>", desc := "(ZLPlyHouse$Node;LPlyHouse$Node;)V" } : Jvm.MethodName) prog_5_method_1_code (4 : Nat) (Option.none : Option Jvm.ClassFile.FieldType)) ∈ lw_all := lw_g (lw_at lw_m2 227 rfl) rfl
theorem q521 : (Jvm.Cond.methodLink "PlyHouse$Joined" (1 : Nat) ({ cls := "PlyHouse$Two", name := "<init>", desc := "(LPlyHouse$Node;LPlyHouse$Node;)V" } : Jvm.MethodName)) ∈ lw_all := lw_g (lw_at lw_m2 228 rfl) rfl
theorem q522 : (Jvm.Cond.fieldLink "PlyHouse$Joined" (7 : Nat) "PlyHouse$Joined" "and" "Z") ∈ lw_all := lw_g (lw_at lw_m2 229 rfl) rfl
theorem q523 : (Jvm.Cond.laysFinal "PlyHouse$Joined" "PlyHouse$Joined" "and" "Z") ∈ lw_all := lw_g (lw_at lw_m2 230 rfl) rfl
theorem q524 : (Jvm.Cond.soleField "PlyHouse$Joined" "and") ∈ lw_all := lw_g (lw_at lw_m2 231 rfl) rfl
theorem q525 : (Jvm.Cond.laysFinal "PlyHouse$Joined" "PlyHouse$Two" "one" "LPlyHouse$Node;") ∈ lw_all := lw_g (lw_at lw_m2 232 rfl) rfl
theorem q526 : (Jvm.Cond.laysFinal "PlyHouse$Joined" "PlyHouse$Two" "two" "LPlyHouse$Node;") ∈ lw_all := lw_g (lw_at lw_m2 233 rfl) rfl
theorem q527 : (Jvm.Cond.superclass "PlyHouse$Joined" "PlyHouse$Two") ∈ lw_all := lw_g (lw_at lw_m2 234 rfl) rfl
theorem q569 : (Jvm.Cond.selects "PlyHouse$Joined" ({ cls := "PlyHouse$Node", name := "holds", desc := "(LPlyHouse$Part;)Z" } : Jvm.MethodName) ({ cls := "PlyHouse$Node", name := "holds", desc := "(LPlyHouse$Part;)Z" } : Jvm.MethodName)) ∈ lw_all := lw_g (lw_at lw_m3 36 rfl) rfl
theorem q582 : (Jvm.Cond.selects "PlyHouse$Joined" ({ cls := "PlyHouse$Values", name := "of", desc := "(LPlyHouse$Part;)I" } : Jvm.MethodName) ({ cls := "PlyHouse$Joined", name := "of", desc := "(LPlyHouse$Part;)I" } : Jvm.MethodName)) ∈ lw_all := lw_g (lw_at lw_m3 49 rfl) rfl
theorem q583 : (Jvm.Cond.instanceMethod ({ cls := "PlyHouse$Joined", name := "of", desc := "(LPlyHouse$Part;)I" } : Jvm.MethodName)) ∈ lw_all := lw_g (lw_at lw_m3 50 rfl) rfl
theorem q584 : (Jvm.Cond.code ({ cls := "PlyHouse$Joined", name := "of", desc := "(LPlyHouse$Part;)I" } : Jvm.MethodName) prog_5_method_2_code (2 : Nat) (Option.some Jvm.ClassFile.FieldType.int)) ∈ lw_all := lw_g (lw_at lw_m3 51 rfl) rfl
theorem q585 : (Jvm.Cond.methodLink "PlyHouse$Joined" (17 : Nat) ({ cls := "PlyHouse$Node", name := "holds", desc := "(LPlyHouse$Part;)Z" } : Jvm.MethodName)) ∈ lw_all := lw_g (lw_at lw_m3 52 rfl) rfl
theorem q1283 : (Jvm.Cond.castable "PlyHouse$Joined" "PlyHouse$Node") ∈ lw_tbl := lw_at lw_m6 30 rfl
theorem in_X13 : ∀ w ∈ wsX130, w ∈ lw_all := lw_in wsX130 [525, 526, 523] (by decide +kernel) (by decide +kernel)
