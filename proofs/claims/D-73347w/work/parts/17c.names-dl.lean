set_option maxRecDepth 100000
abbrev cJ6_init : ByteArray := prog_31_method_2_code
def yJ6_init : MethodName := ⟨RJ6, "<init>", "(Ljava/lang/String;)V"⟩
def dkwJ6_init_0 : List UInt8 := [42, 43, 183, 0, 7, 177]
abbrev dktJ6_init_0 : List UInt8 := dkwJ6_init_0 ++ []
theorem dksJ6_init_0 : cJ6_init.data.toList.drop 0 = dktJ6_init_0 := by decide +kernel
theorem dJ6_init_0 : decode cJ6_init 0 = .ok (.aload_n 0, 1) := dk_42 (dk_at dksJ6_init_0 0 rfl rfl)
theorem dJ6_init_1 : decode cJ6_init 1 = .ok (.aload_n 1, 1) := dk_43 (dk_at dksJ6_init_0 1 rfl rfl)
theorem dJ6_init_2 : decode cJ6_init 2 = .ok (.invokespecial 7, 3) := dk_183 0 7 (dk_at dksJ6_init_0 2 rfl rfl)
theorem dJ6_init_5 : decode cJ6_init 5 = .ok (.return_, 1) := dk_177 (dk_at dksJ6_init_0 5 rfl rfl)
abbrev cJ6_init_2 : ByteArray := prog_31_method_1_code
def yJ6_init_2 : MethodName := ⟨RJ6, "<init>", "()V"⟩
theorem dJ6_init_2_0 : decode cJ6_init_2 0 = .ok (.aload_n 0, 1) := by decide +kernel
theorem dJ6_init_2_1 : decode cJ6_init_2 1 = .ok (.invokespecial 1, 3) := by decide +kernel
theorem dJ6_init_2_4 : decode cJ6_init_2 4 = .ok (.return_, 1) := by decide +kernel
theorem q124 : (Jvm.Cond.initialized "java/lang/IllegalArgumentException") ∈ lw_all := lw_g (lw_at lw_m1 9 rfl) rfl
theorem q201 : (Jvm.Cond.instantiable "java/lang/IllegalArgumentException" (6 : Nat)) ∈ lw_all := lw_g (lw_at lw_m1 86 rfl) rfl
theorem q202 : (Jvm.Cond.castable "java/lang/IllegalArgumentException" "java/lang/IllegalArgumentException") ∈ lw_tbl := lw_at lw_m1 87 rfl
theorem q209 : (Jvm.Cond.selects "java/lang/IllegalArgumentException" ({ cls := "java/lang/Throwable", name := "fillInStackTrace", desc := "(I)Ljava/lang/Throwable;" } : Jvm.MethodName) ({ cls := "java/lang/Throwable", name := "fillInStackTrace", desc := "(I)Ljava/lang/Throwable;" } : Jvm.MethodName)) ∈ lw_all := lw_g (lw_at lw_m1 94 rfl) rfl
theorem q210 : (Jvm.Cond.selects "java/lang/IllegalArgumentException" ({ cls := "java/lang/Throwable", name := "fillInStackTrace", desc := "()Ljava/lang/Throwable;" } : Jvm.MethodName) ({ cls := "java/lang/Throwable", name := "fillInStackTrace", desc := "()Ljava/lang/Throwable;" } : Jvm.MethodName)) ∈ lw_all := lw_g (lw_at lw_m1 95 rfl) rfl
theorem q211 : (Jvm.Cond.lays "java/lang/IllegalArgumentException" "java/lang/Throwable" "cause" "Ljava/lang/Throwable;") ∈ lw_all := lw_g (lw_at lw_m1 96 rfl) rfl
theorem q213 : (Jvm.Cond.lays "java/lang/IllegalArgumentException" "java/lang/Throwable" "stackTrace" "[Ljava/lang/StackTraceElement;") ∈ lw_all := lw_g (lw_at lw_m1 98 rfl) rfl
theorem q215 : (Jvm.Cond.lays "java/lang/IllegalArgumentException" "java/lang/Throwable" "suppressedExceptions" "Ljava/util/List;") ∈ lw_all := lw_g (lw_at lw_m1 100 rfl) rfl
theorem q217 : (Jvm.Cond.lays "java/lang/IllegalArgumentException" "java/lang/Throwable" "detailMessage" "Ljava/lang/String;") ∈ lw_all := lw_g (lw_at lw_m1 102 rfl) rfl
theorem q219 : (Jvm.Cond.lays "java/lang/IllegalArgumentException" "java/lang/Throwable" "backtrace" "Ljava/lang/Object;") ∈ lw_all := lw_g (lw_at lw_m1 104 rfl) rfl
theorem q465 : (Jvm.Cond.instanceMethod ({ cls := "java/lang/IllegalArgumentException", name := "<init>", desc := "(Ljava/lang/String;)V" } : Jvm.MethodName)) ∈ lw_all := lw_g (lw_at lw_m2 110 rfl) rfl
theorem q466 : (Jvm.Cond.code ({ cls := "java/lang/IllegalArgumentException", name := "<init>", desc := "(Ljava/lang/String;)V" } : Jvm.MethodName) prog_31_method_2_code (2 : Nat) (Option.none : Option Jvm.ClassFile.FieldType)) ∈ lw_all := lw_g (lw_at lw_m2 111 rfl) rfl
theorem q467 : (Jvm.Cond.methodLink "java/lang/IllegalArgumentException" (7 : Nat) ({ cls := "java/lang/RuntimeException", name := "<init>", desc := "(Ljava/lang/String;)V" } : Jvm.MethodName)) ∈ lw_all := lw_g (lw_at lw_m2 112 rfl) rfl
theorem q485 : (Jvm.Cond.lays "java/lang/IllegalArgumentException" "java/lang/Throwable" "depth" "I") ∈ lw_all := lw_g (lw_at lw_m2 130 rfl) rfl
theorem q488 : (Jvm.Cond.superclass "java/lang/IllegalArgumentException" "java/lang/RuntimeException") ∈ lw_all := lw_g (lw_at lw_m2 133 rfl) rfl
theorem q868 : (Jvm.Cond.selects "java/lang/IllegalArgumentException" ({ cls := "java/lang/Object", name := "getClass", desc := "()Ljava/lang/Class;" } : Jvm.MethodName) ({ cls := "java/lang/Object", name := "getClass", desc := "()Ljava/lang/Class;" } : Jvm.MethodName)) ∈ lw_all := lw_g (lw_at lw_m4 33 rfl) rfl
theorem q1365 : (Jvm.Cond.instanceMethod ({ cls := "java/lang/IllegalArgumentException", name := "<init>", desc := "()V" } : Jvm.MethodName)) ∈ lw_all := lw_g (lw_at lw_m6 50 rfl) rfl
theorem q1366 : (Jvm.Cond.code ({ cls := "java/lang/IllegalArgumentException", name := "<init>", desc := "()V" } : Jvm.MethodName) prog_31_method_1_code (1 : Nat) (Option.none : Option Jvm.ClassFile.FieldType)) ∈ lw_all := lw_g (lw_at lw_m6 51 rfl) rfl
theorem q1367 : (Jvm.Cond.methodLink "java/lang/IllegalArgumentException" (1 : Nat) ({ cls := "java/lang/RuntimeException", name := "<init>", desc := "()V" } : Jvm.MethodName)) ∈ lw_all := lw_g (lw_at lw_m6 52 rfl) rfl
theorem q2052 : (Jvm.Cond.selects "java/lang/IllegalArgumentException" ({ cls := "java/lang/Throwable", name := "toString", desc := "()Ljava/lang/String;" } : Jvm.MethodName) ({ cls := "java/lang/Throwable", name := "toString", desc := "()Ljava/lang/String;" } : Jvm.MethodName)) ∈ lw_all := lw_g (lw_at lw_m9 17 rfl) rfl
theorem q2062 : (Jvm.Cond.selects "java/lang/IllegalArgumentException" ({ cls := "java/lang/Throwable", name := "getLocalizedMessage", desc := "()Ljava/lang/String;" } : Jvm.MethodName) ({ cls := "java/lang/Throwable", name := "getLocalizedMessage", desc := "()Ljava/lang/String;" } : Jvm.MethodName)) ∈ lw_all := lw_g (lw_at lw_m9 27 rfl) rfl
theorem q2071 : (Jvm.Cond.selects "java/lang/IllegalArgumentException" ({ cls := "java/lang/Throwable", name := "getMessage", desc := "()Ljava/lang/String;" } : Jvm.MethodName) ({ cls := "java/lang/Throwable", name := "getMessage", desc := "()Ljava/lang/String;" } : Jvm.MethodName)) ∈ lw_all := lw_g (lw_at lw_m9 36 rfl) rfl
theorem q2969 : (Jvm.Cond.castable "java/lang/IllegalArgumentException" "java/lang/Object") ∈ lw_tbl := lw_at lw_m12 214 rfl

abbrev cJ21_init : ByteArray := prog_69_method_1_code
def yJ21_init : MethodName := ⟨RJ21, "<init>", "()V"⟩
theorem dJ21_init_0 : decode cJ21_init 0 = .ok (.aload_n 0, 1) := by decide +kernel
theorem dJ21_init_1 : decode cJ21_init 1 = .ok (.invokespecial 1, 3) := by decide +kernel
theorem dJ21_init_4 : decode cJ21_init 4 = .ok (.return_, 1) := by decide +kernel
abbrev cJ21_init_2 : ByteArray := prog_69_method_3_code
def yJ21_init_2 : MethodName := ⟨RJ21, "<init>", "(Ljava/lang/Throwable;)V"⟩
def dkwJ21_init_2_0 : List UInt8 := [42, 43, 183, 0, 10, 177]
abbrev dktJ21_init_2_0 : List UInt8 := dkwJ21_init_2_0 ++ []
theorem dksJ21_init_2_0 : cJ21_init_2.data.toList.drop 0 = dktJ21_init_2_0 := by decide +kernel
theorem dJ21_init_2_0 : decode cJ21_init_2 0 = .ok (.aload_n 0, 1) := dk_42 (dk_at dksJ21_init_2_0 0 rfl rfl)
theorem dJ21_init_2_1 : decode cJ21_init_2 1 = .ok (.aload_n 1, 1) := dk_43 (dk_at dksJ21_init_2_0 1 rfl rfl)
theorem dJ21_init_2_2 : decode cJ21_init_2 2 = .ok (.invokespecial 10, 3) := dk_183 0 10 (dk_at dksJ21_init_2_0 2 rfl rfl)
theorem dJ21_init_2_5 : decode cJ21_init_2 5 = .ok (.return_, 1) := dk_177 (dk_at dksJ21_init_2_0 5 rfl rfl)
theorem q157 : (Jvm.Cond.initialized "java/util/NoSuchElementException") ∈ lw_all := lw_g (lw_at lw_m1 42 rfl) rfl
theorem q236 : (Jvm.Cond.selects "java/util/NoSuchElementException" ({ cls := "java/lang/Throwable", name := "fillInStackTrace", desc := "()Ljava/lang/Throwable;" } : Jvm.MethodName) ({ cls := "java/lang/Throwable", name := "fillInStackTrace", desc := "()Ljava/lang/Throwable;" } : Jvm.MethodName)) ∈ lw_all := lw_g (lw_at lw_m1 121 rfl) rfl
theorem q883 : (Jvm.Cond.selects "java/util/NoSuchElementException" ({ cls := "java/lang/Object", name := "getClass", desc := "()Ljava/lang/Class;" } : Jvm.MethodName) ({ cls := "java/lang/Object", name := "getClass", desc := "()Ljava/lang/Class;" } : Jvm.MethodName)) ∈ lw_all := lw_g (lw_at lw_m4 48 rfl) rfl
theorem q1757 : (Jvm.Cond.instantiable "java/util/NoSuchElementException" (6 : Nat)) ∈ lw_all := lw_g (lw_at lw_m7 202 rfl) rfl
theorem q1758 : (Jvm.Cond.castable "java/util/NoSuchElementException" "java/util/NoSuchElementException") ∈ lw_tbl := lw_at lw_m7 203 rfl
theorem q1759 : (Jvm.Cond.selects "java/util/NoSuchElementException" ({ cls := "java/lang/Throwable", name := "fillInStackTrace", desc := "(I)Ljava/lang/Throwable;" } : Jvm.MethodName) ({ cls := "java/lang/Throwable", name := "fillInStackTrace", desc := "(I)Ljava/lang/Throwable;" } : Jvm.MethodName)) ∈ lw_all := lw_g (lw_at lw_m7 204 rfl) rfl
theorem q1760 : (Jvm.Cond.lays "java/util/NoSuchElementException" "java/lang/Throwable" "cause" "Ljava/lang/Throwable;") ∈ lw_all := lw_g (lw_at lw_m7 205 rfl) rfl
theorem q1761 : (Jvm.Cond.lays "java/util/NoSuchElementException" "java/lang/Throwable" "stackTrace" "[Ljava/lang/StackTraceElement;") ∈ lw_all := lw_g (lw_at lw_m7 206 rfl) rfl
theorem q1762 : (Jvm.Cond.lays "java/util/NoSuchElementException" "java/lang/Throwable" "suppressedExceptions" "Ljava/util/List;") ∈ lw_all := lw_g (lw_at lw_m7 207 rfl) rfl
theorem q1763 : (Jvm.Cond.lays "java/util/NoSuchElementException" "java/lang/Throwable" "detailMessage" "Ljava/lang/String;") ∈ lw_all := lw_g (lw_at lw_m7 208 rfl) rfl
theorem q1764 : (Jvm.Cond.lays "java/util/NoSuchElementException" "java/lang/Throwable" "backtrace" "Ljava/lang/Object;") ∈ lw_all := lw_g (lw_at lw_m7 209 rfl) rfl
theorem q1766 : (Jvm.Cond.instanceMethod ({ cls := "java/util/NoSuchElementException", name := "<init>", desc := "()V" } : Jvm.MethodName)) ∈ lw_all := lw_g (lw_at lw_m7 211 rfl) rfl
theorem q1767 : (Jvm.Cond.code ({ cls := "java/util/NoSuchElementException", name := "<init>", desc := "()V" } : Jvm.MethodName) prog_69_method_1_code (1 : Nat) (Option.none : Option Jvm.ClassFile.FieldType)) ∈ lw_all := lw_g (lw_at lw_m7 212 rfl) rfl
theorem q1768 : (Jvm.Cond.methodLink "java/util/NoSuchElementException" (1 : Nat) ({ cls := "java/lang/RuntimeException", name := "<init>", desc := "()V" } : Jvm.MethodName)) ∈ lw_all := lw_g (lw_at lw_m7 213 rfl) rfl
theorem q1769 : (Jvm.Cond.lays "java/util/NoSuchElementException" "java/lang/Throwable" "depth" "I") ∈ lw_all := lw_g (lw_at lw_m7 214 rfl) rfl
theorem q1770 : (Jvm.Cond.superclass "java/util/NoSuchElementException" "java/lang/RuntimeException") ∈ lw_all := lw_g (lw_at lw_m7 215 rfl) rfl
theorem q2037 : (Jvm.Cond.instanceMethod ({ cls := "java/util/NoSuchElementException", name := "<init>", desc := "(Ljava/lang/Throwable;)V" } : Jvm.MethodName)) ∈ lw_all := lw_g (lw_at lw_m9 2 rfl) rfl
theorem q2038 : (Jvm.Cond.code ({ cls := "java/util/NoSuchElementException", name := "<init>", desc := "(Ljava/lang/Throwable;)V" } : Jvm.MethodName) prog_69_method_3_code (2 : Nat) (Option.none : Option Jvm.ClassFile.FieldType)) ∈ lw_all := lw_g (lw_at lw_m9 3 rfl) rfl
theorem q2039 : (Jvm.Cond.methodLink "java/util/NoSuchElementException" (10 : Nat) ({ cls := "java/lang/RuntimeException", name := "<init>", desc := "(Ljava/lang/Throwable;)V" } : Jvm.MethodName)) ∈ lw_all := lw_g (lw_at lw_m9 4 rfl) rfl
theorem q2055 : (Jvm.Cond.selects "java/util/NoSuchElementException" ({ cls := "java/lang/Throwable", name := "toString", desc := "()Ljava/lang/String;" } : Jvm.MethodName) ({ cls := "java/lang/Throwable", name := "toString", desc := "()Ljava/lang/String;" } : Jvm.MethodName)) ∈ lw_all := lw_g (lw_at lw_m9 20 rfl) rfl
theorem q2065 : (Jvm.Cond.selects "java/util/NoSuchElementException" ({ cls := "java/lang/Throwable", name := "getLocalizedMessage", desc := "()Ljava/lang/String;" } : Jvm.MethodName) ({ cls := "java/lang/Throwable", name := "getLocalizedMessage", desc := "()Ljava/lang/String;" } : Jvm.MethodName)) ∈ lw_all := lw_g (lw_at lw_m9 30 rfl) rfl
theorem q2074 : (Jvm.Cond.selects "java/util/NoSuchElementException" ({ cls := "java/lang/Throwable", name := "getMessage", desc := "()Ljava/lang/String;" } : Jvm.MethodName) ({ cls := "java/lang/Throwable", name := "getMessage", desc := "()Ljava/lang/String;" } : Jvm.MethodName)) ∈ lw_all := lw_g (lw_at lw_m9 39 rfl) rfl
theorem q2989 : (Jvm.Cond.castable "java/util/NoSuchElementException" "java/lang/Object") ∈ lw_tbl := lw_at lw_m12 234 rfl

abbrev cX8_init : ByteArray := prog_8_method_1_code
def yX8_init : MethodName := ⟨RX8, "<init>", "(LCircuitCells$Fill;)V"⟩
def dkwX8_init_0 : List UInt8 := [42, 183, 0, 1, 42, 43, 181, 0, 7, 177]
abbrev dktX8_init_0 : List UInt8 := dkwX8_init_0 ++ []
theorem dksX8_init_0 : cX8_init.data.toList.drop 0 = dktX8_init_0 := by decide +kernel
theorem dX8_init_0 : decode cX8_init 0 = .ok (.aload_n 0, 1) := dk_42 (dk_at dksX8_init_0 0 rfl rfl)
theorem dX8_init_1 : decode cX8_init 1 = .ok (.invokespecial 1, 3) := dk_183 0 1 (dk_at dksX8_init_0 1 rfl rfl)
theorem dX8_init_4 : decode cX8_init 4 = .ok (.aload_n 0, 1) := dk_42 (dk_at dksX8_init_0 4 rfl rfl)
theorem dX8_init_5 : decode cX8_init 5 = .ok (.aload_n 1, 1) := dk_43 (dk_at dksX8_init_0 5 rfl rfl)
theorem dX8_init_6 : decode cX8_init 6 = .ok (.putfield 7, 3) := dk_181 0 7 (dk_at dksX8_init_0 6 rfl rfl)
theorem dX8_init_9 : decode cX8_init 9 = .ok (.return_, 1) := dk_177 (dk_at dksX8_init_0 9 rfl rfl)
theorem q145 : (Jvm.Cond.initialized "CircuitCells$Filling") ∈ lw_all := lw_g (lw_at lw_m1 30 rfl) rfl
theorem q856 : (Jvm.Cond.selects "CircuitCells$Filling" ({ cls := "java/lang/Object", name := "getClass", desc := "()Ljava/lang/Class;" } : Jvm.MethodName) ({ cls := "java/lang/Object", name := "getClass", desc := "()Ljava/lang/Class;" } : Jvm.MethodName)) ∈ lw_all := lw_g (lw_at lw_m4 21 rfl) rfl
theorem q958 : (Jvm.Cond.instantiable "CircuitCells$Filling" (1 : Nat)) ∈ lw_all := lw_g (lw_at lw_m4 123 rfl) rfl
theorem q966 : (Jvm.Cond.instanceMethod ({ cls := "CircuitCells$Filling", name := "<init>", desc := "(LCircuitCells$Fill;)V" } : Jvm.MethodName)) ∈ lw_all := lw_g (lw_at lw_m4 131 rfl) rfl
theorem q967 : (Jvm.Cond.code ({ cls := "CircuitCells$Filling", name := "<init>", desc := "(LCircuitCells$Fill;)V" } : Jvm.MethodName) prog_8_method_1_code (2 : Nat) (Option.none : Option Jvm.ClassFile.FieldType)) ∈ lw_all := lw_g (lw_at lw_m4 132 rfl) rfl
theorem q968 : (Jvm.Cond.methodLink "CircuitCells$Filling" (1 : Nat) ({ cls := "java/lang/Object", name := "<init>", desc := "()V" } : Jvm.MethodName)) ∈ lw_all := lw_g (lw_at lw_m4 133 rfl) rfl
theorem q969 : (Jvm.Cond.fieldLink "CircuitCells$Filling" (7 : Nat) "CircuitCells$Filling" "fill" "LCircuitCells$Fill;") ∈ lw_all := lw_g (lw_at lw_m4 134 rfl) rfl
theorem q971 : (Jvm.Cond.laysFinal "CircuitCells$Filling" "CircuitCells$Filling" "fill" "LCircuitCells$Fill;") ∈ lw_all := lw_g (lw_at lw_m4 136 rfl) rfl
theorem q972 : (Jvm.Cond.soleField "CircuitCells$Filling" "fill") ∈ lw_all := lw_g (lw_at lw_m4 137 rfl) rfl
theorem q973 : (Jvm.Cond.superclass "CircuitCells$Filling" "java/lang/Object") ∈ lw_all := lw_g (lw_at lw_m4 138 rfl) rfl
theorem q2977 : (Jvm.Cond.castable "CircuitCells$Filling" "java/lang/Object") ∈ lw_tbl := lw_at lw_m12 222 rfl

abbrev cX9_init : ByteArray := prog_11_method_1_code
def yX9_init : MethodName := ⟨RX9, "<init>", "(LCircuitCells$Look;)V"⟩
def dkwX9_init_0 : List UInt8 := [42, 183, 0, 1, 42, 43, 181, 0, 7, 177]
abbrev dktX9_init_0 : List UInt8 := dkwX9_init_0 ++ []
theorem dksX9_init_0 : cX9_init.data.toList.drop 0 = dktX9_init_0 := by decide +kernel
theorem dX9_init_0 : decode cX9_init 0 = .ok (.aload_n 0, 1) := dk_42 (dk_at dksX9_init_0 0 rfl rfl)
theorem dX9_init_1 : decode cX9_init 1 = .ok (.invokespecial 1, 3) := dk_183 0 1 (dk_at dksX9_init_0 1 rfl rfl)
theorem dX9_init_4 : decode cX9_init 4 = .ok (.aload_n 0, 1) := dk_42 (dk_at dksX9_init_0 4 rfl rfl)
theorem dX9_init_5 : decode cX9_init 5 = .ok (.aload_n 1, 1) := dk_43 (dk_at dksX9_init_0 5 rfl rfl)
theorem dX9_init_6 : decode cX9_init 6 = .ok (.putfield 7, 3) := dk_181 0 7 (dk_at dksX9_init_0 6 rfl rfl)
theorem dX9_init_9 : decode cX9_init 9 = .ok (.return_, 1) := dk_177 (dk_at dksX9_init_0 9 rfl rfl)
theorem q146 : (Jvm.Cond.initialized "CircuitCells$Looking") ∈ lw_all := lw_g (lw_at lw_m1 31 rfl) rfl
theorem q858 : (Jvm.Cond.selects "CircuitCells$Looking" ({ cls := "java/lang/Object", name := "getClass", desc := "()Ljava/lang/Class;" } : Jvm.MethodName) ({ cls := "java/lang/Object", name := "getClass", desc := "()Ljava/lang/Class;" } : Jvm.MethodName)) ∈ lw_all := lw_g (lw_at lw_m4 23 rfl) rfl
theorem q981 : (Jvm.Cond.instantiable "CircuitCells$Looking" (1 : Nat)) ∈ lw_all := lw_g (lw_at lw_m4 146 rfl) rfl
theorem q991 : (Jvm.Cond.instanceMethod ({ cls := "CircuitCells$Looking", name := "<init>", desc := "(LCircuitCells$Look;)V" } : Jvm.MethodName)) ∈ lw_all := lw_g (lw_at lw_m4 156 rfl) rfl
theorem q992 : (Jvm.Cond.code ({ cls := "CircuitCells$Looking", name := "<init>", desc := "(LCircuitCells$Look;)V" } : Jvm.MethodName) prog_11_method_1_code (2 : Nat) (Option.none : Option Jvm.ClassFile.FieldType)) ∈ lw_all := lw_g (lw_at lw_m4 157 rfl) rfl
theorem q993 : (Jvm.Cond.methodLink "CircuitCells$Looking" (1 : Nat) ({ cls := "java/lang/Object", name := "<init>", desc := "()V" } : Jvm.MethodName)) ∈ lw_all := lw_g (lw_at lw_m4 158 rfl) rfl
theorem q994 : (Jvm.Cond.fieldLink "CircuitCells$Looking" (7 : Nat) "CircuitCells$Looking" "look" "LCircuitCells$Look;") ∈ lw_all := lw_g (lw_at lw_m4 159 rfl) rfl
theorem q996 : (Jvm.Cond.laysFinal "CircuitCells$Looking" "CircuitCells$Looking" "look" "LCircuitCells$Look;") ∈ lw_all := lw_g (lw_at lw_m4 161 rfl) rfl
theorem q997 : (Jvm.Cond.soleField "CircuitCells$Looking" "look") ∈ lw_all := lw_g (lw_at lw_m4 162 rfl) rfl
theorem q998 : (Jvm.Cond.superclass "CircuitCells$Looking" "java/lang/Object") ∈ lw_all := lw_g (lw_at lw_m4 163 rfl) rfl
theorem q2978 : (Jvm.Cond.castable "CircuitCells$Looking" "java/lang/Object") ∈ lw_tbl := lw_at lw_m12 223 rfl

/-! java/lang/Number -/
set_option maxRecDepth 100000
def RJ16 : String := "java/lang/Number"
abbrev cJ16_init : ByteArray := prog_38_method_1_code
def yJ16_init : MethodName := ⟨RJ16, "<init>", "()V"⟩
theorem dJ16_init_0 : decode cJ16_init 0 = .ok (.aload_n 0, 1) := by decide +kernel
theorem dJ16_init_1 : decode cJ16_init 1 = .ok (.invokespecial 1, 3) := by decide +kernel
theorem dJ16_init_4 : decode cJ16_init 4 = .ok (.return_, 1) := by decide +kernel
theorem q135 : (Jvm.Cond.initialized "java/lang/Number") ∈ lw_all := lw_g (lw_at lw_m1 20 rfl) rfl
theorem q1626 : (Jvm.Cond.instanceMethod ({ cls := "java/lang/Number", name := "<init>", desc := "()V" } : Jvm.MethodName)) ∈ lw_all := lw_g (lw_at lw_m7 71 rfl) rfl
theorem q1627 : (Jvm.Cond.code ({ cls := "java/lang/Number", name := "<init>", desc := "()V" } : Jvm.MethodName) prog_38_method_1_code (1 : Nat) (Option.none : Option Jvm.ClassFile.FieldType)) ∈ lw_all := lw_g (lw_at lw_m7 72 rfl) rfl
theorem q1628 : (Jvm.Cond.methodLink "java/lang/Number" (1 : Nat) ({ cls := "java/lang/Object", name := "<init>", desc := "()V" } : Jvm.MethodName)) ∈ lw_all := lw_g (lw_at lw_m7 73 rfl) rfl

/-! java/util/Objects -/
set_option maxRecDepth 100000
def RJ30 : String := "java/util/Objects"
abbrev cJ30_checkIndex : ByteArray := prog_70_method_17_code
def yJ30_checkIndex : MethodName := ⟨RJ30, "checkIndex", "(II)I"⟩
def dkwJ30_checkIndex_0 : List UInt8 := [26, 27, 1, 184, 0, 105, 172]
abbrev dktJ30_checkIndex_0 : List UInt8 := dkwJ30_checkIndex_0 ++ []
theorem dksJ30_checkIndex_0 : cJ30_checkIndex.data.toList.drop 0 = dktJ30_checkIndex_0 := by decide +kernel
theorem dJ30_checkIndex_0 : decode cJ30_checkIndex 0 = .ok (.iload_n 0, 1) := dk_26 (dk_at dksJ30_checkIndex_0 0 rfl rfl)
theorem dJ30_checkIndex_1 : decode cJ30_checkIndex 1 = .ok (.iload_n 1, 1) := dk_27 (dk_at dksJ30_checkIndex_0 1 rfl rfl)
theorem dJ30_checkIndex_2 : decode cJ30_checkIndex 2 = .ok (.aconst_null, 1) := dk_1 (dk_at dksJ30_checkIndex_0 2 rfl rfl)
theorem dJ30_checkIndex_3 : decode cJ30_checkIndex 3 = .ok (.invokestatic 105, 3) := dk_184 0 105 (dk_at dksJ30_checkIndex_0 3 rfl rfl)
theorem dJ30_checkIndex_6 : decode cJ30_checkIndex 6 = .ok (.ireturn, 1) := dk_172 (dk_at dksJ30_checkIndex_0 6 rfl rfl)
theorem q167 : (Jvm.Cond.initialized "java/util/Objects") ∈ lw_all := lw_g (lw_at lw_m1 52 rfl) rfl
theorem q1101 : (Jvm.Cond.static ({ cls := "java/util/Objects", name := "checkIndex", desc := "(II)I" } : Jvm.MethodName)) ∈ lw_all := lw_g (lw_at lw_m5 26 rfl) rfl
theorem q1102 : (Jvm.Cond.code ({ cls := "java/util/Objects", name := "checkIndex", desc := "(II)I" } : Jvm.MethodName) prog_70_method_17_code (2 : Nat) (Option.some Jvm.ClassFile.FieldType.int)) ∈ lw_all := lw_g (lw_at lw_m5 27 rfl) rfl
theorem q1103 : (Jvm.Cond.methodLink "java/util/Objects" (105 : Nat) ({ cls := "jdk/internal/util/Preconditions", name := "checkIndex", desc := "(IILjava/util/function/BiFunction;)I" } : Jvm.MethodName)) ∈ lw_all := lw_g (lw_at lw_m5 28 rfl) rfl

/-! java/util/AbstractCollection -/
set_option maxRecDepth 100000
def RJ0 : String := "java/util/AbstractCollection"
abbrev cJ0_init : ByteArray := prog_49_method_1_code
def yJ0_init : MethodName := ⟨RJ0, "<init>", "()V"⟩
theorem dJ0_init_0 : decode cJ0_init 0 = .ok (.aload_n 0, 1) := by decide +kernel
theorem dJ0_init_1 : decode cJ0_init 1 = .ok (.invokespecial 1, 3) := by decide +kernel
theorem dJ0_init_4 : decode cJ0_init 4 = .ok (.return_, 1) := by decide +kernel
theorem q118 : (Jvm.Cond.initialized "java/util/AbstractCollection") ∈ lw_all := lw_g (lw_at lw_m1 3 rfl) rfl
theorem q193 : (Jvm.Cond.instanceMethod ({ cls := "java/util/AbstractCollection", name := "<init>", desc := "()V" } : Jvm.MethodName)) ∈ lw_all := lw_g (lw_at lw_m1 78 rfl) rfl
theorem q194 : (Jvm.Cond.code ({ cls := "java/util/AbstractCollection", name := "<init>", desc := "()V" } : Jvm.MethodName) prog_49_method_1_code (1 : Nat) (Option.none : Option Jvm.ClassFile.FieldType)) ∈ lw_all := lw_g (lw_at lw_m1 79 rfl) rfl
theorem q195 : (Jvm.Cond.methodLink "java/util/AbstractCollection" (1 : Nat) ({ cls := "java/lang/Object", name := "<init>", desc := "()V" } : Jvm.MethodName)) ∈ lw_all := lw_g (lw_at lw_m1 80 rfl) rfl
theorem q1988 : (Jvm.Cond.declares ({ cls := "java/util/AbstractCollection", name := "size", desc := "()I" } : Jvm.MethodName)) ∈ lw_tbl := lw_at lw_m8 193 rfl

/-! java/util/AbstractList -/
set_option maxRecDepth 100000
def RJ1 : String := "java/util/AbstractList"
abbrev cJ1_init : ByteArray := prog_50_method_1_code
def yJ1_init : MethodName := ⟨RJ1, "<init>", "()V"⟩
def dkwJ1_init_0 : List UInt8 := [42, 183, 0, 1, 42, 3, 181, 0, 7, 177]
abbrev dktJ1_init_0 : List UInt8 := dkwJ1_init_0 ++ []
theorem dksJ1_init_0 : cJ1_init.data.toList.drop 0 = dktJ1_init_0 := by decide +kernel
theorem dJ1_init_0 : decode cJ1_init 0 = .ok (.aload_n 0, 1) := dk_42 (dk_at dksJ1_init_0 0 rfl rfl)
theorem dJ1_init_1 : decode cJ1_init 1 = .ok (.invokespecial 1, 3) := dk_183 0 1 (dk_at dksJ1_init_0 1 rfl rfl)
theorem dJ1_init_4 : decode cJ1_init 4 = .ok (.aload_n 0, 1) := dk_42 (dk_at dksJ1_init_0 4 rfl rfl)
theorem dJ1_init_5 : decode cJ1_init 5 = .ok (.iconst 0, 1) := dk_3 (dk_at dksJ1_init_0 5 rfl rfl)
theorem dJ1_init_6 : decode cJ1_init 6 = .ok (.putfield 7, 3) := dk_181 0 7 (dk_at dksJ1_init_0 6 rfl rfl)
theorem dJ1_init_9 : decode cJ1_init 9 = .ok (.return_, 1) := dk_177 (dk_at dksJ1_init_0 9 rfl rfl)
abbrev cJ1_listIterator : ByteArray := prog_50_method_12_code
def yJ1_listIterator : MethodName := ⟨RJ1, "listIterator", "()Ljava/util/ListIterator;"⟩
def dkwJ1_listIterator_0 : List UInt8 := [42, 3, 182, 0, 47, 176]
abbrev dktJ1_listIterator_0 : List UInt8 := dkwJ1_listIterator_0 ++ []
theorem dksJ1_listIterator_0 : cJ1_listIterator.data.toList.drop 0 = dktJ1_listIterator_0 := by decide +kernel
theorem dJ1_listIterator_0 : decode cJ1_listIterator 0 = .ok (.aload_n 0, 1) := dk_42 (dk_at dksJ1_listIterator_0 0 rfl rfl)
theorem dJ1_listIterator_1 : decode cJ1_listIterator 1 = .ok (.iconst 0, 1) := dk_3 (dk_at dksJ1_listIterator_0 1 rfl rfl)
theorem dJ1_listIterator_2 : decode cJ1_listIterator 2 = .ok (.invokevirtual 47, 3) := dk_182 0 47 (dk_at dksJ1_listIterator_0 2 rfl rfl)
theorem dJ1_listIterator_5 : decode cJ1_listIterator 5 = .ok (.areturn, 1) := dk_176 (dk_at dksJ1_listIterator_0 5 rfl rfl)
theorem q119 : (Jvm.Cond.initialized "java/util/AbstractList") ∈ lw_all := lw_g (lw_at lw_m1 4 rfl) rfl
theorem q190 : (Jvm.Cond.instanceMethod ({ cls := "java/util/AbstractList", name := "<init>", desc := "()V" } : Jvm.MethodName)) ∈ lw_all := lw_g (lw_at lw_m1 75 rfl) rfl
theorem q191 : (Jvm.Cond.code ({ cls := "java/util/AbstractList", name := "<init>", desc := "()V" } : Jvm.MethodName) prog_50_method_1_code (1 : Nat) (Option.none : Option Jvm.ClassFile.FieldType)) ∈ lw_all := lw_g (lw_at lw_m1 76 rfl) rfl
theorem q192 : (Jvm.Cond.methodLink "java/util/AbstractList" (1 : Nat) ({ cls := "java/util/AbstractCollection", name := "<init>", desc := "()V" } : Jvm.MethodName)) ∈ lw_all := lw_g (lw_at lw_m1 77 rfl) rfl
theorem q520 : (Jvm.Cond.fieldLink "java/util/AbstractList" (7 : Nat) "java/util/AbstractList" "modCount" "I") ∈ lw_all := lw_g (lw_at lw_m2 165 rfl) rfl
theorem q533 : (Jvm.Cond.soleField "java/util/AbstractList" "modCount") ∈ lw_all := lw_g (lw_at lw_m2 178 rfl) rfl
theorem q1897 : (Jvm.Cond.declares ({ cls := "java/util/AbstractList", name := "listIterator", desc := "()Ljava/util/ListIterator;" } : Jvm.MethodName)) ∈ lw_tbl := lw_at lw_m8 102 rfl
theorem q1899 : (Jvm.Cond.instanceMethod ({ cls := "java/util/AbstractList", name := "listIterator", desc := "()Ljava/util/ListIterator;" } : Jvm.MethodName)) ∈ lw_all := lw_g (lw_at lw_m8 104 rfl) rfl
theorem q1900 : (Jvm.Cond.code ({ cls := "java/util/AbstractList", name := "listIterator", desc := "()Ljava/util/ListIterator;" } : Jvm.MethodName) prog_50_method_12_code (1 : Nat) (Option.some (Jvm.ClassFile.FieldType.object "java/util/ListIterator"))) ∈ lw_all := lw_g (lw_at lw_m8 105 rfl) rfl
theorem q1901 : (Jvm.Cond.methodLink "java/util/AbstractList" (47 : Nat) ({ cls := "java/util/AbstractList", name := "listIterator", desc := "(I)Ljava/util/ListIterator;" } : Jvm.MethodName)) ∈ lw_all := lw_g (lw_at lw_m8 106 rfl) rfl
theorem q1902 : (Jvm.Cond.instanceMethod ({ cls := "java/util/AbstractList", name := "listIterator", desc := "(I)Ljava/util/ListIterator;" } : Jvm.MethodName)) ∈ lw_all := lw_g (lw_at lw_m8 107 rfl) rfl
theorem q1903 : (Jvm.Cond.sameMethod "java/util/AbstractList" "java/util/AbstractList" "listIterator" "(I)Ljava/util/ListIterator;") ∈ lw_all := lw_g (lw_at lw_m8 108 rfl) rfl
theorem q1975 : (Jvm.Cond.declares ({ cls := "java/util/AbstractList", name := "listIterator", desc := "(I)Ljava/util/ListIterator;" } : Jvm.MethodName)) ∈ lw_tbl := lw_at lw_m8 180 rfl
theorem q1987 : (Jvm.Cond.sameMethod "java/util/AbstractList" "java/util/AbstractCollection" "size" "()I") ∈ lw_all := lw_g (lw_at lw_m8 192 rfl) rfl
theorem q2020 : (Jvm.Cond.declares ({ cls := "java/util/AbstractList", name := "get", desc := "(I)Ljava/lang/Object;" } : Jvm.MethodName)) ∈ lw_tbl := lw_at lw_m8 225 rfl
theorem q2021 : (Jvm.Cond.sameMethod "java/util/AbstractList" "java/util/AbstractList" "get" "(I)Ljava/lang/Object;") ∈ lw_all := lw_g (lw_at lw_m8 226 rfl) rfl
theorem q2132 : (Jvm.Cond.instanceMethod ({ cls := "java/util/AbstractList", name := "remove", desc := "(I)Ljava/lang/Object;" } : Jvm.MethodName)) ∈ lw_all := lw_g (lw_at lw_m9 97 rfl) rfl
theorem q2133 : (Jvm.Cond.sameMethod "java/util/AbstractList" "java/util/AbstractList" "remove" "(I)Ljava/lang/Object;") ∈ lw_all := lw_g (lw_at lw_m9 98 rfl) rfl
theorem q2142 : (Jvm.Cond.declares ({ cls := "java/util/AbstractList", name := "remove", desc := "(I)Ljava/lang/Object;" } : Jvm.MethodName)) ∈ lw_tbl := lw_at lw_m9 107 rfl

abbrev cJ2_init : ByteArray := prog_55_method_1_code
def yJ2_init : MethodName := ⟨RJ2, "<init>", "(I)V"⟩
def dkwJ2_init_2 : List UInt8 := [182, 0, 25, 27, 182, 0, 29, 182, 0, 32, 183, 0, 36, 191, 177]
abbrev dktJ2_init_2 : List UInt8 := dkwJ2_init_2 ++ []
def dkwJ2_init_1 : List UInt8 := [178, 0, 15, 181, 0, 9, 167, 0, 30, 187, 0, 18, 89, 187, 0, 20, 89, 183, 0, 22, 18, 23]
abbrev dktJ2_init_1 : List UInt8 := dkwJ2_init_1 ++ dktJ2_init_2
def dkwJ2_init_0 : List UInt8 := [42, 183, 0, 1, 27, 158, 0, 14, 42, 27, 189, 0, 7, 181, 0, 9, 167, 0, 44, 27, 154, 0, 13, 42]
abbrev dktJ2_init_0 : List UInt8 := dkwJ2_init_0 ++ dktJ2_init_1
theorem dksJ2_init_0 : cJ2_init.data.toList.drop 0 = dktJ2_init_0 := by decide +kernel
theorem dksJ2_init_1 : cJ2_init.data.toList.drop 24 = dktJ2_init_1 := dk_seg dksJ2_init_0 24 rfl rfl
theorem dksJ2_init_2 : cJ2_init.data.toList.drop 46 = dktJ2_init_2 := dk_seg dksJ2_init_1 22 rfl rfl
theorem dJ2_init_0 : decode cJ2_init 0 = .ok (.aload_n 0, 1) := dk_42 (dk_at dksJ2_init_0 0 rfl rfl)
theorem dJ2_init_1 : decode cJ2_init 1 = .ok (.invokespecial 1, 3) := dk_183 0 1 (dk_at dksJ2_init_0 1 rfl rfl)
theorem dJ2_init_4 : decode cJ2_init 4 = .ok (.iload_n 1, 1) := dk_27 (dk_at dksJ2_init_0 4 rfl rfl)
theorem dJ2_init_5 : decode cJ2_init 5 = .ok (.ifCond .le 14, 3) := dk_158 0 14 (dk_at dksJ2_init_0 5 rfl rfl)
theorem dJ2_init_8 : decode cJ2_init 8 = .ok (.aload_n 0, 1) := dk_42 (dk_at dksJ2_init_0 8 rfl rfl)
theorem dJ2_init_9 : decode cJ2_init 9 = .ok (.iload_n 1, 1) := dk_27 (dk_at dksJ2_init_0 9 rfl rfl)
theorem dJ2_init_10 : decode cJ2_init 10 = .ok (.anewarray 7, 3) := dk_189 0 7 (dk_at dksJ2_init_0 10 rfl rfl)
theorem dJ2_init_13 : decode cJ2_init 13 = .ok (.putfield 9, 3) := dk_181 0 9 (dk_at dksJ2_init_0 13 rfl rfl)
theorem dJ2_init_16 : decode cJ2_init 16 = .ok (.goto 44, 3) := dk_167 0 44 (dk_at dksJ2_init_0 16 rfl rfl)
theorem dJ2_init_19 : decode cJ2_init 19 = .ok (.iload_n 1, 1) := dk_27 (dk_at dksJ2_init_0 19 rfl rfl)
theorem dJ2_init_20 : decode cJ2_init 20 = .ok (.ifCond .ne 13, 3) := dk_154 0 13 (dk_at dksJ2_init_0 20 rfl rfl)
theorem dJ2_init_23 : decode cJ2_init 23 = .ok (.aload_n 0, 1) := dk_42 (dk_at dksJ2_init_0 23 rfl rfl)
theorem dJ2_init_24 : decode cJ2_init 24 = .ok (.getstatic 15, 3) := dk_178 0 15 (dk_at dksJ2_init_1 0 rfl rfl)
theorem dJ2_init_27 : decode cJ2_init 27 = .ok (.putfield 9, 3) := dk_181 0 9 (dk_at dksJ2_init_1 3 rfl rfl)
theorem dJ2_init_30 : decode cJ2_init 30 = .ok (.goto 30, 3) := dk_167 0 30 (dk_at dksJ2_init_1 6 rfl rfl)
theorem dJ2_init_33 : decode cJ2_init 33 = .ok (.new 18, 3) := dk_187 0 18 (dk_at dksJ2_init_1 9 rfl rfl)
theorem dJ2_init_36 : decode cJ2_init 36 = .ok (.dup, 1) := dk_89 (dk_at dksJ2_init_1 12 rfl rfl)
theorem dJ2_init_37 : decode cJ2_init 37 = .ok (.new 20, 3) := dk_187 0 20 (dk_at dksJ2_init_1 13 rfl rfl)
theorem dJ2_init_40 : decode cJ2_init 40 = .ok (.dup, 1) := dk_89 (dk_at dksJ2_init_1 16 rfl rfl)
theorem dJ2_init_41 : decode cJ2_init 41 = .ok (.invokespecial 22, 3) := dk_183 0 22 (dk_at dksJ2_init_1 17 rfl rfl)
theorem dJ2_init_44 : decode cJ2_init 44 = .ok (.ldc 23, 2) := dk_18 23 (dk_at dksJ2_init_1 20 rfl rfl)
theorem dJ2_init_46 : decode cJ2_init 46 = .ok (.invokevirtual 25, 3) := dk_182 0 25 (dk_at dksJ2_init_2 0 rfl rfl)
theorem dJ2_init_49 : decode cJ2_init 49 = .ok (.iload_n 1, 1) := dk_27 (dk_at dksJ2_init_2 3 rfl rfl)
theorem dJ2_init_50 : decode cJ2_init 50 = .ok (.invokevirtual 29, 3) := dk_182 0 29 (dk_at dksJ2_init_2 4 rfl rfl)
theorem dJ2_init_53 : decode cJ2_init 53 = .ok (.invokevirtual 32, 3) := dk_182 0 32 (dk_at dksJ2_init_2 7 rfl rfl)
theorem dJ2_init_56 : decode cJ2_init 56 = .ok (.invokespecial 36, 3) := dk_183 0 36 (dk_at dksJ2_init_2 10 rfl rfl)
theorem dJ2_init_59 : decode cJ2_init 59 = .ok (.athrow, 1) := dk_191 (dk_at dksJ2_init_2 13 rfl rfl)
theorem dJ2_init_60 : decode cJ2_init 60 = .ok (.return_, 1) := dk_177 (dk_at dksJ2_init_2 14 rfl rfl)
abbrev cJ2_add : ByteArray := prog_55_method_25_code
def yJ2_add : MethodName := ⟨RJ2, "add", "(Ljava/lang/Object;)Z"⟩
def dkwJ2_add_1 : List UInt8 := [172]
abbrev dktJ2_add_1 : List UInt8 := dkwJ2_add_1 ++ []
def dkwJ2_add_0 : List UInt8 := [42, 89, 180, 0, 63, 4, 96, 181, 0, 63, 42, 43, 42, 180, 0, 9, 42, 180, 0, 48, 182, 0, 131, 4]
abbrev dktJ2_add_0 : List UInt8 := dkwJ2_add_0 ++ dktJ2_add_1
theorem dksJ2_add_0 : cJ2_add.data.toList.drop 0 = dktJ2_add_0 := by decide +kernel
theorem dksJ2_add_1 : cJ2_add.data.toList.drop 24 = dktJ2_add_1 := dk_seg dksJ2_add_0 24 rfl rfl
theorem dJ2_add_0 : decode cJ2_add 0 = .ok (.aload_n 0, 1) := dk_42 (dk_at dksJ2_add_0 0 rfl rfl)
theorem dJ2_add_1 : decode cJ2_add 1 = .ok (.dup, 1) := dk_89 (dk_at dksJ2_add_0 1 rfl rfl)
theorem dJ2_add_2 : decode cJ2_add 2 = .ok (.getfield 63, 3) := dk_180 0 63 (dk_at dksJ2_add_0 2 rfl rfl)
theorem dJ2_add_5 : decode cJ2_add 5 = .ok (.iconst 1, 1) := dk_4 (dk_at dksJ2_add_0 5 rfl rfl)
theorem dJ2_add_6 : decode cJ2_add 6 = .ok (.iadd, 1) := dk_96 (dk_at dksJ2_add_0 6 rfl rfl)
theorem dJ2_add_7 : decode cJ2_add 7 = .ok (.putfield 63, 3) := dk_181 0 63 (dk_at dksJ2_add_0 7 rfl rfl)
theorem dJ2_add_10 : decode cJ2_add 10 = .ok (.aload_n 0, 1) := dk_42 (dk_at dksJ2_add_0 10 rfl rfl)
theorem dJ2_add_11 : decode cJ2_add 11 = .ok (.aload_n 1, 1) := dk_43 (dk_at dksJ2_add_0 11 rfl rfl)
theorem dJ2_add_12 : decode cJ2_add 12 = .ok (.aload_n 0, 1) := dk_42 (dk_at dksJ2_add_0 12 rfl rfl)
theorem dJ2_add_13 : decode cJ2_add 13 = .ok (.getfield 9, 3) := dk_180 0 9 (dk_at dksJ2_add_0 13 rfl rfl)
theorem dJ2_add_16 : decode cJ2_add 16 = .ok (.aload_n 0, 1) := dk_42 (dk_at dksJ2_add_0 16 rfl rfl)
theorem dJ2_add_17 : decode cJ2_add 17 = .ok (.getfield 48, 3) := dk_180 0 48 (dk_at dksJ2_add_0 17 rfl rfl)
theorem dJ2_add_20 : decode cJ2_add 20 = .ok (.invokevirtual 131, 3) := dk_182 0 131 (dk_at dksJ2_add_0 20 rfl rfl)
theorem dJ2_add_23 : decode cJ2_add 23 = .ok (.iconst 1, 1) := dk_4 (dk_at dksJ2_add_0 23 rfl rfl)
theorem dJ2_add_24 : decode cJ2_add 24 = .ok (.ireturn, 1) := dk_172 (dk_at dksJ2_add_1 0 rfl rfl)
abbrev cJ2_add_2 : ByteArray := prog_55_method_24_code
def yJ2_add_2 : MethodName := ⟨RJ2, "add", "(Ljava/lang/Object;[Ljava/lang/Object;I)V"⟩
def dkwJ2_add_2_0 : List UInt8 := [29, 44, 190, 160, 0, 8, 42, 182, 0, 129, 77, 44, 29, 43, 83, 42, 29, 4, 96, 181, 0, 48, 177]
abbrev dktJ2_add_2_0 : List UInt8 := dkwJ2_add_2_0 ++ []
theorem dksJ2_add_2_0 : cJ2_add_2.data.toList.drop 0 = dktJ2_add_2_0 := by decide +kernel
theorem dJ2_add_2_0 : decode cJ2_add_2 0 = .ok (.iload_n 3, 1) := dk_29 (dk_at dksJ2_add_2_0 0 rfl rfl)
theorem dJ2_add_2_1 : decode cJ2_add_2 1 = .ok (.aload_n 2, 1) := dk_44 (dk_at dksJ2_add_2_0 1 rfl rfl)
theorem dJ2_add_2_2 : decode cJ2_add_2 2 = .ok (.arraylength, 1) := dk_190 (dk_at dksJ2_add_2_0 2 rfl rfl)
theorem dJ2_add_2_3 : decode cJ2_add_2 3 = .ok (.if_icmp .ne 8, 3) := dk_160 0 8 (dk_at dksJ2_add_2_0 3 rfl rfl)
theorem dJ2_add_2_6 : decode cJ2_add_2 6 = .ok (.aload_n 0, 1) := dk_42 (dk_at dksJ2_add_2_0 6 rfl rfl)
theorem dJ2_add_2_7 : decode cJ2_add_2 7 = .ok (.invokevirtual 129, 3) := dk_182 0 129 (dk_at dksJ2_add_2_0 7 rfl rfl)
theorem dJ2_add_2_10 : decode cJ2_add_2 10 = .ok (.astore_n 2, 1) := dk_77 (dk_at dksJ2_add_2_0 10 rfl rfl)
theorem dJ2_add_2_11 : decode cJ2_add_2 11 = .ok (.aload_n 2, 1) := dk_44 (dk_at dksJ2_add_2_0 11 rfl rfl)
theorem dJ2_add_2_12 : decode cJ2_add_2 12 = .ok (.iload_n 3, 1) := dk_29 (dk_at dksJ2_add_2_0 12 rfl rfl)
theorem dJ2_add_2_13 : decode cJ2_add_2 13 = .ok (.aload_n 1, 1) := dk_43 (dk_at dksJ2_add_2_0 13 rfl rfl)
theorem dJ2_add_2_14 : decode cJ2_add_2 14 = .ok (.aastore, 1) := dk_83 (dk_at dksJ2_add_2_0 14 rfl rfl)
theorem dJ2_add_2_15 : decode cJ2_add_2 15 = .ok (.aload_n 0, 1) := dk_42 (dk_at dksJ2_add_2_0 15 rfl rfl)
theorem dJ2_add_2_16 : decode cJ2_add_2 16 = .ok (.iload_n 3, 1) := dk_29 (dk_at dksJ2_add_2_0 16 rfl rfl)
theorem dJ2_add_2_17 : decode cJ2_add_2 17 = .ok (.iconst 1, 1) := dk_4 (dk_at dksJ2_add_2_0 17 rfl rfl)
theorem dJ2_add_2_18 : decode cJ2_add_2 18 = .ok (.iadd, 1) := dk_96 (dk_at dksJ2_add_2_0 18 rfl rfl)
theorem dJ2_add_2_19 : decode cJ2_add_2 19 = .ok (.putfield 48, 3) := dk_181 0 48 (dk_at dksJ2_add_2_0 19 rfl rfl)
theorem dJ2_add_2_22 : decode cJ2_add_2 22 = .ok (.return_, 1) := dk_177 (dk_at dksJ2_add_2_0 22 rfl rfl)
abbrev cJ2_grow : ByteArray := prog_55_method_7_code
def yJ2_grow : MethodName := ⟨RJ2, "grow", "()[Ljava/lang/Object;"⟩
def dkwJ2_grow_0 : List UInt8 := [42, 42, 180, 0, 48, 4, 96, 182, 0, 69, 176]
abbrev dktJ2_grow_0 : List UInt8 := dkwJ2_grow_0 ++ []
theorem dksJ2_grow_0 : cJ2_grow.data.toList.drop 0 = dktJ2_grow_0 := by decide +kernel
theorem dJ2_grow_0 : decode cJ2_grow 0 = .ok (.aload_n 0, 1) := dk_42 (dk_at dksJ2_grow_0 0 rfl rfl)
theorem dJ2_grow_1 : decode cJ2_grow 1 = .ok (.aload_n 0, 1) := dk_42 (dk_at dksJ2_grow_0 1 rfl rfl)
theorem dJ2_grow_2 : decode cJ2_grow 2 = .ok (.getfield 48, 3) := dk_180 0 48 (dk_at dksJ2_grow_0 2 rfl rfl)
theorem dJ2_grow_5 : decode cJ2_grow 5 = .ok (.iconst 1, 1) := dk_4 (dk_at dksJ2_grow_0 5 rfl rfl)
theorem dJ2_grow_6 : decode cJ2_grow 6 = .ok (.iadd, 1) := dk_96 (dk_at dksJ2_grow_0 6 rfl rfl)
theorem dJ2_grow_7 : decode cJ2_grow 7 = .ok (.invokevirtual 69, 3) := dk_182 0 69 (dk_at dksJ2_grow_0 7 rfl rfl)
theorem dJ2_grow_10 : decode cJ2_grow 10 = .ok (.areturn, 1) := dk_176 (dk_at dksJ2_grow_0 10 rfl rfl)
abbrev cJ2_grow_2 : ByteArray := prog_55_method_6_code
def yJ2_grow_2 : MethodName := ⟨RJ2, "grow", "(I)[Ljava/lang/Object;"⟩
def dkwJ2_grow_2_2 : List UInt8 := [27, 184, 0, 79, 189, 0, 7, 90, 181, 0, 9, 176]
abbrev dktJ2_grow_2_2 : List UInt8 := dkwJ2_grow_2_2 ++ []
def dkwJ2_grow_2_1 : List UInt8 := [28, 4, 122, 184, 0, 73, 62, 42, 42, 180, 0, 9, 29, 184, 0, 66, 90, 181, 0, 9, 176, 42, 16, 10]
abbrev dktJ2_grow_2_1 : List UInt8 := dkwJ2_grow_2_1 ++ dktJ2_grow_2_2
def dkwJ2_grow_2_0 : List UInt8 := [42, 180, 0, 9, 190, 61, 28, 157, 0, 13, 42, 180, 0, 9, 178, 0, 39, 165, 0, 28, 28, 27, 28, 100]
abbrev dktJ2_grow_2_0 : List UInt8 := dkwJ2_grow_2_0 ++ dktJ2_grow_2_1
theorem dksJ2_grow_2_0 : cJ2_grow_2.data.toList.drop 0 = dktJ2_grow_2_0 := by decide +kernel
theorem dksJ2_grow_2_1 : cJ2_grow_2.data.toList.drop 24 = dktJ2_grow_2_1 := dk_seg dksJ2_grow_2_0 24 rfl rfl
theorem dksJ2_grow_2_2 : cJ2_grow_2.data.toList.drop 48 = dktJ2_grow_2_2 := dk_seg dksJ2_grow_2_1 24 rfl rfl
theorem dJ2_grow_2_0 : decode cJ2_grow_2 0 = .ok (.aload_n 0, 1) := dk_42 (dk_at dksJ2_grow_2_0 0 rfl rfl)
theorem dJ2_grow_2_1 : decode cJ2_grow_2 1 = .ok (.getfield 9, 3) := dk_180 0 9 (dk_at dksJ2_grow_2_0 1 rfl rfl)
theorem dJ2_grow_2_4 : decode cJ2_grow_2 4 = .ok (.arraylength, 1) := dk_190 (dk_at dksJ2_grow_2_0 4 rfl rfl)
theorem dJ2_grow_2_5 : decode cJ2_grow_2 5 = .ok (.istore_n 2, 1) := dk_61 (dk_at dksJ2_grow_2_0 5 rfl rfl)
theorem dJ2_grow_2_6 : decode cJ2_grow_2 6 = .ok (.iload_n 2, 1) := dk_28 (dk_at dksJ2_grow_2_0 6 rfl rfl)
theorem dJ2_grow_2_7 : decode cJ2_grow_2 7 = .ok (.ifCond .gt 13, 3) := dk_157 0 13 (dk_at dksJ2_grow_2_0 7 rfl rfl)
theorem dJ2_grow_2_10 : decode cJ2_grow_2 10 = .ok (.aload_n 0, 1) := dk_42 (dk_at dksJ2_grow_2_0 10 rfl rfl)
theorem dJ2_grow_2_11 : decode cJ2_grow_2 11 = .ok (.getfield 9, 3) := dk_180 0 9 (dk_at dksJ2_grow_2_0 11 rfl rfl)
theorem dJ2_grow_2_14 : decode cJ2_grow_2 14 = .ok (.getstatic 39, 3) := dk_178 0 39 (dk_at dksJ2_grow_2_0 14 rfl rfl)
theorem dJ2_grow_2_17 : decode cJ2_grow_2 17 = .ok (.if_acmp .eq 28, 3) := dk_165 0 28 (dk_at dksJ2_grow_2_0 17 rfl rfl)
theorem dJ2_grow_2_20 : decode cJ2_grow_2 20 = .ok (.iload_n 2, 1) := dk_28 (dk_at dksJ2_grow_2_0 20 rfl rfl)
theorem dJ2_grow_2_21 : decode cJ2_grow_2 21 = .ok (.iload_n 1, 1) := dk_27 (dk_at dksJ2_grow_2_0 21 rfl rfl)
theorem dJ2_grow_2_22 : decode cJ2_grow_2 22 = .ok (.iload_n 2, 1) := dk_28 (dk_at dksJ2_grow_2_0 22 rfl rfl)
theorem dJ2_grow_2_23 : decode cJ2_grow_2 23 = .ok (.isub, 1) := dk_100 (dk_at dksJ2_grow_2_0 23 rfl rfl)
theorem dJ2_grow_2_24 : decode cJ2_grow_2 24 = .ok (.iload_n 2, 1) := dk_28 (dk_at dksJ2_grow_2_1 0 rfl rfl)
theorem dJ2_grow_2_25 : decode cJ2_grow_2 25 = .ok (.iconst 1, 1) := dk_4 (dk_at dksJ2_grow_2_1 1 rfl rfl)
theorem dJ2_grow_2_26 : decode cJ2_grow_2 26 = .ok (.ishr, 1) := dk_122 (dk_at dksJ2_grow_2_1 2 rfl rfl)
theorem dJ2_grow_2_27 : decode cJ2_grow_2 27 = .ok (.invokestatic 73, 3) := dk_184 0 73 (dk_at dksJ2_grow_2_1 3 rfl rfl)
theorem dJ2_grow_2_30 : decode cJ2_grow_2 30 = .ok (.istore_n 3, 1) := dk_62 (dk_at dksJ2_grow_2_1 6 rfl rfl)
theorem dJ2_grow_2_31 : decode cJ2_grow_2 31 = .ok (.aload_n 0, 1) := dk_42 (dk_at dksJ2_grow_2_1 7 rfl rfl)
theorem dJ2_grow_2_32 : decode cJ2_grow_2 32 = .ok (.aload_n 0, 1) := dk_42 (dk_at dksJ2_grow_2_1 8 rfl rfl)
theorem dJ2_grow_2_33 : decode cJ2_grow_2 33 = .ok (.getfield 9, 3) := dk_180 0 9 (dk_at dksJ2_grow_2_1 9 rfl rfl)
theorem dJ2_grow_2_36 : decode cJ2_grow_2 36 = .ok (.iload_n 3, 1) := dk_29 (dk_at dksJ2_grow_2_1 12 rfl rfl)
theorem dJ2_grow_2_37 : decode cJ2_grow_2 37 = .ok (.invokestatic 66, 3) := dk_184 0 66 (dk_at dksJ2_grow_2_1 13 rfl rfl)
theorem dJ2_grow_2_40 : decode cJ2_grow_2 40 = .ok (.dup_x1, 1) := dk_90 (dk_at dksJ2_grow_2_1 16 rfl rfl)
theorem dJ2_grow_2_41 : decode cJ2_grow_2 41 = .ok (.putfield 9, 3) := dk_181 0 9 (dk_at dksJ2_grow_2_1 17 rfl rfl)
theorem dJ2_grow_2_44 : decode cJ2_grow_2 44 = .ok (.areturn, 1) := dk_176 (dk_at dksJ2_grow_2_1 20 rfl rfl)
theorem dJ2_grow_2_45 : decode cJ2_grow_2 45 = .ok (.aload_n 0, 1) := dk_42 (dk_at dksJ2_grow_2_1 21 rfl rfl)
theorem dJ2_grow_2_46 : decode cJ2_grow_2 46 = .ok (.bipush 10, 2) := dk_16 10 (dk_at dksJ2_grow_2_1 22 rfl rfl)
theorem dJ2_grow_2_48 : decode cJ2_grow_2 48 = .ok (.iload_n 1, 1) := dk_27 (dk_at dksJ2_grow_2_2 0 rfl rfl)
theorem dJ2_grow_2_49 : decode cJ2_grow_2 49 = .ok (.invokestatic 79, 3) := dk_184 0 79 (dk_at dksJ2_grow_2_2 1 rfl rfl)
theorem dJ2_grow_2_52 : decode cJ2_grow_2 52 = .ok (.anewarray 7, 3) := dk_189 0 7 (dk_at dksJ2_grow_2_2 4 rfl rfl)
theorem dJ2_grow_2_55 : decode cJ2_grow_2 55 = .ok (.dup_x1, 1) := dk_90 (dk_at dksJ2_grow_2_2 7 rfl rfl)
theorem dJ2_grow_2_56 : decode cJ2_grow_2 56 = .ok (.putfield 9, 3) := dk_181 0 9 (dk_at dksJ2_grow_2_2 8 rfl rfl)
theorem dJ2_grow_2_59 : decode cJ2_grow_2 59 = .ok (.areturn, 1) := dk_176 (dk_at dksJ2_grow_2_2 11 rfl rfl)
abbrev cJ2_remove : ByteArray := prog_55_method_29_code
def yJ2_remove : MethodName := ⟨RJ2, "remove", "(I)Ljava/lang/Object;"⟩
def dkwJ2_remove_1 : List UInt8 := [45, 176]
abbrev dktJ2_remove_1 : List UInt8 := dkwJ2_remove_1 ++ []
def dkwJ2_remove_0 : List UInt8 := [27, 42, 180, 0, 48, 184, 0, 118, 87, 42, 180, 0, 9, 77, 44, 27, 50, 78, 42, 44, 27, 182, 0, 144]
abbrev dktJ2_remove_0 : List UInt8 := dkwJ2_remove_0 ++ dktJ2_remove_1
theorem dksJ2_remove_0 : cJ2_remove.data.toList.drop 0 = dktJ2_remove_0 := by decide +kernel
theorem dksJ2_remove_1 : cJ2_remove.data.toList.drop 24 = dktJ2_remove_1 := dk_seg dksJ2_remove_0 24 rfl rfl
theorem dJ2_remove_0 : decode cJ2_remove 0 = .ok (.iload_n 1, 1) := dk_27 (dk_at dksJ2_remove_0 0 rfl rfl)
theorem dJ2_remove_1 : decode cJ2_remove 1 = .ok (.aload_n 0, 1) := dk_42 (dk_at dksJ2_remove_0 1 rfl rfl)
theorem dJ2_remove_2 : decode cJ2_remove 2 = .ok (.getfield 48, 3) := dk_180 0 48 (dk_at dksJ2_remove_0 2 rfl rfl)
theorem dJ2_remove_5 : decode cJ2_remove 5 = .ok (.invokestatic 118, 3) := dk_184 0 118 (dk_at dksJ2_remove_0 5 rfl rfl)
theorem dJ2_remove_8 : decode cJ2_remove 8 = .ok (.pop, 1) := dk_87 (dk_at dksJ2_remove_0 8 rfl rfl)
theorem dJ2_remove_9 : decode cJ2_remove 9 = .ok (.aload_n 0, 1) := dk_42 (dk_at dksJ2_remove_0 9 rfl rfl)
theorem dJ2_remove_10 : decode cJ2_remove 10 = .ok (.getfield 9, 3) := dk_180 0 9 (dk_at dksJ2_remove_0 10 rfl rfl)
theorem dJ2_remove_13 : decode cJ2_remove 13 = .ok (.astore_n 2, 1) := dk_77 (dk_at dksJ2_remove_0 13 rfl rfl)
theorem dJ2_remove_14 : decode cJ2_remove 14 = .ok (.aload_n 2, 1) := dk_44 (dk_at dksJ2_remove_0 14 rfl rfl)
theorem dJ2_remove_15 : decode cJ2_remove 15 = .ok (.iload_n 1, 1) := dk_27 (dk_at dksJ2_remove_0 15 rfl rfl)
theorem dJ2_remove_16 : decode cJ2_remove 16 = .ok (.aaload, 1) := dk_50 (dk_at dksJ2_remove_0 16 rfl rfl)
theorem dJ2_remove_17 : decode cJ2_remove 17 = .ok (.astore_n 3, 1) := dk_78 (dk_at dksJ2_remove_0 17 rfl rfl)
theorem dJ2_remove_18 : decode cJ2_remove 18 = .ok (.aload_n 0, 1) := dk_42 (dk_at dksJ2_remove_0 18 rfl rfl)
theorem dJ2_remove_19 : decode cJ2_remove 19 = .ok (.aload_n 2, 1) := dk_44 (dk_at dksJ2_remove_0 19 rfl rfl)
theorem dJ2_remove_20 : decode cJ2_remove 20 = .ok (.iload_n 1, 1) := dk_27 (dk_at dksJ2_remove_0 20 rfl rfl)
theorem dJ2_remove_21 : decode cJ2_remove 21 = .ok (.invokevirtual 144, 3) := dk_182 0 144 (dk_at dksJ2_remove_0 21 rfl rfl)
theorem dJ2_remove_24 : decode cJ2_remove 24 = .ok (.aload_n 3, 1) := dk_45 (dk_at dksJ2_remove_1 0 rfl rfl)
theorem dJ2_remove_25 : decode cJ2_remove 25 = .ok (.areturn, 1) := dk_176 (dk_at dksJ2_remove_1 1 rfl rfl)
abbrev cJ2_fastRemove : ByteArray := prog_55_method_39_code
def yJ2_fastRemove : MethodName := ⟨RJ2, "fastRemove", "([Ljava/lang/Object;I)V"⟩
def dkwJ2_fastRemove_1 : List UInt8 := [4, 96, 43, 28, 29, 28, 100, 184, 0, 112, 43, 42, 29, 90, 181, 0, 48, 1, 83, 177]
abbrev dktJ2_fastRemove_1 : List UInt8 := dkwJ2_fastRemove_1 ++ []
def dkwJ2_fastRemove_0 : List UInt8 := [42, 89, 180, 0, 63, 4, 96, 181, 0, 63, 42, 180, 0, 48, 4, 100, 89, 62, 28, 164, 0, 15, 43, 28]
abbrev dktJ2_fastRemove_0 : List UInt8 := dkwJ2_fastRemove_0 ++ dktJ2_fastRemove_1
theorem dksJ2_fastRemove_0 : cJ2_fastRemove.data.toList.drop 0 = dktJ2_fastRemove_0 := by decide +kernel
theorem dksJ2_fastRemove_1 : cJ2_fastRemove.data.toList.drop 24 = dktJ2_fastRemove_1 := dk_seg dksJ2_fastRemove_0 24 rfl rfl
theorem dJ2_fastRemove_0 : decode cJ2_fastRemove 0 = .ok (.aload_n 0, 1) := dk_42 (dk_at dksJ2_fastRemove_0 0 rfl rfl)
theorem dJ2_fastRemove_1 : decode cJ2_fastRemove 1 = .ok (.dup, 1) := dk_89 (dk_at dksJ2_fastRemove_0 1 rfl rfl)
theorem dJ2_fastRemove_2 : decode cJ2_fastRemove 2 = .ok (.getfield 63, 3) := dk_180 0 63 (dk_at dksJ2_fastRemove_0 2 rfl rfl)
theorem dJ2_fastRemove_5 : decode cJ2_fastRemove 5 = .ok (.iconst 1, 1) := dk_4 (dk_at dksJ2_fastRemove_0 5 rfl rfl)
theorem dJ2_fastRemove_6 : decode cJ2_fastRemove 6 = .ok (.iadd, 1) := dk_96 (dk_at dksJ2_fastRemove_0 6 rfl rfl)
theorem dJ2_fastRemove_7 : decode cJ2_fastRemove 7 = .ok (.putfield 63, 3) := dk_181 0 63 (dk_at dksJ2_fastRemove_0 7 rfl rfl)
theorem dJ2_fastRemove_10 : decode cJ2_fastRemove 10 = .ok (.aload_n 0, 1) := dk_42 (dk_at dksJ2_fastRemove_0 10 rfl rfl)
theorem dJ2_fastRemove_11 : decode cJ2_fastRemove 11 = .ok (.getfield 48, 3) := dk_180 0 48 (dk_at dksJ2_fastRemove_0 11 rfl rfl)
theorem dJ2_fastRemove_14 : decode cJ2_fastRemove 14 = .ok (.iconst 1, 1) := dk_4 (dk_at dksJ2_fastRemove_0 14 rfl rfl)
theorem dJ2_fastRemove_15 : decode cJ2_fastRemove 15 = .ok (.isub, 1) := dk_100 (dk_at dksJ2_fastRemove_0 15 rfl rfl)
theorem dJ2_fastRemove_16 : decode cJ2_fastRemove 16 = .ok (.dup, 1) := dk_89 (dk_at dksJ2_fastRemove_0 16 rfl rfl)
theorem dJ2_fastRemove_17 : decode cJ2_fastRemove 17 = .ok (.istore_n 3, 1) := dk_62 (dk_at dksJ2_fastRemove_0 17 rfl rfl)
theorem dJ2_fastRemove_18 : decode cJ2_fastRemove 18 = .ok (.iload_n 2, 1) := dk_28 (dk_at dksJ2_fastRemove_0 18 rfl rfl)
theorem dJ2_fastRemove_19 : decode cJ2_fastRemove 19 = .ok (.if_icmp .le 15, 3) := dk_164 0 15 (dk_at dksJ2_fastRemove_0 19 rfl rfl)
theorem dJ2_fastRemove_22 : decode cJ2_fastRemove 22 = .ok (.aload_n 1, 1) := dk_43 (dk_at dksJ2_fastRemove_0 22 rfl rfl)
theorem dJ2_fastRemove_23 : decode cJ2_fastRemove 23 = .ok (.iload_n 2, 1) := dk_28 (dk_at dksJ2_fastRemove_0 23 rfl rfl)
theorem dJ2_fastRemove_24 : decode cJ2_fastRemove 24 = .ok (.iconst 1, 1) := dk_4 (dk_at dksJ2_fastRemove_1 0 rfl rfl)
theorem dJ2_fastRemove_25 : decode cJ2_fastRemove 25 = .ok (.iadd, 1) := dk_96 (dk_at dksJ2_fastRemove_1 1 rfl rfl)
theorem dJ2_fastRemove_26 : decode cJ2_fastRemove 26 = .ok (.aload_n 1, 1) := dk_43 (dk_at dksJ2_fastRemove_1 2 rfl rfl)
theorem dJ2_fastRemove_27 : decode cJ2_fastRemove 27 = .ok (.iload_n 2, 1) := dk_28 (dk_at dksJ2_fastRemove_1 3 rfl rfl)
theorem dJ2_fastRemove_28 : decode cJ2_fastRemove 28 = .ok (.iload_n 3, 1) := dk_29 (dk_at dksJ2_fastRemove_1 4 rfl rfl)
theorem dJ2_fastRemove_29 : decode cJ2_fastRemove 29 = .ok (.iload_n 2, 1) := dk_28 (dk_at dksJ2_fastRemove_1 5 rfl rfl)
theorem dJ2_fastRemove_30 : decode cJ2_fastRemove 30 = .ok (.isub, 1) := dk_100 (dk_at dksJ2_fastRemove_1 6 rfl rfl)
theorem dJ2_fastRemove_31 : decode cJ2_fastRemove 31 = .ok (.invokestatic 112, 3) := dk_184 0 112 (dk_at dksJ2_fastRemove_1 7 rfl rfl)
theorem dJ2_fastRemove_34 : decode cJ2_fastRemove 34 = .ok (.aload_n 1, 1) := dk_43 (dk_at dksJ2_fastRemove_1 10 rfl rfl)
theorem dJ2_fastRemove_35 : decode cJ2_fastRemove 35 = .ok (.aload_n 0, 1) := dk_42 (dk_at dksJ2_fastRemove_1 11 rfl rfl)
theorem dJ2_fastRemove_36 : decode cJ2_fastRemove 36 = .ok (.iload_n 3, 1) := dk_29 (dk_at dksJ2_fastRemove_1 12 rfl rfl)
theorem dJ2_fastRemove_37 : decode cJ2_fastRemove 37 = .ok (.dup_x1, 1) := dk_90 (dk_at dksJ2_fastRemove_1 13 rfl rfl)
theorem dJ2_fastRemove_38 : decode cJ2_fastRemove 38 = .ok (.putfield 48, 3) := dk_181 0 48 (dk_at dksJ2_fastRemove_1 14 rfl rfl)
theorem dJ2_fastRemove_41 : decode cJ2_fastRemove 41 = .ok (.aconst_null, 1) := dk_1 (dk_at dksJ2_fastRemove_1 17 rfl rfl)
theorem dJ2_fastRemove_42 : decode cJ2_fastRemove 42 = .ok (.aastore, 1) := dk_83 (dk_at dksJ2_fastRemove_1 18 rfl rfl)
theorem dJ2_fastRemove_43 : decode cJ2_fastRemove 43 = .ok (.return_, 1) := dk_177 (dk_at dksJ2_fastRemove_1 19 rfl rfl)
abbrev cJ2_get : ByteArray := prog_55_method_20_code
def yJ2_get : MethodName := ⟨RJ2, "get", "(I)Ljava/lang/Object;"⟩
def dkwJ2_get_0 : List UInt8 := [27, 42, 180, 0, 48, 184, 0, 118, 87, 42, 27, 182, 0, 123, 176]
abbrev dktJ2_get_0 : List UInt8 := dkwJ2_get_0 ++ []
theorem dksJ2_get_0 : cJ2_get.data.toList.drop 0 = dktJ2_get_0 := by decide +kernel
theorem dJ2_get_0 : decode cJ2_get 0 = .ok (.iload_n 1, 1) := dk_27 (dk_at dksJ2_get_0 0 rfl rfl)
theorem dJ2_get_1 : decode cJ2_get 1 = .ok (.aload_n 0, 1) := dk_42 (dk_at dksJ2_get_0 1 rfl rfl)
theorem dJ2_get_2 : decode cJ2_get 2 = .ok (.getfield 48, 3) := dk_180 0 48 (dk_at dksJ2_get_0 2 rfl rfl)
theorem dJ2_get_5 : decode cJ2_get 5 = .ok (.invokestatic 118, 3) := dk_184 0 118 (dk_at dksJ2_get_0 5 rfl rfl)
theorem dJ2_get_8 : decode cJ2_get 8 = .ok (.pop, 1) := dk_87 (dk_at dksJ2_get_0 8 rfl rfl)
theorem dJ2_get_9 : decode cJ2_get 9 = .ok (.aload_n 0, 1) := dk_42 (dk_at dksJ2_get_0 9 rfl rfl)
theorem dJ2_get_10 : decode cJ2_get 10 = .ok (.iload_n 1, 1) := dk_27 (dk_at dksJ2_get_0 10 rfl rfl)
theorem dJ2_get_11 : decode cJ2_get 11 = .ok (.invokevirtual 123, 3) := dk_182 0 123 (dk_at dksJ2_get_0 11 rfl rfl)
theorem dJ2_get_14 : decode cJ2_get 14 = .ok (.areturn, 1) := dk_176 (dk_at dksJ2_get_0 14 rfl rfl)
abbrev cJ2_elementData : ByteArray := prog_55_method_18_code
def yJ2_elementData : MethodName := ⟨RJ2, "elementData", "(I)Ljava/lang/Object;"⟩
def dkwJ2_elementData_0 : List UInt8 := [42, 180, 0, 9, 27, 50, 176]
abbrev dktJ2_elementData_0 : List UInt8 := dkwJ2_elementData_0 ++ []
theorem dksJ2_elementData_0 : cJ2_elementData.data.toList.drop 0 = dktJ2_elementData_0 := by decide +kernel
theorem dJ2_elementData_0 : decode cJ2_elementData 0 = .ok (.aload_n 0, 1) := dk_42 (dk_at dksJ2_elementData_0 0 rfl rfl)
theorem dJ2_elementData_1 : decode cJ2_elementData 1 = .ok (.getfield 9, 3) := dk_180 0 9 (dk_at dksJ2_elementData_0 1 rfl rfl)
theorem dJ2_elementData_4 : decode cJ2_elementData 4 = .ok (.iload_n 1, 1) := dk_27 (dk_at dksJ2_elementData_0 4 rfl rfl)
theorem dJ2_elementData_5 : decode cJ2_elementData 5 = .ok (.aaload, 1) := dk_50 (dk_at dksJ2_elementData_0 5 rfl rfl)
theorem dJ2_elementData_6 : decode cJ2_elementData 6 = .ok (.areturn, 1) := dk_176 (dk_at dksJ2_elementData_0 6 rfl rfl)
abbrev cJ2_isEmpty : ByteArray := prog_55_method_9_code
def yJ2_isEmpty : MethodName := ⟨RJ2, "isEmpty", "()Z"⟩
def dkwJ2_isEmpty_0 : List UInt8 := [42, 180, 0, 48, 154, 0, 7, 4, 167, 0, 4, 3, 172]
abbrev dktJ2_isEmpty_0 : List UInt8 := dkwJ2_isEmpty_0 ++ []
theorem dksJ2_isEmpty_0 : cJ2_isEmpty.data.toList.drop 0 = dktJ2_isEmpty_0 := by decide +kernel
theorem dJ2_isEmpty_0 : decode cJ2_isEmpty 0 = .ok (.aload_n 0, 1) := dk_42 (dk_at dksJ2_isEmpty_0 0 rfl rfl)
theorem dJ2_isEmpty_1 : decode cJ2_isEmpty 1 = .ok (.getfield 48, 3) := dk_180 0 48 (dk_at dksJ2_isEmpty_0 1 rfl rfl)
theorem dJ2_isEmpty_4 : decode cJ2_isEmpty 4 = .ok (.ifCond .ne 7, 3) := dk_154 0 7 (dk_at dksJ2_isEmpty_0 4 rfl rfl)
theorem dJ2_isEmpty_7 : decode cJ2_isEmpty 7 = .ok (.iconst 1, 1) := dk_4 (dk_at dksJ2_isEmpty_0 7 rfl rfl)
theorem dJ2_isEmpty_8 : decode cJ2_isEmpty 8 = .ok (.goto 4, 3) := dk_167 0 4 (dk_at dksJ2_isEmpty_0 8 rfl rfl)
theorem dJ2_isEmpty_11 : decode cJ2_isEmpty 11 = .ok (.iconst 0, 1) := dk_3 (dk_at dksJ2_isEmpty_0 11 rfl rfl)
theorem dJ2_isEmpty_12 : decode cJ2_isEmpty 12 = .ok (.ireturn, 1) := dk_172 (dk_at dksJ2_isEmpty_0 12 rfl rfl)
abbrev cJ2_size : ByteArray := prog_55_method_8_code
def yJ2_size : MethodName := ⟨RJ2, "size", "()I"⟩
theorem dJ2_size_0 : decode cJ2_size 0 = .ok (.aload_n 0, 1) := by decide +kernel
theorem dJ2_size_1 : decode cJ2_size 1 = .ok (.getfield 48, 3) := by decide +kernel
theorem dJ2_size_4 : decode cJ2_size 4 = .ok (.ireturn, 1) := by decide +kernel
abbrev cJ2_listIterator : ByteArray := prog_55_method_53_code
def yJ2_listIterator : MethodName := ⟨RJ2, "listIterator", "(I)Ljava/util/ListIterator;"⟩
def dkwJ2_listIterator_0 : List UInt8 := [42, 27, 182, 0, 135, 187, 1, 6, 89, 42, 27, 183, 1, 8, 176]
abbrev dktJ2_listIterator_0 : List UInt8 := dkwJ2_listIterator_0 ++ []
theorem dksJ2_listIterator_0 : cJ2_listIterator.data.toList.drop 0 = dktJ2_listIterator_0 := by decide +kernel
theorem dJ2_listIterator_0 : decode cJ2_listIterator 0 = .ok (.aload_n 0, 1) := dk_42 (dk_at dksJ2_listIterator_0 0 rfl rfl)
theorem dJ2_listIterator_1 : decode cJ2_listIterator 1 = .ok (.iload_n 1, 1) := dk_27 (dk_at dksJ2_listIterator_0 1 rfl rfl)
theorem dJ2_listIterator_2 : decode cJ2_listIterator 2 = .ok (.invokevirtual 135, 3) := dk_182 0 135 (dk_at dksJ2_listIterator_0 2 rfl rfl)
theorem dJ2_listIterator_5 : decode cJ2_listIterator 5 = .ok (.new 262, 3) := dk_187 1 6 (dk_at dksJ2_listIterator_0 5 rfl rfl)
theorem dJ2_listIterator_8 : decode cJ2_listIterator 8 = .ok (.dup, 1) := dk_89 (dk_at dksJ2_listIterator_0 8 rfl rfl)
theorem dJ2_listIterator_9 : decode cJ2_listIterator 9 = .ok (.aload_n 0, 1) := dk_42 (dk_at dksJ2_listIterator_0 9 rfl rfl)
theorem dJ2_listIterator_10 : decode cJ2_listIterator 10 = .ok (.iload_n 1, 1) := dk_27 (dk_at dksJ2_listIterator_0 10 rfl rfl)
theorem dJ2_listIterator_11 : decode cJ2_listIterator 11 = .ok (.invokespecial 264, 3) := dk_183 1 8 (dk_at dksJ2_listIterator_0 11 rfl rfl)
theorem dJ2_listIterator_14 : decode cJ2_listIterator 14 = .ok (.areturn, 1) := dk_176 (dk_at dksJ2_listIterator_0 14 rfl rfl)
abbrev cJ2_rangeCheckForAdd : ByteArray := prog_55_method_45_code
def yJ2_rangeCheckForAdd : MethodName := ⟨RJ2, "rangeCheckForAdd", "(I)V"⟩
def dkwJ2_rangeCheckForAdd_1 : List UInt8 := [191, 177]
abbrev dktJ2_rangeCheckForAdd_1 : List UInt8 := dkwJ2_rangeCheckForAdd_1 ++ []
def dkwJ2_rangeCheckForAdd_0 : List UInt8 := [27, 42, 180, 0, 48, 163, 0, 7, 27, 156, 0, 16, 187, 0, 187, 89, 42, 27, 182, 0, 198, 183, 0, 193]
abbrev dktJ2_rangeCheckForAdd_0 : List UInt8 := dkwJ2_rangeCheckForAdd_0 ++ dktJ2_rangeCheckForAdd_1
theorem dksJ2_rangeCheckForAdd_0 : cJ2_rangeCheckForAdd.data.toList.drop 0 = dktJ2_rangeCheckForAdd_0 := by decide +kernel
theorem dksJ2_rangeCheckForAdd_1 : cJ2_rangeCheckForAdd.data.toList.drop 24 = dktJ2_rangeCheckForAdd_1 := dk_seg dksJ2_rangeCheckForAdd_0 24 rfl rfl
theorem dJ2_rangeCheckForAdd_0 : decode cJ2_rangeCheckForAdd 0 = .ok (.iload_n 1, 1) := dk_27 (dk_at dksJ2_rangeCheckForAdd_0 0 rfl rfl)
theorem dJ2_rangeCheckForAdd_1 : decode cJ2_rangeCheckForAdd 1 = .ok (.aload_n 0, 1) := dk_42 (dk_at dksJ2_rangeCheckForAdd_0 1 rfl rfl)
theorem dJ2_rangeCheckForAdd_2 : decode cJ2_rangeCheckForAdd 2 = .ok (.getfield 48, 3) := dk_180 0 48 (dk_at dksJ2_rangeCheckForAdd_0 2 rfl rfl)
theorem dJ2_rangeCheckForAdd_5 : decode cJ2_rangeCheckForAdd 5 = .ok (.if_icmp .gt 7, 3) := dk_163 0 7 (dk_at dksJ2_rangeCheckForAdd_0 5 rfl rfl)
theorem dJ2_rangeCheckForAdd_8 : decode cJ2_rangeCheckForAdd 8 = .ok (.iload_n 1, 1) := dk_27 (dk_at dksJ2_rangeCheckForAdd_0 8 rfl rfl)
theorem dJ2_rangeCheckForAdd_9 : decode cJ2_rangeCheckForAdd 9 = .ok (.ifCond .ge 16, 3) := dk_156 0 16 (dk_at dksJ2_rangeCheckForAdd_0 9 rfl rfl)
theorem dJ2_rangeCheckForAdd_12 : decode cJ2_rangeCheckForAdd 12 = .ok (.new 187, 3) := dk_187 0 187 (dk_at dksJ2_rangeCheckForAdd_0 12 rfl rfl)
theorem dJ2_rangeCheckForAdd_15 : decode cJ2_rangeCheckForAdd 15 = .ok (.dup, 1) := dk_89 (dk_at dksJ2_rangeCheckForAdd_0 15 rfl rfl)
theorem dJ2_rangeCheckForAdd_16 : decode cJ2_rangeCheckForAdd 16 = .ok (.aload_n 0, 1) := dk_42 (dk_at dksJ2_rangeCheckForAdd_0 16 rfl rfl)
theorem dJ2_rangeCheckForAdd_17 : decode cJ2_rangeCheckForAdd 17 = .ok (.iload_n 1, 1) := dk_27 (dk_at dksJ2_rangeCheckForAdd_0 17 rfl rfl)
theorem dJ2_rangeCheckForAdd_18 : decode cJ2_rangeCheckForAdd 18 = .ok (.invokevirtual 198, 3) := dk_182 0 198 (dk_at dksJ2_rangeCheckForAdd_0 18 rfl rfl)
theorem dJ2_rangeCheckForAdd_21 : decode cJ2_rangeCheckForAdd 21 = .ok (.invokespecial 193, 3) := dk_183 0 193 (dk_at dksJ2_rangeCheckForAdd_0 21 rfl rfl)
theorem dJ2_rangeCheckForAdd_24 : decode cJ2_rangeCheckForAdd 24 = .ok (.athrow, 1) := dk_191 (dk_at dksJ2_rangeCheckForAdd_1 0 rfl rfl)
theorem dJ2_rangeCheckForAdd_25 : decode cJ2_rangeCheckForAdd 25 = .ok (.return_, 1) := dk_177 (dk_at dksJ2_rangeCheckForAdd_1 1 rfl rfl)
theorem q120 : (Jvm.Cond.initialized "java/util/ArrayList") ∈ lw_all := lw_g (lw_at lw_m1 5 rfl) rfl
theorem q185 : (Jvm.Cond.instantiable "java/util/ArrayList" (3 : Nat)) ∈ lw_all := lw_g (lw_at lw_m1 70 rfl) rfl
theorem q187 : (Jvm.Cond.instanceMethod ({ cls := "java/util/ArrayList", name := "<init>", desc := "(I)V" } : Jvm.MethodName)) ∈ lw_all := lw_g (lw_at lw_m1 72 rfl) rfl
theorem q188 : (Jvm.Cond.code ({ cls := "java/util/ArrayList", name := "<init>", desc := "(I)V" } : Jvm.MethodName) prog_55_method_1_code (2 : Nat) (Option.none : Option Jvm.ClassFile.FieldType)) ∈ lw_all := lw_g (lw_at lw_m1 73 rfl) rfl
theorem q189 : (Jvm.Cond.methodLink "java/util/ArrayList" (1 : Nat) ({ cls := "java/util/AbstractList", name := "<init>", desc := "()V" } : Jvm.MethodName)) ∈ lw_all := lw_g (lw_at lw_m1 74 rfl) rfl
theorem q196 : (Jvm.Cond.classLink "java/util/ArrayList" (7 : Nat) "java/lang/Object") ∈ lw_all := lw_g (lw_at lw_m1 81 rfl) rfl
theorem q198 : (Jvm.Cond.fieldLink "java/util/ArrayList" (15 : Nat) "java/util/ArrayList" "EMPTY_ELEMENTDATA" "[Ljava/lang/Object;") ∈ lw_all := lw_g (lw_at lw_m1 83 rfl) rfl
theorem q199 : (Jvm.Cond.laysStatic "java/util/ArrayList" "EMPTY_ELEMENTDATA" "[Ljava/lang/Object;") ∈ lw_tbl := lw_at lw_m1 84 rfl
theorem q200 : (Jvm.Cond.classLink "java/util/ArrayList" (18 : Nat) "java/lang/IllegalArgumentException") ∈ lw_all := lw_g (lw_at lw_m1 85 rfl) rfl
theorem q243 : (Jvm.Cond.classLink "java/util/ArrayList" (20 : Nat) "java/lang/StringBuilder") ∈ lw_all := lw_g (lw_at lw_m1 128 rfl) rfl
theorem q245 : (Jvm.Cond.methodLink "java/util/ArrayList" (22 : Nat) ({ cls := "java/lang/StringBuilder", name := "<init>", desc := "()V" } : Jvm.MethodName)) ∈ lw_all := lw_g (lw_at lw_m1 130 rfl) rfl
theorem q275 : (Jvm.Cond.stringRef "java/util/ArrayList" (23 : Nat) "Illegal Capacity: ") ∈ lw_tbl := lw_at lw_m1 160 rfl
theorem q276 : (Jvm.Cond.methodLink "java/util/ArrayList" (25 : Nat) ({ cls := "java/lang/StringBuilder", name := "append", desc := "(Ljava/lang/String;)Ljava/lang/StringBuilder;" } : Jvm.MethodName)) ∈ lw_all := lw_g (lw_at lw_m1 161 rfl) rfl
theorem q396 : (Jvm.Cond.methodLink "java/util/ArrayList" (29 : Nat) ({ cls := "java/lang/StringBuilder", name := "append", desc := "(I)Ljava/lang/StringBuilder;" } : Jvm.MethodName)) ∈ lw_all := lw_g (lw_at lw_m2 41 rfl) rfl
theorem q421 : (Jvm.Cond.methodLink "java/util/ArrayList" (32 : Nat) ({ cls := "java/lang/StringBuilder", name := "toString", desc := "()Ljava/lang/String;" } : Jvm.MethodName)) ∈ lw_all := lw_g (lw_at lw_m2 66 rfl) rfl
theorem q515 : (Jvm.Cond.methodLink "java/util/ArrayList" (36 : Nat) ({ cls := "java/lang/IllegalArgumentException", name := "<init>", desc := "(Ljava/lang/String;)V" } : Jvm.MethodName)) ∈ lw_all := lw_g (lw_at lw_m2 160 rfl) rfl
theorem q516 : (Jvm.Cond.fieldLink "java/util/ArrayList" (9 : Nat) "java/util/ArrayList" "elementData" "[Ljava/lang/Object;") ∈ lw_all := lw_g (lw_at lw_m2 161 rfl) rfl
theorem q519 : (Jvm.Cond.fieldLink "java/util/ArrayList" (48 : Nat) "java/util/ArrayList" "size" "I") ∈ lw_all := lw_g (lw_at lw_m2 164 rfl) rfl
theorem q524 : (Jvm.Cond.sameField "java/util/ArrayList" "java/util/AbstractList" "modCount" "I") ∈ lw_all := lw_g (lw_at lw_m2 169 rfl) rfl
theorem q527 : (Jvm.Cond.fieldLink "java/util/ArrayList" (63 : Nat) "java/util/ArrayList" "modCount" "I") ∈ lw_all := lw_g (lw_at lw_m2 172 rfl) rfl
theorem q528 : (Jvm.Cond.lays "java/util/ArrayList" "java/util/ArrayList" "elementData" "[Ljava/lang/Object;") ∈ lw_all := lw_g (lw_at lw_m2 173 rfl) rfl
theorem q529 : (Jvm.Cond.soleField "java/util/ArrayList" "elementData") ∈ lw_all := lw_g (lw_at lw_m2 174 rfl) rfl
theorem q530 : (Jvm.Cond.lays "java/util/ArrayList" "java/util/ArrayList" "size" "I") ∈ lw_all := lw_g (lw_at lw_m2 175 rfl) rfl
theorem q531 : (Jvm.Cond.soleField "java/util/ArrayList" "size") ∈ lw_all := lw_g (lw_at lw_m2 176 rfl) rfl
theorem q532 : (Jvm.Cond.lays "java/util/ArrayList" "java/util/AbstractList" "modCount" "I") ∈ lw_all := lw_g (lw_at lw_m2 177 rfl) rfl
theorem q534 : (Jvm.Cond.superclass "java/util/ArrayList" "java/util/AbstractList") ∈ lw_all := lw_g (lw_at lw_m2 179 rfl) rfl
theorem q827 : (Jvm.Cond.instanceMethod ({ cls := "java/util/ArrayList", name := "add", desc := "(Ljava/lang/Object;)Z" } : Jvm.MethodName)) ∈ lw_all := lw_g (lw_at lw_m3 232 rfl) rfl
theorem q828 : (Jvm.Cond.selects "java/util/ArrayList" ({ cls := "java/util/ArrayList", name := "add", desc := "(Ljava/lang/Object;)Z" } : Jvm.MethodName) ({ cls := "java/util/ArrayList", name := "add", desc := "(Ljava/lang/Object;)Z" } : Jvm.MethodName)) ∈ lw_all := lw_g (lw_at lw_m3 233 rfl) rfl
theorem q829 : (Jvm.Cond.code ({ cls := "java/util/ArrayList", name := "add", desc := "(Ljava/lang/Object;)Z" } : Jvm.MethodName) prog_55_method_25_code (2 : Nat) (Option.some Jvm.ClassFile.FieldType.boolean)) ∈ lw_all := lw_g (lw_at lw_m3 234 rfl) rfl
theorem q830 : (Jvm.Cond.methodLink "java/util/ArrayList" (131 : Nat) ({ cls := "java/util/ArrayList", name := "add", desc := "(Ljava/lang/Object;[Ljava/lang/Object;I)V" } : Jvm.MethodName)) ∈ lw_all := lw_g (lw_at lw_m3 235 rfl) rfl
theorem q831 : (Jvm.Cond.privateMethod ({ cls := "java/util/ArrayList", name := "add", desc := "(Ljava/lang/Object;[Ljava/lang/Object;I)V" } : Jvm.MethodName)) ∈ lw_tbl := lw_at lw_m3 236 rfl
theorem q832 : (Jvm.Cond.instanceMethod ({ cls := "java/util/ArrayList", name := "add", desc := "(Ljava/lang/Object;[Ljava/lang/Object;I)V" } : Jvm.MethodName)) ∈ lw_all := lw_g (lw_at lw_m3 237 rfl) rfl
theorem q833 : (Jvm.Cond.code ({ cls := "java/util/ArrayList", name := "add", desc := "(Ljava/lang/Object;[Ljava/lang/Object;I)V" } : Jvm.MethodName) prog_55_method_24_code (4 : Nat) (Option.none : Option Jvm.ClassFile.FieldType)) ∈ lw_all := lw_g (lw_at lw_m3 238 rfl) rfl
theorem q834 : (Jvm.Cond.methodLink "java/util/ArrayList" (129 : Nat) ({ cls := "java/util/ArrayList", name := "grow", desc := "()[Ljava/lang/Object;" } : Jvm.MethodName)) ∈ lw_all := lw_g (lw_at lw_m3 239 rfl) rfl
theorem q835 : (Jvm.Cond.privateMethod ({ cls := "java/util/ArrayList", name := "grow", desc := "()[Ljava/lang/Object;" } : Jvm.MethodName)) ∈ lw_tbl := lw_at lw_m4 0 rfl
theorem q836 : (Jvm.Cond.instanceMethod ({ cls := "java/util/ArrayList", name := "grow", desc := "()[Ljava/lang/Object;" } : Jvm.MethodName)) ∈ lw_all := lw_g (lw_at lw_m4 1 rfl) rfl
theorem q837 : (Jvm.Cond.code ({ cls := "java/util/ArrayList", name := "grow", desc := "()[Ljava/lang/Object;" } : Jvm.MethodName) prog_55_method_7_code (1 : Nat) (Option.some (Jvm.ClassFile.FieldType.array (Jvm.ClassFile.FieldType.object "java/lang/Object")))) ∈ lw_all := lw_g (lw_at lw_m4 2 rfl) rfl
theorem q838 : (Jvm.Cond.methodLink "java/util/ArrayList" (69 : Nat) ({ cls := "java/util/ArrayList", name := "grow", desc := "(I)[Ljava/lang/Object;" } : Jvm.MethodName)) ∈ lw_all := lw_g (lw_at lw_m4 3 rfl) rfl
theorem q839 : (Jvm.Cond.privateMethod ({ cls := "java/util/ArrayList", name := "grow", desc := "(I)[Ljava/lang/Object;" } : Jvm.MethodName)) ∈ lw_tbl := lw_at lw_m4 4 rfl
theorem q840 : (Jvm.Cond.instanceMethod ({ cls := "java/util/ArrayList", name := "grow", desc := "(I)[Ljava/lang/Object;" } : Jvm.MethodName)) ∈ lw_all := lw_g (lw_at lw_m4 5 rfl) rfl
theorem q841 : (Jvm.Cond.code ({ cls := "java/util/ArrayList", name := "grow", desc := "(I)[Ljava/lang/Object;" } : Jvm.MethodName) prog_55_method_6_code (4 : Nat) (Option.some (Jvm.ClassFile.FieldType.array (Jvm.ClassFile.FieldType.object "java/lang/Object")))) ∈ lw_all := lw_g (lw_at lw_m4 6 rfl) rfl
theorem q842 : (Jvm.Cond.fieldLink "java/util/ArrayList" (39 : Nat) "java/util/ArrayList" "DEFAULTCAPACITY_EMPTY_ELEMENTDATA" "[Ljava/lang/Object;") ∈ lw_all := lw_g (lw_at lw_m4 7 rfl) rfl
theorem q843 : (Jvm.Cond.laysStatic "java/util/ArrayList" "DEFAULTCAPACITY_EMPTY_ELEMENTDATA" "[Ljava/lang/Object;") ∈ lw_tbl := lw_at lw_m4 8 rfl
theorem q844 : (Jvm.Cond.methodLink "java/util/ArrayList" (73 : Nat) ({ cls := "jdk/internal/util/ArraysSupport", name := "newLength", desc := "(III)I" } : Jvm.MethodName)) ∈ lw_all := lw_g (lw_at lw_m4 9 rfl) rfl
theorem q845 : (Jvm.Cond.methodLink "java/util/ArrayList" (66 : Nat) ({ cls := "java/util/Arrays", name := "copyOf", desc := "([Ljava/lang/Object;I)[Ljava/lang/Object;" } : Jvm.MethodName)) ∈ lw_all := lw_g (lw_at lw_m4 10 rfl) rfl
theorem q876 : (Jvm.Cond.selects "java/util/ArrayList" ({ cls := "java/lang/Object", name := "getClass", desc := "()Ljava/lang/Class;" } : Jvm.MethodName) ({ cls := "java/lang/Object", name := "getClass", desc := "()Ljava/lang/Class;" } : Jvm.MethodName)) ∈ lw_all := lw_g (lw_at lw_m4 41 rfl) rfl
theorem q890 : (Jvm.Cond.methodLink "java/util/ArrayList" (79 : Nat) ({ cls := "java/lang/Math", name := "max", desc := "(II)I" } : Jvm.MethodName)) ∈ lw_all := lw_g (lw_at lw_m4 55 rfl) rfl
theorem q1097 : (Jvm.Cond.instanceMethod ({ cls := "java/util/ArrayList", name := "remove", desc := "(I)Ljava/lang/Object;" } : Jvm.MethodName)) ∈ lw_all := lw_g (lw_at lw_m5 22 rfl) rfl
theorem q1098 : (Jvm.Cond.selects "java/util/ArrayList" ({ cls := "java/util/ArrayList", name := "remove", desc := "(I)Ljava/lang/Object;" } : Jvm.MethodName) ({ cls := "java/util/ArrayList", name := "remove", desc := "(I)Ljava/lang/Object;" } : Jvm.MethodName)) ∈ lw_all := lw_g (lw_at lw_m5 23 rfl) rfl
theorem q1099 : (Jvm.Cond.code ({ cls := "java/util/ArrayList", name := "remove", desc := "(I)Ljava/lang/Object;" } : Jvm.MethodName) prog_55_method_29_code (4 : Nat) (Option.some (Jvm.ClassFile.FieldType.object "java/lang/Object"))) ∈ lw_all := lw_g (lw_at lw_m5 24 rfl) rfl
theorem q1100 : (Jvm.Cond.methodLink "java/util/ArrayList" (118 : Nat) ({ cls := "java/util/Objects", name := "checkIndex", desc := "(II)I" } : Jvm.MethodName)) ∈ lw_all := lw_g (lw_at lw_m5 25 rfl) rfl
theorem q1106 : (Jvm.Cond.methodLink "java/util/ArrayList" (144 : Nat) ({ cls := "java/util/ArrayList", name := "fastRemove", desc := "([Ljava/lang/Object;I)V" } : Jvm.MethodName)) ∈ lw_all := lw_g (lw_at lw_m5 31 rfl) rfl
theorem q1107 : (Jvm.Cond.privateMethod ({ cls := "java/util/ArrayList", name := "fastRemove", desc := "([Ljava/lang/Object;I)V" } : Jvm.MethodName)) ∈ lw_tbl := lw_at lw_m5 32 rfl
theorem q1108 : (Jvm.Cond.instanceMethod ({ cls := "java/util/ArrayList", name := "fastRemove", desc := "([Ljava/lang/Object;I)V" } : Jvm.MethodName)) ∈ lw_all := lw_g (lw_at lw_m5 33 rfl) rfl
theorem q1109 : (Jvm.Cond.code ({ cls := "java/util/ArrayList", name := "fastRemove", desc := "([Ljava/lang/Object;I)V" } : Jvm.MethodName) prog_55_method_39_code (4 : Nat) (Option.none : Option Jvm.ClassFile.FieldType)) ∈ lw_all := lw_g (lw_at lw_m5 34 rfl) rfl
theorem q1110 : (Jvm.Cond.methodLink "java/util/ArrayList" (112 : Nat) ({ cls := "java/lang/System", name := "arraycopy", desc := "(Ljava/lang/Object;ILjava/lang/Object;II)V" } : Jvm.MethodName)) ∈ lw_all := lw_g (lw_at lw_m5 35 rfl) rfl
theorem q1112 : (Jvm.Cond.instanceMethod ({ cls := "java/util/ArrayList", name := "get", desc := "(I)Ljava/lang/Object;" } : Jvm.MethodName)) ∈ lw_all := lw_g (lw_at lw_m5 37 rfl) rfl
theorem q1113 : (Jvm.Cond.selects "java/util/ArrayList" ({ cls := "java/util/ArrayList", name := "get", desc := "(I)Ljava/lang/Object;" } : Jvm.MethodName) ({ cls := "java/util/ArrayList", name := "get", desc := "(I)Ljava/lang/Object;" } : Jvm.MethodName)) ∈ lw_all := lw_g (lw_at lw_m5 38 rfl) rfl
theorem q1114 : (Jvm.Cond.code ({ cls := "java/util/ArrayList", name := "get", desc := "(I)Ljava/lang/Object;" } : Jvm.MethodName) prog_55_method_20_code (2 : Nat) (Option.some (Jvm.ClassFile.FieldType.object "java/lang/Object"))) ∈ lw_all := lw_g (lw_at lw_m5 39 rfl) rfl
theorem q1115 : (Jvm.Cond.methodLink "java/util/ArrayList" (123 : Nat) ({ cls := "java/util/ArrayList", name := "elementData", desc := "(I)Ljava/lang/Object;" } : Jvm.MethodName)) ∈ lw_all := lw_g (lw_at lw_m5 40 rfl) rfl
theorem q1116 : (Jvm.Cond.instanceMethod ({ cls := "java/util/ArrayList", name := "elementData", desc := "(I)Ljava/lang/Object;" } : Jvm.MethodName)) ∈ lw_all := lw_g (lw_at lw_m5 41 rfl) rfl
theorem q1117 : (Jvm.Cond.selects "java/util/ArrayList" ({ cls := "java/util/ArrayList", name := "elementData", desc := "(I)Ljava/lang/Object;" } : Jvm.MethodName) ({ cls := "java/util/ArrayList", name := "elementData", desc := "(I)Ljava/lang/Object;" } : Jvm.MethodName)) ∈ lw_all := lw_g (lw_at lw_m5 42 rfl) rfl
theorem q1118 : (Jvm.Cond.code ({ cls := "java/util/ArrayList", name := "elementData", desc := "(I)Ljava/lang/Object;" } : Jvm.MethodName) prog_55_method_18_code (2 : Nat) (Option.some (Jvm.ClassFile.FieldType.object "java/lang/Object"))) ∈ lw_all := lw_g (lw_at lw_m5 43 rfl) rfl
theorem q1264 : (Jvm.Cond.instanceMethod ({ cls := "java/util/ArrayList", name := "isEmpty", desc := "()Z" } : Jvm.MethodName)) ∈ lw_all := lw_g (lw_at lw_m5 189 rfl) rfl
theorem q1265 : (Jvm.Cond.selects "java/util/ArrayList" ({ cls := "java/util/ArrayList", name := "isEmpty", desc := "()Z" } : Jvm.MethodName) ({ cls := "java/util/ArrayList", name := "isEmpty", desc := "()Z" } : Jvm.MethodName)) ∈ lw_all := lw_g (lw_at lw_m5 190 rfl) rfl
theorem q1266 : (Jvm.Cond.code ({ cls := "java/util/ArrayList", name := "isEmpty", desc := "()Z" } : Jvm.MethodName) prog_55_method_9_code (1 : Nat) (Option.some Jvm.ClassFile.FieldType.boolean)) ∈ lw_all := lw_g (lw_at lw_m5 191 rfl) rfl
theorem q1268 : (Jvm.Cond.instanceMethod ({ cls := "java/util/ArrayList", name := "size", desc := "()I" } : Jvm.MethodName)) ∈ lw_all := lw_g (lw_at lw_m5 193 rfl) rfl
theorem q1269 : (Jvm.Cond.selects "java/util/ArrayList" ({ cls := "java/util/ArrayList", name := "size", desc := "()I" } : Jvm.MethodName) ({ cls := "java/util/ArrayList", name := "size", desc := "()I" } : Jvm.MethodName)) ∈ lw_all := lw_g (lw_at lw_m5 194 rfl) rfl
theorem q1270 : (Jvm.Cond.code ({ cls := "java/util/ArrayList", name := "size", desc := "()I" } : Jvm.MethodName) prog_55_method_8_code (1 : Nat) (Option.some Jvm.ClassFile.FieldType.int)) ∈ lw_all := lw_g (lw_at lw_m5 195 rfl) rfl
theorem q1904 : (Jvm.Cond.selects "java/util/ArrayList" ({ cls := "java/util/AbstractList", name := "listIterator", desc := "(I)Ljava/util/ListIterator;" } : Jvm.MethodName) ({ cls := "java/util/ArrayList", name := "listIterator", desc := "(I)Ljava/util/ListIterator;" } : Jvm.MethodName)) ∈ lw_all := lw_g (lw_at lw_m8 109 rfl) rfl
theorem q1905 : (Jvm.Cond.instanceMethod ({ cls := "java/util/ArrayList", name := "listIterator", desc := "(I)Ljava/util/ListIterator;" } : Jvm.MethodName)) ∈ lw_all := lw_g (lw_at lw_m8 110 rfl) rfl
theorem q1906 : (Jvm.Cond.code ({ cls := "java/util/ArrayList", name := "listIterator", desc := "(I)Ljava/util/ListIterator;" } : Jvm.MethodName) prog_55_method_53_code (2 : Nat) (Option.some (Jvm.ClassFile.FieldType.object "java/util/ListIterator"))) ∈ lw_all := lw_g (lw_at lw_m8 111 rfl) rfl
theorem q1907 : (Jvm.Cond.methodLink "java/util/ArrayList" (135 : Nat) ({ cls := "java/util/ArrayList", name := "rangeCheckForAdd", desc := "(I)V" } : Jvm.MethodName)) ∈ lw_all := lw_g (lw_at lw_m8 112 rfl) rfl
theorem q1908 : (Jvm.Cond.privateMethod ({ cls := "java/util/ArrayList", name := "rangeCheckForAdd", desc := "(I)V" } : Jvm.MethodName)) ∈ lw_tbl := lw_at lw_m8 113 rfl
theorem q1909 : (Jvm.Cond.instanceMethod ({ cls := "java/util/ArrayList", name := "rangeCheckForAdd", desc := "(I)V" } : Jvm.MethodName)) ∈ lw_all := lw_g (lw_at lw_m8 114 rfl) rfl
theorem q1910 : (Jvm.Cond.code ({ cls := "java/util/ArrayList", name := "rangeCheckForAdd", desc := "(I)V" } : Jvm.MethodName) prog_55_method_45_code (2 : Nat) (Option.none : Option Jvm.ClassFile.FieldType)) ∈ lw_all := lw_g (lw_at lw_m8 115 rfl) rfl
theorem q1911 : (Jvm.Cond.classLink "java/util/ArrayList" (262 : Nat) "java/util/ArrayList$ListItr") ∈ lw_all := lw_g (lw_at lw_m8 116 rfl) rfl
theorem q1913 : (Jvm.Cond.methodLink "java/util/ArrayList" (264 : Nat) ({ cls := "java/util/ArrayList$ListItr", name := "<init>", desc := "(Ljava/util/ArrayList;I)V" } : Jvm.MethodName)) ∈ lw_all := lw_g (lw_at lw_m8 118 rfl) rfl
theorem q1989 : (Jvm.Cond.selects "java/util/ArrayList" ({ cls := "java/util/AbstractList", name := "size", desc := "()I" } : Jvm.MethodName) ({ cls := "java/util/ArrayList", name := "size", desc := "()I" } : Jvm.MethodName)) ∈ lw_all := lw_g (lw_at lw_m8 194 rfl) rfl
theorem q2022 : (Jvm.Cond.selects "java/util/ArrayList" ({ cls := "java/util/AbstractList", name := "get", desc := "(I)Ljava/lang/Object;" } : Jvm.MethodName) ({ cls := "java/util/ArrayList", name := "get", desc := "(I)Ljava/lang/Object;" } : Jvm.MethodName)) ∈ lw_all := lw_g (lw_at lw_m8 227 rfl) rfl
theorem q2134 : (Jvm.Cond.selects "java/util/ArrayList" ({ cls := "java/util/AbstractList", name := "remove", desc := "(I)Ljava/lang/Object;" } : Jvm.MethodName) ({ cls := "java/util/ArrayList", name := "remove", desc := "(I)Ljava/lang/Object;" } : Jvm.MethodName)) ∈ lw_all := lw_g (lw_at lw_m9 99 rfl) rfl
theorem q2968 : (Jvm.Cond.castable "java/util/ArrayList" "java/lang/Object") ∈ lw_tbl := lw_at lw_m12 213 rfl

/-! java/util/AbstractSequentialList -/
set_option maxRecDepth 100000
def RJ22 : String := "java/util/AbstractSequentialList"
abbrev cJ22_init : ByteArray := prog_53_method_1_code
def yJ22_init : MethodName := ⟨RJ22, "<init>", "()V"⟩
theorem dJ22_init_0 : decode cJ22_init 0 = .ok (.aload_n 0, 1) := by decide +kernel
theorem dJ22_init_1 : decode cJ22_init 1 = .ok (.invokespecial 1, 3) := by decide +kernel
theorem dJ22_init_4 : decode cJ22_init 4 = .ok (.return_, 1) := by decide +kernel
abbrev cJ22_iterator : ByteArray := prog_53_method_7_code
def yJ22_iterator : MethodName := ⟨RJ22, "iterator", "()Ljava/util/Iterator;"⟩
theorem dJ22_iterator_0 : decode cJ22_iterator 0 = .ok (.aload_n 0, 1) := by decide +kernel
theorem dJ22_iterator_1 : decode cJ22_iterator 1 = .ok (.invokevirtual 65, 3) := by decide +kernel
theorem dJ22_iterator_4 : decode cJ22_iterator 4 = .ok (.areturn, 1) := by decide +kernel
theorem q158 : (Jvm.Cond.initialized "java/util/AbstractSequentialList") ∈ lw_all := lw_g (lw_at lw_m1 43 rfl) rfl
theorem q1829 : (Jvm.Cond.instanceMethod ({ cls := "java/util/AbstractSequentialList", name := "<init>", desc := "()V" } : Jvm.MethodName)) ∈ lw_all := lw_g (lw_at lw_m8 34 rfl) rfl
theorem q1830 : (Jvm.Cond.code ({ cls := "java/util/AbstractSequentialList", name := "<init>", desc := "()V" } : Jvm.MethodName) prog_53_method_1_code (1 : Nat) (Option.none : Option Jvm.ClassFile.FieldType)) ∈ lw_all := lw_g (lw_at lw_m8 35 rfl) rfl
theorem q1831 : (Jvm.Cond.methodLink "java/util/AbstractSequentialList" (1 : Nat) ({ cls := "java/util/AbstractList", name := "<init>", desc := "()V" } : Jvm.MethodName)) ∈ lw_all := lw_g (lw_at lw_m8 36 rfl) rfl
theorem q1891 : (Jvm.Cond.declares ({ cls := "java/util/AbstractSequentialList", name := "iterator", desc := "()Ljava/util/Iterator;" } : Jvm.MethodName)) ∈ lw_tbl := lw_at lw_m8 96 rfl
theorem q1893 : (Jvm.Cond.instanceMethod ({ cls := "java/util/AbstractSequentialList", name := "iterator", desc := "()Ljava/util/Iterator;" } : Jvm.MethodName)) ∈ lw_all := lw_g (lw_at lw_m8 98 rfl) rfl
theorem q1894 : (Jvm.Cond.code ({ cls := "java/util/AbstractSequentialList", name := "iterator", desc := "()Ljava/util/Iterator;" } : Jvm.MethodName) prog_53_method_7_code (1 : Nat) (Option.some (Jvm.ClassFile.FieldType.object "java/util/Iterator"))) ∈ lw_all := lw_g (lw_at lw_m8 99 rfl) rfl
theorem q1895 : (Jvm.Cond.methodLink "java/util/AbstractSequentialList" (65 : Nat) ({ cls := "java/util/AbstractSequentialList", name := "listIterator", desc := "()Ljava/util/ListIterator;" } : Jvm.MethodName)) ∈ lw_all := lw_g (lw_at lw_m8 100 rfl) rfl
theorem q1896 : (Jvm.Cond.sameMethod "java/util/AbstractSequentialList" "java/util/AbstractList" "listIterator" "()Ljava/util/ListIterator;") ∈ lw_all := lw_g (lw_at lw_m8 101 rfl) rfl

abbrev cJ23_init : ByteArray := prog_64_method_1_code
def yJ23_init : MethodName := ⟨RJ23, "<init>", "()V"⟩
def dkwJ23_init_0 : List UInt8 := [42, 183, 0, 1, 42, 3, 181, 0, 7, 177]
abbrev dktJ23_init_0 : List UInt8 := dkwJ23_init_0 ++ []
theorem dksJ23_init_0 : cJ23_init.data.toList.drop 0 = dktJ23_init_0 := by decide +kernel
theorem dJ23_init_0 : decode cJ23_init 0 = .ok (.aload_n 0, 1) := dk_42 (dk_at dksJ23_init_0 0 rfl rfl)
theorem dJ23_init_1 : decode cJ23_init 1 = .ok (.invokespecial 1, 3) := dk_183 0 1 (dk_at dksJ23_init_0 1 rfl rfl)
theorem dJ23_init_4 : decode cJ23_init 4 = .ok (.aload_n 0, 1) := dk_42 (dk_at dksJ23_init_0 4 rfl rfl)
theorem dJ23_init_5 : decode cJ23_init 5 = .ok (.iconst 0, 1) := dk_3 (dk_at dksJ23_init_0 5 rfl rfl)
theorem dJ23_init_6 : decode cJ23_init 6 = .ok (.putfield 7, 3) := dk_181 0 7 (dk_at dksJ23_init_0 6 rfl rfl)
theorem dJ23_init_9 : decode cJ23_init 9 = .ok (.return_, 1) := dk_177 (dk_at dksJ23_init_0 9 rfl rfl)
abbrev cJ23_addLast : ByteArray := prog_64_method_14_code
def yJ23_addLast : MethodName := ⟨RJ23, "addLast", "(Ljava/lang/Object;)V"⟩
def dkwJ23_addLast_0 : List UInt8 := [42, 43, 182, 0, 57, 177]
abbrev dktJ23_addLast_0 : List UInt8 := dkwJ23_addLast_0 ++ []
theorem dksJ23_addLast_0 : cJ23_addLast.data.toList.drop 0 = dktJ23_addLast_0 := by decide +kernel
theorem dJ23_addLast_0 : decode cJ23_addLast 0 = .ok (.aload_n 0, 1) := dk_42 (dk_at dksJ23_addLast_0 0 rfl rfl)
theorem dJ23_addLast_1 : decode cJ23_addLast 1 = .ok (.aload_n 1, 1) := dk_43 (dk_at dksJ23_addLast_0 1 rfl rfl)
theorem dJ23_addLast_2 : decode cJ23_addLast 2 = .ok (.invokevirtual 57, 3) := dk_182 0 57 (dk_at dksJ23_addLast_0 2 rfl rfl)
theorem dJ23_addLast_5 : decode cJ23_addLast 5 = .ok (.return_, 1) := dk_177 (dk_at dksJ23_addLast_0 5 rfl rfl)
abbrev cJ23_linkLast : ByteArray := prog_64_method_4_code
def yJ23_linkLast : MethodName := ⟨RJ23, "linkLast", "(Ljava/lang/Object;)V"⟩
def dkwJ23_linkLast_2 : List UInt8 := [181, 0, 7, 42, 89, 180, 0, 33, 4, 96, 181, 0, 33, 177]
abbrev dktJ23_linkLast_2 : List UInt8 := dkwJ23_linkLast_2 ++ []
def dkwJ23_linkLast_1 : List UInt8 := [199, 0, 11, 42, 45, 181, 0, 18, 167, 0, 8, 44, 45, 181, 0, 36, 42, 89, 180, 0, 7, 4, 96]
abbrev dktJ23_linkLast_1 : List UInt8 := dkwJ23_linkLast_1 ++ dktJ23_linkLast_2
def dkwJ23_linkLast_0 : List UInt8 := [42, 180, 0, 27, 77, 187, 0, 22, 89, 44, 43, 1, 183, 0, 24, 78, 42, 45, 181, 0, 27, 44]
abbrev dktJ23_linkLast_0 : List UInt8 := dkwJ23_linkLast_0 ++ dktJ23_linkLast_1
theorem dksJ23_linkLast_0 : cJ23_linkLast.data.toList.drop 0 = dktJ23_linkLast_0 := by decide +kernel
theorem dksJ23_linkLast_1 : cJ23_linkLast.data.toList.drop 22 = dktJ23_linkLast_1 := dk_seg dksJ23_linkLast_0 22 rfl rfl
theorem dksJ23_linkLast_2 : cJ23_linkLast.data.toList.drop 45 = dktJ23_linkLast_2 := dk_seg dksJ23_linkLast_1 23 rfl rfl
theorem dJ23_linkLast_0 : decode cJ23_linkLast 0 = .ok (.aload_n 0, 1) := dk_42 (dk_at dksJ23_linkLast_0 0 rfl rfl)
theorem dJ23_linkLast_1 : decode cJ23_linkLast 1 = .ok (.getfield 27, 3) := dk_180 0 27 (dk_at dksJ23_linkLast_0 1 rfl rfl)
theorem dJ23_linkLast_4 : decode cJ23_linkLast 4 = .ok (.astore_n 2, 1) := dk_77 (dk_at dksJ23_linkLast_0 4 rfl rfl)
theorem dJ23_linkLast_5 : decode cJ23_linkLast 5 = .ok (.new 22, 3) := dk_187 0 22 (dk_at dksJ23_linkLast_0 5 rfl rfl)
theorem dJ23_linkLast_8 : decode cJ23_linkLast 8 = .ok (.dup, 1) := dk_89 (dk_at dksJ23_linkLast_0 8 rfl rfl)
theorem dJ23_linkLast_9 : decode cJ23_linkLast 9 = .ok (.aload_n 2, 1) := dk_44 (dk_at dksJ23_linkLast_0 9 rfl rfl)
theorem dJ23_linkLast_10 : decode cJ23_linkLast 10 = .ok (.aload_n 1, 1) := dk_43 (dk_at dksJ23_linkLast_0 10 rfl rfl)
theorem dJ23_linkLast_11 : decode cJ23_linkLast 11 = .ok (.aconst_null, 1) := dk_1 (dk_at dksJ23_linkLast_0 11 rfl rfl)
theorem dJ23_linkLast_12 : decode cJ23_linkLast 12 = .ok (.invokespecial 24, 3) := dk_183 0 24 (dk_at dksJ23_linkLast_0 12 rfl rfl)
theorem dJ23_linkLast_15 : decode cJ23_linkLast 15 = .ok (.astore_n 3, 1) := dk_78 (dk_at dksJ23_linkLast_0 15 rfl rfl)
theorem dJ23_linkLast_16 : decode cJ23_linkLast 16 = .ok (.aload_n 0, 1) := dk_42 (dk_at dksJ23_linkLast_0 16 rfl rfl)
theorem dJ23_linkLast_17 : decode cJ23_linkLast 17 = .ok (.aload_n 3, 1) := dk_45 (dk_at dksJ23_linkLast_0 17 rfl rfl)
theorem dJ23_linkLast_18 : decode cJ23_linkLast 18 = .ok (.putfield 27, 3) := dk_181 0 27 (dk_at dksJ23_linkLast_0 18 rfl rfl)
theorem dJ23_linkLast_21 : decode cJ23_linkLast 21 = .ok (.aload_n 2, 1) := dk_44 (dk_at dksJ23_linkLast_0 21 rfl rfl)
theorem dJ23_linkLast_22 : decode cJ23_linkLast 22 = .ok (.ifnonnull 11, 3) := dk_199 0 11 (dk_at dksJ23_linkLast_1 0 rfl rfl)
theorem dJ23_linkLast_25 : decode cJ23_linkLast 25 = .ok (.aload_n 0, 1) := dk_42 (dk_at dksJ23_linkLast_1 3 rfl rfl)
theorem dJ23_linkLast_26 : decode cJ23_linkLast 26 = .ok (.aload_n 3, 1) := dk_45 (dk_at dksJ23_linkLast_1 4 rfl rfl)
theorem dJ23_linkLast_27 : decode cJ23_linkLast 27 = .ok (.putfield 18, 3) := dk_181 0 18 (dk_at dksJ23_linkLast_1 5 rfl rfl)
theorem dJ23_linkLast_30 : decode cJ23_linkLast 30 = .ok (.goto 8, 3) := dk_167 0 8 (dk_at dksJ23_linkLast_1 8 rfl rfl)
theorem dJ23_linkLast_33 : decode cJ23_linkLast 33 = .ok (.aload_n 2, 1) := dk_44 (dk_at dksJ23_linkLast_1 11 rfl rfl)
theorem dJ23_linkLast_34 : decode cJ23_linkLast 34 = .ok (.aload_n 3, 1) := dk_45 (dk_at dksJ23_linkLast_1 12 rfl rfl)
theorem dJ23_linkLast_35 : decode cJ23_linkLast 35 = .ok (.putfield 36, 3) := dk_181 0 36 (dk_at dksJ23_linkLast_1 13 rfl rfl)
theorem dJ23_linkLast_38 : decode cJ23_linkLast 38 = .ok (.aload_n 0, 1) := dk_42 (dk_at dksJ23_linkLast_1 16 rfl rfl)
theorem dJ23_linkLast_39 : decode cJ23_linkLast 39 = .ok (.dup, 1) := dk_89 (dk_at dksJ23_linkLast_1 17 rfl rfl)
theorem dJ23_linkLast_40 : decode cJ23_linkLast 40 = .ok (.getfield 7, 3) := dk_180 0 7 (dk_at dksJ23_linkLast_1 18 rfl rfl)
theorem dJ23_linkLast_43 : decode cJ23_linkLast 43 = .ok (.iconst 1, 1) := dk_4 (dk_at dksJ23_linkLast_1 21 rfl rfl)
theorem dJ23_linkLast_44 : decode cJ23_linkLast 44 = .ok (.iadd, 1) := dk_96 (dk_at dksJ23_linkLast_1 22 rfl rfl)
theorem dJ23_linkLast_45 : decode cJ23_linkLast 45 = .ok (.putfield 7, 3) := dk_181 0 7 (dk_at dksJ23_linkLast_2 0 rfl rfl)
theorem dJ23_linkLast_48 : decode cJ23_linkLast 48 = .ok (.aload_n 0, 1) := dk_42 (dk_at dksJ23_linkLast_2 3 rfl rfl)
theorem dJ23_linkLast_49 : decode cJ23_linkLast 49 = .ok (.dup, 1) := dk_89 (dk_at dksJ23_linkLast_2 4 rfl rfl)
theorem dJ23_linkLast_50 : decode cJ23_linkLast 50 = .ok (.getfield 33, 3) := dk_180 0 33 (dk_at dksJ23_linkLast_2 5 rfl rfl)
theorem dJ23_linkLast_53 : decode cJ23_linkLast 53 = .ok (.iconst 1, 1) := dk_4 (dk_at dksJ23_linkLast_2 8 rfl rfl)
theorem dJ23_linkLast_54 : decode cJ23_linkLast 54 = .ok (.iadd, 1) := dk_96 (dk_at dksJ23_linkLast_2 9 rfl rfl)
theorem dJ23_linkLast_55 : decode cJ23_linkLast 55 = .ok (.putfield 33, 3) := dk_181 0 33 (dk_at dksJ23_linkLast_2 10 rfl rfl)
theorem dJ23_linkLast_58 : decode cJ23_linkLast 58 = .ok (.return_, 1) := dk_177 (dk_at dksJ23_linkLast_2 13 rfl rfl)
abbrev cJ23_listIterator : ByteArray := prog_64_method_49_code
def yJ23_listIterator : MethodName := ⟨RJ23, "listIterator", "(I)Ljava/util/ListIterator;"⟩
def dkwJ23_listIterator_0 : List UInt8 := [42, 27, 182, 0, 76, 187, 0, 150, 89, 42, 27, 183, 0, 152, 176]
abbrev dktJ23_listIterator_0 : List UInt8 := dkwJ23_listIterator_0 ++ []
theorem dksJ23_listIterator_0 : cJ23_listIterator.data.toList.drop 0 = dktJ23_listIterator_0 := by decide +kernel
theorem dJ23_listIterator_0 : decode cJ23_listIterator 0 = .ok (.aload_n 0, 1) := dk_42 (dk_at dksJ23_listIterator_0 0 rfl rfl)
theorem dJ23_listIterator_1 : decode cJ23_listIterator 1 = .ok (.iload_n 1, 1) := dk_27 (dk_at dksJ23_listIterator_0 1 rfl rfl)
theorem dJ23_listIterator_2 : decode cJ23_listIterator 2 = .ok (.invokevirtual 76, 3) := dk_182 0 76 (dk_at dksJ23_listIterator_0 2 rfl rfl)
theorem dJ23_listIterator_5 : decode cJ23_listIterator 5 = .ok (.new 150, 3) := dk_187 0 150 (dk_at dksJ23_listIterator_0 5 rfl rfl)
theorem dJ23_listIterator_8 : decode cJ23_listIterator 8 = .ok (.dup, 1) := dk_89 (dk_at dksJ23_listIterator_0 8 rfl rfl)
theorem dJ23_listIterator_9 : decode cJ23_listIterator 9 = .ok (.aload_n 0, 1) := dk_42 (dk_at dksJ23_listIterator_0 9 rfl rfl)
theorem dJ23_listIterator_10 : decode cJ23_listIterator 10 = .ok (.iload_n 1, 1) := dk_27 (dk_at dksJ23_listIterator_0 10 rfl rfl)
theorem dJ23_listIterator_11 : decode cJ23_listIterator 11 = .ok (.invokespecial 152, 3) := dk_183 0 152 (dk_at dksJ23_listIterator_0 11 rfl rfl)
theorem dJ23_listIterator_14 : decode cJ23_listIterator 14 = .ok (.areturn, 1) := dk_176 (dk_at dksJ23_listIterator_0 14 rfl rfl)
abbrev cJ23_checkPositionIndex : ByteArray := prog_64_method_30_code
def yJ23_checkPositionIndex : MethodName := ⟨RJ23, "checkPositionIndex", "(I)V"⟩
def dkwJ23_checkPositionIndex_0 : List UInt8 := [42, 27, 182, 0, 128, 154, 0, 16, 187, 0, 119, 89, 42, 27, 182, 0, 121, 183, 0, 125, 191, 177]
abbrev dktJ23_checkPositionIndex_0 : List UInt8 := dkwJ23_checkPositionIndex_0 ++ []
theorem dksJ23_checkPositionIndex_0 : cJ23_checkPositionIndex.data.toList.drop 0 = dktJ23_checkPositionIndex_0 := by decide +kernel
theorem dJ23_checkPositionIndex_0 : decode cJ23_checkPositionIndex 0 = .ok (.aload_n 0, 1) := dk_42 (dk_at dksJ23_checkPositionIndex_0 0 rfl rfl)
theorem dJ23_checkPositionIndex_1 : decode cJ23_checkPositionIndex 1 = .ok (.iload_n 1, 1) := dk_27 (dk_at dksJ23_checkPositionIndex_0 1 rfl rfl)
theorem dJ23_checkPositionIndex_2 : decode cJ23_checkPositionIndex 2 = .ok (.invokevirtual 128, 3) := dk_182 0 128 (dk_at dksJ23_checkPositionIndex_0 2 rfl rfl)
theorem dJ23_checkPositionIndex_5 : decode cJ23_checkPositionIndex 5 = .ok (.ifCond .ne 16, 3) := dk_154 0 16 (dk_at dksJ23_checkPositionIndex_0 5 rfl rfl)
theorem dJ23_checkPositionIndex_8 : decode cJ23_checkPositionIndex 8 = .ok (.new 119, 3) := dk_187 0 119 (dk_at dksJ23_checkPositionIndex_0 8 rfl rfl)
theorem dJ23_checkPositionIndex_11 : decode cJ23_checkPositionIndex 11 = .ok (.dup, 1) := dk_89 (dk_at dksJ23_checkPositionIndex_0 11 rfl rfl)
theorem dJ23_checkPositionIndex_12 : decode cJ23_checkPositionIndex 12 = .ok (.aload_n 0, 1) := dk_42 (dk_at dksJ23_checkPositionIndex_0 12 rfl rfl)
theorem dJ23_checkPositionIndex_13 : decode cJ23_checkPositionIndex 13 = .ok (.iload_n 1, 1) := dk_27 (dk_at dksJ23_checkPositionIndex_0 13 rfl rfl)
theorem dJ23_checkPositionIndex_14 : decode cJ23_checkPositionIndex 14 = .ok (.invokevirtual 121, 3) := dk_182 0 121 (dk_at dksJ23_checkPositionIndex_0 14 rfl rfl)
theorem dJ23_checkPositionIndex_17 : decode cJ23_checkPositionIndex 17 = .ok (.invokespecial 125, 3) := dk_183 0 125 (dk_at dksJ23_checkPositionIndex_0 17 rfl rfl)
theorem dJ23_checkPositionIndex_20 : decode cJ23_checkPositionIndex 20 = .ok (.athrow, 1) := dk_191 (dk_at dksJ23_checkPositionIndex_0 20 rfl rfl)
theorem dJ23_checkPositionIndex_21 : decode cJ23_checkPositionIndex 21 = .ok (.return_, 1) := dk_177 (dk_at dksJ23_checkPositionIndex_0 21 rfl rfl)
abbrev cJ23_isPositionIndex : ByteArray := prog_64_method_27_code
def yJ23_isPositionIndex : MethodName := ⟨RJ23, "isPositionIndex", "(I)Z"⟩
def dkwJ23_isPositionIndex_0 : List UInt8 := [27, 155, 0, 15, 27, 42, 180, 0, 7, 163, 0, 7, 4, 167, 0, 4, 3, 172]
abbrev dktJ23_isPositionIndex_0 : List UInt8 := dkwJ23_isPositionIndex_0 ++ []
theorem dksJ23_isPositionIndex_0 : cJ23_isPositionIndex.data.toList.drop 0 = dktJ23_isPositionIndex_0 := by decide +kernel
theorem dJ23_isPositionIndex_0 : decode cJ23_isPositionIndex 0 = .ok (.iload_n 1, 1) := dk_27 (dk_at dksJ23_isPositionIndex_0 0 rfl rfl)
theorem dJ23_isPositionIndex_1 : decode cJ23_isPositionIndex 1 = .ok (.ifCond .lt 15, 3) := dk_155 0 15 (dk_at dksJ23_isPositionIndex_0 1 rfl rfl)
theorem dJ23_isPositionIndex_4 : decode cJ23_isPositionIndex 4 = .ok (.iload_n 1, 1) := dk_27 (dk_at dksJ23_isPositionIndex_0 4 rfl rfl)
theorem dJ23_isPositionIndex_5 : decode cJ23_isPositionIndex 5 = .ok (.aload_n 0, 1) := dk_42 (dk_at dksJ23_isPositionIndex_0 5 rfl rfl)
theorem dJ23_isPositionIndex_6 : decode cJ23_isPositionIndex 6 = .ok (.getfield 7, 3) := dk_180 0 7 (dk_at dksJ23_isPositionIndex_0 6 rfl rfl)
theorem dJ23_isPositionIndex_9 : decode cJ23_isPositionIndex 9 = .ok (.if_icmp .gt 7, 3) := dk_163 0 7 (dk_at dksJ23_isPositionIndex_0 9 rfl rfl)
theorem dJ23_isPositionIndex_12 : decode cJ23_isPositionIndex 12 = .ok (.iconst 1, 1) := dk_4 (dk_at dksJ23_isPositionIndex_0 12 rfl rfl)
theorem dJ23_isPositionIndex_13 : decode cJ23_isPositionIndex 13 = .ok (.goto 4, 3) := dk_167 0 4 (dk_at dksJ23_isPositionIndex_0 13 rfl rfl)
theorem dJ23_isPositionIndex_16 : decode cJ23_isPositionIndex 16 = .ok (.iconst 0, 1) := dk_3 (dk_at dksJ23_isPositionIndex_0 16 rfl rfl)
theorem dJ23_isPositionIndex_17 : decode cJ23_isPositionIndex 17 = .ok (.ireturn, 1) := dk_172 (dk_at dksJ23_isPositionIndex_0 17 rfl rfl)
abbrev cJ23_node : ByteArray := prog_64_method_31_code
def yJ23_node : MethodName := ⟨RJ23, "node", "(I)Ljava/util/LinkedList$Node;"⟩
def dkwJ23_node_2 : List UInt8 := [29, 27, 164, 0, 14, 44, 180, 0, 30, 77, 132, 3, 255, 167, 255, 243, 44, 176]
abbrev dktJ23_node_2 : List UInt8 := dkwJ23_node_2 ++ []
def dkwJ23_node_1 : List UInt8 := [180, 0, 36, 77, 132, 3, 1, 167, 255, 243, 44, 176, 42, 180, 0, 27, 77, 42, 180, 0, 7, 4, 100, 62]
abbrev dktJ23_node_1 : List UInt8 := dkwJ23_node_1 ++ dktJ23_node_2
def dkwJ23_node_0 : List UInt8 := [27, 42, 180, 0, 7, 4, 122, 162, 0, 28, 42, 180, 0, 18, 77, 3, 62, 29, 27, 162, 0, 14, 44]
abbrev dktJ23_node_0 : List UInt8 := dkwJ23_node_0 ++ dktJ23_node_1
theorem dksJ23_node_0 : cJ23_node.data.toList.drop 0 = dktJ23_node_0 := by decide +kernel
theorem dksJ23_node_1 : cJ23_node.data.toList.drop 23 = dktJ23_node_1 := dk_seg dksJ23_node_0 23 rfl rfl
theorem dksJ23_node_2 : cJ23_node.data.toList.drop 47 = dktJ23_node_2 := dk_seg dksJ23_node_1 24 rfl rfl
theorem dJ23_node_0 : decode cJ23_node 0 = .ok (.iload_n 1, 1) := dk_27 (dk_at dksJ23_node_0 0 rfl rfl)
theorem dJ23_node_1 : decode cJ23_node 1 = .ok (.aload_n 0, 1) := dk_42 (dk_at dksJ23_node_0 1 rfl rfl)
theorem dJ23_node_2 : decode cJ23_node 2 = .ok (.getfield 7, 3) := dk_180 0 7 (dk_at dksJ23_node_0 2 rfl rfl)
theorem dJ23_node_5 : decode cJ23_node 5 = .ok (.iconst 1, 1) := dk_4 (dk_at dksJ23_node_0 5 rfl rfl)
theorem dJ23_node_6 : decode cJ23_node 6 = .ok (.ishr, 1) := dk_122 (dk_at dksJ23_node_0 6 rfl rfl)
theorem dJ23_node_7 : decode cJ23_node 7 = .ok (.if_icmp .ge 28, 3) := dk_162 0 28 (dk_at dksJ23_node_0 7 rfl rfl)
theorem dJ23_node_10 : decode cJ23_node 10 = .ok (.aload_n 0, 1) := dk_42 (dk_at dksJ23_node_0 10 rfl rfl)
theorem dJ23_node_11 : decode cJ23_node 11 = .ok (.getfield 18, 3) := dk_180 0 18 (dk_at dksJ23_node_0 11 rfl rfl)
theorem dJ23_node_14 : decode cJ23_node 14 = .ok (.astore_n 2, 1) := dk_77 (dk_at dksJ23_node_0 14 rfl rfl)
theorem dJ23_node_15 : decode cJ23_node 15 = .ok (.iconst 0, 1) := dk_3 (dk_at dksJ23_node_0 15 rfl rfl)
theorem dJ23_node_16 : decode cJ23_node 16 = .ok (.istore_n 3, 1) := dk_62 (dk_at dksJ23_node_0 16 rfl rfl)
theorem dJ23_node_17 : decode cJ23_node 17 = .ok (.iload_n 3, 1) := dk_29 (dk_at dksJ23_node_0 17 rfl rfl)
theorem dJ23_node_18 : decode cJ23_node 18 = .ok (.iload_n 1, 1) := dk_27 (dk_at dksJ23_node_0 18 rfl rfl)
theorem dJ23_node_19 : decode cJ23_node 19 = .ok (.if_icmp .ge 14, 3) := dk_162 0 14 (dk_at dksJ23_node_0 19 rfl rfl)
theorem dJ23_node_22 : decode cJ23_node 22 = .ok (.aload_n 2, 1) := dk_44 (dk_at dksJ23_node_0 22 rfl rfl)
theorem dJ23_node_23 : decode cJ23_node 23 = .ok (.getfield 36, 3) := dk_180 0 36 (dk_at dksJ23_node_1 0 rfl rfl)
theorem dJ23_node_26 : decode cJ23_node 26 = .ok (.astore_n 2, 1) := dk_77 (dk_at dksJ23_node_1 3 rfl rfl)
theorem dJ23_node_27 : decode cJ23_node 27 = .ok (.iinc 3 1, 3) := dk_132 3 1 (dk_at dksJ23_node_1 4 rfl rfl)
theorem dJ23_node_30 : decode cJ23_node 30 = .ok (.goto (-13), 3) := dk_167 255 243 (dk_at dksJ23_node_1 7 rfl rfl)
theorem dJ23_node_33 : decode cJ23_node 33 = .ok (.aload_n 2, 1) := dk_44 (dk_at dksJ23_node_1 10 rfl rfl)
theorem dJ23_node_34 : decode cJ23_node 34 = .ok (.areturn, 1) := dk_176 (dk_at dksJ23_node_1 11 rfl rfl)
theorem dJ23_node_35 : decode cJ23_node 35 = .ok (.aload_n 0, 1) := dk_42 (dk_at dksJ23_node_1 12 rfl rfl)
theorem dJ23_node_36 : decode cJ23_node 36 = .ok (.getfield 27, 3) := dk_180 0 27 (dk_at dksJ23_node_1 13 rfl rfl)
theorem dJ23_node_39 : decode cJ23_node 39 = .ok (.astore_n 2, 1) := dk_77 (dk_at dksJ23_node_1 16 rfl rfl)
theorem dJ23_node_40 : decode cJ23_node 40 = .ok (.aload_n 0, 1) := dk_42 (dk_at dksJ23_node_1 17 rfl rfl)
theorem dJ23_node_41 : decode cJ23_node 41 = .ok (.getfield 7, 3) := dk_180 0 7 (dk_at dksJ23_node_1 18 rfl rfl)
theorem dJ23_node_44 : decode cJ23_node 44 = .ok (.iconst 1, 1) := dk_4 (dk_at dksJ23_node_1 21 rfl rfl)
theorem dJ23_node_45 : decode cJ23_node 45 = .ok (.isub, 1) := dk_100 (dk_at dksJ23_node_1 22 rfl rfl)
theorem dJ23_node_46 : decode cJ23_node 46 = .ok (.istore_n 3, 1) := dk_62 (dk_at dksJ23_node_1 23 rfl rfl)
theorem dJ23_node_47 : decode cJ23_node 47 = .ok (.iload_n 3, 1) := dk_29 (dk_at dksJ23_node_2 0 rfl rfl)
theorem dJ23_node_48 : decode cJ23_node 48 = .ok (.iload_n 1, 1) := dk_27 (dk_at dksJ23_node_2 1 rfl rfl)
theorem dJ23_node_49 : decode cJ23_node 49 = .ok (.if_icmp .le 14, 3) := dk_164 0 14 (dk_at dksJ23_node_2 2 rfl rfl)
theorem dJ23_node_52 : decode cJ23_node 52 = .ok (.aload_n 2, 1) := dk_44 (dk_at dksJ23_node_2 5 rfl rfl)
theorem dJ23_node_53 : decode cJ23_node 53 = .ok (.getfield 30, 3) := dk_180 0 30 (dk_at dksJ23_node_2 6 rfl rfl)
theorem dJ23_node_56 : decode cJ23_node 56 = .ok (.astore_n 2, 1) := dk_77 (dk_at dksJ23_node_2 9 rfl rfl)
theorem dJ23_node_57 : decode cJ23_node 57 = .ok (.iinc 3 (-1), 3) := dk_132 3 255 (dk_at dksJ23_node_2 10 rfl rfl)
theorem dJ23_node_60 : decode cJ23_node 60 = .ok (.goto (-13), 3) := dk_167 255 243 (dk_at dksJ23_node_2 13 rfl rfl)
theorem dJ23_node_63 : decode cJ23_node 63 = .ok (.aload_n 2, 1) := dk_44 (dk_at dksJ23_node_2 16 rfl rfl)
theorem dJ23_node_64 : decode cJ23_node 64 = .ok (.areturn, 1) := dk_176 (dk_at dksJ23_node_2 17 rfl rfl)
abbrev cJ23_size : ByteArray := prog_64_method_16_code
def yJ23_size : MethodName := ⟨RJ23, "size", "()I"⟩
theorem dJ23_size_0 : decode cJ23_size 0 = .ok (.aload_n 0, 1) := by decide +kernel
theorem dJ23_size_1 : decode cJ23_size 1 = .ok (.getfield 7, 3) := by decide +kernel
theorem dJ23_size_4 : decode cJ23_size 4 = .ok (.ireturn, 1) := by decide +kernel
abbrev cJ23_get : ByteArray := prog_64_method_22_code
def yJ23_get : MethodName := ⟨RJ23, "get", "(I)Ljava/lang/Object;"⟩
def dkwJ23_get_0 : List UInt8 := [42, 27, 182, 0, 90, 42, 27, 182, 0, 86, 180, 0, 39, 176]
abbrev dktJ23_get_0 : List UInt8 := dkwJ23_get_0 ++ []
theorem dksJ23_get_0 : cJ23_get.data.toList.drop 0 = dktJ23_get_0 := by decide +kernel
theorem dJ23_get_0 : decode cJ23_get 0 = .ok (.aload_n 0, 1) := dk_42 (dk_at dksJ23_get_0 0 rfl rfl)
theorem dJ23_get_1 : decode cJ23_get 1 = .ok (.iload_n 1, 1) := dk_27 (dk_at dksJ23_get_0 1 rfl rfl)
theorem dJ23_get_2 : decode cJ23_get 2 = .ok (.invokevirtual 90, 3) := dk_182 0 90 (dk_at dksJ23_get_0 2 rfl rfl)
theorem dJ23_get_5 : decode cJ23_get 5 = .ok (.aload_n 0, 1) := dk_42 (dk_at dksJ23_get_0 5 rfl rfl)
theorem dJ23_get_6 : decode cJ23_get 6 = .ok (.iload_n 1, 1) := dk_27 (dk_at dksJ23_get_0 6 rfl rfl)
theorem dJ23_get_7 : decode cJ23_get 7 = .ok (.invokevirtual 86, 3) := dk_182 0 86 (dk_at dksJ23_get_0 7 rfl rfl)
theorem dJ23_get_10 : decode cJ23_get 10 = .ok (.getfield 39, 3) := dk_180 0 39 (dk_at dksJ23_get_0 10 rfl rfl)
theorem dJ23_get_13 : decode cJ23_get 13 = .ok (.areturn, 1) := dk_176 (dk_at dksJ23_get_0 13 rfl rfl)
abbrev cJ23_checkElementIndex : ByteArray := prog_64_method_29_code
def yJ23_checkElementIndex : MethodName := ⟨RJ23, "checkElementIndex", "(I)V"⟩
def dkwJ23_checkElementIndex_0 : List UInt8 := [42, 27, 182, 0, 115, 154, 0, 16, 187, 0, 119, 89, 42, 27, 182, 0, 121, 183, 0, 125, 191, 177]
abbrev dktJ23_checkElementIndex_0 : List UInt8 := dkwJ23_checkElementIndex_0 ++ []
theorem dksJ23_checkElementIndex_0 : cJ23_checkElementIndex.data.toList.drop 0 = dktJ23_checkElementIndex_0 := by decide +kernel
theorem dJ23_checkElementIndex_0 : decode cJ23_checkElementIndex 0 = .ok (.aload_n 0, 1) := dk_42 (dk_at dksJ23_checkElementIndex_0 0 rfl rfl)
theorem dJ23_checkElementIndex_1 : decode cJ23_checkElementIndex 1 = .ok (.iload_n 1, 1) := dk_27 (dk_at dksJ23_checkElementIndex_0 1 rfl rfl)
theorem dJ23_checkElementIndex_2 : decode cJ23_checkElementIndex 2 = .ok (.invokevirtual 115, 3) := dk_182 0 115 (dk_at dksJ23_checkElementIndex_0 2 rfl rfl)
theorem dJ23_checkElementIndex_5 : decode cJ23_checkElementIndex 5 = .ok (.ifCond .ne 16, 3) := dk_154 0 16 (dk_at dksJ23_checkElementIndex_0 5 rfl rfl)
theorem dJ23_checkElementIndex_8 : decode cJ23_checkElementIndex 8 = .ok (.new 119, 3) := dk_187 0 119 (dk_at dksJ23_checkElementIndex_0 8 rfl rfl)
theorem dJ23_checkElementIndex_11 : decode cJ23_checkElementIndex 11 = .ok (.dup, 1) := dk_89 (dk_at dksJ23_checkElementIndex_0 11 rfl rfl)
theorem dJ23_checkElementIndex_12 : decode cJ23_checkElementIndex 12 = .ok (.aload_n 0, 1) := dk_42 (dk_at dksJ23_checkElementIndex_0 12 rfl rfl)
theorem dJ23_checkElementIndex_13 : decode cJ23_checkElementIndex 13 = .ok (.iload_n 1, 1) := dk_27 (dk_at dksJ23_checkElementIndex_0 13 rfl rfl)
theorem dJ23_checkElementIndex_14 : decode cJ23_checkElementIndex 14 = .ok (.invokevirtual 121, 3) := dk_182 0 121 (dk_at dksJ23_checkElementIndex_0 14 rfl rfl)
theorem dJ23_checkElementIndex_17 : decode cJ23_checkElementIndex 17 = .ok (.invokespecial 125, 3) := dk_183 0 125 (dk_at dksJ23_checkElementIndex_0 17 rfl rfl)
theorem dJ23_checkElementIndex_20 : decode cJ23_checkElementIndex 20 = .ok (.athrow, 1) := dk_191 (dk_at dksJ23_checkElementIndex_0 20 rfl rfl)
theorem dJ23_checkElementIndex_21 : decode cJ23_checkElementIndex 21 = .ok (.return_, 1) := dk_177 (dk_at dksJ23_checkElementIndex_0 21 rfl rfl)
abbrev cJ23_isElementIndex : ByteArray := prog_64_method_26_code
def yJ23_isElementIndex : MethodName := ⟨RJ23, "isElementIndex", "(I)Z"⟩
def dkwJ23_isElementIndex_0 : List UInt8 := [27, 155, 0, 15, 27, 42, 180, 0, 7, 162, 0, 7, 4, 167, 0, 4, 3, 172]
abbrev dktJ23_isElementIndex_0 : List UInt8 := dkwJ23_isElementIndex_0 ++ []
theorem dksJ23_isElementIndex_0 : cJ23_isElementIndex.data.toList.drop 0 = dktJ23_isElementIndex_0 := by decide +kernel
theorem dJ23_isElementIndex_0 : decode cJ23_isElementIndex 0 = .ok (.iload_n 1, 1) := dk_27 (dk_at dksJ23_isElementIndex_0 0 rfl rfl)
theorem dJ23_isElementIndex_1 : decode cJ23_isElementIndex 1 = .ok (.ifCond .lt 15, 3) := dk_155 0 15 (dk_at dksJ23_isElementIndex_0 1 rfl rfl)
theorem dJ23_isElementIndex_4 : decode cJ23_isElementIndex 4 = .ok (.iload_n 1, 1) := dk_27 (dk_at dksJ23_isElementIndex_0 4 rfl rfl)
theorem dJ23_isElementIndex_5 : decode cJ23_isElementIndex 5 = .ok (.aload_n 0, 1) := dk_42 (dk_at dksJ23_isElementIndex_0 5 rfl rfl)
theorem dJ23_isElementIndex_6 : decode cJ23_isElementIndex 6 = .ok (.getfield 7, 3) := dk_180 0 7 (dk_at dksJ23_isElementIndex_0 6 rfl rfl)
theorem dJ23_isElementIndex_9 : decode cJ23_isElementIndex 9 = .ok (.if_icmp .ge 7, 3) := dk_162 0 7 (dk_at dksJ23_isElementIndex_0 9 rfl rfl)
theorem dJ23_isElementIndex_12 : decode cJ23_isElementIndex 12 = .ok (.iconst 1, 1) := dk_4 (dk_at dksJ23_isElementIndex_0 12 rfl rfl)
theorem dJ23_isElementIndex_13 : decode cJ23_isElementIndex 13 = .ok (.goto 4, 3) := dk_167 0 4 (dk_at dksJ23_isElementIndex_0 13 rfl rfl)
theorem dJ23_isElementIndex_16 : decode cJ23_isElementIndex 16 = .ok (.iconst 0, 1) := dk_3 (dk_at dksJ23_isElementIndex_0 16 rfl rfl)
theorem dJ23_isElementIndex_17 : decode cJ23_isElementIndex 17 = .ok (.ireturn, 1) := dk_172 (dk_at dksJ23_isElementIndex_0 17 rfl rfl)
abbrev cJ23_remove : ByteArray := prog_64_method_25_code
def yJ23_remove : MethodName := ⟨RJ23, "remove", "(I)Ljava/lang/Object;"⟩
def dkwJ23_remove_0 : List UInt8 := [42, 27, 182, 0, 90, 42, 42, 27, 182, 0, 86, 182, 0, 64, 176]
abbrev dktJ23_remove_0 : List UInt8 := dkwJ23_remove_0 ++ []
theorem dksJ23_remove_0 : cJ23_remove.data.toList.drop 0 = dktJ23_remove_0 := by decide +kernel
theorem dJ23_remove_0 : decode cJ23_remove 0 = .ok (.aload_n 0, 1) := dk_42 (dk_at dksJ23_remove_0 0 rfl rfl)
theorem dJ23_remove_1 : decode cJ23_remove 1 = .ok (.iload_n 1, 1) := dk_27 (dk_at dksJ23_remove_0 1 rfl rfl)
theorem dJ23_remove_2 : decode cJ23_remove 2 = .ok (.invokevirtual 90, 3) := dk_182 0 90 (dk_at dksJ23_remove_0 2 rfl rfl)
theorem dJ23_remove_5 : decode cJ23_remove 5 = .ok (.aload_n 0, 1) := dk_42 (dk_at dksJ23_remove_0 5 rfl rfl)
theorem dJ23_remove_6 : decode cJ23_remove 6 = .ok (.aload_n 0, 1) := dk_42 (dk_at dksJ23_remove_0 6 rfl rfl)
theorem dJ23_remove_7 : decode cJ23_remove 7 = .ok (.iload_n 1, 1) := dk_27 (dk_at dksJ23_remove_0 7 rfl rfl)
theorem dJ23_remove_8 : decode cJ23_remove 8 = .ok (.invokevirtual 86, 3) := dk_182 0 86 (dk_at dksJ23_remove_0 8 rfl rfl)
theorem dJ23_remove_11 : decode cJ23_remove 11 = .ok (.invokevirtual 64, 3) := dk_182 0 64 (dk_at dksJ23_remove_0 11 rfl rfl)
theorem dJ23_remove_14 : decode cJ23_remove 14 = .ok (.areturn, 1) := dk_176 (dk_at dksJ23_remove_0 14 rfl rfl)
abbrev cJ23_unlink : ByteArray := prog_64_method_8_code
def yJ23_unlink : MethodName := ⟨RJ23, "unlink", "(Ljava/util/LinkedList$Node;)Ljava/lang/Object;"⟩
def dkwJ23_unlink_3 : List UInt8 := [180, 0, 7, 4, 100, 181, 0, 7, 42, 89, 180, 0, 33, 4, 96, 181, 0, 33, 44, 176]
abbrev dktJ23_unlink_3 : List UInt8 := dkwJ23_unlink_3 ++ []
def dkwJ23_unlink_2 : List UInt8 := [181, 0, 27, 167, 0, 14, 45, 25, 4, 181, 0, 30, 43, 1, 181, 0, 36, 43, 1, 181, 0, 39, 42, 89]
abbrev dktJ23_unlink_2 : List UInt8 := dkwJ23_unlink_2 ++ dktJ23_unlink_3
def dkwJ23_unlink_1 : List UInt8 := [181, 0, 18, 167, 0, 14, 25, 4, 45, 181, 0, 36, 43, 1, 181, 0, 30, 45, 199, 0, 12, 42, 25, 4]
abbrev dktJ23_unlink_1 : List UInt8 := dkwJ23_unlink_1 ++ dktJ23_unlink_2
def dkwJ23_unlink_0 : List UInt8 := [43, 180, 0, 39, 77, 43, 180, 0, 36, 78, 43, 180, 0, 30, 58, 4, 25, 4, 199, 0, 11, 42, 45]
abbrev dktJ23_unlink_0 : List UInt8 := dkwJ23_unlink_0 ++ dktJ23_unlink_1
theorem dksJ23_unlink_0 : cJ23_unlink.data.toList.drop 0 = dktJ23_unlink_0 := by decide +kernel
theorem dksJ23_unlink_1 : cJ23_unlink.data.toList.drop 23 = dktJ23_unlink_1 := dk_seg dksJ23_unlink_0 23 rfl rfl
theorem dksJ23_unlink_2 : cJ23_unlink.data.toList.drop 47 = dktJ23_unlink_2 := dk_seg dksJ23_unlink_1 24 rfl rfl
theorem dksJ23_unlink_3 : cJ23_unlink.data.toList.drop 71 = dktJ23_unlink_3 := dk_seg dksJ23_unlink_2 24 rfl rfl
theorem dJ23_unlink_0 : decode cJ23_unlink 0 = .ok (.aload_n 1, 1) := dk_43 (dk_at dksJ23_unlink_0 0 rfl rfl)
theorem dJ23_unlink_1 : decode cJ23_unlink 1 = .ok (.getfield 39, 3) := dk_180 0 39 (dk_at dksJ23_unlink_0 1 rfl rfl)
theorem dJ23_unlink_4 : decode cJ23_unlink 4 = .ok (.astore_n 2, 1) := dk_77 (dk_at dksJ23_unlink_0 4 rfl rfl)
theorem dJ23_unlink_5 : decode cJ23_unlink 5 = .ok (.aload_n 1, 1) := dk_43 (dk_at dksJ23_unlink_0 5 rfl rfl)
theorem dJ23_unlink_6 : decode cJ23_unlink 6 = .ok (.getfield 36, 3) := dk_180 0 36 (dk_at dksJ23_unlink_0 6 rfl rfl)
theorem dJ23_unlink_9 : decode cJ23_unlink 9 = .ok (.astore_n 3, 1) := dk_78 (dk_at dksJ23_unlink_0 9 rfl rfl)
theorem dJ23_unlink_10 : decode cJ23_unlink 10 = .ok (.aload_n 1, 1) := dk_43 (dk_at dksJ23_unlink_0 10 rfl rfl)
theorem dJ23_unlink_11 : decode cJ23_unlink 11 = .ok (.getfield 30, 3) := dk_180 0 30 (dk_at dksJ23_unlink_0 11 rfl rfl)
theorem dJ23_unlink_14 : decode cJ23_unlink 14 = .ok (.astore 4, 2) := dk_58 4 (dk_at dksJ23_unlink_0 14 rfl rfl)
theorem dJ23_unlink_16 : decode cJ23_unlink 16 = .ok (.aload 4, 2) := dk_25 4 (dk_at dksJ23_unlink_0 16 rfl rfl)
theorem dJ23_unlink_18 : decode cJ23_unlink 18 = .ok (.ifnonnull 11, 3) := dk_199 0 11 (dk_at dksJ23_unlink_0 18 rfl rfl)
theorem dJ23_unlink_21 : decode cJ23_unlink 21 = .ok (.aload_n 0, 1) := dk_42 (dk_at dksJ23_unlink_0 21 rfl rfl)
theorem dJ23_unlink_22 : decode cJ23_unlink 22 = .ok (.aload_n 3, 1) := dk_45 (dk_at dksJ23_unlink_0 22 rfl rfl)
theorem dJ23_unlink_23 : decode cJ23_unlink 23 = .ok (.putfield 18, 3) := dk_181 0 18 (dk_at dksJ23_unlink_1 0 rfl rfl)
theorem dJ23_unlink_26 : decode cJ23_unlink 26 = .ok (.goto 14, 3) := dk_167 0 14 (dk_at dksJ23_unlink_1 3 rfl rfl)
theorem dJ23_unlink_29 : decode cJ23_unlink 29 = .ok (.aload 4, 2) := dk_25 4 (dk_at dksJ23_unlink_1 6 rfl rfl)
theorem dJ23_unlink_31 : decode cJ23_unlink 31 = .ok (.aload_n 3, 1) := dk_45 (dk_at dksJ23_unlink_1 8 rfl rfl)
theorem dJ23_unlink_32 : decode cJ23_unlink 32 = .ok (.putfield 36, 3) := dk_181 0 36 (dk_at dksJ23_unlink_1 9 rfl rfl)
theorem dJ23_unlink_35 : decode cJ23_unlink 35 = .ok (.aload_n 1, 1) := dk_43 (dk_at dksJ23_unlink_1 12 rfl rfl)
theorem dJ23_unlink_36 : decode cJ23_unlink 36 = .ok (.aconst_null, 1) := dk_1 (dk_at dksJ23_unlink_1 13 rfl rfl)
theorem dJ23_unlink_37 : decode cJ23_unlink 37 = .ok (.putfield 30, 3) := dk_181 0 30 (dk_at dksJ23_unlink_1 14 rfl rfl)
theorem dJ23_unlink_40 : decode cJ23_unlink 40 = .ok (.aload_n 3, 1) := dk_45 (dk_at dksJ23_unlink_1 17 rfl rfl)
theorem dJ23_unlink_41 : decode cJ23_unlink 41 = .ok (.ifnonnull 12, 3) := dk_199 0 12 (dk_at dksJ23_unlink_1 18 rfl rfl)
theorem dJ23_unlink_44 : decode cJ23_unlink 44 = .ok (.aload_n 0, 1) := dk_42 (dk_at dksJ23_unlink_1 21 rfl rfl)
theorem dJ23_unlink_45 : decode cJ23_unlink 45 = .ok (.aload 4, 2) := dk_25 4 (dk_at dksJ23_unlink_1 22 rfl rfl)
theorem dJ23_unlink_47 : decode cJ23_unlink 47 = .ok (.putfield 27, 3) := dk_181 0 27 (dk_at dksJ23_unlink_2 0 rfl rfl)
theorem dJ23_unlink_50 : decode cJ23_unlink 50 = .ok (.goto 14, 3) := dk_167 0 14 (dk_at dksJ23_unlink_2 3 rfl rfl)
theorem dJ23_unlink_53 : decode cJ23_unlink 53 = .ok (.aload_n 3, 1) := dk_45 (dk_at dksJ23_unlink_2 6 rfl rfl)
theorem dJ23_unlink_54 : decode cJ23_unlink 54 = .ok (.aload 4, 2) := dk_25 4 (dk_at dksJ23_unlink_2 7 rfl rfl)
theorem dJ23_unlink_56 : decode cJ23_unlink 56 = .ok (.putfield 30, 3) := dk_181 0 30 (dk_at dksJ23_unlink_2 9 rfl rfl)
theorem dJ23_unlink_59 : decode cJ23_unlink 59 = .ok (.aload_n 1, 1) := dk_43 (dk_at dksJ23_unlink_2 12 rfl rfl)
theorem dJ23_unlink_60 : decode cJ23_unlink 60 = .ok (.aconst_null, 1) := dk_1 (dk_at dksJ23_unlink_2 13 rfl rfl)
theorem dJ23_unlink_61 : decode cJ23_unlink 61 = .ok (.putfield 36, 3) := dk_181 0 36 (dk_at dksJ23_unlink_2 14 rfl rfl)
theorem dJ23_unlink_64 : decode cJ23_unlink 64 = .ok (.aload_n 1, 1) := dk_43 (dk_at dksJ23_unlink_2 17 rfl rfl)
theorem dJ23_unlink_65 : decode cJ23_unlink 65 = .ok (.aconst_null, 1) := dk_1 (dk_at dksJ23_unlink_2 18 rfl rfl)
theorem dJ23_unlink_66 : decode cJ23_unlink 66 = .ok (.putfield 39, 3) := dk_181 0 39 (dk_at dksJ23_unlink_2 19 rfl rfl)
theorem dJ23_unlink_69 : decode cJ23_unlink 69 = .ok (.aload_n 0, 1) := dk_42 (dk_at dksJ23_unlink_2 22 rfl rfl)
theorem dJ23_unlink_70 : decode cJ23_unlink 70 = .ok (.dup, 1) := dk_89 (dk_at dksJ23_unlink_2 23 rfl rfl)
theorem dJ23_unlink_71 : decode cJ23_unlink 71 = .ok (.getfield 7, 3) := dk_180 0 7 (dk_at dksJ23_unlink_3 0 rfl rfl)
theorem dJ23_unlink_74 : decode cJ23_unlink 74 = .ok (.iconst 1, 1) := dk_4 (dk_at dksJ23_unlink_3 3 rfl rfl)
theorem dJ23_unlink_75 : decode cJ23_unlink 75 = .ok (.isub, 1) := dk_100 (dk_at dksJ23_unlink_3 4 rfl rfl)
theorem dJ23_unlink_76 : decode cJ23_unlink 76 = .ok (.putfield 7, 3) := dk_181 0 7 (dk_at dksJ23_unlink_3 5 rfl rfl)
theorem dJ23_unlink_79 : decode cJ23_unlink 79 = .ok (.aload_n 0, 1) := dk_42 (dk_at dksJ23_unlink_3 8 rfl rfl)
theorem dJ23_unlink_80 : decode cJ23_unlink 80 = .ok (.dup, 1) := dk_89 (dk_at dksJ23_unlink_3 9 rfl rfl)
theorem dJ23_unlink_81 : decode cJ23_unlink 81 = .ok (.getfield 33, 3) := dk_180 0 33 (dk_at dksJ23_unlink_3 10 rfl rfl)
theorem dJ23_unlink_84 : decode cJ23_unlink 84 = .ok (.iconst 1, 1) := dk_4 (dk_at dksJ23_unlink_3 13 rfl rfl)
theorem dJ23_unlink_85 : decode cJ23_unlink 85 = .ok (.iadd, 1) := dk_96 (dk_at dksJ23_unlink_3 14 rfl rfl)
theorem dJ23_unlink_86 : decode cJ23_unlink 86 = .ok (.putfield 33, 3) := dk_181 0 33 (dk_at dksJ23_unlink_3 15 rfl rfl)
theorem dJ23_unlink_89 : decode cJ23_unlink 89 = .ok (.aload_n 2, 1) := dk_44 (dk_at dksJ23_unlink_3 18 rfl rfl)
theorem dJ23_unlink_90 : decode cJ23_unlink 90 = .ok (.areturn, 1) := dk_176 (dk_at dksJ23_unlink_3 19 rfl rfl)
theorem q159 : (Jvm.Cond.initialized "java/util/LinkedList") ∈ lw_all := lw_g (lw_at lw_m1 44 rfl) rfl
theorem q522 : (Jvm.Cond.sameField "java/util/LinkedList" "java/util/AbstractList" "modCount" "I") ∈ lw_all := lw_g (lw_at lw_m2 167 rfl) rfl
theorem q526 : (Jvm.Cond.fieldLink "java/util/LinkedList" (33 : Nat) "java/util/LinkedList" "modCount" "I") ∈ lw_all := lw_g (lw_at lw_m2 171 rfl) rfl
theorem q880 : (Jvm.Cond.selects "java/util/LinkedList" ({ cls := "java/lang/Object", name := "getClass", desc := "()Ljava/lang/Class;" } : Jvm.MethodName) ({ cls := "java/lang/Object", name := "getClass", desc := "()Ljava/lang/Class;" } : Jvm.MethodName)) ∈ lw_all := lw_g (lw_at lw_m4 45 rfl) rfl
theorem q1824 : (Jvm.Cond.instantiable "java/util/LinkedList" (4 : Nat)) ∈ lw_all := lw_g (lw_at lw_m8 29 rfl) rfl
theorem q1826 : (Jvm.Cond.instanceMethod ({ cls := "java/util/LinkedList", name := "<init>", desc := "()V" } : Jvm.MethodName)) ∈ lw_all := lw_g (lw_at lw_m8 31 rfl) rfl
theorem q1827 : (Jvm.Cond.code ({ cls := "java/util/LinkedList", name := "<init>", desc := "()V" } : Jvm.MethodName) prog_64_method_1_code (1 : Nat) (Option.none : Option Jvm.ClassFile.FieldType)) ∈ lw_all := lw_g (lw_at lw_m8 32 rfl) rfl
theorem q1828 : (Jvm.Cond.methodLink "java/util/LinkedList" (1 : Nat) ({ cls := "java/util/AbstractSequentialList", name := "<init>", desc := "()V" } : Jvm.MethodName)) ∈ lw_all := lw_g (lw_at lw_m8 33 rfl) rfl
theorem q1832 : (Jvm.Cond.fieldLink "java/util/LinkedList" (7 : Nat) "java/util/LinkedList" "size" "I") ∈ lw_all := lw_g (lw_at lw_m8 37 rfl) rfl
theorem q1834 : (Jvm.Cond.fieldLink "java/util/LinkedList" (18 : Nat) "java/util/LinkedList" "first" "Ljava/util/LinkedList$Node;") ∈ lw_all := lw_g (lw_at lw_m8 39 rfl) rfl
theorem q1835 : (Jvm.Cond.fieldLink "java/util/LinkedList" (27 : Nat) "java/util/LinkedList" "last" "Ljava/util/LinkedList$Node;") ∈ lw_all := lw_g (lw_at lw_m8 40 rfl) rfl
theorem q1836 : (Jvm.Cond.lays "java/util/LinkedList" "java/util/LinkedList" "size" "I") ∈ lw_all := lw_g (lw_at lw_m8 41 rfl) rfl
theorem q1837 : (Jvm.Cond.soleField "java/util/LinkedList" "size") ∈ lw_all := lw_g (lw_at lw_m8 42 rfl) rfl
theorem q1838 : (Jvm.Cond.lays "java/util/LinkedList" "java/util/LinkedList" "first" "Ljava/util/LinkedList$Node;") ∈ lw_all := lw_g (lw_at lw_m8 43 rfl) rfl
theorem q1839 : (Jvm.Cond.soleField "java/util/LinkedList" "first") ∈ lw_all := lw_g (lw_at lw_m8 44 rfl) rfl
theorem q1840 : (Jvm.Cond.lays "java/util/LinkedList" "java/util/LinkedList" "last" "Ljava/util/LinkedList$Node;") ∈ lw_all := lw_g (lw_at lw_m8 45 rfl) rfl
theorem q1841 : (Jvm.Cond.soleField "java/util/LinkedList" "last") ∈ lw_all := lw_g (lw_at lw_m8 46 rfl) rfl
theorem q1842 : (Jvm.Cond.lays "java/util/LinkedList" "java/util/AbstractList" "modCount" "I") ∈ lw_all := lw_g (lw_at lw_m8 47 rfl) rfl
theorem q1843 : (Jvm.Cond.superclass "java/util/LinkedList" "java/util/AbstractSequentialList") ∈ lw_all := lw_g (lw_at lw_m8 48 rfl) rfl
theorem q1861 : (Jvm.Cond.instanceMethod ({ cls := "java/util/LinkedList", name := "addLast", desc := "(Ljava/lang/Object;)V" } : Jvm.MethodName)) ∈ lw_all := lw_g (lw_at lw_m8 66 rfl) rfl
theorem q1862 : (Jvm.Cond.selects "java/util/LinkedList" ({ cls := "java/util/LinkedList", name := "addLast", desc := "(Ljava/lang/Object;)V" } : Jvm.MethodName) ({ cls := "java/util/LinkedList", name := "addLast", desc := "(Ljava/lang/Object;)V" } : Jvm.MethodName)) ∈ lw_all := lw_g (lw_at lw_m8 67 rfl) rfl
theorem q1863 : (Jvm.Cond.code ({ cls := "java/util/LinkedList", name := "addLast", desc := "(Ljava/lang/Object;)V" } : Jvm.MethodName) prog_64_method_14_code (2 : Nat) (Option.none : Option Jvm.ClassFile.FieldType)) ∈ lw_all := lw_g (lw_at lw_m8 68 rfl) rfl
theorem q1864 : (Jvm.Cond.methodLink "java/util/LinkedList" (57 : Nat) ({ cls := "java/util/LinkedList", name := "linkLast", desc := "(Ljava/lang/Object;)V" } : Jvm.MethodName)) ∈ lw_all := lw_g (lw_at lw_m8 69 rfl) rfl
theorem q1865 : (Jvm.Cond.instanceMethod ({ cls := "java/util/LinkedList", name := "linkLast", desc := "(Ljava/lang/Object;)V" } : Jvm.MethodName)) ∈ lw_all := lw_g (lw_at lw_m8 70 rfl) rfl
theorem q1866 : (Jvm.Cond.selects "java/util/LinkedList" ({ cls := "java/util/LinkedList", name := "linkLast", desc := "(Ljava/lang/Object;)V" } : Jvm.MethodName) ({ cls := "java/util/LinkedList", name := "linkLast", desc := "(Ljava/lang/Object;)V" } : Jvm.MethodName)) ∈ lw_all := lw_g (lw_at lw_m8 71 rfl) rfl
theorem q1867 : (Jvm.Cond.code ({ cls := "java/util/LinkedList", name := "linkLast", desc := "(Ljava/lang/Object;)V" } : Jvm.MethodName) prog_64_method_4_code (4 : Nat) (Option.none : Option Jvm.ClassFile.FieldType)) ∈ lw_all := lw_g (lw_at lw_m8 72 rfl) rfl
theorem q1868 : (Jvm.Cond.classLink "java/util/LinkedList" (22 : Nat) "java/util/LinkedList$Node") ∈ lw_all := lw_g (lw_at lw_m8 73 rfl) rfl
theorem q1870 : (Jvm.Cond.methodLink "java/util/LinkedList" (24 : Nat) ({ cls := "java/util/LinkedList$Node", name := "<init>", desc := "(Ljava/util/LinkedList$Node;Ljava/lang/Object;Ljava/util/LinkedList$Node;)V" } : Jvm.MethodName)) ∈ lw_all := lw_g (lw_at lw_m8 75 rfl) rfl
theorem q1876 : (Jvm.Cond.fieldLink "java/util/LinkedList" (39 : Nat) "java/util/LinkedList$Node" "item" "Ljava/lang/Object;") ∈ lw_all := lw_g (lw_at lw_m8 81 rfl) rfl
theorem q1879 : (Jvm.Cond.fieldLink "java/util/LinkedList" (36 : Nat) "java/util/LinkedList$Node" "next" "Ljava/util/LinkedList$Node;") ∈ lw_all := lw_g (lw_at lw_m8 84 rfl) rfl
theorem q1881 : (Jvm.Cond.fieldLink "java/util/LinkedList" (30 : Nat) "java/util/LinkedList$Node" "prev" "Ljava/util/LinkedList$Node;") ∈ lw_all := lw_g (lw_at lw_m8 86 rfl) rfl
theorem q1890 : (Jvm.Cond.sameMethod "java/util/LinkedList" "java/util/AbstractSequentialList" "iterator" "()Ljava/util/Iterator;") ∈ lw_all := lw_g (lw_at lw_m8 95 rfl) rfl
theorem q1892 : (Jvm.Cond.selects "java/util/LinkedList" ({ cls := "java/util/LinkedList", name := "iterator", desc := "()Ljava/util/Iterator;" } : Jvm.MethodName) ({ cls := "java/util/AbstractSequentialList", name := "iterator", desc := "()Ljava/util/Iterator;" } : Jvm.MethodName)) ∈ lw_all := lw_g (lw_at lw_m8 97 rfl) rfl
theorem q1898 : (Jvm.Cond.selects "java/util/LinkedList" ({ cls := "java/util/AbstractSequentialList", name := "listIterator", desc := "()Ljava/util/ListIterator;" } : Jvm.MethodName) ({ cls := "java/util/AbstractList", name := "listIterator", desc := "()Ljava/util/ListIterator;" } : Jvm.MethodName)) ∈ lw_all := lw_g (lw_at lw_m8 103 rfl) rfl
theorem q1938 : (Jvm.Cond.selects "java/util/LinkedList" ({ cls := "java/util/AbstractList", name := "listIterator", desc := "(I)Ljava/util/ListIterator;" } : Jvm.MethodName) ({ cls := "java/util/LinkedList", name := "listIterator", desc := "(I)Ljava/util/ListIterator;" } : Jvm.MethodName)) ∈ lw_all := lw_g (lw_at lw_m8 143 rfl) rfl
theorem q1939 : (Jvm.Cond.instanceMethod ({ cls := "java/util/LinkedList", name := "listIterator", desc := "(I)Ljava/util/ListIterator;" } : Jvm.MethodName)) ∈ lw_all := lw_g (lw_at lw_m8 144 rfl) rfl
theorem q1940 : (Jvm.Cond.code ({ cls := "java/util/LinkedList", name := "listIterator", desc := "(I)Ljava/util/ListIterator;" } : Jvm.MethodName) prog_64_method_49_code (2 : Nat) (Option.some (Jvm.ClassFile.FieldType.object "java/util/ListIterator"))) ∈ lw_all := lw_g (lw_at lw_m8 145 rfl) rfl
theorem q1941 : (Jvm.Cond.methodLink "java/util/LinkedList" (76 : Nat) ({ cls := "java/util/LinkedList", name := "checkPositionIndex", desc := "(I)V" } : Jvm.MethodName)) ∈ lw_all := lw_g (lw_at lw_m8 146 rfl) rfl
theorem q1942 : (Jvm.Cond.privateMethod ({ cls := "java/util/LinkedList", name := "checkPositionIndex", desc := "(I)V" } : Jvm.MethodName)) ∈ lw_tbl := lw_at lw_m8 147 rfl
theorem q1943 : (Jvm.Cond.instanceMethod ({ cls := "java/util/LinkedList", name := "checkPositionIndex", desc := "(I)V" } : Jvm.MethodName)) ∈ lw_all := lw_g (lw_at lw_m8 148 rfl) rfl
theorem q1944 : (Jvm.Cond.code ({ cls := "java/util/LinkedList", name := "checkPositionIndex", desc := "(I)V" } : Jvm.MethodName) prog_64_method_30_code (2 : Nat) (Option.none : Option Jvm.ClassFile.FieldType)) ∈ lw_all := lw_g (lw_at lw_m8 149 rfl) rfl
theorem q1945 : (Jvm.Cond.methodLink "java/util/LinkedList" (128 : Nat) ({ cls := "java/util/LinkedList", name := "isPositionIndex", desc := "(I)Z" } : Jvm.MethodName)) ∈ lw_all := lw_g (lw_at lw_m8 150 rfl) rfl
theorem q1946 : (Jvm.Cond.privateMethod ({ cls := "java/util/LinkedList", name := "isPositionIndex", desc := "(I)Z" } : Jvm.MethodName)) ∈ lw_tbl := lw_at lw_m8 151 rfl
theorem q1947 : (Jvm.Cond.instanceMethod ({ cls := "java/util/LinkedList", name := "isPositionIndex", desc := "(I)Z" } : Jvm.MethodName)) ∈ lw_all := lw_g (lw_at lw_m8 152 rfl) rfl
theorem q1948 : (Jvm.Cond.code ({ cls := "java/util/LinkedList", name := "isPositionIndex", desc := "(I)Z" } : Jvm.MethodName) prog_64_method_27_code (2 : Nat) (Option.some Jvm.ClassFile.FieldType.boolean)) ∈ lw_all := lw_g (lw_at lw_m8 153 rfl) rfl
theorem q1949 : (Jvm.Cond.classLink "java/util/LinkedList" (150 : Nat) "java/util/LinkedList$ListItr") ∈ lw_all := lw_g (lw_at lw_m8 154 rfl) rfl
theorem q1951 : (Jvm.Cond.methodLink "java/util/LinkedList" (152 : Nat) ({ cls := "java/util/LinkedList$ListItr", name := "<init>", desc := "(Ljava/util/LinkedList;I)V" } : Jvm.MethodName)) ∈ lw_all := lw_g (lw_at lw_m8 156 rfl) rfl
theorem q1956 : (Jvm.Cond.instanceMethod ({ cls := "java/util/LinkedList", name := "node", desc := "(I)Ljava/util/LinkedList$Node;" } : Jvm.MethodName)) ∈ lw_all := lw_g (lw_at lw_m8 161 rfl) rfl
theorem q1957 : (Jvm.Cond.selects "java/util/LinkedList" ({ cls := "java/util/LinkedList", name := "node", desc := "(I)Ljava/util/LinkedList$Node;" } : Jvm.MethodName) ({ cls := "java/util/LinkedList", name := "node", desc := "(I)Ljava/util/LinkedList$Node;" } : Jvm.MethodName)) ∈ lw_all := lw_g (lw_at lw_m8 162 rfl) rfl
theorem q1958 : (Jvm.Cond.code ({ cls := "java/util/LinkedList", name := "node", desc := "(I)Ljava/util/LinkedList$Node;" } : Jvm.MethodName) prog_64_method_31_code (4 : Nat) (Option.some (Jvm.ClassFile.FieldType.object "java/util/LinkedList$Node"))) ∈ lw_all := lw_g (lw_at lw_m8 163 rfl) rfl
theorem q1990 : (Jvm.Cond.selects "java/util/LinkedList" ({ cls := "java/util/AbstractList", name := "size", desc := "()I" } : Jvm.MethodName) ({ cls := "java/util/LinkedList", name := "size", desc := "()I" } : Jvm.MethodName)) ∈ lw_all := lw_g (lw_at lw_m8 195 rfl) rfl
theorem q1991 : (Jvm.Cond.instanceMethod ({ cls := "java/util/LinkedList", name := "size", desc := "()I" } : Jvm.MethodName)) ∈ lw_all := lw_g (lw_at lw_m8 196 rfl) rfl
theorem q1992 : (Jvm.Cond.code ({ cls := "java/util/LinkedList", name := "size", desc := "()I" } : Jvm.MethodName) prog_64_method_16_code (1 : Nat) (Option.some Jvm.ClassFile.FieldType.int)) ∈ lw_all := lw_g (lw_at lw_m8 197 rfl) rfl
theorem q2023 : (Jvm.Cond.selects "java/util/LinkedList" ({ cls := "java/util/AbstractList", name := "get", desc := "(I)Ljava/lang/Object;" } : Jvm.MethodName) ({ cls := "java/util/LinkedList", name := "get", desc := "(I)Ljava/lang/Object;" } : Jvm.MethodName)) ∈ lw_all := lw_g (lw_at lw_m8 228 rfl) rfl
theorem q2024 : (Jvm.Cond.instanceMethod ({ cls := "java/util/LinkedList", name := "get", desc := "(I)Ljava/lang/Object;" } : Jvm.MethodName)) ∈ lw_all := lw_g (lw_at lw_m8 229 rfl) rfl
theorem q2025 : (Jvm.Cond.code ({ cls := "java/util/LinkedList", name := "get", desc := "(I)Ljava/lang/Object;" } : Jvm.MethodName) prog_64_method_22_code (2 : Nat) (Option.some (Jvm.ClassFile.FieldType.object "java/lang/Object"))) ∈ lw_all := lw_g (lw_at lw_m8 230 rfl) rfl
theorem q2026 : (Jvm.Cond.methodLink "java/util/LinkedList" (90 : Nat) ({ cls := "java/util/LinkedList", name := "checkElementIndex", desc := "(I)V" } : Jvm.MethodName)) ∈ lw_all := lw_g (lw_at lw_m8 231 rfl) rfl
theorem q2027 : (Jvm.Cond.privateMethod ({ cls := "java/util/LinkedList", name := "checkElementIndex", desc := "(I)V" } : Jvm.MethodName)) ∈ lw_tbl := lw_at lw_m8 232 rfl
theorem q2028 : (Jvm.Cond.instanceMethod ({ cls := "java/util/LinkedList", name := "checkElementIndex", desc := "(I)V" } : Jvm.MethodName)) ∈ lw_all := lw_g (lw_at lw_m8 233 rfl) rfl
theorem q2029 : (Jvm.Cond.code ({ cls := "java/util/LinkedList", name := "checkElementIndex", desc := "(I)V" } : Jvm.MethodName) prog_64_method_29_code (2 : Nat) (Option.none : Option Jvm.ClassFile.FieldType)) ∈ lw_all := lw_g (lw_at lw_m8 234 rfl) rfl
theorem q2030 : (Jvm.Cond.methodLink "java/util/LinkedList" (115 : Nat) ({ cls := "java/util/LinkedList", name := "isElementIndex", desc := "(I)Z" } : Jvm.MethodName)) ∈ lw_all := lw_g (lw_at lw_m8 235 rfl) rfl
theorem q2031 : (Jvm.Cond.privateMethod ({ cls := "java/util/LinkedList", name := "isElementIndex", desc := "(I)Z" } : Jvm.MethodName)) ∈ lw_tbl := lw_at lw_m8 236 rfl
theorem q2032 : (Jvm.Cond.instanceMethod ({ cls := "java/util/LinkedList", name := "isElementIndex", desc := "(I)Z" } : Jvm.MethodName)) ∈ lw_all := lw_g (lw_at lw_m8 237 rfl) rfl
theorem q2033 : (Jvm.Cond.code ({ cls := "java/util/LinkedList", name := "isElementIndex", desc := "(I)Z" } : Jvm.MethodName) prog_64_method_26_code (2 : Nat) (Option.some Jvm.ClassFile.FieldType.boolean)) ∈ lw_all := lw_g (lw_at lw_m8 238 rfl) rfl
theorem q2034 : (Jvm.Cond.methodLink "java/util/LinkedList" (86 : Nat) ({ cls := "java/util/LinkedList", name := "node", desc := "(I)Ljava/util/LinkedList$Node;" } : Jvm.MethodName)) ∈ lw_all := lw_g (lw_at lw_m8 239 rfl) rfl
theorem q2135 : (Jvm.Cond.selects "java/util/LinkedList" ({ cls := "java/util/AbstractList", name := "remove", desc := "(I)Ljava/lang/Object;" } : Jvm.MethodName) ({ cls := "java/util/LinkedList", name := "remove", desc := "(I)Ljava/lang/Object;" } : Jvm.MethodName)) ∈ lw_all := lw_g (lw_at lw_m9 100 rfl) rfl
theorem q2136 : (Jvm.Cond.instanceMethod ({ cls := "java/util/LinkedList", name := "remove", desc := "(I)Ljava/lang/Object;" } : Jvm.MethodName)) ∈ lw_all := lw_g (lw_at lw_m9 101 rfl) rfl
theorem q2137 : (Jvm.Cond.code ({ cls := "java/util/LinkedList", name := "remove", desc := "(I)Ljava/lang/Object;" } : Jvm.MethodName) prog_64_method_25_code (2 : Nat) (Option.some (Jvm.ClassFile.FieldType.object "java/lang/Object"))) ∈ lw_all := lw_g (lw_at lw_m9 102 rfl) rfl
theorem q2138 : (Jvm.Cond.methodLink "java/util/LinkedList" (64 : Nat) ({ cls := "java/util/LinkedList", name := "unlink", desc := "(Ljava/util/LinkedList$Node;)Ljava/lang/Object;" } : Jvm.MethodName)) ∈ lw_all := lw_g (lw_at lw_m9 103 rfl) rfl
theorem q2139 : (Jvm.Cond.instanceMethod ({ cls := "java/util/LinkedList", name := "unlink", desc := "(Ljava/util/LinkedList$Node;)Ljava/lang/Object;" } : Jvm.MethodName)) ∈ lw_all := lw_g (lw_at lw_m9 104 rfl) rfl
theorem q2140 : (Jvm.Cond.selects "java/util/LinkedList" ({ cls := "java/util/LinkedList", name := "unlink", desc := "(Ljava/util/LinkedList$Node;)Ljava/lang/Object;" } : Jvm.MethodName) ({ cls := "java/util/LinkedList", name := "unlink", desc := "(Ljava/util/LinkedList$Node;)Ljava/lang/Object;" } : Jvm.MethodName)) ∈ lw_all := lw_g (lw_at lw_m9 105 rfl) rfl
theorem q2141 : (Jvm.Cond.code ({ cls := "java/util/LinkedList", name := "unlink", desc := "(Ljava/util/LinkedList$Node;)Ljava/lang/Object;" } : Jvm.MethodName) prog_64_method_8_code (5 : Nat) (Option.some (Jvm.ClassFile.FieldType.object "java/lang/Object"))) ∈ lw_all := lw_g (lw_at lw_m9 106 rfl) rfl
theorem q2961 : (Jvm.Cond.selects "java/util/LinkedList" ({ cls := "java/util/LinkedList", name := "size", desc := "()I" } : Jvm.MethodName) ({ cls := "java/util/LinkedList", name := "size", desc := "()I" } : Jvm.MethodName)) ∈ lw_all := lw_g (lw_at lw_m12 206 rfl) rfl
theorem q2962 : (Jvm.Cond.selects "java/util/LinkedList" ({ cls := "java/util/LinkedList", name := "get", desc := "(I)Ljava/lang/Object;" } : Jvm.MethodName) ({ cls := "java/util/LinkedList", name := "get", desc := "(I)Ljava/lang/Object;" } : Jvm.MethodName)) ∈ lw_all := lw_g (lw_at lw_m12 207 rfl) rfl
theorem q2990 : (Jvm.Cond.castable "java/util/LinkedList" "java/lang/Object") ∈ lw_tbl := lw_at lw_m12 235 rfl

abbrev cJ25_init : ByteArray := prog_66_method_1_code
def yJ25_init : MethodName := ⟨RJ25, "<init>", "(Ljava/util/LinkedList$Node;Ljava/lang/Object;Ljava/util/LinkedList$Node;)V"⟩
def dkwJ25_init_0 : List UInt8 := [42, 183, 0, 1, 42, 44, 181, 0, 7, 42, 45, 181, 0, 13, 42, 43, 181, 0, 17, 177]
abbrev dktJ25_init_0 : List UInt8 := dkwJ25_init_0 ++ []
theorem dksJ25_init_0 : cJ25_init.data.toList.drop 0 = dktJ25_init_0 := by decide +kernel
theorem dJ25_init_0 : decode cJ25_init 0 = .ok (.aload_n 0, 1) := dk_42 (dk_at dksJ25_init_0 0 rfl rfl)
theorem dJ25_init_1 : decode cJ25_init 1 = .ok (.invokespecial 1, 3) := dk_183 0 1 (dk_at dksJ25_init_0 1 rfl rfl)
theorem dJ25_init_4 : decode cJ25_init 4 = .ok (.aload_n 0, 1) := dk_42 (dk_at dksJ25_init_0 4 rfl rfl)
theorem dJ25_init_5 : decode cJ25_init 5 = .ok (.aload_n 2, 1) := dk_44 (dk_at dksJ25_init_0 5 rfl rfl)
theorem dJ25_init_6 : decode cJ25_init 6 = .ok (.putfield 7, 3) := dk_181 0 7 (dk_at dksJ25_init_0 6 rfl rfl)
theorem dJ25_init_9 : decode cJ25_init 9 = .ok (.aload_n 0, 1) := dk_42 (dk_at dksJ25_init_0 9 rfl rfl)
theorem dJ25_init_10 : decode cJ25_init 10 = .ok (.aload_n 3, 1) := dk_45 (dk_at dksJ25_init_0 10 rfl rfl)
theorem dJ25_init_11 : decode cJ25_init 11 = .ok (.putfield 13, 3) := dk_181 0 13 (dk_at dksJ25_init_0 11 rfl rfl)
theorem dJ25_init_14 : decode cJ25_init 14 = .ok (.aload_n 0, 1) := dk_42 (dk_at dksJ25_init_0 14 rfl rfl)
theorem dJ25_init_15 : decode cJ25_init 15 = .ok (.aload_n 1, 1) := dk_43 (dk_at dksJ25_init_0 15 rfl rfl)
theorem dJ25_init_16 : decode cJ25_init 16 = .ok (.putfield 17, 3) := dk_181 0 17 (dk_at dksJ25_init_0 16 rfl rfl)
theorem dJ25_init_19 : decode cJ25_init 19 = .ok (.return_, 1) := dk_177 (dk_at dksJ25_init_0 19 rfl rfl)
theorem q161 : (Jvm.Cond.initialized "java/util/LinkedList$Node") ∈ lw_all := lw_g (lw_at lw_m1 46 rfl) rfl
theorem q882 : (Jvm.Cond.selects "java/util/LinkedList$Node" ({ cls := "java/lang/Object", name := "getClass", desc := "()Ljava/lang/Class;" } : Jvm.MethodName) ({ cls := "java/lang/Object", name := "getClass", desc := "()Ljava/lang/Class;" } : Jvm.MethodName)) ∈ lw_all := lw_g (lw_at lw_m4 47 rfl) rfl
theorem q1869 : (Jvm.Cond.instantiable "java/util/LinkedList$Node" (3 : Nat)) ∈ lw_all := lw_g (lw_at lw_m8 74 rfl) rfl
theorem q1871 : (Jvm.Cond.instanceMethod ({ cls := "java/util/LinkedList$Node", name := "<init>", desc := "(Ljava/util/LinkedList$Node;Ljava/lang/Object;Ljava/util/LinkedList$Node;)V" } : Jvm.MethodName)) ∈ lw_all := lw_g (lw_at lw_m8 76 rfl) rfl
theorem q1872 : (Jvm.Cond.code ({ cls := "java/util/LinkedList$Node", name := "<init>", desc := "(Ljava/util/LinkedList$Node;Ljava/lang/Object;Ljava/util/LinkedList$Node;)V" } : Jvm.MethodName) prog_66_method_1_code (4 : Nat) (Option.none : Option Jvm.ClassFile.FieldType)) ∈ lw_all := lw_g (lw_at lw_m8 77 rfl) rfl
theorem q1873 : (Jvm.Cond.methodLink "java/util/LinkedList$Node" (1 : Nat) ({ cls := "java/lang/Object", name := "<init>", desc := "()V" } : Jvm.MethodName)) ∈ lw_all := lw_g (lw_at lw_m8 78 rfl) rfl
theorem q1874 : (Jvm.Cond.fieldLink "java/util/LinkedList$Node" (7 : Nat) "java/util/LinkedList$Node" "item" "Ljava/lang/Object;") ∈ lw_all := lw_g (lw_at lw_m8 79 rfl) rfl
theorem q1877 : (Jvm.Cond.fieldLink "java/util/LinkedList$Node" (13 : Nat) "java/util/LinkedList$Node" "next" "Ljava/util/LinkedList$Node;") ∈ lw_all := lw_g (lw_at lw_m8 82 rfl) rfl
theorem q1880 : (Jvm.Cond.fieldLink "java/util/LinkedList$Node" (17 : Nat) "java/util/LinkedList$Node" "prev" "Ljava/util/LinkedList$Node;") ∈ lw_all := lw_g (lw_at lw_m8 85 rfl) rfl
theorem q1882 : (Jvm.Cond.lays "java/util/LinkedList$Node" "java/util/LinkedList$Node" "item" "Ljava/lang/Object;") ∈ lw_all := lw_g (lw_at lw_m8 87 rfl) rfl
theorem q1883 : (Jvm.Cond.soleField "java/util/LinkedList$Node" "item") ∈ lw_all := lw_g (lw_at lw_m8 88 rfl) rfl
theorem q1884 : (Jvm.Cond.lays "java/util/LinkedList$Node" "java/util/LinkedList$Node" "next" "Ljava/util/LinkedList$Node;") ∈ lw_all := lw_g (lw_at lw_m8 89 rfl) rfl
theorem q1885 : (Jvm.Cond.soleField "java/util/LinkedList$Node" "next") ∈ lw_all := lw_g (lw_at lw_m8 90 rfl) rfl
theorem q1886 : (Jvm.Cond.lays "java/util/LinkedList$Node" "java/util/LinkedList$Node" "prev" "Ljava/util/LinkedList$Node;") ∈ lw_all := lw_g (lw_at lw_m8 91 rfl) rfl
theorem q1887 : (Jvm.Cond.soleField "java/util/LinkedList$Node" "prev") ∈ lw_all := lw_g (lw_at lw_m8 92 rfl) rfl
theorem q1888 : (Jvm.Cond.superclass "java/util/LinkedList$Node" "java/lang/Object") ∈ lw_all := lw_g (lw_at lw_m8 93 rfl) rfl
theorem q2991 : (Jvm.Cond.castable "java/util/LinkedList$Node" "java/lang/Object") ∈ lw_tbl := lw_at lw_m12 236 rfl

abbrev cJ29_init : ByteArray := prog_65_method_1_code
def yJ29_init : MethodName := ⟨RJ29, "<init>", "(Ljava/util/LinkedList;I)V"⟩
def dkwJ29_init_1 : List UInt8 := [180, 0, 22, 160, 0, 7, 1, 167, 0, 8, 43, 28, 182, 0, 25, 181, 0, 29, 42, 28, 181, 0, 33, 177]
abbrev dktJ29_init_1 : List UInt8 := dkwJ29_init_1 ++ []
def dkwJ29_init_0 : List UInt8 := [42, 43, 181, 0, 1, 42, 183, 0, 7, 42, 42, 180, 0, 1, 180, 0, 13, 181, 0, 19, 42, 28, 43]
abbrev dktJ29_init_0 : List UInt8 := dkwJ29_init_0 ++ dktJ29_init_1
theorem dksJ29_init_0 : cJ29_init.data.toList.drop 0 = dktJ29_init_0 := by decide +kernel
theorem dksJ29_init_1 : cJ29_init.data.toList.drop 23 = dktJ29_init_1 := dk_seg dksJ29_init_0 23 rfl rfl
theorem dJ29_init_0 : decode cJ29_init 0 = .ok (.aload_n 0, 1) := dk_42 (dk_at dksJ29_init_0 0 rfl rfl)
theorem dJ29_init_1 : decode cJ29_init 1 = .ok (.aload_n 1, 1) := dk_43 (dk_at dksJ29_init_0 1 rfl rfl)
theorem dJ29_init_2 : decode cJ29_init 2 = .ok (.putfield 1, 3) := dk_181 0 1 (dk_at dksJ29_init_0 2 rfl rfl)
theorem dJ29_init_5 : decode cJ29_init 5 = .ok (.aload_n 0, 1) := dk_42 (dk_at dksJ29_init_0 5 rfl rfl)
theorem dJ29_init_6 : decode cJ29_init 6 = .ok (.invokespecial 7, 3) := dk_183 0 7 (dk_at dksJ29_init_0 6 rfl rfl)
theorem dJ29_init_9 : decode cJ29_init 9 = .ok (.aload_n 0, 1) := dk_42 (dk_at dksJ29_init_0 9 rfl rfl)
theorem dJ29_init_10 : decode cJ29_init 10 = .ok (.aload_n 0, 1) := dk_42 (dk_at dksJ29_init_0 10 rfl rfl)
theorem dJ29_init_11 : decode cJ29_init 11 = .ok (.getfield 1, 3) := dk_180 0 1 (dk_at dksJ29_init_0 11 rfl rfl)
theorem dJ29_init_14 : decode cJ29_init 14 = .ok (.getfield 13, 3) := dk_180 0 13 (dk_at dksJ29_init_0 14 rfl rfl)
theorem dJ29_init_17 : decode cJ29_init 17 = .ok (.putfield 19, 3) := dk_181 0 19 (dk_at dksJ29_init_0 17 rfl rfl)
theorem dJ29_init_20 : decode cJ29_init 20 = .ok (.aload_n 0, 1) := dk_42 (dk_at dksJ29_init_0 20 rfl rfl)
theorem dJ29_init_21 : decode cJ29_init 21 = .ok (.iload_n 2, 1) := dk_28 (dk_at dksJ29_init_0 21 rfl rfl)
theorem dJ29_init_22 : decode cJ29_init 22 = .ok (.aload_n 1, 1) := dk_43 (dk_at dksJ29_init_0 22 rfl rfl)
theorem dJ29_init_23 : decode cJ29_init 23 = .ok (.getfield 22, 3) := dk_180 0 22 (dk_at dksJ29_init_1 0 rfl rfl)
theorem dJ29_init_26 : decode cJ29_init 26 = .ok (.if_icmp .ne 7, 3) := dk_160 0 7 (dk_at dksJ29_init_1 3 rfl rfl)
theorem dJ29_init_29 : decode cJ29_init 29 = .ok (.aconst_null, 1) := dk_1 (dk_at dksJ29_init_1 6 rfl rfl)
theorem dJ29_init_30 : decode cJ29_init 30 = .ok (.goto 8, 3) := dk_167 0 8 (dk_at dksJ29_init_1 7 rfl rfl)
theorem dJ29_init_33 : decode cJ29_init 33 = .ok (.aload_n 1, 1) := dk_43 (dk_at dksJ29_init_1 10 rfl rfl)
theorem dJ29_init_34 : decode cJ29_init 34 = .ok (.iload_n 2, 1) := dk_28 (dk_at dksJ29_init_1 11 rfl rfl)
theorem dJ29_init_35 : decode cJ29_init 35 = .ok (.invokevirtual 25, 3) := dk_182 0 25 (dk_at dksJ29_init_1 12 rfl rfl)
theorem dJ29_init_38 : decode cJ29_init 38 = .ok (.putfield 29, 3) := dk_181 0 29 (dk_at dksJ29_init_1 15 rfl rfl)
theorem dJ29_init_41 : decode cJ29_init 41 = .ok (.aload_n 0, 1) := dk_42 (dk_at dksJ29_init_1 18 rfl rfl)
theorem dJ29_init_42 : decode cJ29_init 42 = .ok (.iload_n 2, 1) := dk_28 (dk_at dksJ29_init_1 19 rfl rfl)
theorem dJ29_init_43 : decode cJ29_init 43 = .ok (.putfield 33, 3) := dk_181 0 33 (dk_at dksJ29_init_1 20 rfl rfl)
theorem dJ29_init_46 : decode cJ29_init 46 = .ok (.return_, 1) := dk_177 (dk_at dksJ29_init_1 23 rfl rfl)
abbrev cJ29_hasNext : ByteArray := prog_65_method_2_code
def yJ29_hasNext : MethodName := ⟨RJ29, "hasNext", "()Z"⟩
def dkwJ29_hasNext_0 : List UInt8 := [42, 180, 0, 33, 42, 180, 0, 1, 180, 0, 22, 162, 0, 7, 4, 167, 0, 4, 3, 172]
abbrev dktJ29_hasNext_0 : List UInt8 := dkwJ29_hasNext_0 ++ []
theorem dksJ29_hasNext_0 : cJ29_hasNext.data.toList.drop 0 = dktJ29_hasNext_0 := by decide +kernel
theorem dJ29_hasNext_0 : decode cJ29_hasNext 0 = .ok (.aload_n 0, 1) := dk_42 (dk_at dksJ29_hasNext_0 0 rfl rfl)
theorem dJ29_hasNext_1 : decode cJ29_hasNext 1 = .ok (.getfield 33, 3) := dk_180 0 33 (dk_at dksJ29_hasNext_0 1 rfl rfl)
theorem dJ29_hasNext_4 : decode cJ29_hasNext 4 = .ok (.aload_n 0, 1) := dk_42 (dk_at dksJ29_hasNext_0 4 rfl rfl)
theorem dJ29_hasNext_5 : decode cJ29_hasNext 5 = .ok (.getfield 1, 3) := dk_180 0 1 (dk_at dksJ29_hasNext_0 5 rfl rfl)
theorem dJ29_hasNext_8 : decode cJ29_hasNext 8 = .ok (.getfield 22, 3) := dk_180 0 22 (dk_at dksJ29_hasNext_0 8 rfl rfl)
theorem dJ29_hasNext_11 : decode cJ29_hasNext 11 = .ok (.if_icmp .ge 7, 3) := dk_162 0 7 (dk_at dksJ29_hasNext_0 11 rfl rfl)
theorem dJ29_hasNext_14 : decode cJ29_hasNext 14 = .ok (.iconst 1, 1) := dk_4 (dk_at dksJ29_hasNext_0 14 rfl rfl)
theorem dJ29_hasNext_15 : decode cJ29_hasNext 15 = .ok (.goto 4, 3) := dk_167 0 4 (dk_at dksJ29_hasNext_0 15 rfl rfl)
theorem dJ29_hasNext_18 : decode cJ29_hasNext 18 = .ok (.iconst 0, 1) := dk_3 (dk_at dksJ29_hasNext_0 18 rfl rfl)
theorem dJ29_hasNext_19 : decode cJ29_hasNext 19 = .ok (.ireturn, 1) := dk_172 (dk_at dksJ29_hasNext_0 19 rfl rfl)
abbrev cJ29_next : ByteArray := prog_65_method_3_code
def yJ29_next : MethodName := ⟨RJ29, "next", "()Ljava/lang/Object;"⟩
def dkwJ29_next_2 : List UInt8 := [42, 180, 0, 46, 180, 0, 52, 176]
abbrev dktJ29_next_2 : List UInt8 := dkwJ29_next_2 ++ []
def dkwJ29_next_1 : List UInt8 := [181, 0, 46, 42, 42, 180, 0, 29, 180, 0, 49, 181, 0, 29, 42, 89, 180, 0, 33, 4, 96, 181, 0, 33]
abbrev dktJ29_next_1 : List UInt8 := dkwJ29_next_1 ++ dktJ29_next_2
def dkwJ29_next_0 : List UInt8 := [42, 182, 0, 36, 42, 182, 0, 39, 154, 0, 11, 187, 0, 43, 89, 183, 0, 45, 191, 42, 42, 180, 0, 29]
abbrev dktJ29_next_0 : List UInt8 := dkwJ29_next_0 ++ dktJ29_next_1
theorem dksJ29_next_0 : cJ29_next.data.toList.drop 0 = dktJ29_next_0 := by decide +kernel
theorem dksJ29_next_1 : cJ29_next.data.toList.drop 24 = dktJ29_next_1 := dk_seg dksJ29_next_0 24 rfl rfl
theorem dksJ29_next_2 : cJ29_next.data.toList.drop 48 = dktJ29_next_2 := dk_seg dksJ29_next_1 24 rfl rfl
theorem dJ29_next_0 : decode cJ29_next 0 = .ok (.aload_n 0, 1) := dk_42 (dk_at dksJ29_next_0 0 rfl rfl)
theorem dJ29_next_1 : decode cJ29_next 1 = .ok (.invokevirtual 36, 3) := dk_182 0 36 (dk_at dksJ29_next_0 1 rfl rfl)
theorem dJ29_next_4 : decode cJ29_next 4 = .ok (.aload_n 0, 1) := dk_42 (dk_at dksJ29_next_0 4 rfl rfl)
theorem dJ29_next_5 : decode cJ29_next 5 = .ok (.invokevirtual 39, 3) := dk_182 0 39 (dk_at dksJ29_next_0 5 rfl rfl)
theorem dJ29_next_8 : decode cJ29_next 8 = .ok (.ifCond .ne 11, 3) := dk_154 0 11 (dk_at dksJ29_next_0 8 rfl rfl)
theorem dJ29_next_11 : decode cJ29_next 11 = .ok (.new 43, 3) := dk_187 0 43 (dk_at dksJ29_next_0 11 rfl rfl)
theorem dJ29_next_14 : decode cJ29_next 14 = .ok (.dup, 1) := dk_89 (dk_at dksJ29_next_0 14 rfl rfl)
theorem dJ29_next_15 : decode cJ29_next 15 = .ok (.invokespecial 45, 3) := dk_183 0 45 (dk_at dksJ29_next_0 15 rfl rfl)
theorem dJ29_next_18 : decode cJ29_next 18 = .ok (.athrow, 1) := dk_191 (dk_at dksJ29_next_0 18 rfl rfl)
theorem dJ29_next_19 : decode cJ29_next 19 = .ok (.aload_n 0, 1) := dk_42 (dk_at dksJ29_next_0 19 rfl rfl)
theorem dJ29_next_20 : decode cJ29_next 20 = .ok (.aload_n 0, 1) := dk_42 (dk_at dksJ29_next_0 20 rfl rfl)
theorem dJ29_next_21 : decode cJ29_next 21 = .ok (.getfield 29, 3) := dk_180 0 29 (dk_at dksJ29_next_0 21 rfl rfl)
theorem dJ29_next_24 : decode cJ29_next 24 = .ok (.putfield 46, 3) := dk_181 0 46 (dk_at dksJ29_next_1 0 rfl rfl)
theorem dJ29_next_27 : decode cJ29_next 27 = .ok (.aload_n 0, 1) := dk_42 (dk_at dksJ29_next_1 3 rfl rfl)
theorem dJ29_next_28 : decode cJ29_next 28 = .ok (.aload_n 0, 1) := dk_42 (dk_at dksJ29_next_1 4 rfl rfl)
theorem dJ29_next_29 : decode cJ29_next 29 = .ok (.getfield 29, 3) := dk_180 0 29 (dk_at dksJ29_next_1 5 rfl rfl)
theorem dJ29_next_32 : decode cJ29_next 32 = .ok (.getfield 49, 3) := dk_180 0 49 (dk_at dksJ29_next_1 8 rfl rfl)
theorem dJ29_next_35 : decode cJ29_next 35 = .ok (.putfield 29, 3) := dk_181 0 29 (dk_at dksJ29_next_1 11 rfl rfl)
theorem dJ29_next_38 : decode cJ29_next 38 = .ok (.aload_n 0, 1) := dk_42 (dk_at dksJ29_next_1 14 rfl rfl)
theorem dJ29_next_39 : decode cJ29_next 39 = .ok (.dup, 1) := dk_89 (dk_at dksJ29_next_1 15 rfl rfl)
theorem dJ29_next_40 : decode cJ29_next 40 = .ok (.getfield 33, 3) := dk_180 0 33 (dk_at dksJ29_next_1 16 rfl rfl)
theorem dJ29_next_43 : decode cJ29_next 43 = .ok (.iconst 1, 1) := dk_4 (dk_at dksJ29_next_1 19 rfl rfl)
theorem dJ29_next_44 : decode cJ29_next 44 = .ok (.iadd, 1) := dk_96 (dk_at dksJ29_next_1 20 rfl rfl)
theorem dJ29_next_45 : decode cJ29_next 45 = .ok (.putfield 33, 3) := dk_181 0 33 (dk_at dksJ29_next_1 21 rfl rfl)
theorem dJ29_next_48 : decode cJ29_next 48 = .ok (.aload_n 0, 1) := dk_42 (dk_at dksJ29_next_2 0 rfl rfl)
theorem dJ29_next_49 : decode cJ29_next 49 = .ok (.getfield 46, 3) := dk_180 0 46 (dk_at dksJ29_next_2 1 rfl rfl)
theorem dJ29_next_52 : decode cJ29_next 52 = .ok (.getfield 52, 3) := dk_180 0 52 (dk_at dksJ29_next_2 4 rfl rfl)
theorem dJ29_next_55 : decode cJ29_next 55 = .ok (.areturn, 1) := dk_176 (dk_at dksJ29_next_2 7 rfl rfl)
abbrev cJ29_checkForComodification : ByteArray := prog_65_method_12_code
def yJ29_checkForComodification : MethodName := ⟨RJ29, "checkForComodification", "()V"⟩
def dkwJ29_checkForComodification_0 : List UInt8 := [42, 180, 0, 1, 180, 0, 13, 42, 180, 0, 19, 159, 0, 11, 187, 0, 91, 89, 183, 0, 93, 191, 177]
abbrev dktJ29_checkForComodification_0 : List UInt8 := dkwJ29_checkForComodification_0 ++ []
theorem dksJ29_checkForComodification_0 : cJ29_checkForComodification.data.toList.drop 0 = dktJ29_checkForComodification_0 := by decide +kernel
theorem dJ29_checkForComodification_0 : decode cJ29_checkForComodification 0 = .ok (.aload_n 0, 1) := dk_42 (dk_at dksJ29_checkForComodification_0 0 rfl rfl)
theorem dJ29_checkForComodification_1 : decode cJ29_checkForComodification 1 = .ok (.getfield 1, 3) := dk_180 0 1 (dk_at dksJ29_checkForComodification_0 1 rfl rfl)
theorem dJ29_checkForComodification_4 : decode cJ29_checkForComodification 4 = .ok (.getfield 13, 3) := dk_180 0 13 (dk_at dksJ29_checkForComodification_0 4 rfl rfl)
theorem dJ29_checkForComodification_7 : decode cJ29_checkForComodification 7 = .ok (.aload_n 0, 1) := dk_42 (dk_at dksJ29_checkForComodification_0 7 rfl rfl)
theorem dJ29_checkForComodification_8 : decode cJ29_checkForComodification 8 = .ok (.getfield 19, 3) := dk_180 0 19 (dk_at dksJ29_checkForComodification_0 8 rfl rfl)
theorem dJ29_checkForComodification_11 : decode cJ29_checkForComodification 11 = .ok (.if_icmp .eq 11, 3) := dk_159 0 11 (dk_at dksJ29_checkForComodification_0 11 rfl rfl)
theorem dJ29_checkForComodification_14 : decode cJ29_checkForComodification 14 = .ok (.new 91, 3) := dk_187 0 91 (dk_at dksJ29_checkForComodification_0 14 rfl rfl)
theorem dJ29_checkForComodification_17 : decode cJ29_checkForComodification 17 = .ok (.dup, 1) := dk_89 (dk_at dksJ29_checkForComodification_0 17 rfl rfl)
theorem dJ29_checkForComodification_18 : decode cJ29_checkForComodification 18 = .ok (.invokespecial 93, 3) := dk_183 0 93 (dk_at dksJ29_checkForComodification_0 18 rfl rfl)
theorem dJ29_checkForComodification_21 : decode cJ29_checkForComodification 21 = .ok (.athrow, 1) := dk_191 (dk_at dksJ29_checkForComodification_0 21 rfl rfl)
theorem dJ29_checkForComodification_22 : decode cJ29_checkForComodification 22 = .ok (.return_, 1) := dk_177 (dk_at dksJ29_checkForComodification_0 22 rfl rfl)
abbrev cJ29_remove : ByteArray := prog_65_method_8_code
def yJ29_remove : MethodName := ⟨RJ29, "remove", "()V"⟩
def dkwJ29_remove_3 : List UInt8 := [181, 0, 46, 42, 89, 180, 0, 19, 4, 96, 181, 0, 19, 177]
abbrev dktJ29_remove_3 : List UInt8 := dkwJ29_remove_3 ++ []
def dkwJ29_remove_2 : List UInt8 := [166, 0, 11, 42, 43, 181, 0, 29, 167, 0, 13, 42, 89, 180, 0, 33, 4, 100, 181, 0, 33, 42, 1]
abbrev dktJ29_remove_2 : List UInt8 := dkwJ29_remove_2 ++ dktJ29_remove_3
def dkwJ29_remove_1 : List UInt8 := [180, 0, 49, 76, 42, 180, 0, 1, 42, 180, 0, 46, 182, 0, 68, 87, 42, 180, 0, 29, 42, 180, 0, 46]
abbrev dktJ29_remove_1 : List UInt8 := dkwJ29_remove_1 ++ dktJ29_remove_2
def dkwJ29_remove_0 : List UInt8 := [42, 182, 0, 36, 42, 180, 0, 46, 199, 0, 11, 187, 0, 65, 89, 183, 0, 67, 191, 42, 180, 0, 46]
abbrev dktJ29_remove_0 : List UInt8 := dkwJ29_remove_0 ++ dktJ29_remove_1
theorem dksJ29_remove_0 : cJ29_remove.data.toList.drop 0 = dktJ29_remove_0 := by decide +kernel
theorem dksJ29_remove_1 : cJ29_remove.data.toList.drop 23 = dktJ29_remove_1 := dk_seg dksJ29_remove_0 23 rfl rfl
theorem dksJ29_remove_2 : cJ29_remove.data.toList.drop 47 = dktJ29_remove_2 := dk_seg dksJ29_remove_1 24 rfl rfl
theorem dksJ29_remove_3 : cJ29_remove.data.toList.drop 70 = dktJ29_remove_3 := dk_seg dksJ29_remove_2 23 rfl rfl
theorem dJ29_remove_0 : decode cJ29_remove 0 = .ok (.aload_n 0, 1) := dk_42 (dk_at dksJ29_remove_0 0 rfl rfl)
theorem dJ29_remove_1 : decode cJ29_remove 1 = .ok (.invokevirtual 36, 3) := dk_182 0 36 (dk_at dksJ29_remove_0 1 rfl rfl)
theorem dJ29_remove_4 : decode cJ29_remove 4 = .ok (.aload_n 0, 1) := dk_42 (dk_at dksJ29_remove_0 4 rfl rfl)
theorem dJ29_remove_5 : decode cJ29_remove 5 = .ok (.getfield 46, 3) := dk_180 0 46 (dk_at dksJ29_remove_0 5 rfl rfl)
theorem dJ29_remove_8 : decode cJ29_remove 8 = .ok (.ifnonnull 11, 3) := dk_199 0 11 (dk_at dksJ29_remove_0 8 rfl rfl)
theorem dJ29_remove_11 : decode cJ29_remove 11 = .ok (.new 65, 3) := dk_187 0 65 (dk_at dksJ29_remove_0 11 rfl rfl)
theorem dJ29_remove_14 : decode cJ29_remove 14 = .ok (.dup, 1) := dk_89 (dk_at dksJ29_remove_0 14 rfl rfl)
theorem dJ29_remove_15 : decode cJ29_remove 15 = .ok (.invokespecial 67, 3) := dk_183 0 67 (dk_at dksJ29_remove_0 15 rfl rfl)
theorem dJ29_remove_18 : decode cJ29_remove 18 = .ok (.athrow, 1) := dk_191 (dk_at dksJ29_remove_0 18 rfl rfl)
theorem dJ29_remove_19 : decode cJ29_remove 19 = .ok (.aload_n 0, 1) := dk_42 (dk_at dksJ29_remove_0 19 rfl rfl)
theorem dJ29_remove_20 : decode cJ29_remove 20 = .ok (.getfield 46, 3) := dk_180 0 46 (dk_at dksJ29_remove_0 20 rfl rfl)
theorem dJ29_remove_23 : decode cJ29_remove 23 = .ok (.getfield 49, 3) := dk_180 0 49 (dk_at dksJ29_remove_1 0 rfl rfl)
theorem dJ29_remove_26 : decode cJ29_remove 26 = .ok (.astore_n 1, 1) := dk_76 (dk_at dksJ29_remove_1 3 rfl rfl)
theorem dJ29_remove_27 : decode cJ29_remove 27 = .ok (.aload_n 0, 1) := dk_42 (dk_at dksJ29_remove_1 4 rfl rfl)
theorem dJ29_remove_28 : decode cJ29_remove 28 = .ok (.getfield 1, 3) := dk_180 0 1 (dk_at dksJ29_remove_1 5 rfl rfl)
theorem dJ29_remove_31 : decode cJ29_remove 31 = .ok (.aload_n 0, 1) := dk_42 (dk_at dksJ29_remove_1 8 rfl rfl)
theorem dJ29_remove_32 : decode cJ29_remove 32 = .ok (.getfield 46, 3) := dk_180 0 46 (dk_at dksJ29_remove_1 9 rfl rfl)
theorem dJ29_remove_35 : decode cJ29_remove 35 = .ok (.invokevirtual 68, 3) := dk_182 0 68 (dk_at dksJ29_remove_1 12 rfl rfl)
theorem dJ29_remove_38 : decode cJ29_remove 38 = .ok (.pop, 1) := dk_87 (dk_at dksJ29_remove_1 15 rfl rfl)
theorem dJ29_remove_39 : decode cJ29_remove 39 = .ok (.aload_n 0, 1) := dk_42 (dk_at dksJ29_remove_1 16 rfl rfl)
theorem dJ29_remove_40 : decode cJ29_remove 40 = .ok (.getfield 29, 3) := dk_180 0 29 (dk_at dksJ29_remove_1 17 rfl rfl)
theorem dJ29_remove_43 : decode cJ29_remove 43 = .ok (.aload_n 0, 1) := dk_42 (dk_at dksJ29_remove_1 20 rfl rfl)
theorem dJ29_remove_44 : decode cJ29_remove 44 = .ok (.getfield 46, 3) := dk_180 0 46 (dk_at dksJ29_remove_1 21 rfl rfl)
theorem dJ29_remove_47 : decode cJ29_remove 47 = .ok (.if_acmp .ne 11, 3) := dk_166 0 11 (dk_at dksJ29_remove_2 0 rfl rfl)
theorem dJ29_remove_50 : decode cJ29_remove 50 = .ok (.aload_n 0, 1) := dk_42 (dk_at dksJ29_remove_2 3 rfl rfl)
theorem dJ29_remove_51 : decode cJ29_remove 51 = .ok (.aload_n 1, 1) := dk_43 (dk_at dksJ29_remove_2 4 rfl rfl)
theorem dJ29_remove_52 : decode cJ29_remove 52 = .ok (.putfield 29, 3) := dk_181 0 29 (dk_at dksJ29_remove_2 5 rfl rfl)
theorem dJ29_remove_55 : decode cJ29_remove 55 = .ok (.goto 13, 3) := dk_167 0 13 (dk_at dksJ29_remove_2 8 rfl rfl)
theorem dJ29_remove_58 : decode cJ29_remove 58 = .ok (.aload_n 0, 1) := dk_42 (dk_at dksJ29_remove_2 11 rfl rfl)
theorem dJ29_remove_59 : decode cJ29_remove 59 = .ok (.dup, 1) := dk_89 (dk_at dksJ29_remove_2 12 rfl rfl)
theorem dJ29_remove_60 : decode cJ29_remove 60 = .ok (.getfield 33, 3) := dk_180 0 33 (dk_at dksJ29_remove_2 13 rfl rfl)
theorem dJ29_remove_63 : decode cJ29_remove 63 = .ok (.iconst 1, 1) := dk_4 (dk_at dksJ29_remove_2 16 rfl rfl)
theorem dJ29_remove_64 : decode cJ29_remove 64 = .ok (.isub, 1) := dk_100 (dk_at dksJ29_remove_2 17 rfl rfl)
theorem dJ29_remove_65 : decode cJ29_remove 65 = .ok (.putfield 33, 3) := dk_181 0 33 (dk_at dksJ29_remove_2 18 rfl rfl)
theorem dJ29_remove_68 : decode cJ29_remove 68 = .ok (.aload_n 0, 1) := dk_42 (dk_at dksJ29_remove_2 21 rfl rfl)
theorem dJ29_remove_69 : decode cJ29_remove 69 = .ok (.aconst_null, 1) := dk_1 (dk_at dksJ29_remove_2 22 rfl rfl)
theorem dJ29_remove_70 : decode cJ29_remove 70 = .ok (.putfield 46, 3) := dk_181 0 46 (dk_at dksJ29_remove_3 0 rfl rfl)
theorem dJ29_remove_73 : decode cJ29_remove 73 = .ok (.aload_n 0, 1) := dk_42 (dk_at dksJ29_remove_3 3 rfl rfl)
theorem dJ29_remove_74 : decode cJ29_remove 74 = .ok (.dup, 1) := dk_89 (dk_at dksJ29_remove_3 4 rfl rfl)
theorem dJ29_remove_75 : decode cJ29_remove 75 = .ok (.getfield 19, 3) := dk_180 0 19 (dk_at dksJ29_remove_3 5 rfl rfl)
theorem dJ29_remove_78 : decode cJ29_remove 78 = .ok (.iconst 1, 1) := dk_4 (dk_at dksJ29_remove_3 8 rfl rfl)
theorem dJ29_remove_79 : decode cJ29_remove 79 = .ok (.iadd, 1) := dk_96 (dk_at dksJ29_remove_3 9 rfl rfl)
theorem dJ29_remove_80 : decode cJ29_remove 80 = .ok (.putfield 19, 3) := dk_181 0 19 (dk_at dksJ29_remove_3 10 rfl rfl)
theorem dJ29_remove_83 : decode cJ29_remove 83 = .ok (.return_, 1) := dk_177 (dk_at dksJ29_remove_3 13 rfl rfl)
theorem q166 : (Jvm.Cond.initialized "java/util/LinkedList$ListItr") ∈ lw_all := lw_g (lw_at lw_m1 51 rfl) rfl
theorem q521 : (Jvm.Cond.fieldLink "java/util/LinkedList$ListItr" (13 : Nat) "java/util/LinkedList" "modCount" "I") ∈ lw_all := lw_g (lw_at lw_m2 166 rfl) rfl
theorem q881 : (Jvm.Cond.selects "java/util/LinkedList$ListItr" ({ cls := "java/lang/Object", name := "getClass", desc := "()Ljava/lang/Class;" } : Jvm.MethodName) ({ cls := "java/lang/Object", name := "getClass", desc := "()Ljava/lang/Class;" } : Jvm.MethodName)) ∈ lw_all := lw_g (lw_at lw_m4 46 rfl) rfl
theorem q1833 : (Jvm.Cond.fieldLink "java/util/LinkedList$ListItr" (22 : Nat) "java/util/LinkedList" "size" "I") ∈ lw_all := lw_g (lw_at lw_m8 38 rfl) rfl
theorem q1875 : (Jvm.Cond.fieldLink "java/util/LinkedList$ListItr" (52 : Nat) "java/util/LinkedList$Node" "item" "Ljava/lang/Object;") ∈ lw_all := lw_g (lw_at lw_m8 80 rfl) rfl
theorem q1878 : (Jvm.Cond.fieldLink "java/util/LinkedList$ListItr" (49 : Nat) "java/util/LinkedList$Node" "next" "Ljava/util/LinkedList$Node;") ∈ lw_all := lw_g (lw_at lw_m8 83 rfl) rfl
theorem q1950 : (Jvm.Cond.instantiable "java/util/LinkedList$ListItr" (5 : Nat)) ∈ lw_all := lw_g (lw_at lw_m8 155 rfl) rfl
theorem q1952 : (Jvm.Cond.instanceMethod ({ cls := "java/util/LinkedList$ListItr", name := "<init>", desc := "(Ljava/util/LinkedList;I)V" } : Jvm.MethodName)) ∈ lw_all := lw_g (lw_at lw_m8 157 rfl) rfl
theorem q1953 : (Jvm.Cond.code ({ cls := "java/util/LinkedList$ListItr", name := "<init>", desc := "(Ljava/util/LinkedList;I)V" } : Jvm.MethodName) prog_65_method_1_code (3 : Nat) (Option.none : Option Jvm.ClassFile.FieldType)) ∈ lw_all := lw_g (lw_at lw_m8 158 rfl) rfl
theorem q1954 : (Jvm.Cond.methodLink "java/util/LinkedList$ListItr" (7 : Nat) ({ cls := "java/lang/Object", name := "<init>", desc := "()V" } : Jvm.MethodName)) ∈ lw_all := lw_g (lw_at lw_m8 159 rfl) rfl
theorem q1955 : (Jvm.Cond.methodLink "java/util/LinkedList$ListItr" (25 : Nat) ({ cls := "java/util/LinkedList", name := "node", desc := "(I)Ljava/util/LinkedList$Node;" } : Jvm.MethodName)) ∈ lw_all := lw_g (lw_at lw_m8 160 rfl) rfl
theorem q1959 : (Jvm.Cond.fieldLink "java/util/LinkedList$ListItr" (46 : Nat) "java/util/LinkedList$ListItr" "lastReturned" "Ljava/util/LinkedList$Node;") ∈ lw_all := lw_g (lw_at lw_m8 164 rfl) rfl
theorem q1960 : (Jvm.Cond.fieldLink "java/util/LinkedList$ListItr" (29 : Nat) "java/util/LinkedList$ListItr" "next" "Ljava/util/LinkedList$Node;") ∈ lw_all := lw_g (lw_at lw_m8 165 rfl) rfl
theorem q1961 : (Jvm.Cond.fieldLink "java/util/LinkedList$ListItr" (33 : Nat) "java/util/LinkedList$ListItr" "nextIndex" "I") ∈ lw_all := lw_g (lw_at lw_m8 166 rfl) rfl
theorem q1962 : (Jvm.Cond.fieldLink "java/util/LinkedList$ListItr" (19 : Nat) "java/util/LinkedList$ListItr" "expectedModCount" "I") ∈ lw_all := lw_g (lw_at lw_m8 167 rfl) rfl
theorem q1963 : (Jvm.Cond.fieldLink "java/util/LinkedList$ListItr" (1 : Nat) "java/util/LinkedList$ListItr" "this$0" "Ljava/util/LinkedList;") ∈ lw_all := lw_g (lw_at lw_m8 168 rfl) rfl
theorem q1964 : (Jvm.Cond.lays "java/util/LinkedList$ListItr" "java/util/LinkedList$ListItr" "lastReturned" "Ljava/util/LinkedList$Node;") ∈ lw_all := lw_g (lw_at lw_m8 169 rfl) rfl
theorem q1965 : (Jvm.Cond.soleField "java/util/LinkedList$ListItr" "lastReturned") ∈ lw_all := lw_g (lw_at lw_m8 170 rfl) rfl
theorem q1966 : (Jvm.Cond.lays "java/util/LinkedList$ListItr" "java/util/LinkedList$ListItr" "next" "Ljava/util/LinkedList$Node;") ∈ lw_all := lw_g (lw_at lw_m8 171 rfl) rfl
theorem q1967 : (Jvm.Cond.soleField "java/util/LinkedList$ListItr" "next") ∈ lw_all := lw_g (lw_at lw_m8 172 rfl) rfl
theorem q1968 : (Jvm.Cond.lays "java/util/LinkedList$ListItr" "java/util/LinkedList$ListItr" "nextIndex" "I") ∈ lw_all := lw_g (lw_at lw_m8 173 rfl) rfl
theorem q1969 : (Jvm.Cond.soleField "java/util/LinkedList$ListItr" "nextIndex") ∈ lw_all := lw_g (lw_at lw_m8 174 rfl) rfl
theorem q1970 : (Jvm.Cond.lays "java/util/LinkedList$ListItr" "java/util/LinkedList$ListItr" "expectedModCount" "I") ∈ lw_all := lw_g (lw_at lw_m8 175 rfl) rfl
theorem q1971 : (Jvm.Cond.soleField "java/util/LinkedList$ListItr" "expectedModCount") ∈ lw_all := lw_g (lw_at lw_m8 176 rfl) rfl
theorem q1972 : (Jvm.Cond.laysFinal "java/util/LinkedList$ListItr" "java/util/LinkedList$ListItr" "this$0" "Ljava/util/LinkedList;") ∈ lw_all := lw_g (lw_at lw_m8 177 rfl) rfl
theorem q1973 : (Jvm.Cond.soleField "java/util/LinkedList$ListItr" "this$0") ∈ lw_all := lw_g (lw_at lw_m8 178 rfl) rfl
theorem q1974 : (Jvm.Cond.superclass "java/util/LinkedList$ListItr" "java/lang/Object") ∈ lw_all := lw_g (lw_at lw_m8 179 rfl) rfl
theorem q1999 : (Jvm.Cond.castable "java/util/LinkedList$ListItr" "java/util/Iterator") ∈ lw_tbl := lw_at lw_m8 204 rfl
theorem q2000 : (Jvm.Cond.selects "java/util/LinkedList$ListItr" ({ cls := "java/util/Iterator", name := "hasNext", desc := "()Z" } : Jvm.MethodName) ({ cls := "java/util/LinkedList$ListItr", name := "hasNext", desc := "()Z" } : Jvm.MethodName)) ∈ lw_all := lw_g (lw_at lw_m8 205 rfl) rfl
theorem q2001 : (Jvm.Cond.unhidden "java/util/LinkedList$ListItr" "hasNext" "()Z") ∈ lw_tbl := lw_at lw_m8 206 rfl
theorem q2002 : (Jvm.Cond.instanceMethod ({ cls := "java/util/LinkedList$ListItr", name := "hasNext", desc := "()Z" } : Jvm.MethodName)) ∈ lw_all := lw_g (lw_at lw_m8 207 rfl) rfl
theorem q2003 : (Jvm.Cond.publicMethod ({ cls := "java/util/LinkedList$ListItr", name := "hasNext", desc := "()Z" } : Jvm.MethodName)) ∈ lw_tbl := lw_at lw_m8 208 rfl
theorem q2004 : (Jvm.Cond.code ({ cls := "java/util/LinkedList$ListItr", name := "hasNext", desc := "()Z" } : Jvm.MethodName) prog_65_method_2_code (1 : Nat) (Option.some Jvm.ClassFile.FieldType.boolean)) ∈ lw_all := lw_g (lw_at lw_m8 209 rfl) rfl
theorem q2093 : (Jvm.Cond.selects "java/util/LinkedList$ListItr" ({ cls := "java/util/Iterator", name := "next", desc := "()Ljava/lang/Object;" } : Jvm.MethodName) ({ cls := "java/util/LinkedList$ListItr", name := "next", desc := "()Ljava/lang/Object;" } : Jvm.MethodName)) ∈ lw_all := lw_g (lw_at lw_m9 58 rfl) rfl
theorem q2094 : (Jvm.Cond.unhidden "java/util/LinkedList$ListItr" "next" "()Ljava/lang/Object;") ∈ lw_tbl := lw_at lw_m9 59 rfl
theorem q2095 : (Jvm.Cond.instanceMethod ({ cls := "java/util/LinkedList$ListItr", name := "next", desc := "()Ljava/lang/Object;" } : Jvm.MethodName)) ∈ lw_all := lw_g (lw_at lw_m9 60 rfl) rfl
theorem q2096 : (Jvm.Cond.publicMethod ({ cls := "java/util/LinkedList$ListItr", name := "next", desc := "()Ljava/lang/Object;" } : Jvm.MethodName)) ∈ lw_tbl := lw_at lw_m9 61 rfl
theorem q2097 : (Jvm.Cond.code ({ cls := "java/util/LinkedList$ListItr", name := "next", desc := "()Ljava/lang/Object;" } : Jvm.MethodName) prog_65_method_3_code (1 : Nat) (Option.some (Jvm.ClassFile.FieldType.object "java/lang/Object"))) ∈ lw_all := lw_g (lw_at lw_m9 62 rfl) rfl
theorem q2098 : (Jvm.Cond.methodLink "java/util/LinkedList$ListItr" (36 : Nat) ({ cls := "java/util/LinkedList$ListItr", name := "checkForComodification", desc := "()V" } : Jvm.MethodName)) ∈ lw_all := lw_g (lw_at lw_m9 63 rfl) rfl
theorem q2099 : (Jvm.Cond.instanceMethod ({ cls := "java/util/LinkedList$ListItr", name := "checkForComodification", desc := "()V" } : Jvm.MethodName)) ∈ lw_all := lw_g (lw_at lw_m9 64 rfl) rfl
theorem q2100 : (Jvm.Cond.selects "java/util/LinkedList$ListItr" ({ cls := "java/util/LinkedList$ListItr", name := "checkForComodification", desc := "()V" } : Jvm.MethodName) ({ cls := "java/util/LinkedList$ListItr", name := "checkForComodification", desc := "()V" } : Jvm.MethodName)) ∈ lw_all := lw_g (lw_at lw_m9 65 rfl) rfl
theorem q2101 : (Jvm.Cond.code ({ cls := "java/util/LinkedList$ListItr", name := "checkForComodification", desc := "()V" } : Jvm.MethodName) prog_65_method_12_code (1 : Nat) (Option.none : Option Jvm.ClassFile.FieldType)) ∈ lw_all := lw_g (lw_at lw_m9 66 rfl) rfl
theorem q2102 : (Jvm.Cond.methodLink "java/util/LinkedList$ListItr" (39 : Nat) ({ cls := "java/util/LinkedList$ListItr", name := "hasNext", desc := "()Z" } : Jvm.MethodName)) ∈ lw_all := lw_g (lw_at lw_m9 67 rfl) rfl
theorem q2103 : (Jvm.Cond.classLink "java/util/LinkedList$ListItr" (43 : Nat) "java/util/NoSuchElementException") ∈ lw_all := lw_g (lw_at lw_m9 68 rfl) rfl
theorem q2104 : (Jvm.Cond.methodLink "java/util/LinkedList$ListItr" (45 : Nat) ({ cls := "java/util/NoSuchElementException", name := "<init>", desc := "()V" } : Jvm.MethodName)) ∈ lw_all := lw_g (lw_at lw_m9 69 rfl) rfl
theorem q2166 : (Jvm.Cond.selects "java/util/LinkedList$ListItr" ({ cls := "java/util/Iterator", name := "remove", desc := "()V" } : Jvm.MethodName) ({ cls := "java/util/LinkedList$ListItr", name := "remove", desc := "()V" } : Jvm.MethodName)) ∈ lw_all := lw_g (lw_at lw_m9 131 rfl) rfl
theorem q2167 : (Jvm.Cond.unhidden "java/util/LinkedList$ListItr" "remove" "()V") ∈ lw_tbl := lw_at lw_m9 132 rfl
theorem q2168 : (Jvm.Cond.instanceMethod ({ cls := "java/util/LinkedList$ListItr", name := "remove", desc := "()V" } : Jvm.MethodName)) ∈ lw_all := lw_g (lw_at lw_m9 133 rfl) rfl
theorem q2169 : (Jvm.Cond.publicMethod ({ cls := "java/util/LinkedList$ListItr", name := "remove", desc := "()V" } : Jvm.MethodName)) ∈ lw_tbl := lw_at lw_m9 134 rfl
theorem q2170 : (Jvm.Cond.code ({ cls := "java/util/LinkedList$ListItr", name := "remove", desc := "()V" } : Jvm.MethodName) prog_65_method_8_code (2 : Nat) (Option.none : Option Jvm.ClassFile.FieldType)) ∈ lw_all := lw_g (lw_at lw_m9 135 rfl) rfl
theorem q2171 : (Jvm.Cond.methodLink "java/util/LinkedList$ListItr" (68 : Nat) ({ cls := "java/util/LinkedList", name := "unlink", desc := "(Ljava/util/LinkedList$Node;)Ljava/lang/Object;" } : Jvm.MethodName)) ∈ lw_all := lw_g (lw_at lw_m9 136 rfl) rfl
theorem q2960 : (Jvm.Cond.selects "java/util/LinkedList$ListItr" ({ cls := "java/util/LinkedList$ListItr", name := "hasNext", desc := "()Z" } : Jvm.MethodName) ({ cls := "java/util/LinkedList$ListItr", name := "hasNext", desc := "()Z" } : Jvm.MethodName)) ∈ lw_all := lw_g (lw_at lw_m12 205 rfl) rfl
theorem q2994 : (Jvm.Cond.castable "java/util/LinkedList$ListItr" "java/lang/Object") ∈ lw_tbl := lw_at lw_m12 239 rfl

abbrev cJ20_init : ByteArray := prog_54_method_3_code
def yJ20_init : MethodName := ⟨RJ20, "<init>", "()V"⟩
def dkwJ20_init_0 : List UInt8 := [42, 183, 0, 42, 42, 16, 17, 189, 0, 47, 181, 0, 3, 177]
abbrev dktJ20_init_0 : List UInt8 := dkwJ20_init_0 ++ []
theorem dksJ20_init_0 : cJ20_init.data.toList.drop 0 = dktJ20_init_0 := by decide +kernel
theorem dJ20_init_0 : decode cJ20_init 0 = .ok (.aload_n 0, 1) := dk_42 (dk_at dksJ20_init_0 0 rfl rfl)
theorem dJ20_init_1 : decode cJ20_init 1 = .ok (.invokespecial 42, 3) := dk_183 0 42 (dk_at dksJ20_init_0 1 rfl rfl)
theorem dJ20_init_4 : decode cJ20_init 4 = .ok (.aload_n 0, 1) := dk_42 (dk_at dksJ20_init_0 4 rfl rfl)
theorem dJ20_init_5 : decode cJ20_init 5 = .ok (.bipush 17, 2) := dk_16 17 (dk_at dksJ20_init_0 5 rfl rfl)
theorem dJ20_init_7 : decode cJ20_init 7 = .ok (.anewarray 47, 3) := dk_189 0 47 (dk_at dksJ20_init_0 7 rfl rfl)
theorem dJ20_init_10 : decode cJ20_init 10 = .ok (.putfield 3, 3) := dk_181 0 3 (dk_at dksJ20_init_0 10 rfl rfl)
theorem dJ20_init_13 : decode cJ20_init 13 = .ok (.return_, 1) := dk_177 (dk_at dksJ20_init_0 13 rfl rfl)
abbrev cJ20_clear : ByteArray := prog_54_method_53_code
def yJ20_clear : MethodName := ⟨RJ20, "clear", "()V"⟩
def dkwJ20_clear_1 : List UInt8 := [181, 0, 24, 177]
abbrev dktJ20_clear_1 : List UInt8 := dkwJ20_clear_1 ++ []
def dkwJ20_clear_0 : List UInt8 := [42, 180, 0, 3, 42, 180, 0, 24, 42, 180, 0, 20, 184, 0, 181, 42, 42, 3, 90, 181, 0, 20]
abbrev dktJ20_clear_0 : List UInt8 := dkwJ20_clear_0 ++ dktJ20_clear_1
theorem dksJ20_clear_0 : cJ20_clear.data.toList.drop 0 = dktJ20_clear_0 := by decide +kernel
theorem dksJ20_clear_1 : cJ20_clear.data.toList.drop 22 = dktJ20_clear_1 := dk_seg dksJ20_clear_0 22 rfl rfl
theorem dJ20_clear_0 : decode cJ20_clear 0 = .ok (.aload_n 0, 1) := dk_42 (dk_at dksJ20_clear_0 0 rfl rfl)
theorem dJ20_clear_1 : decode cJ20_clear 1 = .ok (.getfield 3, 3) := dk_180 0 3 (dk_at dksJ20_clear_0 1 rfl rfl)
theorem dJ20_clear_4 : decode cJ20_clear 4 = .ok (.aload_n 0, 1) := dk_42 (dk_at dksJ20_clear_0 4 rfl rfl)
theorem dJ20_clear_5 : decode cJ20_clear 5 = .ok (.getfield 24, 3) := dk_180 0 24 (dk_at dksJ20_clear_0 5 rfl rfl)
theorem dJ20_clear_8 : decode cJ20_clear 8 = .ok (.aload_n 0, 1) := dk_42 (dk_at dksJ20_clear_0 8 rfl rfl)
theorem dJ20_clear_9 : decode cJ20_clear 9 = .ok (.getfield 20, 3) := dk_180 0 20 (dk_at dksJ20_clear_0 9 rfl rfl)
theorem dJ20_clear_12 : decode cJ20_clear 12 = .ok (.invokestatic 181, 3) := dk_184 0 181 (dk_at dksJ20_clear_0 12 rfl rfl)
theorem dJ20_clear_15 : decode cJ20_clear 15 = .ok (.aload_n 0, 1) := dk_42 (dk_at dksJ20_clear_0 15 rfl rfl)
theorem dJ20_clear_16 : decode cJ20_clear 16 = .ok (.aload_n 0, 1) := dk_42 (dk_at dksJ20_clear_0 16 rfl rfl)
theorem dJ20_clear_17 : decode cJ20_clear 17 = .ok (.iconst 0, 1) := dk_3 (dk_at dksJ20_clear_0 17 rfl rfl)
theorem dJ20_clear_18 : decode cJ20_clear 18 = .ok (.dup_x1, 1) := dk_90 (dk_at dksJ20_clear_0 18 rfl rfl)
theorem dJ20_clear_19 : decode cJ20_clear 19 = .ok (.putfield 20, 3) := dk_181 0 20 (dk_at dksJ20_clear_0 19 rfl rfl)
theorem dJ20_clear_22 : decode cJ20_clear 22 = .ok (.putfield 24, 3) := dk_181 0 24 (dk_at dksJ20_clear_1 0 rfl rfl)
theorem dJ20_clear_25 : decode cJ20_clear 25 = .ok (.return_, 1) := dk_177 (dk_at dksJ20_clear_1 3 rfl rfl)
abbrev cJ20_circularClear : ByteArray := prog_54_method_54_code
def yJ20_circularClear : MethodName := ⟨RJ20, "circularClear", "([Ljava/lang/Object;II)V"⟩
def dkwJ20_circularClear_1 : List UInt8 := [167, 255, 244, 29, 28, 160, 0, 6, 167, 0, 10, 3, 60, 28, 62, 167, 255, 229, 177]
abbrev dktJ20_circularClear_1 : List UInt8 := dkwJ20_circularClear_1 ++ []
def dkwJ20_circularClear_0 : List UInt8 := [27, 28, 163, 0, 7, 28, 167, 0, 5, 42, 190, 62, 27, 29, 162, 0, 13, 42, 27, 1, 83, 132, 1, 1]
abbrev dktJ20_circularClear_0 : List UInt8 := dkwJ20_circularClear_0 ++ dktJ20_circularClear_1
theorem dksJ20_circularClear_0 : cJ20_circularClear.data.toList.drop 0 = dktJ20_circularClear_0 := by decide +kernel
theorem dksJ20_circularClear_1 : cJ20_circularClear.data.toList.drop 24 = dktJ20_circularClear_1 := dk_seg dksJ20_circularClear_0 24 rfl rfl
theorem dJ20_circularClear_0 : decode cJ20_circularClear 0 = .ok (.iload_n 1, 1) := dk_27 (dk_at dksJ20_circularClear_0 0 rfl rfl)
theorem dJ20_circularClear_1 : decode cJ20_circularClear 1 = .ok (.iload_n 2, 1) := dk_28 (dk_at dksJ20_circularClear_0 1 rfl rfl)
theorem dJ20_circularClear_2 : decode cJ20_circularClear 2 = .ok (.if_icmp .gt 7, 3) := dk_163 0 7 (dk_at dksJ20_circularClear_0 2 rfl rfl)
theorem dJ20_circularClear_5 : decode cJ20_circularClear 5 = .ok (.iload_n 2, 1) := dk_28 (dk_at dksJ20_circularClear_0 5 rfl rfl)
theorem dJ20_circularClear_6 : decode cJ20_circularClear 6 = .ok (.goto 5, 3) := dk_167 0 5 (dk_at dksJ20_circularClear_0 6 rfl rfl)
theorem dJ20_circularClear_9 : decode cJ20_circularClear 9 = .ok (.aload_n 0, 1) := dk_42 (dk_at dksJ20_circularClear_0 9 rfl rfl)
theorem dJ20_circularClear_10 : decode cJ20_circularClear 10 = .ok (.arraylength, 1) := dk_190 (dk_at dksJ20_circularClear_0 10 rfl rfl)
theorem dJ20_circularClear_11 : decode cJ20_circularClear 11 = .ok (.istore_n 3, 1) := dk_62 (dk_at dksJ20_circularClear_0 11 rfl rfl)
theorem dJ20_circularClear_12 : decode cJ20_circularClear 12 = .ok (.iload_n 1, 1) := dk_27 (dk_at dksJ20_circularClear_0 12 rfl rfl)
theorem dJ20_circularClear_13 : decode cJ20_circularClear 13 = .ok (.iload_n 3, 1) := dk_29 (dk_at dksJ20_circularClear_0 13 rfl rfl)
theorem dJ20_circularClear_14 : decode cJ20_circularClear 14 = .ok (.if_icmp .ge 13, 3) := dk_162 0 13 (dk_at dksJ20_circularClear_0 14 rfl rfl)
theorem dJ20_circularClear_17 : decode cJ20_circularClear 17 = .ok (.aload_n 0, 1) := dk_42 (dk_at dksJ20_circularClear_0 17 rfl rfl)
theorem dJ20_circularClear_18 : decode cJ20_circularClear 18 = .ok (.iload_n 1, 1) := dk_27 (dk_at dksJ20_circularClear_0 18 rfl rfl)
theorem dJ20_circularClear_19 : decode cJ20_circularClear 19 = .ok (.aconst_null, 1) := dk_1 (dk_at dksJ20_circularClear_0 19 rfl rfl)
theorem dJ20_circularClear_20 : decode cJ20_circularClear 20 = .ok (.aastore, 1) := dk_83 (dk_at dksJ20_circularClear_0 20 rfl rfl)
theorem dJ20_circularClear_21 : decode cJ20_circularClear 21 = .ok (.iinc 1 1, 3) := dk_132 1 1 (dk_at dksJ20_circularClear_0 21 rfl rfl)
theorem dJ20_circularClear_24 : decode cJ20_circularClear 24 = .ok (.goto (-12), 3) := dk_167 255 244 (dk_at dksJ20_circularClear_1 0 rfl rfl)
theorem dJ20_circularClear_27 : decode cJ20_circularClear 27 = .ok (.iload_n 3, 1) := dk_29 (dk_at dksJ20_circularClear_1 3 rfl rfl)
theorem dJ20_circularClear_28 : decode cJ20_circularClear 28 = .ok (.iload_n 2, 1) := dk_28 (dk_at dksJ20_circularClear_1 4 rfl rfl)
theorem dJ20_circularClear_29 : decode cJ20_circularClear 29 = .ok (.if_icmp .ne 6, 3) := dk_160 0 6 (dk_at dksJ20_circularClear_1 5 rfl rfl)
theorem dJ20_circularClear_32 : decode cJ20_circularClear 32 = .ok (.goto 10, 3) := dk_167 0 10 (dk_at dksJ20_circularClear_1 8 rfl rfl)
theorem dJ20_circularClear_35 : decode cJ20_circularClear 35 = .ok (.iconst 0, 1) := dk_3 (dk_at dksJ20_circularClear_1 11 rfl rfl)
theorem dJ20_circularClear_36 : decode cJ20_circularClear 36 = .ok (.istore_n 1, 1) := dk_60 (dk_at dksJ20_circularClear_1 12 rfl rfl)
theorem dJ20_circularClear_37 : decode cJ20_circularClear 37 = .ok (.iload_n 2, 1) := dk_28 (dk_at dksJ20_circularClear_1 13 rfl rfl)
theorem dJ20_circularClear_38 : decode cJ20_circularClear 38 = .ok (.istore_n 3, 1) := dk_62 (dk_at dksJ20_circularClear_1 14 rfl rfl)
theorem dJ20_circularClear_39 : decode cJ20_circularClear 39 = .ok (.goto (-27), 3) := dk_167 255 229 (dk_at dksJ20_circularClear_1 15 rfl rfl)
theorem dJ20_circularClear_42 : decode cJ20_circularClear 42 = .ok (.return_, 1) := dk_177 (dk_at dksJ20_circularClear_1 18 rfl rfl)
abbrev cJ20_isEmpty : ByteArray := prog_54_method_38_code
def yJ20_isEmpty : MethodName := ⟨RJ20, "isEmpty", "()Z"⟩
def dkwJ20_isEmpty_0 : List UInt8 := [42, 180, 0, 24, 42, 180, 0, 20, 160, 0, 7, 4, 167, 0, 4, 3, 172]
abbrev dktJ20_isEmpty_0 : List UInt8 := dkwJ20_isEmpty_0 ++ []
theorem dksJ20_isEmpty_0 : cJ20_isEmpty.data.toList.drop 0 = dktJ20_isEmpty_0 := by decide +kernel
theorem dJ20_isEmpty_0 : decode cJ20_isEmpty 0 = .ok (.aload_n 0, 1) := dk_42 (dk_at dksJ20_isEmpty_0 0 rfl rfl)
theorem dJ20_isEmpty_1 : decode cJ20_isEmpty 1 = .ok (.getfield 24, 3) := dk_180 0 24 (dk_at dksJ20_isEmpty_0 1 rfl rfl)
theorem dJ20_isEmpty_4 : decode cJ20_isEmpty 4 = .ok (.aload_n 0, 1) := dk_42 (dk_at dksJ20_isEmpty_0 4 rfl rfl)
theorem dJ20_isEmpty_5 : decode cJ20_isEmpty 5 = .ok (.getfield 20, 3) := dk_180 0 20 (dk_at dksJ20_isEmpty_0 5 rfl rfl)
theorem dJ20_isEmpty_8 : decode cJ20_isEmpty 8 = .ok (.if_icmp .ne 7, 3) := dk_160 0 7 (dk_at dksJ20_isEmpty_0 8 rfl rfl)
theorem dJ20_isEmpty_11 : decode cJ20_isEmpty 11 = .ok (.iconst 1, 1) := dk_4 (dk_at dksJ20_isEmpty_0 11 rfl rfl)
theorem dJ20_isEmpty_12 : decode cJ20_isEmpty 12 = .ok (.goto 4, 3) := dk_167 0 4 (dk_at dksJ20_isEmpty_0 12 rfl rfl)
theorem dJ20_isEmpty_15 : decode cJ20_isEmpty 15 = .ok (.iconst 0, 1) := dk_3 (dk_at dksJ20_isEmpty_0 15 rfl rfl)
theorem dJ20_isEmpty_16 : decode cJ20_isEmpty 16 = .ok (.ireturn, 1) := dk_172 (dk_at dksJ20_isEmpty_0 16 rfl rfl)
abbrev cJ20_peekLast : ByteArray := prog_54_method_25_code
def yJ20_peekLast : MethodName := ⟨RJ20, "peekLast", "()Ljava/lang/Object;"⟩
def dkwJ20_peekLast_0 : List UInt8 := [42, 180, 0, 3, 89, 76, 42, 180, 0, 20, 43, 190, 184, 0, 68, 184, 0, 103, 176]
abbrev dktJ20_peekLast_0 : List UInt8 := dkwJ20_peekLast_0 ++ []
theorem dksJ20_peekLast_0 : cJ20_peekLast.data.toList.drop 0 = dktJ20_peekLast_0 := by decide +kernel
theorem dJ20_peekLast_0 : decode cJ20_peekLast 0 = .ok (.aload_n 0, 1) := dk_42 (dk_at dksJ20_peekLast_0 0 rfl rfl)
theorem dJ20_peekLast_1 : decode cJ20_peekLast 1 = .ok (.getfield 3, 3) := dk_180 0 3 (dk_at dksJ20_peekLast_0 1 rfl rfl)
theorem dJ20_peekLast_4 : decode cJ20_peekLast 4 = .ok (.dup, 1) := dk_89 (dk_at dksJ20_peekLast_0 4 rfl rfl)
theorem dJ20_peekLast_5 : decode cJ20_peekLast 5 = .ok (.astore_n 1, 1) := dk_76 (dk_at dksJ20_peekLast_0 5 rfl rfl)
theorem dJ20_peekLast_6 : decode cJ20_peekLast 6 = .ok (.aload_n 0, 1) := dk_42 (dk_at dksJ20_peekLast_0 6 rfl rfl)
theorem dJ20_peekLast_7 : decode cJ20_peekLast 7 = .ok (.getfield 20, 3) := dk_180 0 20 (dk_at dksJ20_peekLast_0 7 rfl rfl)
theorem dJ20_peekLast_10 : decode cJ20_peekLast 10 = .ok (.aload_n 1, 1) := dk_43 (dk_at dksJ20_peekLast_0 10 rfl rfl)
theorem dJ20_peekLast_11 : decode cJ20_peekLast 11 = .ok (.arraylength, 1) := dk_190 (dk_at dksJ20_peekLast_0 11 rfl rfl)
theorem dJ20_peekLast_12 : decode cJ20_peekLast 12 = .ok (.invokestatic 68, 3) := dk_184 0 68 (dk_at dksJ20_peekLast_0 12 rfl rfl)
theorem dJ20_peekLast_15 : decode cJ20_peekLast 15 = .ok (.invokestatic 103, 3) := dk_184 0 103 (dk_at dksJ20_peekLast_0 15 rfl rfl)
theorem dJ20_peekLast_18 : decode cJ20_peekLast 18 = .ok (.areturn, 1) := dk_176 (dk_at dksJ20_peekLast_0 18 rfl rfl)
abbrev cJ20_dec : ByteArray := prog_54_method_7_code
def yJ20_dec : MethodName := ⟨RJ20, "dec", "(II)I"⟩
def dkwJ20_dec_0 : List UInt8 := [132, 0, 255, 26, 156, 0, 7, 27, 4, 100, 59, 26, 172]
abbrev dktJ20_dec_0 : List UInt8 := dkwJ20_dec_0 ++ []
theorem dksJ20_dec_0 : cJ20_dec.data.toList.drop 0 = dktJ20_dec_0 := by decide +kernel
theorem dJ20_dec_0 : decode cJ20_dec 0 = .ok (.iinc 0 (-1), 3) := dk_132 0 255 (dk_at dksJ20_dec_0 0 rfl rfl)
theorem dJ20_dec_3 : decode cJ20_dec 3 = .ok (.iload_n 0, 1) := dk_26 (dk_at dksJ20_dec_0 3 rfl rfl)
theorem dJ20_dec_4 : decode cJ20_dec 4 = .ok (.ifCond .ge 7, 3) := dk_156 0 7 (dk_at dksJ20_dec_0 4 rfl rfl)
theorem dJ20_dec_7 : decode cJ20_dec 7 = .ok (.iload_n 1, 1) := dk_27 (dk_at dksJ20_dec_0 7 rfl rfl)
theorem dJ20_dec_8 : decode cJ20_dec 8 = .ok (.iconst 1, 1) := dk_4 (dk_at dksJ20_dec_0 8 rfl rfl)
theorem dJ20_dec_9 : decode cJ20_dec 9 = .ok (.isub, 1) := dk_100 (dk_at dksJ20_dec_0 9 rfl rfl)
theorem dJ20_dec_10 : decode cJ20_dec 10 = .ok (.istore_n 0, 1) := dk_59 (dk_at dksJ20_dec_0 10 rfl rfl)
theorem dJ20_dec_11 : decode cJ20_dec 11 = .ok (.iload_n 0, 1) := dk_26 (dk_at dksJ20_dec_0 11 rfl rfl)
theorem dJ20_dec_12 : decode cJ20_dec 12 = .ok (.ireturn, 1) := dk_172 (dk_at dksJ20_dec_0 12 rfl rfl)
abbrev cJ20_elementAt : ByteArray := prog_54_method_10_code
def yJ20_elementAt : MethodName := ⟨RJ20, "elementAt", "([Ljava/lang/Object;I)Ljava/lang/Object;"⟩
def dkwJ20_elementAt_0 : List UInt8 := [42, 27, 50, 176]
abbrev dktJ20_elementAt_0 : List UInt8 := dkwJ20_elementAt_0 ++ []
theorem dksJ20_elementAt_0 : cJ20_elementAt.data.toList.drop 0 = dktJ20_elementAt_0 := by decide +kernel
theorem dJ20_elementAt_0 : decode cJ20_elementAt 0 = .ok (.aload_n 0, 1) := dk_42 (dk_at dksJ20_elementAt_0 0 rfl rfl)
theorem dJ20_elementAt_1 : decode cJ20_elementAt 1 = .ok (.iload_n 1, 1) := dk_27 (dk_at dksJ20_elementAt_0 1 rfl rfl)
theorem dJ20_elementAt_2 : decode cJ20_elementAt 2 = .ok (.aaload, 1) := dk_50 (dk_at dksJ20_elementAt_0 2 rfl rfl)
theorem dJ20_elementAt_3 : decode cJ20_elementAt 3 = .ok (.areturn, 1) := dk_176 (dk_at dksJ20_elementAt_0 3 rfl rfl)
abbrev cJ20_pollLast : ByteArray := prog_54_method_21_code
def yJ20_pollLast : MethodName := ⟨RJ20, "pollLast", "()Ljava/lang/Object;"⟩
def dkwJ20_pollLast_1 : List UInt8 := [198, 0, 12, 43, 42, 28, 90, 181, 0, 20, 1, 83, 45, 176]
abbrev dktJ20_pollLast_1 : List UInt8 := dkwJ20_pollLast_1 ++ []
def dkwJ20_pollLast_0 : List UInt8 := [42, 180, 0, 3, 89, 76, 42, 180, 0, 20, 43, 190, 184, 0, 68, 89, 61, 184, 0, 103, 78, 45]
abbrev dktJ20_pollLast_0 : List UInt8 := dkwJ20_pollLast_0 ++ dktJ20_pollLast_1
theorem dksJ20_pollLast_0 : cJ20_pollLast.data.toList.drop 0 = dktJ20_pollLast_0 := by decide +kernel
theorem dksJ20_pollLast_1 : cJ20_pollLast.data.toList.drop 22 = dktJ20_pollLast_1 := dk_seg dksJ20_pollLast_0 22 rfl rfl
theorem dJ20_pollLast_0 : decode cJ20_pollLast 0 = .ok (.aload_n 0, 1) := dk_42 (dk_at dksJ20_pollLast_0 0 rfl rfl)
theorem dJ20_pollLast_1 : decode cJ20_pollLast 1 = .ok (.getfield 3, 3) := dk_180 0 3 (dk_at dksJ20_pollLast_0 1 rfl rfl)
theorem dJ20_pollLast_4 : decode cJ20_pollLast 4 = .ok (.dup, 1) := dk_89 (dk_at dksJ20_pollLast_0 4 rfl rfl)
theorem dJ20_pollLast_5 : decode cJ20_pollLast 5 = .ok (.astore_n 1, 1) := dk_76 (dk_at dksJ20_pollLast_0 5 rfl rfl)
theorem dJ20_pollLast_6 : decode cJ20_pollLast 6 = .ok (.aload_n 0, 1) := dk_42 (dk_at dksJ20_pollLast_0 6 rfl rfl)
theorem dJ20_pollLast_7 : decode cJ20_pollLast 7 = .ok (.getfield 20, 3) := dk_180 0 20 (dk_at dksJ20_pollLast_0 7 rfl rfl)
theorem dJ20_pollLast_10 : decode cJ20_pollLast 10 = .ok (.aload_n 1, 1) := dk_43 (dk_at dksJ20_pollLast_0 10 rfl rfl)
theorem dJ20_pollLast_11 : decode cJ20_pollLast 11 = .ok (.arraylength, 1) := dk_190 (dk_at dksJ20_pollLast_0 11 rfl rfl)
theorem dJ20_pollLast_12 : decode cJ20_pollLast 12 = .ok (.invokestatic 68, 3) := dk_184 0 68 (dk_at dksJ20_pollLast_0 12 rfl rfl)
theorem dJ20_pollLast_15 : decode cJ20_pollLast 15 = .ok (.dup, 1) := dk_89 (dk_at dksJ20_pollLast_0 15 rfl rfl)
theorem dJ20_pollLast_16 : decode cJ20_pollLast 16 = .ok (.istore_n 2, 1) := dk_61 (dk_at dksJ20_pollLast_0 16 rfl rfl)
theorem dJ20_pollLast_17 : decode cJ20_pollLast 17 = .ok (.invokestatic 103, 3) := dk_184 0 103 (dk_at dksJ20_pollLast_0 17 rfl rfl)
theorem dJ20_pollLast_20 : decode cJ20_pollLast 20 = .ok (.astore_n 3, 1) := dk_78 (dk_at dksJ20_pollLast_0 20 rfl rfl)
theorem dJ20_pollLast_21 : decode cJ20_pollLast 21 = .ok (.aload_n 3, 1) := dk_45 (dk_at dksJ20_pollLast_0 21 rfl rfl)
theorem dJ20_pollLast_22 : decode cJ20_pollLast 22 = .ok (.ifnull 12, 3) := dk_198 0 12 (dk_at dksJ20_pollLast_1 0 rfl rfl)
theorem dJ20_pollLast_25 : decode cJ20_pollLast 25 = .ok (.aload_n 1, 1) := dk_43 (dk_at dksJ20_pollLast_1 3 rfl rfl)
theorem dJ20_pollLast_26 : decode cJ20_pollLast 26 = .ok (.aload_n 0, 1) := dk_42 (dk_at dksJ20_pollLast_1 4 rfl rfl)
theorem dJ20_pollLast_27 : decode cJ20_pollLast 27 = .ok (.iload_n 2, 1) := dk_28 (dk_at dksJ20_pollLast_1 5 rfl rfl)
theorem dJ20_pollLast_28 : decode cJ20_pollLast 28 = .ok (.dup_x1, 1) := dk_90 (dk_at dksJ20_pollLast_1 6 rfl rfl)
theorem dJ20_pollLast_29 : decode cJ20_pollLast 29 = .ok (.putfield 20, 3) := dk_181 0 20 (dk_at dksJ20_pollLast_1 7 rfl rfl)
theorem dJ20_pollLast_32 : decode cJ20_pollLast 32 = .ok (.aconst_null, 1) := dk_1 (dk_at dksJ20_pollLast_1 10 rfl rfl)
theorem dJ20_pollLast_33 : decode cJ20_pollLast 33 = .ok (.aastore, 1) := dk_83 (dk_at dksJ20_pollLast_1 11 rfl rfl)
theorem dJ20_pollLast_34 : decode cJ20_pollLast 34 = .ok (.aload_n 3, 1) := dk_45 (dk_at dksJ20_pollLast_1 12 rfl rfl)
theorem dJ20_pollLast_35 : decode cJ20_pollLast 35 = .ok (.areturn, 1) := dk_176 (dk_at dksJ20_pollLast_1 13 rfl rfl)
abbrev cJ20_addLast : ByteArray := prog_54_method_13_code
def yJ20_addLast : MethodName := ⟨RJ20, "addLast", "(Ljava/lang/Object;)V"⟩
def dkwJ20_addLast_2 : List UInt8 := [182, 0, 71, 177]
abbrev dktJ20_addLast_2 : List UInt8 := dkwJ20_addLast_2 ++ []
def dkwJ20_addLast_1 : List UInt8 := [42, 180, 0, 24, 42, 42, 180, 0, 20, 44, 190, 184, 0, 74, 90, 181, 0, 20, 160, 0, 8, 42, 4]
abbrev dktJ20_addLast_1 : List UInt8 := dkwJ20_addLast_1 ++ dktJ20_addLast_2
def dkwJ20_addLast_0 : List UInt8 := [43, 199, 0, 11, 187, 0, 65, 89, 183, 0, 67, 191, 42, 180, 0, 3, 77, 44, 42, 180, 0, 20, 43, 83]
abbrev dktJ20_addLast_0 : List UInt8 := dkwJ20_addLast_0 ++ dktJ20_addLast_1
theorem dksJ20_addLast_0 : cJ20_addLast.data.toList.drop 0 = dktJ20_addLast_0 := by decide +kernel
theorem dksJ20_addLast_1 : cJ20_addLast.data.toList.drop 24 = dktJ20_addLast_1 := dk_seg dksJ20_addLast_0 24 rfl rfl
theorem dksJ20_addLast_2 : cJ20_addLast.data.toList.drop 47 = dktJ20_addLast_2 := dk_seg dksJ20_addLast_1 23 rfl rfl
theorem dJ20_addLast_0 : decode cJ20_addLast 0 = .ok (.aload_n 1, 1) := dk_43 (dk_at dksJ20_addLast_0 0 rfl rfl)
theorem dJ20_addLast_1 : decode cJ20_addLast 1 = .ok (.ifnonnull 11, 3) := dk_199 0 11 (dk_at dksJ20_addLast_0 1 rfl rfl)
theorem dJ20_addLast_4 : decode cJ20_addLast 4 = .ok (.new 65, 3) := dk_187 0 65 (dk_at dksJ20_addLast_0 4 rfl rfl)
theorem dJ20_addLast_7 : decode cJ20_addLast 7 = .ok (.dup, 1) := dk_89 (dk_at dksJ20_addLast_0 7 rfl rfl)
theorem dJ20_addLast_8 : decode cJ20_addLast 8 = .ok (.invokespecial 67, 3) := dk_183 0 67 (dk_at dksJ20_addLast_0 8 rfl rfl)
theorem dJ20_addLast_11 : decode cJ20_addLast 11 = .ok (.athrow, 1) := dk_191 (dk_at dksJ20_addLast_0 11 rfl rfl)
theorem dJ20_addLast_12 : decode cJ20_addLast 12 = .ok (.aload_n 0, 1) := dk_42 (dk_at dksJ20_addLast_0 12 rfl rfl)
theorem dJ20_addLast_13 : decode cJ20_addLast 13 = .ok (.getfield 3, 3) := dk_180 0 3 (dk_at dksJ20_addLast_0 13 rfl rfl)
theorem dJ20_addLast_16 : decode cJ20_addLast 16 = .ok (.astore_n 2, 1) := dk_77 (dk_at dksJ20_addLast_0 16 rfl rfl)
theorem dJ20_addLast_17 : decode cJ20_addLast 17 = .ok (.aload_n 2, 1) := dk_44 (dk_at dksJ20_addLast_0 17 rfl rfl)
theorem dJ20_addLast_18 : decode cJ20_addLast 18 = .ok (.aload_n 0, 1) := dk_42 (dk_at dksJ20_addLast_0 18 rfl rfl)
theorem dJ20_addLast_19 : decode cJ20_addLast 19 = .ok (.getfield 20, 3) := dk_180 0 20 (dk_at dksJ20_addLast_0 19 rfl rfl)
theorem dJ20_addLast_22 : decode cJ20_addLast 22 = .ok (.aload_n 1, 1) := dk_43 (dk_at dksJ20_addLast_0 22 rfl rfl)
theorem dJ20_addLast_23 : decode cJ20_addLast 23 = .ok (.aastore, 1) := dk_83 (dk_at dksJ20_addLast_0 23 rfl rfl)
theorem dJ20_addLast_24 : decode cJ20_addLast 24 = .ok (.aload_n 0, 1) := dk_42 (dk_at dksJ20_addLast_1 0 rfl rfl)
theorem dJ20_addLast_25 : decode cJ20_addLast 25 = .ok (.getfield 24, 3) := dk_180 0 24 (dk_at dksJ20_addLast_1 1 rfl rfl)
theorem dJ20_addLast_28 : decode cJ20_addLast 28 = .ok (.aload_n 0, 1) := dk_42 (dk_at dksJ20_addLast_1 4 rfl rfl)
theorem dJ20_addLast_29 : decode cJ20_addLast 29 = .ok (.aload_n 0, 1) := dk_42 (dk_at dksJ20_addLast_1 5 rfl rfl)
theorem dJ20_addLast_30 : decode cJ20_addLast 30 = .ok (.getfield 20, 3) := dk_180 0 20 (dk_at dksJ20_addLast_1 6 rfl rfl)
theorem dJ20_addLast_33 : decode cJ20_addLast 33 = .ok (.aload_n 2, 1) := dk_44 (dk_at dksJ20_addLast_1 9 rfl rfl)
theorem dJ20_addLast_34 : decode cJ20_addLast 34 = .ok (.arraylength, 1) := dk_190 (dk_at dksJ20_addLast_1 10 rfl rfl)
theorem dJ20_addLast_35 : decode cJ20_addLast 35 = .ok (.invokestatic 74, 3) := dk_184 0 74 (dk_at dksJ20_addLast_1 11 rfl rfl)
theorem dJ20_addLast_38 : decode cJ20_addLast 38 = .ok (.dup_x1, 1) := dk_90 (dk_at dksJ20_addLast_1 14 rfl rfl)
theorem dJ20_addLast_39 : decode cJ20_addLast 39 = .ok (.putfield 20, 3) := dk_181 0 20 (dk_at dksJ20_addLast_1 15 rfl rfl)
theorem dJ20_addLast_42 : decode cJ20_addLast 42 = .ok (.if_icmp .ne 8, 3) := dk_160 0 8 (dk_at dksJ20_addLast_1 18 rfl rfl)
theorem dJ20_addLast_45 : decode cJ20_addLast 45 = .ok (.aload_n 0, 1) := dk_42 (dk_at dksJ20_addLast_1 21 rfl rfl)
theorem dJ20_addLast_46 : decode cJ20_addLast 46 = .ok (.iconst 1, 1) := dk_4 (dk_at dksJ20_addLast_1 22 rfl rfl)
theorem dJ20_addLast_47 : decode cJ20_addLast 47 = .ok (.invokevirtual 71, 3) := dk_182 0 71 (dk_at dksJ20_addLast_2 0 rfl rfl)
theorem dJ20_addLast_50 : decode cJ20_addLast 50 = .ok (.return_, 1) := dk_177 (dk_at dksJ20_addLast_2 3 rfl rfl)
abbrev cJ20_inc : ByteArray := prog_54_method_6_code
def yJ20_inc : MethodName := ⟨RJ20, "inc", "(II)I"⟩
def dkwJ20_inc_0 : List UInt8 := [132, 0, 1, 26, 27, 161, 0, 5, 3, 59, 26, 172]
abbrev dktJ20_inc_0 : List UInt8 := dkwJ20_inc_0 ++ []
theorem dksJ20_inc_0 : cJ20_inc.data.toList.drop 0 = dktJ20_inc_0 := by decide +kernel
theorem dJ20_inc_0 : decode cJ20_inc 0 = .ok (.iinc 0 1, 3) := dk_132 0 1 (dk_at dksJ20_inc_0 0 rfl rfl)
theorem dJ20_inc_3 : decode cJ20_inc 3 = .ok (.iload_n 0, 1) := dk_26 (dk_at dksJ20_inc_0 3 rfl rfl)
theorem dJ20_inc_4 : decode cJ20_inc 4 = .ok (.iload_n 1, 1) := dk_27 (dk_at dksJ20_inc_0 4 rfl rfl)
theorem dJ20_inc_5 : decode cJ20_inc 5 = .ok (.if_icmp .lt 5, 3) := dk_161 0 5 (dk_at dksJ20_inc_0 5 rfl rfl)
theorem dJ20_inc_8 : decode cJ20_inc 8 = .ok (.iconst 0, 1) := dk_3 (dk_at dksJ20_inc_0 8 rfl rfl)
theorem dJ20_inc_9 : decode cJ20_inc 9 = .ok (.istore_n 0, 1) := dk_59 (dk_at dksJ20_inc_0 9 rfl rfl)
theorem dJ20_inc_10 : decode cJ20_inc 10 = .ok (.iload_n 0, 1) := dk_26 (dk_at dksJ20_inc_0 10 rfl rfl)
theorem dJ20_inc_11 : decode cJ20_inc 11 = .ok (.ireturn, 1) := dk_172 (dk_at dksJ20_inc_0 11 rfl rfl)
abbrev cJ20_grow : ByteArray := prog_54_method_1_code
def yJ20_grow : MethodName := ⟨RJ20, "grow", "(I)V"⟩
def dkwJ20_grow_7 : List UInt8 := [177]
abbrev dktJ20_grow_7 : List UInt8 := dkwJ20_grow_7 ++ []
def dkwJ20_grow_6 : List UInt8 := [181, 0, 24, 54, 8, 21, 7, 21, 8, 162, 0, 15, 25, 5, 21, 7, 1, 83, 132, 7, 1, 167, 255, 240]
abbrev dktJ20_grow_6 : List UInt8 := dkwJ20_grow_6 ++ dktJ20_grow_7
def dkwJ20_grow_5 : List UInt8 := [42, 180, 0, 24, 100, 184, 0, 27, 42, 180, 0, 24, 54, 7, 42, 89, 180, 0, 24, 21, 6, 96, 90]
abbrev dktJ20_grow_5 : List UInt8 := dkwJ20_grow_5 ++ dktJ20_grow_6
def dkwJ20_grow_4 : List UInt8 := [198, 0, 71, 29, 28, 100, 54, 6, 25, 5, 42, 180, 0, 24, 25, 5, 42, 180, 0, 24, 21, 6, 96, 28]
abbrev dktJ20_grow_4 : List UInt8 := dkwJ20_grow_4 ++ dktJ20_grow_5
def dkwJ20_grow_3 : List UInt8 := [180, 0, 24, 161, 0, 24, 42, 180, 0, 20, 42, 180, 0, 24, 160, 0, 81, 25, 5, 42, 180, 0, 24, 50]
abbrev dktJ20_grow_3 : List UInt8 := dkwJ20_grow_3 ++ dktJ20_grow_4
def dkwJ20_grow_2 : List UInt8 := [182, 0, 10, 62, 42, 42, 180, 0, 3, 29, 184, 0, 14, 90, 181, 0, 3, 58, 5, 42, 180, 0, 20, 42]
abbrev dktJ20_grow_2 : List UInt8 := dkwJ20_grow_2 ++ dktJ20_grow_3
def dkwJ20_grow_1 : List UInt8 := [21, 4, 27, 161, 0, 15, 28, 21, 4, 96, 89, 62, 18, 9, 100, 158, 0, 11, 42, 27, 21, 4]
abbrev dktJ20_grow_1 : List UInt8 := dkwJ20_grow_1 ++ dktJ20_grow_2
def dkwJ20_grow_0 : List UInt8 := [42, 180, 0, 3, 190, 61, 28, 16, 64, 162, 0, 9, 28, 5, 96, 167, 0, 6, 28, 4, 122, 54, 4]
abbrev dktJ20_grow_0 : List UInt8 := dkwJ20_grow_0 ++ dktJ20_grow_1
theorem dksJ20_grow_0 : cJ20_grow.data.toList.drop 0 = dktJ20_grow_0 := by decide +kernel
theorem dksJ20_grow_1 : cJ20_grow.data.toList.drop 23 = dktJ20_grow_1 := dk_seg dksJ20_grow_0 23 rfl rfl
theorem dksJ20_grow_2 : cJ20_grow.data.toList.drop 45 = dktJ20_grow_2 := dk_seg dksJ20_grow_1 22 rfl rfl
theorem dksJ20_grow_3 : cJ20_grow.data.toList.drop 69 = dktJ20_grow_3 := dk_seg dksJ20_grow_2 24 rfl rfl
theorem dksJ20_grow_4 : cJ20_grow.data.toList.drop 93 = dktJ20_grow_4 := dk_seg dksJ20_grow_3 24 rfl rfl
theorem dksJ20_grow_5 : cJ20_grow.data.toList.drop 117 = dktJ20_grow_5 := dk_seg dksJ20_grow_4 24 rfl rfl
theorem dksJ20_grow_6 : cJ20_grow.data.toList.drop 140 = dktJ20_grow_6 := dk_seg dksJ20_grow_5 23 rfl rfl
theorem dksJ20_grow_7 : cJ20_grow.data.toList.drop 164 = dktJ20_grow_7 := dk_seg dksJ20_grow_6 24 rfl rfl
theorem dJ20_grow_0 : decode cJ20_grow 0 = .ok (.aload_n 0, 1) := dk_42 (dk_at dksJ20_grow_0 0 rfl rfl)
theorem dJ20_grow_1 : decode cJ20_grow 1 = .ok (.getfield 3, 3) := dk_180 0 3 (dk_at dksJ20_grow_0 1 rfl rfl)
theorem dJ20_grow_4 : decode cJ20_grow 4 = .ok (.arraylength, 1) := dk_190 (dk_at dksJ20_grow_0 4 rfl rfl)
theorem dJ20_grow_5 : decode cJ20_grow 5 = .ok (.istore_n 2, 1) := dk_61 (dk_at dksJ20_grow_0 5 rfl rfl)
theorem dJ20_grow_6 : decode cJ20_grow 6 = .ok (.iload_n 2, 1) := dk_28 (dk_at dksJ20_grow_0 6 rfl rfl)
theorem dJ20_grow_7 : decode cJ20_grow 7 = .ok (.bipush 64, 2) := dk_16 64 (dk_at dksJ20_grow_0 7 rfl rfl)
theorem dJ20_grow_9 : decode cJ20_grow 9 = .ok (.if_icmp .ge 9, 3) := dk_162 0 9 (dk_at dksJ20_grow_0 9 rfl rfl)
theorem dJ20_grow_12 : decode cJ20_grow 12 = .ok (.iload_n 2, 1) := dk_28 (dk_at dksJ20_grow_0 12 rfl rfl)
theorem dJ20_grow_13 : decode cJ20_grow 13 = .ok (.iconst 2, 1) := dk_5 (dk_at dksJ20_grow_0 13 rfl rfl)
theorem dJ20_grow_14 : decode cJ20_grow 14 = .ok (.iadd, 1) := dk_96 (dk_at dksJ20_grow_0 14 rfl rfl)
theorem dJ20_grow_15 : decode cJ20_grow 15 = .ok (.goto 6, 3) := dk_167 0 6 (dk_at dksJ20_grow_0 15 rfl rfl)
theorem dJ20_grow_18 : decode cJ20_grow 18 = .ok (.iload_n 2, 1) := dk_28 (dk_at dksJ20_grow_0 18 rfl rfl)
theorem dJ20_grow_19 : decode cJ20_grow 19 = .ok (.iconst 1, 1) := dk_4 (dk_at dksJ20_grow_0 19 rfl rfl)
theorem dJ20_grow_20 : decode cJ20_grow 20 = .ok (.ishr, 1) := dk_122 (dk_at dksJ20_grow_0 20 rfl rfl)
theorem dJ20_grow_21 : decode cJ20_grow 21 = .ok (.istore 4, 2) := dk_54 4 (dk_at dksJ20_grow_0 21 rfl rfl)
theorem dJ20_grow_23 : decode cJ20_grow 23 = .ok (.iload 4, 2) := dk_21 4 (dk_at dksJ20_grow_1 0 rfl rfl)
theorem dJ20_grow_25 : decode cJ20_grow 25 = .ok (.iload_n 1, 1) := dk_27 (dk_at dksJ20_grow_1 2 rfl rfl)
theorem dJ20_grow_26 : decode cJ20_grow 26 = .ok (.if_icmp .lt 15, 3) := dk_161 0 15 (dk_at dksJ20_grow_1 3 rfl rfl)
theorem dJ20_grow_29 : decode cJ20_grow 29 = .ok (.iload_n 2, 1) := dk_28 (dk_at dksJ20_grow_1 6 rfl rfl)
theorem dJ20_grow_30 : decode cJ20_grow 30 = .ok (.iload 4, 2) := dk_21 4 (dk_at dksJ20_grow_1 7 rfl rfl)
theorem dJ20_grow_32 : decode cJ20_grow 32 = .ok (.iadd, 1) := dk_96 (dk_at dksJ20_grow_1 9 rfl rfl)
theorem dJ20_grow_33 : decode cJ20_grow 33 = .ok (.dup, 1) := dk_89 (dk_at dksJ20_grow_1 10 rfl rfl)
theorem dJ20_grow_34 : decode cJ20_grow 34 = .ok (.istore_n 3, 1) := dk_62 (dk_at dksJ20_grow_1 11 rfl rfl)
theorem dJ20_grow_35 : decode cJ20_grow 35 = .ok (.ldc 9, 2) := dk_18 9 (dk_at dksJ20_grow_1 12 rfl rfl)
theorem dJ20_grow_37 : decode cJ20_grow 37 = .ok (.isub, 1) := dk_100 (dk_at dksJ20_grow_1 14 rfl rfl)
theorem dJ20_grow_38 : decode cJ20_grow 38 = .ok (.ifCond .le 11, 3) := dk_158 0 11 (dk_at dksJ20_grow_1 15 rfl rfl)
theorem dJ20_grow_41 : decode cJ20_grow 41 = .ok (.aload_n 0, 1) := dk_42 (dk_at dksJ20_grow_1 18 rfl rfl)
theorem dJ20_grow_42 : decode cJ20_grow 42 = .ok (.iload_n 1, 1) := dk_27 (dk_at dksJ20_grow_1 19 rfl rfl)
theorem dJ20_grow_43 : decode cJ20_grow 43 = .ok (.iload 4, 2) := dk_21 4 (dk_at dksJ20_grow_1 20 rfl rfl)
theorem dJ20_grow_45 : decode cJ20_grow 45 = .ok (.invokevirtual 10, 3) := dk_182 0 10 (dk_at dksJ20_grow_2 0 rfl rfl)
theorem dJ20_grow_48 : decode cJ20_grow 48 = .ok (.istore_n 3, 1) := dk_62 (dk_at dksJ20_grow_2 3 rfl rfl)
theorem dJ20_grow_49 : decode cJ20_grow 49 = .ok (.aload_n 0, 1) := dk_42 (dk_at dksJ20_grow_2 4 rfl rfl)
theorem dJ20_grow_50 : decode cJ20_grow 50 = .ok (.aload_n 0, 1) := dk_42 (dk_at dksJ20_grow_2 5 rfl rfl)
theorem dJ20_grow_51 : decode cJ20_grow 51 = .ok (.getfield 3, 3) := dk_180 0 3 (dk_at dksJ20_grow_2 6 rfl rfl)
theorem dJ20_grow_54 : decode cJ20_grow 54 = .ok (.iload_n 3, 1) := dk_29 (dk_at dksJ20_grow_2 9 rfl rfl)
theorem dJ20_grow_55 : decode cJ20_grow 55 = .ok (.invokestatic 14, 3) := dk_184 0 14 (dk_at dksJ20_grow_2 10 rfl rfl)
theorem dJ20_grow_58 : decode cJ20_grow 58 = .ok (.dup_x1, 1) := dk_90 (dk_at dksJ20_grow_2 13 rfl rfl)
theorem dJ20_grow_59 : decode cJ20_grow 59 = .ok (.putfield 3, 3) := dk_181 0 3 (dk_at dksJ20_grow_2 14 rfl rfl)
theorem dJ20_grow_62 : decode cJ20_grow 62 = .ok (.astore 5, 2) := dk_58 5 (dk_at dksJ20_grow_2 17 rfl rfl)
theorem dJ20_grow_64 : decode cJ20_grow 64 = .ok (.aload_n 0, 1) := dk_42 (dk_at dksJ20_grow_2 19 rfl rfl)
theorem dJ20_grow_65 : decode cJ20_grow 65 = .ok (.getfield 20, 3) := dk_180 0 20 (dk_at dksJ20_grow_2 20 rfl rfl)
theorem dJ20_grow_68 : decode cJ20_grow 68 = .ok (.aload_n 0, 1) := dk_42 (dk_at dksJ20_grow_2 23 rfl rfl)
theorem dJ20_grow_69 : decode cJ20_grow 69 = .ok (.getfield 24, 3) := dk_180 0 24 (dk_at dksJ20_grow_3 0 rfl rfl)
theorem dJ20_grow_72 : decode cJ20_grow 72 = .ok (.if_icmp .lt 24, 3) := dk_161 0 24 (dk_at dksJ20_grow_3 3 rfl rfl)
theorem dJ20_grow_75 : decode cJ20_grow 75 = .ok (.aload_n 0, 1) := dk_42 (dk_at dksJ20_grow_3 6 rfl rfl)
theorem dJ20_grow_76 : decode cJ20_grow 76 = .ok (.getfield 20, 3) := dk_180 0 20 (dk_at dksJ20_grow_3 7 rfl rfl)
theorem dJ20_grow_79 : decode cJ20_grow 79 = .ok (.aload_n 0, 1) := dk_42 (dk_at dksJ20_grow_3 10 rfl rfl)
theorem dJ20_grow_80 : decode cJ20_grow 80 = .ok (.getfield 24, 3) := dk_180 0 24 (dk_at dksJ20_grow_3 11 rfl rfl)
theorem dJ20_grow_83 : decode cJ20_grow 83 = .ok (.if_icmp .ne 81, 3) := dk_160 0 81 (dk_at dksJ20_grow_3 14 rfl rfl)
theorem dJ20_grow_86 : decode cJ20_grow 86 = .ok (.aload 5, 2) := dk_25 5 (dk_at dksJ20_grow_3 17 rfl rfl)
theorem dJ20_grow_88 : decode cJ20_grow 88 = .ok (.aload_n 0, 1) := dk_42 (dk_at dksJ20_grow_3 19 rfl rfl)
theorem dJ20_grow_89 : decode cJ20_grow 89 = .ok (.getfield 24, 3) := dk_180 0 24 (dk_at dksJ20_grow_3 20 rfl rfl)
theorem dJ20_grow_92 : decode cJ20_grow 92 = .ok (.aaload, 1) := dk_50 (dk_at dksJ20_grow_3 23 rfl rfl)
theorem dJ20_grow_93 : decode cJ20_grow 93 = .ok (.ifnull 71, 3) := dk_198 0 71 (dk_at dksJ20_grow_4 0 rfl rfl)
theorem dJ20_grow_96 : decode cJ20_grow 96 = .ok (.iload_n 3, 1) := dk_29 (dk_at dksJ20_grow_4 3 rfl rfl)
theorem dJ20_grow_97 : decode cJ20_grow 97 = .ok (.iload_n 2, 1) := dk_28 (dk_at dksJ20_grow_4 4 rfl rfl)
theorem dJ20_grow_98 : decode cJ20_grow 98 = .ok (.isub, 1) := dk_100 (dk_at dksJ20_grow_4 5 rfl rfl)
theorem dJ20_grow_99 : decode cJ20_grow 99 = .ok (.istore 6, 2) := dk_54 6 (dk_at dksJ20_grow_4 6 rfl rfl)
theorem dJ20_grow_101 : decode cJ20_grow 101 = .ok (.aload 5, 2) := dk_25 5 (dk_at dksJ20_grow_4 8 rfl rfl)
theorem dJ20_grow_103 : decode cJ20_grow 103 = .ok (.aload_n 0, 1) := dk_42 (dk_at dksJ20_grow_4 10 rfl rfl)
theorem dJ20_grow_104 : decode cJ20_grow 104 = .ok (.getfield 24, 3) := dk_180 0 24 (dk_at dksJ20_grow_4 11 rfl rfl)
theorem dJ20_grow_107 : decode cJ20_grow 107 = .ok (.aload 5, 2) := dk_25 5 (dk_at dksJ20_grow_4 14 rfl rfl)
theorem dJ20_grow_109 : decode cJ20_grow 109 = .ok (.aload_n 0, 1) := dk_42 (dk_at dksJ20_grow_4 16 rfl rfl)
theorem dJ20_grow_110 : decode cJ20_grow 110 = .ok (.getfield 24, 3) := dk_180 0 24 (dk_at dksJ20_grow_4 17 rfl rfl)
theorem dJ20_grow_113 : decode cJ20_grow 113 = .ok (.iload 6, 2) := dk_21 6 (dk_at dksJ20_grow_4 20 rfl rfl)
theorem dJ20_grow_115 : decode cJ20_grow 115 = .ok (.iadd, 1) := dk_96 (dk_at dksJ20_grow_4 22 rfl rfl)
theorem dJ20_grow_116 : decode cJ20_grow 116 = .ok (.iload_n 2, 1) := dk_28 (dk_at dksJ20_grow_4 23 rfl rfl)
theorem dJ20_grow_117 : decode cJ20_grow 117 = .ok (.aload_n 0, 1) := dk_42 (dk_at dksJ20_grow_5 0 rfl rfl)
theorem dJ20_grow_118 : decode cJ20_grow 118 = .ok (.getfield 24, 3) := dk_180 0 24 (dk_at dksJ20_grow_5 1 rfl rfl)
theorem dJ20_grow_121 : decode cJ20_grow 121 = .ok (.isub, 1) := dk_100 (dk_at dksJ20_grow_5 4 rfl rfl)
theorem dJ20_grow_122 : decode cJ20_grow 122 = .ok (.invokestatic 27, 3) := dk_184 0 27 (dk_at dksJ20_grow_5 5 rfl rfl)
theorem dJ20_grow_125 : decode cJ20_grow 125 = .ok (.aload_n 0, 1) := dk_42 (dk_at dksJ20_grow_5 8 rfl rfl)
theorem dJ20_grow_126 : decode cJ20_grow 126 = .ok (.getfield 24, 3) := dk_180 0 24 (dk_at dksJ20_grow_5 9 rfl rfl)
theorem dJ20_grow_129 : decode cJ20_grow 129 = .ok (.istore 7, 2) := dk_54 7 (dk_at dksJ20_grow_5 12 rfl rfl)
theorem dJ20_grow_131 : decode cJ20_grow 131 = .ok (.aload_n 0, 1) := dk_42 (dk_at dksJ20_grow_5 14 rfl rfl)
theorem dJ20_grow_132 : decode cJ20_grow 132 = .ok (.dup, 1) := dk_89 (dk_at dksJ20_grow_5 15 rfl rfl)
theorem dJ20_grow_133 : decode cJ20_grow 133 = .ok (.getfield 24, 3) := dk_180 0 24 (dk_at dksJ20_grow_5 16 rfl rfl)
theorem dJ20_grow_136 : decode cJ20_grow 136 = .ok (.iload 6, 2) := dk_21 6 (dk_at dksJ20_grow_5 19 rfl rfl)
theorem dJ20_grow_138 : decode cJ20_grow 138 = .ok (.iadd, 1) := dk_96 (dk_at dksJ20_grow_5 21 rfl rfl)
theorem dJ20_grow_139 : decode cJ20_grow 139 = .ok (.dup_x1, 1) := dk_90 (dk_at dksJ20_grow_5 22 rfl rfl)
theorem dJ20_grow_140 : decode cJ20_grow 140 = .ok (.putfield 24, 3) := dk_181 0 24 (dk_at dksJ20_grow_6 0 rfl rfl)
theorem dJ20_grow_143 : decode cJ20_grow 143 = .ok (.istore 8, 2) := dk_54 8 (dk_at dksJ20_grow_6 3 rfl rfl)
theorem dJ20_grow_145 : decode cJ20_grow 145 = .ok (.iload 7, 2) := dk_21 7 (dk_at dksJ20_grow_6 5 rfl rfl)
theorem dJ20_grow_147 : decode cJ20_grow 147 = .ok (.iload 8, 2) := dk_21 8 (dk_at dksJ20_grow_6 7 rfl rfl)
theorem dJ20_grow_149 : decode cJ20_grow 149 = .ok (.if_icmp .ge 15, 3) := dk_162 0 15 (dk_at dksJ20_grow_6 9 rfl rfl)
theorem dJ20_grow_152 : decode cJ20_grow 152 = .ok (.aload 5, 2) := dk_25 5 (dk_at dksJ20_grow_6 12 rfl rfl)
theorem dJ20_grow_154 : decode cJ20_grow 154 = .ok (.iload 7, 2) := dk_21 7 (dk_at dksJ20_grow_6 14 rfl rfl)
theorem dJ20_grow_156 : decode cJ20_grow 156 = .ok (.aconst_null, 1) := dk_1 (dk_at dksJ20_grow_6 16 rfl rfl)
theorem dJ20_grow_157 : decode cJ20_grow 157 = .ok (.aastore, 1) := dk_83 (dk_at dksJ20_grow_6 17 rfl rfl)
theorem dJ20_grow_158 : decode cJ20_grow 158 = .ok (.iinc 7 1, 3) := dk_132 7 1 (dk_at dksJ20_grow_6 18 rfl rfl)
theorem dJ20_grow_161 : decode cJ20_grow 161 = .ok (.goto (-16), 3) := dk_167 255 240 (dk_at dksJ20_grow_6 21 rfl rfl)
theorem dJ20_grow_164 : decode cJ20_grow 164 = .ok (.return_, 1) := dk_177 (dk_at dksJ20_grow_7 0 rfl rfl)
abbrev cJ20_newCapacity : ByteArray := prog_54_method_2_code
def yJ20_newCapacity : MethodName := ⟨RJ20, "newCapacity", "(II)I"⟩
def dkwJ20_newCapacity_2 : List UInt8 := [18, 9, 100, 156, 0, 9, 29, 28, 96, 167, 0, 5, 18, 9, 172]
abbrev dktJ20_newCapacity_2 : List UInt8 := dkwJ20_newCapacity_2 ++ []
def dkwJ20_newCapacity_1 : List UInt8 := [187, 0, 33, 89, 18, 35, 183, 0, 37, 191, 18, 41, 172, 27, 28, 164, 0, 6, 21, 4, 172, 29, 28, 96]
abbrev dktJ20_newCapacity_1 : List UInt8 := dkwJ20_newCapacity_1 ++ dktJ20_newCapacity_2
def dkwJ20_newCapacity_0 : List UInt8 := [42, 180, 0, 3, 190, 62, 29, 27, 96, 89, 54, 4, 18, 9, 100, 158, 0, 21, 21, 4, 156, 0, 13]
abbrev dktJ20_newCapacity_0 : List UInt8 := dkwJ20_newCapacity_0 ++ dktJ20_newCapacity_1
theorem dksJ20_newCapacity_0 : cJ20_newCapacity.data.toList.drop 0 = dktJ20_newCapacity_0 := by decide +kernel
theorem dksJ20_newCapacity_1 : cJ20_newCapacity.data.toList.drop 23 = dktJ20_newCapacity_1 := dk_seg dksJ20_newCapacity_0 23 rfl rfl
theorem dksJ20_newCapacity_2 : cJ20_newCapacity.data.toList.drop 47 = dktJ20_newCapacity_2 := dk_seg dksJ20_newCapacity_1 24 rfl rfl
theorem dJ20_newCapacity_0 : decode cJ20_newCapacity 0 = .ok (.aload_n 0, 1) := dk_42 (dk_at dksJ20_newCapacity_0 0 rfl rfl)
theorem dJ20_newCapacity_1 : decode cJ20_newCapacity 1 = .ok (.getfield 3, 3) := dk_180 0 3 (dk_at dksJ20_newCapacity_0 1 rfl rfl)
theorem dJ20_newCapacity_4 : decode cJ20_newCapacity 4 = .ok (.arraylength, 1) := dk_190 (dk_at dksJ20_newCapacity_0 4 rfl rfl)
theorem dJ20_newCapacity_5 : decode cJ20_newCapacity 5 = .ok (.istore_n 3, 1) := dk_62 (dk_at dksJ20_newCapacity_0 5 rfl rfl)
theorem dJ20_newCapacity_6 : decode cJ20_newCapacity 6 = .ok (.iload_n 3, 1) := dk_29 (dk_at dksJ20_newCapacity_0 6 rfl rfl)
theorem dJ20_newCapacity_7 : decode cJ20_newCapacity 7 = .ok (.iload_n 1, 1) := dk_27 (dk_at dksJ20_newCapacity_0 7 rfl rfl)
theorem dJ20_newCapacity_8 : decode cJ20_newCapacity 8 = .ok (.iadd, 1) := dk_96 (dk_at dksJ20_newCapacity_0 8 rfl rfl)
theorem dJ20_newCapacity_9 : decode cJ20_newCapacity 9 = .ok (.dup, 1) := dk_89 (dk_at dksJ20_newCapacity_0 9 rfl rfl)
theorem dJ20_newCapacity_10 : decode cJ20_newCapacity 10 = .ok (.istore 4, 2) := dk_54 4 (dk_at dksJ20_newCapacity_0 10 rfl rfl)
theorem dJ20_newCapacity_12 : decode cJ20_newCapacity 12 = .ok (.ldc 9, 2) := dk_18 9 (dk_at dksJ20_newCapacity_0 12 rfl rfl)
theorem dJ20_newCapacity_14 : decode cJ20_newCapacity 14 = .ok (.isub, 1) := dk_100 (dk_at dksJ20_newCapacity_0 14 rfl rfl)
theorem dJ20_newCapacity_15 : decode cJ20_newCapacity 15 = .ok (.ifCond .le 21, 3) := dk_158 0 21 (dk_at dksJ20_newCapacity_0 15 rfl rfl)
theorem dJ20_newCapacity_18 : decode cJ20_newCapacity 18 = .ok (.iload 4, 2) := dk_21 4 (dk_at dksJ20_newCapacity_0 18 rfl rfl)
theorem dJ20_newCapacity_20 : decode cJ20_newCapacity 20 = .ok (.ifCond .ge 13, 3) := dk_156 0 13 (dk_at dksJ20_newCapacity_0 20 rfl rfl)
theorem dJ20_newCapacity_23 : decode cJ20_newCapacity 23 = .ok (.new 33, 3) := dk_187 0 33 (dk_at dksJ20_newCapacity_1 0 rfl rfl)
theorem dJ20_newCapacity_26 : decode cJ20_newCapacity 26 = .ok (.dup, 1) := dk_89 (dk_at dksJ20_newCapacity_1 3 rfl rfl)
theorem dJ20_newCapacity_27 : decode cJ20_newCapacity 27 = .ok (.ldc 35, 2) := dk_18 35 (dk_at dksJ20_newCapacity_1 4 rfl rfl)
theorem dJ20_newCapacity_29 : decode cJ20_newCapacity 29 = .ok (.invokespecial 37, 3) := dk_183 0 37 (dk_at dksJ20_newCapacity_1 6 rfl rfl)
theorem dJ20_newCapacity_32 : decode cJ20_newCapacity 32 = .ok (.athrow, 1) := dk_191 (dk_at dksJ20_newCapacity_1 9 rfl rfl)
theorem dJ20_newCapacity_33 : decode cJ20_newCapacity 33 = .ok (.ldc 41, 2) := dk_18 41 (dk_at dksJ20_newCapacity_1 10 rfl rfl)
theorem dJ20_newCapacity_35 : decode cJ20_newCapacity 35 = .ok (.ireturn, 1) := dk_172 (dk_at dksJ20_newCapacity_1 12 rfl rfl)
theorem dJ20_newCapacity_36 : decode cJ20_newCapacity 36 = .ok (.iload_n 1, 1) := dk_27 (dk_at dksJ20_newCapacity_1 13 rfl rfl)
theorem dJ20_newCapacity_37 : decode cJ20_newCapacity 37 = .ok (.iload_n 2, 1) := dk_28 (dk_at dksJ20_newCapacity_1 14 rfl rfl)
theorem dJ20_newCapacity_38 : decode cJ20_newCapacity 38 = .ok (.if_icmp .le 6, 3) := dk_164 0 6 (dk_at dksJ20_newCapacity_1 15 rfl rfl)
theorem dJ20_newCapacity_41 : decode cJ20_newCapacity 41 = .ok (.iload 4, 2) := dk_21 4 (dk_at dksJ20_newCapacity_1 18 rfl rfl)
theorem dJ20_newCapacity_43 : decode cJ20_newCapacity 43 = .ok (.ireturn, 1) := dk_172 (dk_at dksJ20_newCapacity_1 20 rfl rfl)
theorem dJ20_newCapacity_44 : decode cJ20_newCapacity 44 = .ok (.iload_n 3, 1) := dk_29 (dk_at dksJ20_newCapacity_1 21 rfl rfl)
theorem dJ20_newCapacity_45 : decode cJ20_newCapacity 45 = .ok (.iload_n 2, 1) := dk_28 (dk_at dksJ20_newCapacity_1 22 rfl rfl)
theorem dJ20_newCapacity_46 : decode cJ20_newCapacity 46 = .ok (.iadd, 1) := dk_96 (dk_at dksJ20_newCapacity_1 23 rfl rfl)
theorem dJ20_newCapacity_47 : decode cJ20_newCapacity 47 = .ok (.ldc 9, 2) := dk_18 9 (dk_at dksJ20_newCapacity_2 0 rfl rfl)
theorem dJ20_newCapacity_49 : decode cJ20_newCapacity 49 = .ok (.isub, 1) := dk_100 (dk_at dksJ20_newCapacity_2 2 rfl rfl)
theorem dJ20_newCapacity_50 : decode cJ20_newCapacity 50 = .ok (.ifCond .ge 9, 3) := dk_156 0 9 (dk_at dksJ20_newCapacity_2 3 rfl rfl)
theorem dJ20_newCapacity_53 : decode cJ20_newCapacity 53 = .ok (.iload_n 3, 1) := dk_29 (dk_at dksJ20_newCapacity_2 6 rfl rfl)
theorem dJ20_newCapacity_54 : decode cJ20_newCapacity 54 = .ok (.iload_n 2, 1) := dk_28 (dk_at dksJ20_newCapacity_2 7 rfl rfl)
theorem dJ20_newCapacity_55 : decode cJ20_newCapacity 55 = .ok (.iadd, 1) := dk_96 (dk_at dksJ20_newCapacity_2 8 rfl rfl)
theorem dJ20_newCapacity_56 : decode cJ20_newCapacity 56 = .ok (.goto 5, 3) := dk_167 0 5 (dk_at dksJ20_newCapacity_2 9 rfl rfl)
theorem dJ20_newCapacity_59 : decode cJ20_newCapacity 59 = .ok (.ldc 9, 2) := dk_18 9 (dk_at dksJ20_newCapacity_2 12 rfl rfl)
theorem dJ20_newCapacity_61 : decode cJ20_newCapacity 61 = .ok (.ireturn, 1) := dk_172 (dk_at dksJ20_newCapacity_2 14 rfl rfl)
abbrev cJ20_peekFirst : ByteArray := prog_54_method_24_code
def yJ20_peekFirst : MethodName := ⟨RJ20, "peekFirst", "()Ljava/lang/Object;"⟩
def dkwJ20_peekFirst_0 : List UInt8 := [42, 180, 0, 3, 42, 180, 0, 24, 184, 0, 103, 176]
abbrev dktJ20_peekFirst_0 : List UInt8 := dkwJ20_peekFirst_0 ++ []
theorem dksJ20_peekFirst_0 : cJ20_peekFirst.data.toList.drop 0 = dktJ20_peekFirst_0 := by decide +kernel
theorem dJ20_peekFirst_0 : decode cJ20_peekFirst 0 = .ok (.aload_n 0, 1) := dk_42 (dk_at dksJ20_peekFirst_0 0 rfl rfl)
theorem dJ20_peekFirst_1 : decode cJ20_peekFirst 1 = .ok (.getfield 3, 3) := dk_180 0 3 (dk_at dksJ20_peekFirst_0 1 rfl rfl)
theorem dJ20_peekFirst_4 : decode cJ20_peekFirst 4 = .ok (.aload_n 0, 1) := dk_42 (dk_at dksJ20_peekFirst_0 4 rfl rfl)
theorem dJ20_peekFirst_5 : decode cJ20_peekFirst 5 = .ok (.getfield 24, 3) := dk_180 0 24 (dk_at dksJ20_peekFirst_0 5 rfl rfl)
theorem dJ20_peekFirst_8 : decode cJ20_peekFirst 8 = .ok (.invokestatic 103, 3) := dk_184 0 103 (dk_at dksJ20_peekFirst_0 8 rfl rfl)
theorem dJ20_peekFirst_11 : decode cJ20_peekFirst 11 = .ok (.areturn, 1) := dk_176 (dk_at dksJ20_peekFirst_0 11 rfl rfl)
abbrev cJ20_pollFirst : ByteArray := prog_54_method_20_code
def yJ20_pollFirst : MethodName := ⟨RJ20, "pollFirst", "()Ljava/lang/Object;"⟩
def dkwJ20_pollFirst_1 : List UInt8 := [42, 28, 43, 190, 184, 0, 74, 181, 0, 24, 45, 176]
abbrev dktJ20_pollFirst_1 : List UInt8 := dkwJ20_pollFirst_1 ++ []
def dkwJ20_pollFirst_0 : List UInt8 := [42, 180, 0, 3, 89, 76, 42, 180, 0, 24, 89, 61, 184, 0, 103, 78, 45, 198, 0, 17, 43, 28, 1, 83]
abbrev dktJ20_pollFirst_0 : List UInt8 := dkwJ20_pollFirst_0 ++ dktJ20_pollFirst_1
theorem dksJ20_pollFirst_0 : cJ20_pollFirst.data.toList.drop 0 = dktJ20_pollFirst_0 := by decide +kernel
theorem dksJ20_pollFirst_1 : cJ20_pollFirst.data.toList.drop 24 = dktJ20_pollFirst_1 := dk_seg dksJ20_pollFirst_0 24 rfl rfl
theorem dJ20_pollFirst_0 : decode cJ20_pollFirst 0 = .ok (.aload_n 0, 1) := dk_42 (dk_at dksJ20_pollFirst_0 0 rfl rfl)
theorem dJ20_pollFirst_1 : decode cJ20_pollFirst 1 = .ok (.getfield 3, 3) := dk_180 0 3 (dk_at dksJ20_pollFirst_0 1 rfl rfl)
theorem dJ20_pollFirst_4 : decode cJ20_pollFirst 4 = .ok (.dup, 1) := dk_89 (dk_at dksJ20_pollFirst_0 4 rfl rfl)
theorem dJ20_pollFirst_5 : decode cJ20_pollFirst 5 = .ok (.astore_n 1, 1) := dk_76 (dk_at dksJ20_pollFirst_0 5 rfl rfl)
theorem dJ20_pollFirst_6 : decode cJ20_pollFirst 6 = .ok (.aload_n 0, 1) := dk_42 (dk_at dksJ20_pollFirst_0 6 rfl rfl)
theorem dJ20_pollFirst_7 : decode cJ20_pollFirst 7 = .ok (.getfield 24, 3) := dk_180 0 24 (dk_at dksJ20_pollFirst_0 7 rfl rfl)
theorem dJ20_pollFirst_10 : decode cJ20_pollFirst 10 = .ok (.dup, 1) := dk_89 (dk_at dksJ20_pollFirst_0 10 rfl rfl)
theorem dJ20_pollFirst_11 : decode cJ20_pollFirst 11 = .ok (.istore_n 2, 1) := dk_61 (dk_at dksJ20_pollFirst_0 11 rfl rfl)
theorem dJ20_pollFirst_12 : decode cJ20_pollFirst 12 = .ok (.invokestatic 103, 3) := dk_184 0 103 (dk_at dksJ20_pollFirst_0 12 rfl rfl)
theorem dJ20_pollFirst_15 : decode cJ20_pollFirst 15 = .ok (.astore_n 3, 1) := dk_78 (dk_at dksJ20_pollFirst_0 15 rfl rfl)
theorem dJ20_pollFirst_16 : decode cJ20_pollFirst 16 = .ok (.aload_n 3, 1) := dk_45 (dk_at dksJ20_pollFirst_0 16 rfl rfl)
theorem dJ20_pollFirst_17 : decode cJ20_pollFirst 17 = .ok (.ifnull 17, 3) := dk_198 0 17 (dk_at dksJ20_pollFirst_0 17 rfl rfl)
theorem dJ20_pollFirst_20 : decode cJ20_pollFirst 20 = .ok (.aload_n 1, 1) := dk_43 (dk_at dksJ20_pollFirst_0 20 rfl rfl)
theorem dJ20_pollFirst_21 : decode cJ20_pollFirst 21 = .ok (.iload_n 2, 1) := dk_28 (dk_at dksJ20_pollFirst_0 21 rfl rfl)
theorem dJ20_pollFirst_22 : decode cJ20_pollFirst 22 = .ok (.aconst_null, 1) := dk_1 (dk_at dksJ20_pollFirst_0 22 rfl rfl)
theorem dJ20_pollFirst_23 : decode cJ20_pollFirst 23 = .ok (.aastore, 1) := dk_83 (dk_at dksJ20_pollFirst_0 23 rfl rfl)
theorem dJ20_pollFirst_24 : decode cJ20_pollFirst 24 = .ok (.aload_n 0, 1) := dk_42 (dk_at dksJ20_pollFirst_1 0 rfl rfl)
theorem dJ20_pollFirst_25 : decode cJ20_pollFirst 25 = .ok (.iload_n 2, 1) := dk_28 (dk_at dksJ20_pollFirst_1 1 rfl rfl)
theorem dJ20_pollFirst_26 : decode cJ20_pollFirst 26 = .ok (.aload_n 1, 1) := dk_43 (dk_at dksJ20_pollFirst_1 2 rfl rfl)
theorem dJ20_pollFirst_27 : decode cJ20_pollFirst 27 = .ok (.arraylength, 1) := dk_190 (dk_at dksJ20_pollFirst_1 3 rfl rfl)
theorem dJ20_pollFirst_28 : decode cJ20_pollFirst 28 = .ok (.invokestatic 74, 3) := dk_184 0 74 (dk_at dksJ20_pollFirst_1 4 rfl rfl)
theorem dJ20_pollFirst_31 : decode cJ20_pollFirst 31 = .ok (.putfield 24, 3) := dk_181 0 24 (dk_at dksJ20_pollFirst_1 7 rfl rfl)
theorem dJ20_pollFirst_34 : decode cJ20_pollFirst 34 = .ok (.aload_n 3, 1) := dk_45 (dk_at dksJ20_pollFirst_1 10 rfl rfl)
theorem dJ20_pollFirst_35 : decode cJ20_pollFirst 35 = .ok (.areturn, 1) := dk_176 (dk_at dksJ20_pollFirst_1 11 rfl rfl)
theorem q143 : (Jvm.Cond.initialized "java/util/ArrayDeque") ∈ lw_all := lw_g (lw_at lw_m1 28 rfl) rfl
theorem q875 : (Jvm.Cond.selects "java/util/ArrayDeque" ({ cls := "java/lang/Object", name := "getClass", desc := "()Ljava/lang/Class;" } : Jvm.MethodName) ({ cls := "java/lang/Object", name := "getClass", desc := "()Ljava/lang/Class;" } : Jvm.MethodName)) ∈ lw_all := lw_g (lw_at lw_m4 40 rfl) rfl
theorem q925 : (Jvm.Cond.instantiable "java/util/ArrayDeque" (3 : Nat)) ∈ lw_all := lw_g (lw_at lw_m4 90 rfl) rfl
theorem q927 : (Jvm.Cond.instanceMethod ({ cls := "java/util/ArrayDeque", name := "<init>", desc := "()V" } : Jvm.MethodName)) ∈ lw_all := lw_g (lw_at lw_m4 92 rfl) rfl
theorem q928 : (Jvm.Cond.code ({ cls := "java/util/ArrayDeque", name := "<init>", desc := "()V" } : Jvm.MethodName) prog_54_method_3_code (1 : Nat) (Option.none : Option Jvm.ClassFile.FieldType)) ∈ lw_all := lw_g (lw_at lw_m4 93 rfl) rfl
theorem q929 : (Jvm.Cond.methodLink "java/util/ArrayDeque" (42 : Nat) ({ cls := "java/util/AbstractCollection", name := "<init>", desc := "()V" } : Jvm.MethodName)) ∈ lw_all := lw_g (lw_at lw_m4 94 rfl) rfl
theorem q930 : (Jvm.Cond.classLink "java/util/ArrayDeque" (47 : Nat) "java/lang/Object") ∈ lw_all := lw_g (lw_at lw_m4 95 rfl) rfl
theorem q931 : (Jvm.Cond.fieldLink "java/util/ArrayDeque" (3 : Nat) "java/util/ArrayDeque" "elements" "[Ljava/lang/Object;") ∈ lw_all := lw_g (lw_at lw_m4 96 rfl) rfl
theorem q932 : (Jvm.Cond.fieldLink "java/util/ArrayDeque" (24 : Nat) "java/util/ArrayDeque" "head" "I") ∈ lw_all := lw_g (lw_at lw_m4 97 rfl) rfl
theorem q933 : (Jvm.Cond.fieldLink "java/util/ArrayDeque" (20 : Nat) "java/util/ArrayDeque" "tail" "I") ∈ lw_all := lw_g (lw_at lw_m4 98 rfl) rfl
theorem q934 : (Jvm.Cond.lays "java/util/ArrayDeque" "java/util/ArrayDeque" "elements" "[Ljava/lang/Object;") ∈ lw_all := lw_g (lw_at lw_m4 99 rfl) rfl
theorem q935 : (Jvm.Cond.soleField "java/util/ArrayDeque" "elements") ∈ lw_all := lw_g (lw_at lw_m4 100 rfl) rfl
theorem q936 : (Jvm.Cond.lays "java/util/ArrayDeque" "java/util/ArrayDeque" "head" "I") ∈ lw_all := lw_g (lw_at lw_m4 101 rfl) rfl
theorem q937 : (Jvm.Cond.soleField "java/util/ArrayDeque" "head") ∈ lw_all := lw_g (lw_at lw_m4 102 rfl) rfl
theorem q938 : (Jvm.Cond.lays "java/util/ArrayDeque" "java/util/ArrayDeque" "tail" "I") ∈ lw_all := lw_g (lw_at lw_m4 103 rfl) rfl
theorem q939 : (Jvm.Cond.soleField "java/util/ArrayDeque" "tail") ∈ lw_all := lw_g (lw_at lw_m4 104 rfl) rfl
theorem q940 : (Jvm.Cond.superclass "java/util/ArrayDeque" "java/util/AbstractCollection") ∈ lw_all := lw_g (lw_at lw_m4 105 rfl) rfl
theorem q2193 : (Jvm.Cond.instanceMethod ({ cls := "java/util/ArrayDeque", name := "clear", desc := "()V" } : Jvm.MethodName)) ∈ lw_all := lw_g (lw_at lw_m9 158 rfl) rfl
theorem q2194 : (Jvm.Cond.selects "java/util/ArrayDeque" ({ cls := "java/util/ArrayDeque", name := "clear", desc := "()V" } : Jvm.MethodName) ({ cls := "java/util/ArrayDeque", name := "clear", desc := "()V" } : Jvm.MethodName)) ∈ lw_all := lw_g (lw_at lw_m9 159 rfl) rfl
theorem q2195 : (Jvm.Cond.code ({ cls := "java/util/ArrayDeque", name := "clear", desc := "()V" } : Jvm.MethodName) prog_54_method_53_code (1 : Nat) (Option.none : Option Jvm.ClassFile.FieldType)) ∈ lw_all := lw_g (lw_at lw_m9 160 rfl) rfl
theorem q2196 : (Jvm.Cond.methodLink "java/util/ArrayDeque" (181 : Nat) ({ cls := "java/util/ArrayDeque", name := "circularClear", desc := "([Ljava/lang/Object;II)V" } : Jvm.MethodName)) ∈ lw_all := lw_g (lw_at lw_m9 161 rfl) rfl
theorem q2197 : (Jvm.Cond.static ({ cls := "java/util/ArrayDeque", name := "circularClear", desc := "([Ljava/lang/Object;II)V" } : Jvm.MethodName)) ∈ lw_all := lw_g (lw_at lw_m9 162 rfl) rfl
theorem q2198 : (Jvm.Cond.code ({ cls := "java/util/ArrayDeque", name := "circularClear", desc := "([Ljava/lang/Object;II)V" } : Jvm.MethodName) prog_54_method_54_code (4 : Nat) (Option.none : Option Jvm.ClassFile.FieldType)) ∈ lw_all := lw_g (lw_at lw_m9 163 rfl) rfl
theorem q2200 : (Jvm.Cond.instanceMethod ({ cls := "java/util/ArrayDeque", name := "isEmpty", desc := "()Z" } : Jvm.MethodName)) ∈ lw_all := lw_g (lw_at lw_m9 165 rfl) rfl
theorem q2201 : (Jvm.Cond.selects "java/util/ArrayDeque" ({ cls := "java/util/ArrayDeque", name := "isEmpty", desc := "()Z" } : Jvm.MethodName) ({ cls := "java/util/ArrayDeque", name := "isEmpty", desc := "()Z" } : Jvm.MethodName)) ∈ lw_all := lw_g (lw_at lw_m9 166 rfl) rfl
theorem q2202 : (Jvm.Cond.code ({ cls := "java/util/ArrayDeque", name := "isEmpty", desc := "()Z" } : Jvm.MethodName) prog_54_method_38_code (1 : Nat) (Option.some Jvm.ClassFile.FieldType.boolean)) ∈ lw_all := lw_g (lw_at lw_m9 167 rfl) rfl
theorem q2204 : (Jvm.Cond.instanceMethod ({ cls := "java/util/ArrayDeque", name := "peekLast", desc := "()Ljava/lang/Object;" } : Jvm.MethodName)) ∈ lw_all := lw_g (lw_at lw_m9 169 rfl) rfl
theorem q2205 : (Jvm.Cond.selects "java/util/ArrayDeque" ({ cls := "java/util/ArrayDeque", name := "peekLast", desc := "()Ljava/lang/Object;" } : Jvm.MethodName) ({ cls := "java/util/ArrayDeque", name := "peekLast", desc := "()Ljava/lang/Object;" } : Jvm.MethodName)) ∈ lw_all := lw_g (lw_at lw_m9 170 rfl) rfl
theorem q2206 : (Jvm.Cond.code ({ cls := "java/util/ArrayDeque", name := "peekLast", desc := "()Ljava/lang/Object;" } : Jvm.MethodName) prog_54_method_25_code (2 : Nat) (Option.some (Jvm.ClassFile.FieldType.object "java/lang/Object"))) ∈ lw_all := lw_g (lw_at lw_m9 171 rfl) rfl
theorem q2207 : (Jvm.Cond.methodLink "java/util/ArrayDeque" (68 : Nat) ({ cls := "java/util/ArrayDeque", name := "dec", desc := "(II)I" } : Jvm.MethodName)) ∈ lw_all := lw_g (lw_at lw_m9 172 rfl) rfl
theorem q2208 : (Jvm.Cond.static ({ cls := "java/util/ArrayDeque", name := "dec", desc := "(II)I" } : Jvm.MethodName)) ∈ lw_all := lw_g (lw_at lw_m9 173 rfl) rfl
theorem q2209 : (Jvm.Cond.code ({ cls := "java/util/ArrayDeque", name := "dec", desc := "(II)I" } : Jvm.MethodName) prog_54_method_7_code (2 : Nat) (Option.some Jvm.ClassFile.FieldType.int)) ∈ lw_all := lw_g (lw_at lw_m9 174 rfl) rfl
theorem q2210 : (Jvm.Cond.methodLink "java/util/ArrayDeque" (103 : Nat) ({ cls := "java/util/ArrayDeque", name := "elementAt", desc := "([Ljava/lang/Object;I)Ljava/lang/Object;" } : Jvm.MethodName)) ∈ lw_all := lw_g (lw_at lw_m9 175 rfl) rfl
theorem q2211 : (Jvm.Cond.static ({ cls := "java/util/ArrayDeque", name := "elementAt", desc := "([Ljava/lang/Object;I)Ljava/lang/Object;" } : Jvm.MethodName)) ∈ lw_all := lw_g (lw_at lw_m9 176 rfl) rfl
theorem q2212 : (Jvm.Cond.code ({ cls := "java/util/ArrayDeque", name := "elementAt", desc := "([Ljava/lang/Object;I)Ljava/lang/Object;" } : Jvm.MethodName) prog_54_method_10_code (2 : Nat) (Option.some (Jvm.ClassFile.FieldType.object "java/lang/Object"))) ∈ lw_all := lw_g (lw_at lw_m9 177 rfl) rfl
theorem q2214 : (Jvm.Cond.instanceMethod ({ cls := "java/util/ArrayDeque", name := "pollLast", desc := "()Ljava/lang/Object;" } : Jvm.MethodName)) ∈ lw_all := lw_g (lw_at lw_m9 179 rfl) rfl
theorem q2215 : (Jvm.Cond.selects "java/util/ArrayDeque" ({ cls := "java/util/ArrayDeque", name := "pollLast", desc := "()Ljava/lang/Object;" } : Jvm.MethodName) ({ cls := "java/util/ArrayDeque", name := "pollLast", desc := "()Ljava/lang/Object;" } : Jvm.MethodName)) ∈ lw_all := lw_g (lw_at lw_m9 180 rfl) rfl
theorem q2216 : (Jvm.Cond.code ({ cls := "java/util/ArrayDeque", name := "pollLast", desc := "()Ljava/lang/Object;" } : Jvm.MethodName) prog_54_method_21_code (4 : Nat) (Option.some (Jvm.ClassFile.FieldType.object "java/lang/Object"))) ∈ lw_all := lw_g (lw_at lw_m9 181 rfl) rfl
theorem q2218 : (Jvm.Cond.instanceMethod ({ cls := "java/util/ArrayDeque", name := "addLast", desc := "(Ljava/lang/Object;)V" } : Jvm.MethodName)) ∈ lw_all := lw_g (lw_at lw_m9 183 rfl) rfl
theorem q2219 : (Jvm.Cond.selects "java/util/ArrayDeque" ({ cls := "java/util/ArrayDeque", name := "addLast", desc := "(Ljava/lang/Object;)V" } : Jvm.MethodName) ({ cls := "java/util/ArrayDeque", name := "addLast", desc := "(Ljava/lang/Object;)V" } : Jvm.MethodName)) ∈ lw_all := lw_g (lw_at lw_m9 184 rfl) rfl
theorem q2220 : (Jvm.Cond.code ({ cls := "java/util/ArrayDeque", name := "addLast", desc := "(Ljava/lang/Object;)V" } : Jvm.MethodName) prog_54_method_13_code (3 : Nat) (Option.none : Option Jvm.ClassFile.FieldType)) ∈ lw_all := lw_g (lw_at lw_m9 185 rfl) rfl
theorem q2221 : (Jvm.Cond.methodLink "java/util/ArrayDeque" (74 : Nat) ({ cls := "java/util/ArrayDeque", name := "inc", desc := "(II)I" } : Jvm.MethodName)) ∈ lw_all := lw_g (lw_at lw_m9 186 rfl) rfl
theorem q2222 : (Jvm.Cond.static ({ cls := "java/util/ArrayDeque", name := "inc", desc := "(II)I" } : Jvm.MethodName)) ∈ lw_all := lw_g (lw_at lw_m9 187 rfl) rfl
theorem q2223 : (Jvm.Cond.code ({ cls := "java/util/ArrayDeque", name := "inc", desc := "(II)I" } : Jvm.MethodName) prog_54_method_6_code (2 : Nat) (Option.some Jvm.ClassFile.FieldType.int)) ∈ lw_all := lw_g (lw_at lw_m9 188 rfl) rfl
theorem q2224 : (Jvm.Cond.methodLink "java/util/ArrayDeque" (71 : Nat) ({ cls := "java/util/ArrayDeque", name := "grow", desc := "(I)V" } : Jvm.MethodName)) ∈ lw_all := lw_g (lw_at lw_m9 189 rfl) rfl
theorem q2225 : (Jvm.Cond.privateMethod ({ cls := "java/util/ArrayDeque", name := "grow", desc := "(I)V" } : Jvm.MethodName)) ∈ lw_tbl := lw_at lw_m9 190 rfl
theorem q2226 : (Jvm.Cond.instanceMethod ({ cls := "java/util/ArrayDeque", name := "grow", desc := "(I)V" } : Jvm.MethodName)) ∈ lw_all := lw_g (lw_at lw_m9 191 rfl) rfl
theorem q2227 : (Jvm.Cond.code ({ cls := "java/util/ArrayDeque", name := "grow", desc := "(I)V" } : Jvm.MethodName) prog_54_method_1_code (9 : Nat) (Option.none : Option Jvm.ClassFile.FieldType)) ∈ lw_all := lw_g (lw_at lw_m9 192 rfl) rfl
theorem q2228 : (Jvm.Cond.constant "java/util/ArrayDeque" (9 : Nat) (2147483639 : Int32)) ∈ lw_all := lw_g (lw_at lw_m9 193 rfl) rfl
theorem q2229 : (Jvm.Cond.methodLink "java/util/ArrayDeque" (10 : Nat) ({ cls := "java/util/ArrayDeque", name := "newCapacity", desc := "(II)I" } : Jvm.MethodName)) ∈ lw_all := lw_g (lw_at lw_m9 194 rfl) rfl
theorem q2230 : (Jvm.Cond.privateMethod ({ cls := "java/util/ArrayDeque", name := "newCapacity", desc := "(II)I" } : Jvm.MethodName)) ∈ lw_tbl := lw_at lw_m9 195 rfl
theorem q2231 : (Jvm.Cond.instanceMethod ({ cls := "java/util/ArrayDeque", name := "newCapacity", desc := "(II)I" } : Jvm.MethodName)) ∈ lw_all := lw_g (lw_at lw_m9 196 rfl) rfl
theorem q2232 : (Jvm.Cond.code ({ cls := "java/util/ArrayDeque", name := "newCapacity", desc := "(II)I" } : Jvm.MethodName) prog_54_method_2_code (5 : Nat) (Option.some Jvm.ClassFile.FieldType.int)) ∈ lw_all := lw_g (lw_at lw_m9 197 rfl) rfl
theorem q2233 : (Jvm.Cond.constant "java/util/ArrayDeque" (41 : Nat) (2147483647 : Int32)) ∈ lw_all := lw_g (lw_at lw_m9 198 rfl) rfl
theorem q2234 : (Jvm.Cond.methodLink "java/util/ArrayDeque" (14 : Nat) ({ cls := "java/util/Arrays", name := "copyOf", desc := "([Ljava/lang/Object;I)[Ljava/lang/Object;" } : Jvm.MethodName)) ∈ lw_all := lw_g (lw_at lw_m9 199 rfl) rfl
theorem q2235 : (Jvm.Cond.methodLink "java/util/ArrayDeque" (27 : Nat) ({ cls := "java/lang/System", name := "arraycopy", desc := "(Ljava/lang/Object;ILjava/lang/Object;II)V" } : Jvm.MethodName)) ∈ lw_all := lw_g (lw_at lw_m9 200 rfl) rfl
theorem q2237 : (Jvm.Cond.instanceMethod ({ cls := "java/util/ArrayDeque", name := "peekFirst", desc := "()Ljava/lang/Object;" } : Jvm.MethodName)) ∈ lw_all := lw_g (lw_at lw_m9 202 rfl) rfl
theorem q2238 : (Jvm.Cond.selects "java/util/ArrayDeque" ({ cls := "java/util/ArrayDeque", name := "peekFirst", desc := "()Ljava/lang/Object;" } : Jvm.MethodName) ({ cls := "java/util/ArrayDeque", name := "peekFirst", desc := "()Ljava/lang/Object;" } : Jvm.MethodName)) ∈ lw_all := lw_g (lw_at lw_m9 203 rfl) rfl
theorem q2239 : (Jvm.Cond.code ({ cls := "java/util/ArrayDeque", name := "peekFirst", desc := "()Ljava/lang/Object;" } : Jvm.MethodName) prog_54_method_24_code (1 : Nat) (Option.some (Jvm.ClassFile.FieldType.object "java/lang/Object"))) ∈ lw_all := lw_g (lw_at lw_m9 204 rfl) rfl
theorem q2241 : (Jvm.Cond.instanceMethod ({ cls := "java/util/ArrayDeque", name := "pollFirst", desc := "()Ljava/lang/Object;" } : Jvm.MethodName)) ∈ lw_all := lw_g (lw_at lw_m9 206 rfl) rfl
theorem q2242 : (Jvm.Cond.selects "java/util/ArrayDeque" ({ cls := "java/util/ArrayDeque", name := "pollFirst", desc := "()Ljava/lang/Object;" } : Jvm.MethodName) ({ cls := "java/util/ArrayDeque", name := "pollFirst", desc := "()Ljava/lang/Object;" } : Jvm.MethodName)) ∈ lw_all := lw_g (lw_at lw_m9 207 rfl) rfl
theorem q2243 : (Jvm.Cond.code ({ cls := "java/util/ArrayDeque", name := "pollFirst", desc := "()Ljava/lang/Object;" } : Jvm.MethodName) prog_54_method_20_code (4 : Nat) (Option.some (Jvm.ClassFile.FieldType.object "java/lang/Object"))) ∈ lw_all := lw_g (lw_at lw_m9 208 rfl) rfl
theorem q2975 : (Jvm.Cond.castable "java/util/ArrayDeque" "java/lang/Object") ∈ lw_tbl := lw_at lw_m12 220 rfl

theorem q1978 : (Jvm.Cond.interfaceMethod "java/util/Iterator" "java/util/Iterator" "hasNext" "()Z") ∈ lw_tbl := lw_at lw_m8 183 rfl
set_option maxRecDepth 100000
theorem q1979 : (Jvm.Cond.declares ({ cls := "java/util/Iterator", name := "hasNext", desc := "()Z" } : Jvm.MethodName)) ∈ lw_tbl := lw_at lw_m8 184 rfl
theorem q2007 : (Jvm.Cond.interfaceMethod "java/util/Iterator" "java/util/Iterator" "next" "()Ljava/lang/Object;") ∈ lw_tbl := lw_at lw_m8 212 rfl
theorem q2008 : (Jvm.Cond.declares ({ cls := "java/util/Iterator", name := "next", desc := "()Ljava/lang/Object;" } : Jvm.MethodName)) ∈ lw_tbl := lw_at lw_m8 213 rfl
theorem q2109 : (Jvm.Cond.interfaceMethod "java/util/Iterator" "java/util/Iterator" "remove" "()V") ∈ lw_tbl := lw_at lw_m9 74 rfl
theorem q2110 : (Jvm.Cond.declares ({ cls := "java/util/Iterator", name := "remove", desc := "()V" } : Jvm.MethodName)) ∈ lw_tbl := lw_at lw_m9 75 rfl
theorem q151 : (Jvm.Cond.initialized "java/lang/Integer$IntegerCache") ∈ lw_all := lw_g (lw_at lw_m1 36 rfl) rfl
set_option maxRecDepth 100000
theorem q1617 : (Jvm.Cond.laysStatic "java/lang/Integer$IntegerCache" "high" "I") ∈ lw_tbl := lw_at lw_m7 62 rfl
theorem q1619 : (Jvm.Cond.laysStatic "java/lang/Integer$IntegerCache" "cache" "[Ljava/lang/Integer;") ∈ lw_tbl := lw_at lw_m7 64 rfl
theorem q2998 : (Jvm.Cond.sameMethod "[Ljava/lang/Object;" "java/lang/Object" "getClass" "()Ljava/lang/Class;") ∈ lw_all := lw_g (lw_at lw_m13 3 rfl) rfl
set_option maxRecDepth 100000
theorem q2999 : (Jvm.Cond.selects "[Ljava/lang/Object;" ({ cls := "java/lang/Object", name := "getClass", desc := "()Ljava/lang/Class;" } : Jvm.MethodName) ({ cls := "java/lang/Object", name := "getClass", desc := "()Ljava/lang/Class;" } : Jvm.MethodName)) ∈ lw_all := lw_g (lw_at lw_m13 4 rfl) rfl
theorem q3001 : (Jvm.Cond.castable "[Ljava/lang/Object;" "java/lang/Object") ∈ lw_tbl := lw_at lw_m13 6 rfl
