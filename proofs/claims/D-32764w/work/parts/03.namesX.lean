/-! Massclaim$Deal -/
set_option maxRecDepth 100000
def RX10 : String := "Massclaim$Deal"
def TX10 : u_T := fun k => match k with
  | 0 => ("Massclaim$Deal", "amount", "I", false)
  | 1 => ("Massclaim$Deal", "cap", "I", true)
  | 2 => ("Massclaim$Deal", "reversion", "I", true)
  | 3 => ("Massclaim$Deal", "stage", "I", false)
  | 4 => ("Massclaim$Deal", "since", "I", false)
  | _ => ("Massclaim$Deal", "isTainted", "Z", false)
def tyX10 : Nat → FieldType := fun k => match k with
  | 0 => .int
  | 1 => .int
  | 2 => .int
  | 3 => .int
  | 4 => .int
  | _ => .boolean
abbrev wsX100 : List Cond := u_ws RX10 TX10 6
theorem nmX10 : ∀ a, a < 6 → ∀ b, b < 6 → a ≠ b → (TX10 a).2.1 ≠ (TX10 b).2.1 := by decide +kernel
theorem tyX10_ok : ∀ k, k < 6 → parseFieldDescriptor (TX10 k).2.2.1 = some (tyX10 k) := by decide +kernel
abbrev cX10_init : ByteArray := prog_3_method_1_code
def yX10_init : MethodName := ⟨RX10, "<init>", "(III)V"⟩
def dkwX10_init_1 : List UInt8 := [177]
abbrev dktX10_init_1 : List UInt8 := dkwX10_init_1 ++ []
def dkwX10_init_0 : List UInt8 := [42, 183, 0, 3, 42, 4, 181, 0, 9, 42, 27, 181, 0, 15, 42, 28, 181, 0, 18, 42, 29, 181, 0, 21]
abbrev dktX10_init_0 : List UInt8 := dkwX10_init_0 ++ dktX10_init_1
theorem dksX10_init_0 : cX10_init.data.toList.drop 0 = dktX10_init_0 := by decide +kernel
theorem dksX10_init_1 : cX10_init.data.toList.drop 24 = dktX10_init_1 := dk_seg dksX10_init_0 24 rfl rfl
theorem dX10_init_0 : decode cX10_init 0 = .ok (.aload_n 0, 1) := dk_42 (dk_at dksX10_init_0 0 rfl rfl)
theorem dX10_init_1 : decode cX10_init 1 = .ok (.invokespecial 3, 3) := dk_183 0 3 (dk_at dksX10_init_0 1 rfl rfl)
theorem dX10_init_4 : decode cX10_init 4 = .ok (.aload_n 0, 1) := dk_42 (dk_at dksX10_init_0 4 rfl rfl)
theorem dX10_init_5 : decode cX10_init 5 = .ok (.iconst 1, 1) := dk_4 (dk_at dksX10_init_0 5 rfl rfl)
theorem dX10_init_6 : decode cX10_init 6 = .ok (.putfield 9, 3) := dk_181 0 9 (dk_at dksX10_init_0 6 rfl rfl)
theorem dX10_init_9 : decode cX10_init 9 = .ok (.aload_n 0, 1) := dk_42 (dk_at dksX10_init_0 9 rfl rfl)
theorem dX10_init_10 : decode cX10_init 10 = .ok (.iload_n 1, 1) := dk_27 (dk_at dksX10_init_0 10 rfl rfl)
theorem dX10_init_11 : decode cX10_init 11 = .ok (.putfield 15, 3) := dk_181 0 15 (dk_at dksX10_init_0 11 rfl rfl)
theorem dX10_init_14 : decode cX10_init 14 = .ok (.aload_n 0, 1) := dk_42 (dk_at dksX10_init_0 14 rfl rfl)
theorem dX10_init_15 : decode cX10_init 15 = .ok (.iload_n 2, 1) := dk_28 (dk_at dksX10_init_0 15 rfl rfl)
theorem dX10_init_16 : decode cX10_init 16 = .ok (.putfield 18, 3) := dk_181 0 18 (dk_at dksX10_init_0 16 rfl rfl)
theorem dX10_init_19 : decode cX10_init 19 = .ok (.aload_n 0, 1) := dk_42 (dk_at dksX10_init_0 19 rfl rfl)
theorem dX10_init_20 : decode cX10_init 20 = .ok (.iload_n 3, 1) := dk_29 (dk_at dksX10_init_0 20 rfl rfl)
theorem dX10_init_21 : decode cX10_init 21 = .ok (.putfield 21, 3) := dk_181 0 21 (dk_at dksX10_init_0 21 rfl rfl)
theorem dX10_init_24 : decode cX10_init 24 = .ok (.return_, 1) := dk_177 (dk_at dksX10_init_1 0 rfl rfl)
theorem q98 : (Jvm.Cond.initialized "Massclaim$Deal") ∈ lw_all := lw_g (lw_at lw_m1 34 rfl) rfl
theorem q754 : (Jvm.Cond.selects "Massclaim$Deal" ({ cls := "java/lang/Object", name := "getClass", desc := "()Ljava/lang/Class;" } : Jvm.MethodName) ({ cls := "java/lang/Object", name := "getClass", desc := "()Ljava/lang/Class;" } : Jvm.MethodName)) ∈ lw_all := lw_g (lw_at lw_m3 210 rfl) rfl
theorem q1393 : (Jvm.Cond.instantiable "Massclaim$Deal" (6 : Nat)) ∈ lw_all := lw_g (lw_at lw_m6 129 rfl) rfl
theorem q1395 : (Jvm.Cond.instanceMethod ({ cls := "Massclaim$Deal", name := "<init>", desc := "(III)V" } : Jvm.MethodName)) ∈ lw_all := lw_g (lw_at lw_m6 131 rfl) rfl
theorem q1396 : (Jvm.Cond.code ({ cls := "Massclaim$Deal", name := "<init>", desc := "(III)V" } : Jvm.MethodName) prog_3_method_1_code (4 : Nat) (Option.none : Option Jvm.ClassFile.FieldType)) ∈ lw_all := lw_g (lw_at lw_m6 132 rfl) rfl
theorem q1397 : (Jvm.Cond.methodLink "Massclaim$Deal" (3 : Nat) ({ cls := "java/lang/Object", name := "<init>", desc := "()V" } : Jvm.MethodName)) ∈ lw_all := lw_g (lw_at lw_m6 133 rfl) rfl
theorem q1398 : (Jvm.Cond.fieldLink "Massclaim$Deal" (15 : Nat) "Massclaim$Deal" "amount" "I") ∈ lw_all := lw_g (lw_at lw_m6 134 rfl) rfl
theorem q1400 : (Jvm.Cond.fieldLink "Massclaim$Deal" (18 : Nat) "Massclaim$Deal" "cap" "I") ∈ lw_all := lw_g (lw_at lw_m6 136 rfl) rfl
theorem q1402 : (Jvm.Cond.fieldLink "Massclaim$Deal" (21 : Nat) "Massclaim$Deal" "reversion" "I") ∈ lw_all := lw_g (lw_at lw_m6 138 rfl) rfl
theorem q1404 : (Jvm.Cond.fieldLink "Massclaim$Deal" (9 : Nat) "Massclaim$Deal" "stage" "I") ∈ lw_all := lw_g (lw_at lw_m6 140 rfl) rfl
theorem q1408 : (Jvm.Cond.lays "Massclaim$Deal" "Massclaim$Deal" "amount" "I") ∈ lw_all := lw_g (lw_at lw_m6 144 rfl) rfl
theorem q1409 : (Jvm.Cond.soleField "Massclaim$Deal" "amount") ∈ lw_all := lw_g (lw_at lw_m6 145 rfl) rfl
theorem q1410 : (Jvm.Cond.laysFinal "Massclaim$Deal" "Massclaim$Deal" "cap" "I") ∈ lw_all := lw_g (lw_at lw_m6 146 rfl) rfl
theorem q1411 : (Jvm.Cond.soleField "Massclaim$Deal" "cap") ∈ lw_all := lw_g (lw_at lw_m6 147 rfl) rfl
theorem q1412 : (Jvm.Cond.laysFinal "Massclaim$Deal" "Massclaim$Deal" "reversion" "I") ∈ lw_all := lw_g (lw_at lw_m6 148 rfl) rfl
theorem q1413 : (Jvm.Cond.soleField "Massclaim$Deal" "reversion") ∈ lw_all := lw_g (lw_at lw_m6 149 rfl) rfl
theorem q1414 : (Jvm.Cond.lays "Massclaim$Deal" "Massclaim$Deal" "stage" "I") ∈ lw_all := lw_g (lw_at lw_m6 150 rfl) rfl
theorem q1415 : (Jvm.Cond.soleField "Massclaim$Deal" "stage") ∈ lw_all := lw_g (lw_at lw_m6 151 rfl) rfl
theorem q1416 : (Jvm.Cond.lays "Massclaim$Deal" "Massclaim$Deal" "since" "I") ∈ lw_all := lw_g (lw_at lw_m6 152 rfl) rfl
theorem q1417 : (Jvm.Cond.soleField "Massclaim$Deal" "since") ∈ lw_all := lw_g (lw_at lw_m6 153 rfl) rfl
theorem q1418 : (Jvm.Cond.lays "Massclaim$Deal" "Massclaim$Deal" "isTainted" "Z") ∈ lw_all := lw_g (lw_at lw_m6 154 rfl) rfl
theorem q1419 : (Jvm.Cond.soleField "Massclaim$Deal" "isTainted") ∈ lw_all := lw_g (lw_at lw_m6 155 rfl) rfl
theorem q1420 : (Jvm.Cond.superclass "Massclaim$Deal" "java/lang/Object") ∈ lw_all := lw_g (lw_at lw_m6 156 rfl) rfl
theorem q2124 : (Jvm.Cond.selects "Massclaim$Deal" ({ cls := "java/lang/Object", name := "equals", desc := "(Ljava/lang/Object;)Z" } : Jvm.MethodName) ({ cls := "java/lang/Object", name := "equals", desc := "(Ljava/lang/Object;)Z" } : Jvm.MethodName)) ∈ lw_all := lw_g (lw_at lw_m9 140 rfl) rfl
theorem q2579 : (Jvm.Cond.castable "Massclaim$Deal" "java/lang/Object") ∈ lw_tbl := lw_at lw_m11 115 rfl
theorem in_X10 : ∀ w ∈ wsX100, w ∈ lw_all := lw_in wsX100 [1408, 1410, 1412, 1414, 1416, 1418] (by decide +kernel) (by decide +kernel)

/-! Massclaim$Obstacle -/
set_option maxRecDepth 100000
def RX11 : String := "Massclaim$Obstacle"
def TX11 : u_T := fun k => match k with
  | 0 => ("java/lang/Throwable", "cause", "Ljava/lang/Throwable;", false)
  | 1 => ("java/lang/Throwable", "stackTrace", "[Ljava/lang/StackTraceElement;", false)
  | 2 => ("java/lang/Throwable", "suppressedExceptions", "Ljava/util/List;", false)
  | 3 => ("java/lang/Throwable", "detailMessage", "Ljava/lang/String;", false)
  | 4 => ("java/lang/Throwable", "backtrace", "Ljava/lang/Object;", false)
  | 5 => ("java/lang/Throwable", "depth", "I", false)
  | _ => ("Massclaim$Obstacle", "cause", "I", true)
def tyX11 : Nat → FieldType := fun k => match k with
  | 0 => .object "java/lang/Throwable"
  | 1 => .array (.object "java/lang/StackTraceElement")
  | 2 => .object "java/util/List"
  | 3 => .object "java/lang/String"
  | 4 => .object "java/lang/Object"
  | 5 => .int
  | _ => .int
abbrev wsX110 : List Cond := u_ws RX11 TX11 7
-- two fields of one name: no nmX11
theorem tyX11_ok : ∀ k, k < 7 → parseFieldDescriptor (TX11 k).2.2.1 = some (tyX11 k) := by decide +kernel
abbrev cX11_init : ByteArray := prog_7_method_1_code
def yX11_init : MethodName := ⟨RX11, "<init>", "(I)V"⟩
def dkwX11_init_1 : List UInt8 := [27, 181, 0, 25, 177]
abbrev dktX11_init_1 : List UInt8 := dkwX11_init_1 ++ []
def dkwX11_init_0 : List UInt8 := [42, 187, 0, 1, 89, 183, 0, 3, 18, 7, 182, 0, 9, 27, 182, 0, 13, 182, 0, 16, 183, 0, 20, 42]
abbrev dktX11_init_0 : List UInt8 := dkwX11_init_0 ++ dktX11_init_1
theorem dksX11_init_0 : cX11_init.data.toList.drop 0 = dktX11_init_0 := by decide +kernel
theorem dksX11_init_1 : cX11_init.data.toList.drop 24 = dktX11_init_1 := dk_seg dksX11_init_0 24 rfl rfl
theorem dX11_init_0 : decode cX11_init 0 = .ok (.aload_n 0, 1) := dk_42 (dk_at dksX11_init_0 0 rfl rfl)
theorem dX11_init_1 : decode cX11_init 1 = .ok (.new 1, 3) := dk_187 0 1 (dk_at dksX11_init_0 1 rfl rfl)
theorem dX11_init_4 : decode cX11_init 4 = .ok (.dup, 1) := dk_89 (dk_at dksX11_init_0 4 rfl rfl)
theorem dX11_init_5 : decode cX11_init 5 = .ok (.invokespecial 3, 3) := dk_183 0 3 (dk_at dksX11_init_0 5 rfl rfl)
theorem dX11_init_8 : decode cX11_init 8 = .ok (.ldc 7, 2) := dk_18 7 (dk_at dksX11_init_0 8 rfl rfl)
theorem dX11_init_10 : decode cX11_init 10 = .ok (.invokevirtual 9, 3) := dk_182 0 9 (dk_at dksX11_init_0 10 rfl rfl)
theorem dX11_init_13 : decode cX11_init 13 = .ok (.iload_n 1, 1) := dk_27 (dk_at dksX11_init_0 13 rfl rfl)
theorem dX11_init_14 : decode cX11_init 14 = .ok (.invokevirtual 13, 3) := dk_182 0 13 (dk_at dksX11_init_0 14 rfl rfl)
theorem dX11_init_17 : decode cX11_init 17 = .ok (.invokevirtual 16, 3) := dk_182 0 16 (dk_at dksX11_init_0 17 rfl rfl)
theorem dX11_init_20 : decode cX11_init 20 = .ok (.invokespecial 20, 3) := dk_183 0 20 (dk_at dksX11_init_0 20 rfl rfl)
theorem dX11_init_23 : decode cX11_init 23 = .ok (.aload_n 0, 1) := dk_42 (dk_at dksX11_init_0 23 rfl rfl)
theorem dX11_init_24 : decode cX11_init 24 = .ok (.iload_n 1, 1) := dk_27 (dk_at dksX11_init_1 0 rfl rfl)
theorem dX11_init_25 : decode cX11_init 25 = .ok (.putfield 25, 3) := dk_181 0 25 (dk_at dksX11_init_1 1 rfl rfl)
theorem dX11_init_28 : decode cX11_init 28 = .ok (.return_, 1) := dk_177 (dk_at dksX11_init_1 4 rfl rfl)
theorem q99 : (Jvm.Cond.initialized "Massclaim$Obstacle") ∈ lw_all := lw_g (lw_at lw_m1 35 rfl) rfl
theorem q494 : (Jvm.Cond.selects "Massclaim$Obstacle" ({ cls := "java/lang/Throwable", name := "fillInStackTrace", desc := "()Ljava/lang/Throwable;" } : Jvm.MethodName) ({ cls := "java/lang/Throwable", name := "fillInStackTrace", desc := "()Ljava/lang/Throwable;" } : Jvm.MethodName)) ∈ lw_all := lw_g (lw_at lw_m2 190 rfl) rfl
theorem q757 : (Jvm.Cond.selects "Massclaim$Obstacle" ({ cls := "java/lang/Object", name := "getClass", desc := "()Ljava/lang/Class;" } : Jvm.MethodName) ({ cls := "java/lang/Object", name := "getClass", desc := "()Ljava/lang/Class;" } : Jvm.MethodName)) ∈ lw_all := lw_g (lw_at lw_m3 213 rfl) rfl
theorem q1440 : (Jvm.Cond.instantiable "Massclaim$Obstacle" (7 : Nat)) ∈ lw_all := lw_g (lw_at lw_m6 176 rfl) rfl
theorem q1441 : (Jvm.Cond.castable "Massclaim$Obstacle" "Massclaim$Obstacle") ∈ lw_tbl := lw_at lw_m6 177 rfl
theorem q1442 : (Jvm.Cond.selects "Massclaim$Obstacle" ({ cls := "java/lang/Throwable", name := "fillInStackTrace", desc := "(I)Ljava/lang/Throwable;" } : Jvm.MethodName) ({ cls := "java/lang/Throwable", name := "fillInStackTrace", desc := "(I)Ljava/lang/Throwable;" } : Jvm.MethodName)) ∈ lw_all := lw_g (lw_at lw_m6 178 rfl) rfl
theorem q1443 : (Jvm.Cond.lays "Massclaim$Obstacle" "java/lang/Throwable" "cause" "Ljava/lang/Throwable;") ∈ lw_all := lw_g (lw_at lw_m6 179 rfl) rfl
theorem q1444 : (Jvm.Cond.lays "Massclaim$Obstacle" "java/lang/Throwable" "stackTrace" "[Ljava/lang/StackTraceElement;") ∈ lw_all := lw_g (lw_at lw_m6 180 rfl) rfl
theorem q1445 : (Jvm.Cond.lays "Massclaim$Obstacle" "java/lang/Throwable" "suppressedExceptions" "Ljava/util/List;") ∈ lw_all := lw_g (lw_at lw_m6 181 rfl) rfl
theorem q1446 : (Jvm.Cond.lays "Massclaim$Obstacle" "java/lang/Throwable" "detailMessage" "Ljava/lang/String;") ∈ lw_all := lw_g (lw_at lw_m6 182 rfl) rfl
theorem q1447 : (Jvm.Cond.lays "Massclaim$Obstacle" "java/lang/Throwable" "backtrace" "Ljava/lang/Object;") ∈ lw_all := lw_g (lw_at lw_m6 183 rfl) rfl
theorem q1449 : (Jvm.Cond.instanceMethod ({ cls := "Massclaim$Obstacle", name := "<init>", desc := "(I)V" } : Jvm.MethodName)) ∈ lw_all := lw_g (lw_at lw_m6 185 rfl) rfl
theorem q1450 : (Jvm.Cond.code ({ cls := "Massclaim$Obstacle", name := "<init>", desc := "(I)V" } : Jvm.MethodName) prog_7_method_1_code (2 : Nat) (Option.none : Option Jvm.ClassFile.FieldType)) ∈ lw_all := lw_g (lw_at lw_m6 186 rfl) rfl
theorem q1451 : (Jvm.Cond.classLink "Massclaim$Obstacle" (1 : Nat) "java/lang/StringBuilder") ∈ lw_all := lw_g (lw_at lw_m6 187 rfl) rfl
theorem q1452 : (Jvm.Cond.methodLink "Massclaim$Obstacle" (3 : Nat) ({ cls := "java/lang/StringBuilder", name := "<init>", desc := "()V" } : Jvm.MethodName)) ∈ lw_all := lw_g (lw_at lw_m6 188 rfl) rfl
theorem q1453 : (Jvm.Cond.stringRef "Massclaim$Obstacle" (7 : Nat) "cause ") ∈ lw_tbl := lw_at lw_m6 189 rfl
theorem q1454 : (Jvm.Cond.methodLink "Massclaim$Obstacle" (9 : Nat) ({ cls := "java/lang/StringBuilder", name := "append", desc := "(Ljava/lang/String;)Ljava/lang/StringBuilder;" } : Jvm.MethodName)) ∈ lw_all := lw_g (lw_at lw_m6 190 rfl) rfl
theorem q1455 : (Jvm.Cond.methodLink "Massclaim$Obstacle" (13 : Nat) ({ cls := "java/lang/StringBuilder", name := "append", desc := "(I)Ljava/lang/StringBuilder;" } : Jvm.MethodName)) ∈ lw_all := lw_g (lw_at lw_m6 191 rfl) rfl
theorem q1456 : (Jvm.Cond.methodLink "Massclaim$Obstacle" (16 : Nat) ({ cls := "java/lang/StringBuilder", name := "toString", desc := "()Ljava/lang/String;" } : Jvm.MethodName)) ∈ lw_all := lw_g (lw_at lw_m6 192 rfl) rfl
theorem q1457 : (Jvm.Cond.methodLink "Massclaim$Obstacle" (20 : Nat) ({ cls := "java/lang/Exception", name := "<init>", desc := "(Ljava/lang/String;)V" } : Jvm.MethodName)) ∈ lw_all := lw_g (lw_at lw_m6 193 rfl) rfl
theorem q1458 : (Jvm.Cond.fieldLink "Massclaim$Obstacle" (25 : Nat) "Massclaim$Obstacle" "cause" "I") ∈ lw_all := lw_g (lw_at lw_m6 194 rfl) rfl
theorem q1460 : (Jvm.Cond.laysFinal "Massclaim$Obstacle" "Massclaim$Obstacle" "cause" "I") ∈ lw_all := lw_g (lw_at lw_m6 196 rfl) rfl
theorem q1461 : (Jvm.Cond.soleField "Massclaim$Obstacle" "cause") ∈ lw_all := lw_g (lw_at lw_m6 197 rfl) rfl
theorem q1462 : (Jvm.Cond.lays "Massclaim$Obstacle" "java/lang/Throwable" "depth" "I") ∈ lw_all := lw_g (lw_at lw_m6 198 rfl) rfl
theorem q1463 : (Jvm.Cond.superclass "Massclaim$Obstacle" "java/lang/Exception") ∈ lw_all := lw_g (lw_at lw_m6 199 rfl) rfl
theorem q2127 : (Jvm.Cond.selects "Massclaim$Obstacle" ({ cls := "java/lang/Object", name := "equals", desc := "(Ljava/lang/Object;)Z" } : Jvm.MethodName) ({ cls := "java/lang/Object", name := "equals", desc := "(Ljava/lang/Object;)Z" } : Jvm.MethodName)) ∈ lw_all := lw_g (lw_at lw_m9 143 rfl) rfl
theorem q2580 : (Jvm.Cond.castable "Massclaim$Obstacle" "java/lang/Object") ∈ lw_tbl := lw_at lw_m11 116 rfl
theorem in_X11 : ∀ w ∈ wsX110, w ∈ lw_all := lw_in wsX110 [1443, 1444, 1445, 1446, 1447, 1462, 1460] (by decide +kernel) (by decide +kernel)

/-! Massclaim$Claim -/
set_option maxRecDepth 100000
def RX12 : String := "Massclaim$Claim"
def TX12 : u_T := fun k => match k with
  | 0 => ("Massclaim$Claim", "number", "I", true)
  | 1 => ("Massclaim$Claim", "of", "LMassclaim$Person;", true)
  | 2 => ("Massclaim$Claim", "grade", "I", false)
  | 3 => ("Massclaim$Claim", "fee", "I", true)
  | 4 => ("Massclaim$Claim", "state", "I", false)
  | 5 => ("Massclaim$Claim", "parts", "I", false)
  | 6 => ("Massclaim$Claim", "got", "J", false)
  | 7 => ("Massclaim$Claim", "most", "J", false)
  | 8 => ("Massclaim$Claim", "found", "I", false)
  | 9 => ("Massclaim$Claim", "isAudited", "Z", false)
  | 10 => ("Massclaim$Claim", "hasAppealed", "Z", false)
  | 11 => ("Massclaim$Claim", "lawyers", "Ljava/util/List;", true)
  | _ => ("Massclaim$Claim", "this$0", "LMassclaim;", true)
def tyX12 : Nat → FieldType := fun k => match k with
  | 0 => .int
  | 1 => .object "Massclaim$Person"
  | 2 => .int
  | 3 => .int
  | 4 => .int
  | 5 => .int
  | 6 => .long
  | 7 => .long
  | 8 => .int
  | 9 => .boolean
  | 10 => .boolean
  | 11 => .object "java/util/List"
  | _ => .object "Massclaim"
abbrev wsX120 : List Cond := u_ws RX12 TX12 13
set_option maxRecDepth 100000 in
theorem nmX12 : ∀ a, a < 13 → ∀ b, b < 13 → a ≠ b → (TX12 a).2.1 ≠ (TX12 b).2.1 := by decide +kernel
set_option maxRecDepth 100000 in
theorem tyX12_ok : ∀ k, k < 13 → parseFieldDescriptor (TX12 k).2.2.1 = some (tyX12 k) := by decide +kernel
abbrev cX12_value : ByteArray := prog_2_method_4_code
def yX12_value : MethodName := ⟨RX12, "value", "()I"⟩
def dkwX12_value_7 : List UInt8 := [20, 0, 89, 184, 0, 91, 55, 4, 42, 180, 0, 3, 180, 0, 95, 133, 22, 4, 184, 0, 98, 136, 172]
abbrev dktX12_value_7 : List UInt8 := dkwX12_value_7 ++ []
def dkwX12_value_6 : List UInt8 := [180, 0, 32, 180, 0, 79, 182, 0, 82, 184, 0, 86, 46, 133, 29, 133, 20, 0, 89, 184, 0, 91, 28, 133]
abbrev dktX12_value_6 : List UInt8 := dkwX12_value_6 ++ dktX12_value_7
def dkwX12_value_5 : List UInt8 := [42, 180, 0, 3, 180, 0, 72, 42, 180, 0, 32, 180, 0, 76, 4, 100, 50, 42, 180, 0, 32, 42]
abbrev dktX12_value_5 : List UInt8 := dkwX12_value_5 ++ dktX12_value_6
def dkwX12_value_4 : List UInt8 := [167, 0, 23, 42, 180, 0, 32, 180, 0, 67, 17, 0, 240, 162, 0, 8, 16, 100, 167, 0, 5, 16, 120, 62]
abbrev dktX12_value_4 : List UInt8 := dkwX12_value_4 ++ dktX12_value_5
def dkwX12_value_3 : List UInt8 := [16, 12, 162, 0, 8, 16, 50, 167, 0, 40, 42, 180, 0, 32, 180, 0, 67, 16, 60, 162, 0, 8, 16, 75]
abbrev dktX12_value_3 : List UInt8 := dkwX12_value_3 ++ dktX12_value_4
def dkwX12_value_2 : List UInt8 := [16, 75, 167, 0, 14, 27, 5, 160, 0, 8, 16, 50, 167, 0, 4, 3, 61, 42, 180, 0, 32, 180, 0, 67]
abbrev dktX12_value_2 : List UInt8 := dkwX12_value_2 ++ dktX12_value_3
def dkwX12_value_1 : List UInt8 := [4, 100, 167, 0, 7, 42, 180, 0, 36, 60, 27, 154, 0, 8, 16, 100, 167, 0, 24, 27, 4, 160, 0, 8]
abbrev dktX12_value_1 : List UInt8 := dkwX12_value_1 ++ dktX12_value_2
def dkwX12_value_0 : List UInt8 := [42, 180, 0, 32, 180, 0, 67, 16, 120, 161, 0, 20, 42, 180, 0, 36, 4, 164, 0, 12, 42, 180, 0, 36]
abbrev dktX12_value_0 : List UInt8 := dkwX12_value_0 ++ dktX12_value_1
theorem dksX12_value_0 : cX12_value.data.toList.drop 0 = dktX12_value_0 := by decide +kernel
theorem dksX12_value_1 : cX12_value.data.toList.drop 24 = dktX12_value_1 := dk_seg dksX12_value_0 24 rfl rfl
theorem dksX12_value_2 : cX12_value.data.toList.drop 48 = dktX12_value_2 := dk_seg dksX12_value_1 24 rfl rfl
theorem dksX12_value_3 : cX12_value.data.toList.drop 72 = dktX12_value_3 := dk_seg dksX12_value_2 24 rfl rfl
theorem dksX12_value_4 : cX12_value.data.toList.drop 96 = dktX12_value_4 := dk_seg dksX12_value_3 24 rfl rfl
theorem dksX12_value_5 : cX12_value.data.toList.drop 120 = dktX12_value_5 := dk_seg dksX12_value_4 24 rfl rfl
theorem dksX12_value_6 : cX12_value.data.toList.drop 142 = dktX12_value_6 := dk_seg dksX12_value_5 22 rfl rfl
theorem dksX12_value_7 : cX12_value.data.toList.drop 166 = dktX12_value_7 := dk_seg dksX12_value_6 24 rfl rfl
theorem dX12_value_0 : decode cX12_value 0 = .ok (.aload_n 0, 1) := dk_42 (dk_at dksX12_value_0 0 rfl rfl)
theorem dX12_value_1 : decode cX12_value 1 = .ok (.getfield 32, 3) := dk_180 0 32 (dk_at dksX12_value_0 1 rfl rfl)
theorem dX12_value_4 : decode cX12_value 4 = .ok (.getfield 67, 3) := dk_180 0 67 (dk_at dksX12_value_0 4 rfl rfl)
theorem dX12_value_7 : decode cX12_value 7 = .ok (.bipush 120, 2) := dk_16 120 (dk_at dksX12_value_0 7 rfl rfl)
theorem dX12_value_9 : decode cX12_value 9 = .ok (.if_icmp .lt 20, 3) := dk_161 0 20 (dk_at dksX12_value_0 9 rfl rfl)
theorem dX12_value_12 : decode cX12_value 12 = .ok (.aload_n 0, 1) := dk_42 (dk_at dksX12_value_0 12 rfl rfl)
theorem dX12_value_13 : decode cX12_value 13 = .ok (.getfield 36, 3) := dk_180 0 36 (dk_at dksX12_value_0 13 rfl rfl)
theorem dX12_value_16 : decode cX12_value 16 = .ok (.iconst 1, 1) := dk_4 (dk_at dksX12_value_0 16 rfl rfl)
theorem dX12_value_17 : decode cX12_value 17 = .ok (.if_icmp .le 12, 3) := dk_164 0 12 (dk_at dksX12_value_0 17 rfl rfl)
theorem dX12_value_20 : decode cX12_value 20 = .ok (.aload_n 0, 1) := dk_42 (dk_at dksX12_value_0 20 rfl rfl)
theorem dX12_value_21 : decode cX12_value 21 = .ok (.getfield 36, 3) := dk_180 0 36 (dk_at dksX12_value_0 21 rfl rfl)
theorem dX12_value_24 : decode cX12_value 24 = .ok (.iconst 1, 1) := dk_4 (dk_at dksX12_value_1 0 rfl rfl)
theorem dX12_value_25 : decode cX12_value 25 = .ok (.isub, 1) := dk_100 (dk_at dksX12_value_1 1 rfl rfl)
theorem dX12_value_26 : decode cX12_value 26 = .ok (.goto 7, 3) := dk_167 0 7 (dk_at dksX12_value_1 2 rfl rfl)
theorem dX12_value_29 : decode cX12_value 29 = .ok (.aload_n 0, 1) := dk_42 (dk_at dksX12_value_1 5 rfl rfl)
theorem dX12_value_30 : decode cX12_value 30 = .ok (.getfield 36, 3) := dk_180 0 36 (dk_at dksX12_value_1 6 rfl rfl)
theorem dX12_value_33 : decode cX12_value 33 = .ok (.istore_n 1, 1) := dk_60 (dk_at dksX12_value_1 9 rfl rfl)
theorem dX12_value_34 : decode cX12_value 34 = .ok (.iload_n 1, 1) := dk_27 (dk_at dksX12_value_1 10 rfl rfl)
theorem dX12_value_35 : decode cX12_value 35 = .ok (.ifCond .ne 8, 3) := dk_154 0 8 (dk_at dksX12_value_1 11 rfl rfl)
theorem dX12_value_38 : decode cX12_value 38 = .ok (.bipush 100, 2) := dk_16 100 (dk_at dksX12_value_1 14 rfl rfl)
theorem dX12_value_40 : decode cX12_value 40 = .ok (.goto 24, 3) := dk_167 0 24 (dk_at dksX12_value_1 16 rfl rfl)
theorem dX12_value_43 : decode cX12_value 43 = .ok (.iload_n 1, 1) := dk_27 (dk_at dksX12_value_1 19 rfl rfl)
theorem dX12_value_44 : decode cX12_value 44 = .ok (.iconst 1, 1) := dk_4 (dk_at dksX12_value_1 20 rfl rfl)
theorem dX12_value_45 : decode cX12_value 45 = .ok (.if_icmp .ne 8, 3) := dk_160 0 8 (dk_at dksX12_value_1 21 rfl rfl)
theorem dX12_value_48 : decode cX12_value 48 = .ok (.bipush 75, 2) := dk_16 75 (dk_at dksX12_value_2 0 rfl rfl)
theorem dX12_value_50 : decode cX12_value 50 = .ok (.goto 14, 3) := dk_167 0 14 (dk_at dksX12_value_2 2 rfl rfl)
theorem dX12_value_53 : decode cX12_value 53 = .ok (.iload_n 1, 1) := dk_27 (dk_at dksX12_value_2 5 rfl rfl)
theorem dX12_value_54 : decode cX12_value 54 = .ok (.iconst 2, 1) := dk_5 (dk_at dksX12_value_2 6 rfl rfl)
theorem dX12_value_55 : decode cX12_value 55 = .ok (.if_icmp .ne 8, 3) := dk_160 0 8 (dk_at dksX12_value_2 7 rfl rfl)
theorem dX12_value_58 : decode cX12_value 58 = .ok (.bipush 50, 2) := dk_16 50 (dk_at dksX12_value_2 10 rfl rfl)
theorem dX12_value_60 : decode cX12_value 60 = .ok (.goto 4, 3) := dk_167 0 4 (dk_at dksX12_value_2 12 rfl rfl)
theorem dX12_value_63 : decode cX12_value 63 = .ok (.iconst 0, 1) := dk_3 (dk_at dksX12_value_2 15 rfl rfl)
theorem dX12_value_64 : decode cX12_value 64 = .ok (.istore_n 2, 1) := dk_61 (dk_at dksX12_value_2 16 rfl rfl)
theorem dX12_value_65 : decode cX12_value 65 = .ok (.aload_n 0, 1) := dk_42 (dk_at dksX12_value_2 17 rfl rfl)
theorem dX12_value_66 : decode cX12_value 66 = .ok (.getfield 32, 3) := dk_180 0 32 (dk_at dksX12_value_2 18 rfl rfl)
theorem dX12_value_69 : decode cX12_value 69 = .ok (.getfield 67, 3) := dk_180 0 67 (dk_at dksX12_value_2 21 rfl rfl)
theorem dX12_value_72 : decode cX12_value 72 = .ok (.bipush 12, 2) := dk_16 12 (dk_at dksX12_value_3 0 rfl rfl)
theorem dX12_value_74 : decode cX12_value 74 = .ok (.if_icmp .ge 8, 3) := dk_162 0 8 (dk_at dksX12_value_3 2 rfl rfl)
theorem dX12_value_77 : decode cX12_value 77 = .ok (.bipush 50, 2) := dk_16 50 (dk_at dksX12_value_3 5 rfl rfl)
theorem dX12_value_79 : decode cX12_value 79 = .ok (.goto 40, 3) := dk_167 0 40 (dk_at dksX12_value_3 7 rfl rfl)
theorem dX12_value_82 : decode cX12_value 82 = .ok (.aload_n 0, 1) := dk_42 (dk_at dksX12_value_3 10 rfl rfl)
theorem dX12_value_83 : decode cX12_value 83 = .ok (.getfield 32, 3) := dk_180 0 32 (dk_at dksX12_value_3 11 rfl rfl)
theorem dX12_value_86 : decode cX12_value 86 = .ok (.getfield 67, 3) := dk_180 0 67 (dk_at dksX12_value_3 14 rfl rfl)
theorem dX12_value_89 : decode cX12_value 89 = .ok (.bipush 60, 2) := dk_16 60 (dk_at dksX12_value_3 17 rfl rfl)
theorem dX12_value_91 : decode cX12_value 91 = .ok (.if_icmp .ge 8, 3) := dk_162 0 8 (dk_at dksX12_value_3 19 rfl rfl)
theorem dX12_value_94 : decode cX12_value 94 = .ok (.bipush 75, 2) := dk_16 75 (dk_at dksX12_value_3 22 rfl rfl)
theorem dX12_value_96 : decode cX12_value 96 = .ok (.goto 23, 3) := dk_167 0 23 (dk_at dksX12_value_4 0 rfl rfl)
theorem dX12_value_99 : decode cX12_value 99 = .ok (.aload_n 0, 1) := dk_42 (dk_at dksX12_value_4 3 rfl rfl)
theorem dX12_value_100 : decode cX12_value 100 = .ok (.getfield 32, 3) := dk_180 0 32 (dk_at dksX12_value_4 4 rfl rfl)
theorem dX12_value_103 : decode cX12_value 103 = .ok (.getfield 67, 3) := dk_180 0 67 (dk_at dksX12_value_4 7 rfl rfl)
theorem dX12_value_106 : decode cX12_value 106 = .ok (.sipush 240, 3) := dk_17 0 240 (dk_at dksX12_value_4 10 rfl rfl)
theorem dX12_value_109 : decode cX12_value 109 = .ok (.if_icmp .ge 8, 3) := dk_162 0 8 (dk_at dksX12_value_4 13 rfl rfl)
theorem dX12_value_112 : decode cX12_value 112 = .ok (.bipush 100, 2) := dk_16 100 (dk_at dksX12_value_4 16 rfl rfl)
theorem dX12_value_114 : decode cX12_value 114 = .ok (.goto 5, 3) := dk_167 0 5 (dk_at dksX12_value_4 18 rfl rfl)
theorem dX12_value_117 : decode cX12_value 117 = .ok (.bipush 120, 2) := dk_16 120 (dk_at dksX12_value_4 21 rfl rfl)
theorem dX12_value_119 : decode cX12_value 119 = .ok (.istore_n 3, 1) := dk_62 (dk_at dksX12_value_4 23 rfl rfl)
theorem dX12_value_120 : decode cX12_value 120 = .ok (.aload_n 0, 1) := dk_42 (dk_at dksX12_value_5 0 rfl rfl)
theorem dX12_value_121 : decode cX12_value 121 = .ok (.getfield 3, 3) := dk_180 0 3 (dk_at dksX12_value_5 1 rfl rfl)
theorem dX12_value_124 : decode cX12_value 124 = .ok (.getfield 72, 3) := dk_180 0 72 (dk_at dksX12_value_5 4 rfl rfl)
theorem dX12_value_127 : decode cX12_value 127 = .ok (.aload_n 0, 1) := dk_42 (dk_at dksX12_value_5 7 rfl rfl)
theorem dX12_value_128 : decode cX12_value 128 = .ok (.getfield 32, 3) := dk_180 0 32 (dk_at dksX12_value_5 8 rfl rfl)
theorem dX12_value_131 : decode cX12_value 131 = .ok (.getfield 76, 3) := dk_180 0 76 (dk_at dksX12_value_5 11 rfl rfl)
theorem dX12_value_134 : decode cX12_value 134 = .ok (.iconst 1, 1) := dk_4 (dk_at dksX12_value_5 14 rfl rfl)
theorem dX12_value_135 : decode cX12_value 135 = .ok (.isub, 1) := dk_100 (dk_at dksX12_value_5 15 rfl rfl)
theorem dX12_value_136 : decode cX12_value 136 = .ok (.aaload, 1) := dk_50 (dk_at dksX12_value_5 16 rfl rfl)
theorem dX12_value_137 : decode cX12_value 137 = .ok (.aload_n 0, 1) := dk_42 (dk_at dksX12_value_5 17 rfl rfl)
theorem dX12_value_138 : decode cX12_value 138 = .ok (.getfield 32, 3) := dk_180 0 32 (dk_at dksX12_value_5 18 rfl rfl)
theorem dX12_value_141 : decode cX12_value 141 = .ok (.aload_n 0, 1) := dk_42 (dk_at dksX12_value_5 21 rfl rfl)
theorem dX12_value_142 : decode cX12_value 142 = .ok (.getfield 32, 3) := dk_180 0 32 (dk_at dksX12_value_6 0 rfl rfl)
theorem dX12_value_145 : decode cX12_value 145 = .ok (.getfield 79, 3) := dk_180 0 79 (dk_at dksX12_value_6 3 rfl rfl)
theorem dX12_value_148 : decode cX12_value 148 = .ok (.invokevirtual 82, 3) := dk_182 0 82 (dk_at dksX12_value_6 6 rfl rfl)
theorem dX12_value_151 : decode cX12_value 151 = .ok (.invokestatic 86, 3) := dk_184 0 86 (dk_at dksX12_value_6 9 rfl rfl)
theorem dX12_value_154 : decode cX12_value 154 = .ok (.iaload, 1) := dk_46 (dk_at dksX12_value_6 12 rfl rfl)
theorem dX12_value_155 : decode cX12_value 155 = .ok (.i2l, 1) := dk_133 (dk_at dksX12_value_6 13 rfl rfl)
theorem dX12_value_156 : decode cX12_value 156 = .ok (.iload_n 3, 1) := dk_29 (dk_at dksX12_value_6 14 rfl rfl)
theorem dX12_value_157 : decode cX12_value 157 = .ok (.i2l, 1) := dk_133 (dk_at dksX12_value_6 15 rfl rfl)
theorem dX12_value_158 : decode cX12_value 158 = .ok (.ldc2_w 89, 3) := dk_20 0 89 (dk_at dksX12_value_6 16 rfl rfl)
theorem dX12_value_161 : decode cX12_value 161 = .ok (.invokestatic 91, 3) := dk_184 0 91 (dk_at dksX12_value_6 19 rfl rfl)
theorem dX12_value_164 : decode cX12_value 164 = .ok (.iload_n 2, 1) := dk_28 (dk_at dksX12_value_6 22 rfl rfl)
theorem dX12_value_165 : decode cX12_value 165 = .ok (.i2l, 1) := dk_133 (dk_at dksX12_value_6 23 rfl rfl)
theorem dX12_value_166 : decode cX12_value 166 = .ok (.ldc2_w 89, 3) := dk_20 0 89 (dk_at dksX12_value_7 0 rfl rfl)
theorem dX12_value_169 : decode cX12_value 169 = .ok (.invokestatic 91, 3) := dk_184 0 91 (dk_at dksX12_value_7 3 rfl rfl)
theorem dX12_value_172 : decode cX12_value 172 = .ok (.lstore 4, 2) := dk_55 4 (dk_at dksX12_value_7 6 rfl rfl)
theorem dX12_value_174 : decode cX12_value 174 = .ok (.aload_n 0, 1) := dk_42 (dk_at dksX12_value_7 8 rfl rfl)
theorem dX12_value_175 : decode cX12_value 175 = .ok (.getfield 3, 3) := dk_180 0 3 (dk_at dksX12_value_7 9 rfl rfl)
theorem dX12_value_178 : decode cX12_value 178 = .ok (.getfield 95, 3) := dk_180 0 95 (dk_at dksX12_value_7 12 rfl rfl)
theorem dX12_value_181 : decode cX12_value 181 = .ok (.i2l, 1) := dk_133 (dk_at dksX12_value_7 15 rfl rfl)
theorem dX12_value_182 : decode cX12_value 182 = .ok (.lload 4, 2) := dk_22 4 (dk_at dksX12_value_7 16 rfl rfl)
theorem dX12_value_184 : decode cX12_value 184 = .ok (.invokestatic 98, 3) := dk_184 0 98 (dk_at dksX12_value_7 18 rfl rfl)
theorem dX12_value_187 : decode cX12_value 187 = .ok (.l2i, 1) := dk_136 (dk_at dksX12_value_7 21 rfl rfl)
theorem dX12_value_188 : decode cX12_value 188 = .ok (.ireturn, 1) := dk_172 (dk_at dksX12_value_7 22 rfl rfl)
abbrev cX12_number : ByteArray := prog_2_method_2_code
def yX12_number : MethodName := ⟨RX12, "number", "()I"⟩
theorem dX12_number_0 : decode cX12_number 0 = .ok (.aload_n 0, 1) := by decide +kernel
theorem dX12_number_1 : decode cX12_number 1 = .ok (.getfield 29, 3) := by decide +kernel
theorem dX12_number_4 : decode cX12_number 4 = .ok (.ireturn, 1) := by decide +kernel
abbrev cX12_init : ByteArray := prog_2_method_1_code
def yX12_init : MethodName := ⟨RX12, "<init>", "(LMassclaim;ILMassclaim$Person;III)V"⟩
def dkwX12_init_3 : List UInt8 := [43, 180, 0, 48, 79, 185, 0, 51, 2, 0, 54, 7, 177]
abbrev dktX12_init_3 : List UInt8 := dkwX12_init_3 ++ []
def dkwX12_init_2 : List UInt8 := [16, 33, 21, 6, 184, 0, 39, 181, 0, 45, 42, 180, 0, 25, 5, 188, 10, 89, 3, 21, 5, 79, 89, 4]
abbrev dktX12_init_2 : List UInt8 := dkwX12_init_2 ++ dktX12_init_3
def dkwX12_init_1 : List UInt8 := [183, 0, 24, 181, 0, 25, 42, 28, 181, 0, 29, 42, 45, 181, 0, 32, 42, 21, 4, 181, 0, 36, 42]
abbrev dktX12_init_1 : List UInt8 := dkwX12_init_1 ++ dktX12_init_2
def dkwX12_init_0 : List UInt8 := [42, 43, 181, 0, 3, 42, 183, 0, 9, 42, 3, 181, 0, 15, 42, 4, 181, 0, 19, 42, 187, 0, 22, 89]
abbrev dktX12_init_0 : List UInt8 := dkwX12_init_0 ++ dktX12_init_1
theorem dksX12_init_0 : cX12_init.data.toList.drop 0 = dktX12_init_0 := by decide +kernel
theorem dksX12_init_1 : cX12_init.data.toList.drop 24 = dktX12_init_1 := dk_seg dksX12_init_0 24 rfl rfl
theorem dksX12_init_2 : cX12_init.data.toList.drop 47 = dktX12_init_2 := dk_seg dksX12_init_1 23 rfl rfl
theorem dksX12_init_3 : cX12_init.data.toList.drop 71 = dktX12_init_3 := dk_seg dksX12_init_2 24 rfl rfl
theorem dX12_init_0 : decode cX12_init 0 = .ok (.aload_n 0, 1) := dk_42 (dk_at dksX12_init_0 0 rfl rfl)
theorem dX12_init_1 : decode cX12_init 1 = .ok (.aload_n 1, 1) := dk_43 (dk_at dksX12_init_0 1 rfl rfl)
theorem dX12_init_2 : decode cX12_init 2 = .ok (.putfield 3, 3) := dk_181 0 3 (dk_at dksX12_init_0 2 rfl rfl)
theorem dX12_init_5 : decode cX12_init 5 = .ok (.aload_n 0, 1) := dk_42 (dk_at dksX12_init_0 5 rfl rfl)
theorem dX12_init_6 : decode cX12_init 6 = .ok (.invokespecial 9, 3) := dk_183 0 9 (dk_at dksX12_init_0 6 rfl rfl)
theorem dX12_init_9 : decode cX12_init 9 = .ok (.aload_n 0, 1) := dk_42 (dk_at dksX12_init_0 9 rfl rfl)
theorem dX12_init_10 : decode cX12_init 10 = .ok (.iconst 0, 1) := dk_3 (dk_at dksX12_init_0 10 rfl rfl)
theorem dX12_init_11 : decode cX12_init 11 = .ok (.putfield 15, 3) := dk_181 0 15 (dk_at dksX12_init_0 11 rfl rfl)
theorem dX12_init_14 : decode cX12_init 14 = .ok (.aload_n 0, 1) := dk_42 (dk_at dksX12_init_0 14 rfl rfl)
theorem dX12_init_15 : decode cX12_init 15 = .ok (.iconst 1, 1) := dk_4 (dk_at dksX12_init_0 15 rfl rfl)
theorem dX12_init_16 : decode cX12_init 16 = .ok (.putfield 19, 3) := dk_181 0 19 (dk_at dksX12_init_0 16 rfl rfl)
theorem dX12_init_19 : decode cX12_init 19 = .ok (.aload_n 0, 1) := dk_42 (dk_at dksX12_init_0 19 rfl rfl)
theorem dX12_init_20 : decode cX12_init 20 = .ok (.new 22, 3) := dk_187 0 22 (dk_at dksX12_init_0 20 rfl rfl)
theorem dX12_init_23 : decode cX12_init 23 = .ok (.dup, 1) := dk_89 (dk_at dksX12_init_0 23 rfl rfl)
theorem dX12_init_24 : decode cX12_init 24 = .ok (.invokespecial 24, 3) := dk_183 0 24 (dk_at dksX12_init_1 0 rfl rfl)
theorem dX12_init_27 : decode cX12_init 27 = .ok (.putfield 25, 3) := dk_181 0 25 (dk_at dksX12_init_1 3 rfl rfl)
theorem dX12_init_30 : decode cX12_init 30 = .ok (.aload_n 0, 1) := dk_42 (dk_at dksX12_init_1 6 rfl rfl)
theorem dX12_init_31 : decode cX12_init 31 = .ok (.iload_n 2, 1) := dk_28 (dk_at dksX12_init_1 7 rfl rfl)
theorem dX12_init_32 : decode cX12_init 32 = .ok (.putfield 29, 3) := dk_181 0 29 (dk_at dksX12_init_1 8 rfl rfl)
theorem dX12_init_35 : decode cX12_init 35 = .ok (.aload_n 0, 1) := dk_42 (dk_at dksX12_init_1 11 rfl rfl)
theorem dX12_init_36 : decode cX12_init 36 = .ok (.aload_n 3, 1) := dk_45 (dk_at dksX12_init_1 12 rfl rfl)
theorem dX12_init_37 : decode cX12_init 37 = .ok (.putfield 32, 3) := dk_181 0 32 (dk_at dksX12_init_1 13 rfl rfl)
theorem dX12_init_40 : decode cX12_init 40 = .ok (.aload_n 0, 1) := dk_42 (dk_at dksX12_init_1 16 rfl rfl)
theorem dX12_init_41 : decode cX12_init 41 = .ok (.iload 4, 2) := dk_21 4 (dk_at dksX12_init_1 17 rfl rfl)
theorem dX12_init_43 : decode cX12_init 43 = .ok (.putfield 36, 3) := dk_181 0 36 (dk_at dksX12_init_1 19 rfl rfl)
theorem dX12_init_46 : decode cX12_init 46 = .ok (.aload_n 0, 1) := dk_42 (dk_at dksX12_init_1 22 rfl rfl)
theorem dX12_init_47 : decode cX12_init 47 = .ok (.bipush 33, 2) := dk_16 33 (dk_at dksX12_init_2 0 rfl rfl)
theorem dX12_init_49 : decode cX12_init 49 = .ok (.iload 6, 2) := dk_21 6 (dk_at dksX12_init_2 2 rfl rfl)
theorem dX12_init_51 : decode cX12_init 51 = .ok (.invokestatic 39, 3) := dk_184 0 39 (dk_at dksX12_init_2 4 rfl rfl)
theorem dX12_init_54 : decode cX12_init 54 = .ok (.putfield 45, 3) := dk_181 0 45 (dk_at dksX12_init_2 7 rfl rfl)
theorem dX12_init_57 : decode cX12_init 57 = .ok (.aload_n 0, 1) := dk_42 (dk_at dksX12_init_2 10 rfl rfl)
theorem dX12_init_58 : decode cX12_init 58 = .ok (.getfield 25, 3) := dk_180 0 25 (dk_at dksX12_init_2 11 rfl rfl)
theorem dX12_init_61 : decode cX12_init 61 = .ok (.iconst 2, 1) := dk_5 (dk_at dksX12_init_2 14 rfl rfl)
theorem dX12_init_62 : decode cX12_init 62 = .ok (.newarray .int, 2) := dk_188_10 (dk_at dksX12_init_2 15 rfl rfl)
theorem dX12_init_64 : decode cX12_init 64 = .ok (.dup, 1) := dk_89 (dk_at dksX12_init_2 17 rfl rfl)
theorem dX12_init_65 : decode cX12_init 65 = .ok (.iconst 0, 1) := dk_3 (dk_at dksX12_init_2 18 rfl rfl)
theorem dX12_init_66 : decode cX12_init 66 = .ok (.iload 5, 2) := dk_21 5 (dk_at dksX12_init_2 19 rfl rfl)
theorem dX12_init_68 : decode cX12_init 68 = .ok (.iastore, 1) := dk_79 (dk_at dksX12_init_2 21 rfl rfl)
theorem dX12_init_69 : decode cX12_init 69 = .ok (.dup, 1) := dk_89 (dk_at dksX12_init_2 22 rfl rfl)
theorem dX12_init_70 : decode cX12_init 70 = .ok (.iconst 1, 1) := dk_4 (dk_at dksX12_init_2 23 rfl rfl)
theorem dX12_init_71 : decode cX12_init 71 = .ok (.aload_n 1, 1) := dk_43 (dk_at dksX12_init_3 0 rfl rfl)
theorem dX12_init_72 : decode cX12_init 72 = .ok (.getfield 48, 3) := dk_180 0 48 (dk_at dksX12_init_3 1 rfl rfl)
theorem dX12_init_75 : decode cX12_init 75 = .ok (.iastore, 1) := dk_79 (dk_at dksX12_init_3 4 rfl rfl)
theorem dX12_init_76 : decode cX12_init 76 = .ok (.invokeinterface 51 2, 5) := by decide +kernel
theorem dX12_init_81 : decode cX12_init 81 = .ok (.istore 7, 2) := dk_54 7 (dk_at dksX12_init_3 10 rfl rfl)
theorem dX12_init_83 : decode cX12_init 83 = .ok (.return_, 1) := dk_177 (dk_at dksX12_init_3 12 rfl rfl)
abbrev cX12_isLike : ByteArray := prog_2_method_6_code
def yX12_isLike : MethodName := ⟨RX12, "isLike", "(LMassclaim$Claim;)Z"⟩
def dkwX12_isLike_3 : List UInt8 := [180, 0, 67, 16, 12, 108, 160, 0, 7, 4, 167, 0, 4, 3, 172]
abbrev dktX12_isLike_3 : List UInt8 := dkwX12_isLike_3 ++ []
def dkwX12_isLike_2 : List UInt8 := [167, 0, 4, 3, 61, 28, 153, 0, 30, 42, 180, 0, 32, 180, 0, 67, 16, 12, 108, 43, 180, 0, 32]
abbrev dktX12_isLike_2 : List UInt8 := dkwX12_isLike_2 ++ dktX12_isLike_3
def dkwX12_isLike_1 : List UInt8 := [180, 0, 76, 160, 0, 24, 42, 180, 0, 32, 180, 0, 114, 43, 180, 0, 32, 180, 0, 114, 160, 0, 7, 4]
abbrev dktX12_isLike_1 : List UInt8 := dkwX12_isLike_1 ++ dktX12_isLike_2
def dkwX12_isLike_0 : List UInt8 := [42, 182, 0, 111, 43, 182, 0, 111, 160, 0, 41, 42, 180, 0, 32, 180, 0, 76, 43, 180, 0, 32]
abbrev dktX12_isLike_0 : List UInt8 := dkwX12_isLike_0 ++ dktX12_isLike_1
theorem dksX12_isLike_0 : cX12_isLike.data.toList.drop 0 = dktX12_isLike_0 := by decide +kernel
theorem dksX12_isLike_1 : cX12_isLike.data.toList.drop 22 = dktX12_isLike_1 := dk_seg dksX12_isLike_0 22 rfl rfl
theorem dksX12_isLike_2 : cX12_isLike.data.toList.drop 46 = dktX12_isLike_2 := dk_seg dksX12_isLike_1 24 rfl rfl
theorem dksX12_isLike_3 : cX12_isLike.data.toList.drop 69 = dktX12_isLike_3 := dk_seg dksX12_isLike_2 23 rfl rfl
theorem dX12_isLike_0 : decode cX12_isLike 0 = .ok (.aload_n 0, 1) := dk_42 (dk_at dksX12_isLike_0 0 rfl rfl)
theorem dX12_isLike_1 : decode cX12_isLike 1 = .ok (.invokevirtual 111, 3) := dk_182 0 111 (dk_at dksX12_isLike_0 1 rfl rfl)
theorem dX12_isLike_4 : decode cX12_isLike 4 = .ok (.aload_n 1, 1) := dk_43 (dk_at dksX12_isLike_0 4 rfl rfl)
theorem dX12_isLike_5 : decode cX12_isLike 5 = .ok (.invokevirtual 111, 3) := dk_182 0 111 (dk_at dksX12_isLike_0 5 rfl rfl)
theorem dX12_isLike_8 : decode cX12_isLike 8 = .ok (.if_icmp .ne 41, 3) := dk_160 0 41 (dk_at dksX12_isLike_0 8 rfl rfl)
theorem dX12_isLike_11 : decode cX12_isLike 11 = .ok (.aload_n 0, 1) := dk_42 (dk_at dksX12_isLike_0 11 rfl rfl)
theorem dX12_isLike_12 : decode cX12_isLike 12 = .ok (.getfield 32, 3) := dk_180 0 32 (dk_at dksX12_isLike_0 12 rfl rfl)
theorem dX12_isLike_15 : decode cX12_isLike 15 = .ok (.getfield 76, 3) := dk_180 0 76 (dk_at dksX12_isLike_0 15 rfl rfl)
theorem dX12_isLike_18 : decode cX12_isLike 18 = .ok (.aload_n 1, 1) := dk_43 (dk_at dksX12_isLike_0 18 rfl rfl)
theorem dX12_isLike_19 : decode cX12_isLike 19 = .ok (.getfield 32, 3) := dk_180 0 32 (dk_at dksX12_isLike_0 19 rfl rfl)
theorem dX12_isLike_22 : decode cX12_isLike 22 = .ok (.getfield 76, 3) := dk_180 0 76 (dk_at dksX12_isLike_1 0 rfl rfl)
theorem dX12_isLike_25 : decode cX12_isLike 25 = .ok (.if_icmp .ne 24, 3) := dk_160 0 24 (dk_at dksX12_isLike_1 3 rfl rfl)
theorem dX12_isLike_28 : decode cX12_isLike 28 = .ok (.aload_n 0, 1) := dk_42 (dk_at dksX12_isLike_1 6 rfl rfl)
theorem dX12_isLike_29 : decode cX12_isLike 29 = .ok (.getfield 32, 3) := dk_180 0 32 (dk_at dksX12_isLike_1 7 rfl rfl)
theorem dX12_isLike_32 : decode cX12_isLike 32 = .ok (.getfield 114, 3) := dk_180 0 114 (dk_at dksX12_isLike_1 10 rfl rfl)
theorem dX12_isLike_35 : decode cX12_isLike 35 = .ok (.aload_n 1, 1) := dk_43 (dk_at dksX12_isLike_1 13 rfl rfl)
theorem dX12_isLike_36 : decode cX12_isLike 36 = .ok (.getfield 32, 3) := dk_180 0 32 (dk_at dksX12_isLike_1 14 rfl rfl)
theorem dX12_isLike_39 : decode cX12_isLike 39 = .ok (.getfield 114, 3) := dk_180 0 114 (dk_at dksX12_isLike_1 17 rfl rfl)
theorem dX12_isLike_42 : decode cX12_isLike 42 = .ok (.if_icmp .ne 7, 3) := dk_160 0 7 (dk_at dksX12_isLike_1 20 rfl rfl)
theorem dX12_isLike_45 : decode cX12_isLike 45 = .ok (.iconst 1, 1) := dk_4 (dk_at dksX12_isLike_1 23 rfl rfl)
theorem dX12_isLike_46 : decode cX12_isLike 46 = .ok (.goto 4, 3) := dk_167 0 4 (dk_at dksX12_isLike_2 0 rfl rfl)
theorem dX12_isLike_49 : decode cX12_isLike 49 = .ok (.iconst 0, 1) := dk_3 (dk_at dksX12_isLike_2 3 rfl rfl)
theorem dX12_isLike_50 : decode cX12_isLike 50 = .ok (.istore_n 2, 1) := dk_61 (dk_at dksX12_isLike_2 4 rfl rfl)
theorem dX12_isLike_51 : decode cX12_isLike 51 = .ok (.iload_n 2, 1) := dk_28 (dk_at dksX12_isLike_2 5 rfl rfl)
theorem dX12_isLike_52 : decode cX12_isLike 52 = .ok (.ifCond .eq 30, 3) := dk_153 0 30 (dk_at dksX12_isLike_2 6 rfl rfl)
theorem dX12_isLike_55 : decode cX12_isLike 55 = .ok (.aload_n 0, 1) := dk_42 (dk_at dksX12_isLike_2 9 rfl rfl)
theorem dX12_isLike_56 : decode cX12_isLike 56 = .ok (.getfield 32, 3) := dk_180 0 32 (dk_at dksX12_isLike_2 10 rfl rfl)
theorem dX12_isLike_59 : decode cX12_isLike 59 = .ok (.getfield 67, 3) := dk_180 0 67 (dk_at dksX12_isLike_2 13 rfl rfl)
theorem dX12_isLike_62 : decode cX12_isLike 62 = .ok (.bipush 12, 2) := dk_16 12 (dk_at dksX12_isLike_2 16 rfl rfl)
theorem dX12_isLike_64 : decode cX12_isLike 64 = .ok (.idiv, 1) := dk_108 (dk_at dksX12_isLike_2 18 rfl rfl)
theorem dX12_isLike_65 : decode cX12_isLike 65 = .ok (.aload_n 1, 1) := dk_43 (dk_at dksX12_isLike_2 19 rfl rfl)
theorem dX12_isLike_66 : decode cX12_isLike 66 = .ok (.getfield 32, 3) := dk_180 0 32 (dk_at dksX12_isLike_2 20 rfl rfl)
theorem dX12_isLike_69 : decode cX12_isLike 69 = .ok (.getfield 67, 3) := dk_180 0 67 (dk_at dksX12_isLike_3 0 rfl rfl)
theorem dX12_isLike_72 : decode cX12_isLike 72 = .ok (.bipush 12, 2) := dk_16 12 (dk_at dksX12_isLike_3 3 rfl rfl)
theorem dX12_isLike_74 : decode cX12_isLike 74 = .ok (.idiv, 1) := dk_108 (dk_at dksX12_isLike_3 5 rfl rfl)
theorem dX12_isLike_75 : decode cX12_isLike 75 = .ok (.if_icmp .ne 7, 3) := dk_160 0 7 (dk_at dksX12_isLike_3 6 rfl rfl)
theorem dX12_isLike_78 : decode cX12_isLike 78 = .ok (.iconst 1, 1) := dk_4 (dk_at dksX12_isLike_3 9 rfl rfl)
theorem dX12_isLike_79 : decode cX12_isLike 79 = .ok (.goto 4, 3) := dk_167 0 4 (dk_at dksX12_isLike_3 10 rfl rfl)
theorem dX12_isLike_82 : decode cX12_isLike 82 = .ok (.iconst 0, 1) := dk_3 (dk_at dksX12_isLike_3 13 rfl rfl)
theorem dX12_isLike_83 : decode cX12_isLike 83 = .ok (.ireturn, 1) := dk_172 (dk_at dksX12_isLike_3 14 rfl rfl)
abbrev cX12_lawyer : ByteArray := prog_2_method_3_code
def yX12_lawyer : MethodName := ⟨RX12, "lawyer", "()I"⟩
def dkwX12_lawyer_1 : List UInt8 := [46, 172]
abbrev dktX12_lawyer_1 : List UInt8 := dkwX12_lawyer_1 ++ []
def dkwX12_lawyer_0 : List UInt8 := [42, 180, 0, 25, 42, 180, 0, 25, 185, 0, 57, 1, 0, 4, 100, 185, 0, 61, 2, 0, 192, 0, 65, 3]
abbrev dktX12_lawyer_0 : List UInt8 := dkwX12_lawyer_0 ++ dktX12_lawyer_1
theorem dksX12_lawyer_0 : cX12_lawyer.data.toList.drop 0 = dktX12_lawyer_0 := by decide +kernel
theorem dksX12_lawyer_1 : cX12_lawyer.data.toList.drop 24 = dktX12_lawyer_1 := dk_seg dksX12_lawyer_0 24 rfl rfl
theorem dX12_lawyer_0 : decode cX12_lawyer 0 = .ok (.aload_n 0, 1) := dk_42 (dk_at dksX12_lawyer_0 0 rfl rfl)
theorem dX12_lawyer_1 : decode cX12_lawyer 1 = .ok (.getfield 25, 3) := dk_180 0 25 (dk_at dksX12_lawyer_0 1 rfl rfl)
theorem dX12_lawyer_4 : decode cX12_lawyer 4 = .ok (.aload_n 0, 1) := dk_42 (dk_at dksX12_lawyer_0 4 rfl rfl)
theorem dX12_lawyer_5 : decode cX12_lawyer 5 = .ok (.getfield 25, 3) := dk_180 0 25 (dk_at dksX12_lawyer_0 5 rfl rfl)
theorem dX12_lawyer_8 : decode cX12_lawyer 8 = .ok (.invokeinterface 57 1, 5) := by decide +kernel
theorem dX12_lawyer_13 : decode cX12_lawyer 13 = .ok (.iconst 1, 1) := dk_4 (dk_at dksX12_lawyer_0 13 rfl rfl)
theorem dX12_lawyer_14 : decode cX12_lawyer 14 = .ok (.isub, 1) := dk_100 (dk_at dksX12_lawyer_0 14 rfl rfl)
theorem dX12_lawyer_15 : decode cX12_lawyer 15 = .ok (.invokeinterface 61 2, 5) := by decide +kernel
theorem dX12_lawyer_20 : decode cX12_lawyer 20 = .ok (.checkcast 65, 3) := dk_192 0 65 (dk_at dksX12_lawyer_0 20 rfl rfl)
theorem dX12_lawyer_23 : decode cX12_lawyer 23 = .ok (.iconst 0, 1) := dk_3 (dk_at dksX12_lawyer_0 23 rfl rfl)
theorem dX12_lawyer_24 : decode cX12_lawyer 24 = .ok (.iaload, 1) := dk_46 (dk_at dksX12_lawyer_1 0 rfl rfl)
theorem dX12_lawyer_25 : decode cX12_lawyer 25 = .ok (.ireturn, 1) := dk_172 (dk_at dksX12_lawyer_1 1 rfl rfl)
abbrev cX12_due : ByteArray := prog_2_method_5_code
def yX12_due : MethodName := ⟨RX12, "due", "(I)J"⟩
def dkwX12_due_1 : List UInt8 := [180, 0, 104, 101, 184, 0, 108, 167, 0, 4, 9, 173]
abbrev dktX12_due_1 : List UInt8 := dkwX12_due_1 ++ []
def dkwX12_due_0 : List UInt8 := [42, 180, 0, 15, 154, 0, 28, 9, 42, 182, 0, 101, 133, 27, 133, 20, 0, 89, 184, 0, 91, 42]
abbrev dktX12_due_0 : List UInt8 := dkwX12_due_0 ++ dktX12_due_1
theorem dksX12_due_0 : cX12_due.data.toList.drop 0 = dktX12_due_0 := by decide +kernel
theorem dksX12_due_1 : cX12_due.data.toList.drop 22 = dktX12_due_1 := dk_seg dksX12_due_0 22 rfl rfl
theorem dX12_due_0 : decode cX12_due 0 = .ok (.aload_n 0, 1) := dk_42 (dk_at dksX12_due_0 0 rfl rfl)
theorem dX12_due_1 : decode cX12_due 1 = .ok (.getfield 15, 3) := dk_180 0 15 (dk_at dksX12_due_0 1 rfl rfl)
theorem dX12_due_4 : decode cX12_due 4 = .ok (.ifCond .ne 28, 3) := dk_154 0 28 (dk_at dksX12_due_0 4 rfl rfl)
theorem dX12_due_7 : decode cX12_due 7 = .ok (.lconst 0, 1) := dk_9 (dk_at dksX12_due_0 7 rfl rfl)
theorem dX12_due_8 : decode cX12_due 8 = .ok (.aload_n 0, 1) := dk_42 (dk_at dksX12_due_0 8 rfl rfl)
theorem dX12_due_9 : decode cX12_due 9 = .ok (.invokevirtual 101, 3) := dk_182 0 101 (dk_at dksX12_due_0 9 rfl rfl)
theorem dX12_due_12 : decode cX12_due 12 = .ok (.i2l, 1) := dk_133 (dk_at dksX12_due_0 12 rfl rfl)
theorem dX12_due_13 : decode cX12_due 13 = .ok (.iload_n 1, 1) := dk_27 (dk_at dksX12_due_0 13 rfl rfl)
theorem dX12_due_14 : decode cX12_due 14 = .ok (.i2l, 1) := dk_133 (dk_at dksX12_due_0 14 rfl rfl)
theorem dX12_due_15 : decode cX12_due 15 = .ok (.ldc2_w 89, 3) := dk_20 0 89 (dk_at dksX12_due_0 15 rfl rfl)
theorem dX12_due_18 : decode cX12_due 18 = .ok (.invokestatic 91, 3) := dk_184 0 91 (dk_at dksX12_due_0 18 rfl rfl)
theorem dX12_due_21 : decode cX12_due 21 = .ok (.aload_n 0, 1) := dk_42 (dk_at dksX12_due_0 21 rfl rfl)
theorem dX12_due_22 : decode cX12_due 22 = .ok (.getfield 104, 3) := dk_180 0 104 (dk_at dksX12_due_1 0 rfl rfl)
theorem dX12_due_25 : decode cX12_due 25 = .ok (.lsub, 1) := dk_101 (dk_at dksX12_due_1 3 rfl rfl)
theorem dX12_due_26 : decode cX12_due 26 = .ok (.invokestatic 108, 3) := dk_184 0 108 (dk_at dksX12_due_1 4 rfl rfl)
theorem dX12_due_29 : decode cX12_due 29 = .ok (.goto 4, 3) := dk_167 0 4 (dk_at dksX12_due_1 7 rfl rfl)
theorem dX12_due_32 : decode cX12_due 32 = .ok (.lconst 0, 1) := dk_9 (dk_at dksX12_due_1 10 rfl rfl)
theorem dX12_due_33 : decode cX12_due 33 = .ok (.lreturn, 1) := dk_173 (dk_at dksX12_due_1 11 rfl rfl)
abbrev cX12_gets : ByteArray := prog_2_method_7_code
def yX12_gets : MethodName := ⟨RX12, "gets", "(J)V"⟩
def dkwX12_gets_6 : List UInt8 := [22, 7, 22, 9, 101, 182, 0, 149, 42, 180, 0, 32, 182, 0, 152, 177]
abbrev dktX12_gets_6 : List UInt8 := dkwX12_gets_6 ++ []
def dkwX12_gets_5 : List UInt8 := [167, 0, 4, 9, 55, 9, 42, 180, 0, 32, 89, 180, 0, 146, 22, 9, 97, 181, 0, 146, 42, 180, 0, 32]
abbrev dktX12_gets_5 : List UInt8 := dkwX12_gets_5 ++ dktX12_gets_6
def dkwX12_gets_4 : List UInt8 := [101, 182, 0, 136, 55, 7, 42, 180, 0, 32, 182, 0, 140, 9, 148, 158, 0, 12, 22, 7, 20, 0, 144, 109]
abbrev dktX12_gets_4 : List UInt8 := dkwX12_gets_4 ++ dktX12_gets_5
def dkwX12_gets_3 : List UInt8 := [180, 0, 45, 133, 20, 0, 89, 184, 0, 91, 55, 5, 42, 22, 5, 182, 0, 132, 42, 31, 33, 101, 22, 5]
abbrev dktX12_gets_3 : List UInt8 := dkwX12_gets_3 ++ dktX12_gets_4
def dkwX12_gets_2 : List UInt8 := [184, 0, 91, 66, 42, 180, 0, 3, 180, 0, 123, 89, 180, 0, 127, 33, 97, 181, 0, 127, 31, 33, 101, 42]
abbrev dktX12_gets_2 : List UInt8 := dkwX12_gets_2 ++ dktX12_gets_3
def dkwX12_gets_1 : List UInt8 := [181, 0, 115, 42, 180, 0, 3, 89, 180, 0, 118, 31, 101, 181, 0, 118, 31, 20, 0, 121, 20, 0, 89]
abbrev dktX12_gets_1 : List UInt8 := dkwX12_gets_1 ++ dktX12_gets_2
def dkwX12_gets_0 : List UInt8 := [42, 89, 180, 0, 104, 31, 97, 181, 0, 104, 42, 42, 180, 0, 115, 42, 182, 0, 101, 133, 184, 0, 108]
abbrev dktX12_gets_0 : List UInt8 := dkwX12_gets_0 ++ dktX12_gets_1
theorem dksX12_gets_0 : cX12_gets.data.toList.drop 0 = dktX12_gets_0 := by decide +kernel
theorem dksX12_gets_1 : cX12_gets.data.toList.drop 23 = dktX12_gets_1 := dk_seg dksX12_gets_0 23 rfl rfl
theorem dksX12_gets_2 : cX12_gets.data.toList.drop 46 = dktX12_gets_2 := dk_seg dksX12_gets_1 23 rfl rfl
theorem dksX12_gets_3 : cX12_gets.data.toList.drop 70 = dktX12_gets_3 := dk_seg dksX12_gets_2 24 rfl rfl
theorem dksX12_gets_4 : cX12_gets.data.toList.drop 94 = dktX12_gets_4 := dk_seg dksX12_gets_3 24 rfl rfl
theorem dksX12_gets_5 : cX12_gets.data.toList.drop 118 = dktX12_gets_5 := dk_seg dksX12_gets_4 24 rfl rfl
theorem dksX12_gets_6 : cX12_gets.data.toList.drop 142 = dktX12_gets_6 := dk_seg dksX12_gets_5 24 rfl rfl
theorem dX12_gets_0 : decode cX12_gets 0 = .ok (.aload_n 0, 1) := dk_42 (dk_at dksX12_gets_0 0 rfl rfl)
theorem dX12_gets_1 : decode cX12_gets 1 = .ok (.dup, 1) := dk_89 (dk_at dksX12_gets_0 1 rfl rfl)
theorem dX12_gets_2 : decode cX12_gets 2 = .ok (.getfield 104, 3) := dk_180 0 104 (dk_at dksX12_gets_0 2 rfl rfl)
theorem dX12_gets_5 : decode cX12_gets 5 = .ok (.lload_n 1, 1) := dk_31 (dk_at dksX12_gets_0 5 rfl rfl)
theorem dX12_gets_6 : decode cX12_gets 6 = .ok (.ladd, 1) := dk_97 (dk_at dksX12_gets_0 6 rfl rfl)
theorem dX12_gets_7 : decode cX12_gets 7 = .ok (.putfield 104, 3) := dk_181 0 104 (dk_at dksX12_gets_0 7 rfl rfl)
theorem dX12_gets_10 : decode cX12_gets 10 = .ok (.aload_n 0, 1) := dk_42 (dk_at dksX12_gets_0 10 rfl rfl)
theorem dX12_gets_11 : decode cX12_gets 11 = .ok (.aload_n 0, 1) := dk_42 (dk_at dksX12_gets_0 11 rfl rfl)
theorem dX12_gets_12 : decode cX12_gets 12 = .ok (.getfield 115, 3) := dk_180 0 115 (dk_at dksX12_gets_0 12 rfl rfl)
theorem dX12_gets_15 : decode cX12_gets 15 = .ok (.aload_n 0, 1) := dk_42 (dk_at dksX12_gets_0 15 rfl rfl)
theorem dX12_gets_16 : decode cX12_gets 16 = .ok (.invokevirtual 101, 3) := dk_182 0 101 (dk_at dksX12_gets_0 16 rfl rfl)
theorem dX12_gets_19 : decode cX12_gets 19 = .ok (.i2l, 1) := dk_133 (dk_at dksX12_gets_0 19 rfl rfl)
theorem dX12_gets_20 : decode cX12_gets 20 = .ok (.invokestatic 108, 3) := dk_184 0 108 (dk_at dksX12_gets_0 20 rfl rfl)
theorem dX12_gets_23 : decode cX12_gets 23 = .ok (.putfield 115, 3) := dk_181 0 115 (dk_at dksX12_gets_1 0 rfl rfl)
theorem dX12_gets_26 : decode cX12_gets 26 = .ok (.aload_n 0, 1) := dk_42 (dk_at dksX12_gets_1 3 rfl rfl)
theorem dX12_gets_27 : decode cX12_gets 27 = .ok (.getfield 3, 3) := dk_180 0 3 (dk_at dksX12_gets_1 4 rfl rfl)
theorem dX12_gets_30 : decode cX12_gets 30 = .ok (.dup, 1) := dk_89 (dk_at dksX12_gets_1 7 rfl rfl)
theorem dX12_gets_31 : decode cX12_gets 31 = .ok (.getfield 118, 3) := dk_180 0 118 (dk_at dksX12_gets_1 8 rfl rfl)
theorem dX12_gets_34 : decode cX12_gets 34 = .ok (.lload_n 1, 1) := dk_31 (dk_at dksX12_gets_1 11 rfl rfl)
theorem dX12_gets_35 : decode cX12_gets 35 = .ok (.lsub, 1) := dk_101 (dk_at dksX12_gets_1 12 rfl rfl)
theorem dX12_gets_36 : decode cX12_gets 36 = .ok (.putfield 118, 3) := dk_181 0 118 (dk_at dksX12_gets_1 13 rfl rfl)
theorem dX12_gets_39 : decode cX12_gets 39 = .ok (.lload_n 1, 1) := dk_31 (dk_at dksX12_gets_1 16 rfl rfl)
theorem dX12_gets_40 : decode cX12_gets 40 = .ok (.ldc2_w 121, 3) := dk_20 0 121 (dk_at dksX12_gets_1 17 rfl rfl)
theorem dX12_gets_43 : decode cX12_gets 43 = .ok (.ldc2_w 89, 3) := dk_20 0 89 (dk_at dksX12_gets_1 20 rfl rfl)
theorem dX12_gets_46 : decode cX12_gets 46 = .ok (.invokestatic 91, 3) := dk_184 0 91 (dk_at dksX12_gets_2 0 rfl rfl)
theorem dX12_gets_49 : decode cX12_gets 49 = .ok (.lstore_n 3, 1) := dk_66 (dk_at dksX12_gets_2 3 rfl rfl)
theorem dX12_gets_50 : decode cX12_gets 50 = .ok (.aload_n 0, 1) := dk_42 (dk_at dksX12_gets_2 4 rfl rfl)
theorem dX12_gets_51 : decode cX12_gets 51 = .ok (.getfield 3, 3) := dk_180 0 3 (dk_at dksX12_gets_2 5 rfl rfl)
theorem dX12_gets_54 : decode cX12_gets 54 = .ok (.getfield 123, 3) := dk_180 0 123 (dk_at dksX12_gets_2 8 rfl rfl)
theorem dX12_gets_57 : decode cX12_gets 57 = .ok (.dup, 1) := dk_89 (dk_at dksX12_gets_2 11 rfl rfl)
theorem dX12_gets_58 : decode cX12_gets 58 = .ok (.getfield 127, 3) := dk_180 0 127 (dk_at dksX12_gets_2 12 rfl rfl)
theorem dX12_gets_61 : decode cX12_gets 61 = .ok (.lload_n 3, 1) := dk_33 (dk_at dksX12_gets_2 15 rfl rfl)
theorem dX12_gets_62 : decode cX12_gets 62 = .ok (.ladd, 1) := dk_97 (dk_at dksX12_gets_2 16 rfl rfl)
theorem dX12_gets_63 : decode cX12_gets 63 = .ok (.putfield 127, 3) := dk_181 0 127 (dk_at dksX12_gets_2 17 rfl rfl)
theorem dX12_gets_66 : decode cX12_gets 66 = .ok (.lload_n 1, 1) := dk_31 (dk_at dksX12_gets_2 20 rfl rfl)
theorem dX12_gets_67 : decode cX12_gets 67 = .ok (.lload_n 3, 1) := dk_33 (dk_at dksX12_gets_2 21 rfl rfl)
theorem dX12_gets_68 : decode cX12_gets 68 = .ok (.lsub, 1) := dk_101 (dk_at dksX12_gets_2 22 rfl rfl)
theorem dX12_gets_69 : decode cX12_gets 69 = .ok (.aload_n 0, 1) := dk_42 (dk_at dksX12_gets_2 23 rfl rfl)
theorem dX12_gets_70 : decode cX12_gets 70 = .ok (.getfield 45, 3) := dk_180 0 45 (dk_at dksX12_gets_3 0 rfl rfl)
theorem dX12_gets_73 : decode cX12_gets 73 = .ok (.i2l, 1) := dk_133 (dk_at dksX12_gets_3 3 rfl rfl)
theorem dX12_gets_74 : decode cX12_gets 74 = .ok (.ldc2_w 89, 3) := dk_20 0 89 (dk_at dksX12_gets_3 4 rfl rfl)
theorem dX12_gets_77 : decode cX12_gets 77 = .ok (.invokestatic 91, 3) := dk_184 0 91 (dk_at dksX12_gets_3 7 rfl rfl)
theorem dX12_gets_80 : decode cX12_gets 80 = .ok (.lstore 5, 2) := dk_55 5 (dk_at dksX12_gets_3 10 rfl rfl)
theorem dX12_gets_82 : decode cX12_gets 82 = .ok (.aload_n 0, 1) := dk_42 (dk_at dksX12_gets_3 12 rfl rfl)
theorem dX12_gets_83 : decode cX12_gets 83 = .ok (.lload 5, 2) := dk_22 5 (dk_at dksX12_gets_3 13 rfl rfl)
theorem dX12_gets_85 : decode cX12_gets 85 = .ok (.invokevirtual 132, 3) := dk_182 0 132 (dk_at dksX12_gets_3 15 rfl rfl)
theorem dX12_gets_88 : decode cX12_gets 88 = .ok (.aload_n 0, 1) := dk_42 (dk_at dksX12_gets_3 18 rfl rfl)
theorem dX12_gets_89 : decode cX12_gets 89 = .ok (.lload_n 1, 1) := dk_31 (dk_at dksX12_gets_3 19 rfl rfl)
theorem dX12_gets_90 : decode cX12_gets 90 = .ok (.lload_n 3, 1) := dk_33 (dk_at dksX12_gets_3 20 rfl rfl)
theorem dX12_gets_91 : decode cX12_gets 91 = .ok (.lsub, 1) := dk_101 (dk_at dksX12_gets_3 21 rfl rfl)
theorem dX12_gets_92 : decode cX12_gets 92 = .ok (.lload 5, 2) := dk_22 5 (dk_at dksX12_gets_3 22 rfl rfl)
theorem dX12_gets_94 : decode cX12_gets 94 = .ok (.lsub, 1) := dk_101 (dk_at dksX12_gets_4 0 rfl rfl)
theorem dX12_gets_95 : decode cX12_gets 95 = .ok (.invokevirtual 136, 3) := dk_182 0 136 (dk_at dksX12_gets_4 1 rfl rfl)
theorem dX12_gets_98 : decode cX12_gets 98 = .ok (.lstore 7, 2) := dk_55 7 (dk_at dksX12_gets_4 4 rfl rfl)
theorem dX12_gets_100 : decode cX12_gets 100 = .ok (.aload_n 0, 1) := dk_42 (dk_at dksX12_gets_4 6 rfl rfl)
theorem dX12_gets_101 : decode cX12_gets 101 = .ok (.getfield 32, 3) := dk_180 0 32 (dk_at dksX12_gets_4 7 rfl rfl)
theorem dX12_gets_104 : decode cX12_gets 104 = .ok (.invokevirtual 140, 3) := dk_182 0 140 (dk_at dksX12_gets_4 10 rfl rfl)
theorem dX12_gets_107 : decode cX12_gets 107 = .ok (.lconst 0, 1) := dk_9 (dk_at dksX12_gets_4 13 rfl rfl)
theorem dX12_gets_108 : decode cX12_gets 108 = .ok (.lcmp, 1) := dk_148 (dk_at dksX12_gets_4 14 rfl rfl)
theorem dX12_gets_109 : decode cX12_gets 109 = .ok (.ifCond .le 12, 3) := dk_158 0 12 (dk_at dksX12_gets_4 15 rfl rfl)
theorem dX12_gets_112 : decode cX12_gets 112 = .ok (.lload 7, 2) := dk_22 7 (dk_at dksX12_gets_4 18 rfl rfl)
theorem dX12_gets_114 : decode cX12_gets 114 = .ok (.ldc2_w 144, 3) := dk_20 0 144 (dk_at dksX12_gets_4 20 rfl rfl)
theorem dX12_gets_117 : decode cX12_gets 117 = .ok (.ldiv, 1) := dk_109 (dk_at dksX12_gets_4 23 rfl rfl)
theorem dX12_gets_118 : decode cX12_gets 118 = .ok (.goto 4, 3) := dk_167 0 4 (dk_at dksX12_gets_5 0 rfl rfl)
theorem dX12_gets_121 : decode cX12_gets 121 = .ok (.lconst 0, 1) := dk_9 (dk_at dksX12_gets_5 3 rfl rfl)
theorem dX12_gets_122 : decode cX12_gets 122 = .ok (.lstore 9, 2) := dk_55 9 (dk_at dksX12_gets_5 4 rfl rfl)
theorem dX12_gets_124 : decode cX12_gets 124 = .ok (.aload_n 0, 1) := dk_42 (dk_at dksX12_gets_5 6 rfl rfl)
theorem dX12_gets_125 : decode cX12_gets 125 = .ok (.getfield 32, 3) := dk_180 0 32 (dk_at dksX12_gets_5 7 rfl rfl)
theorem dX12_gets_128 : decode cX12_gets 128 = .ok (.dup, 1) := dk_89 (dk_at dksX12_gets_5 10 rfl rfl)
theorem dX12_gets_129 : decode cX12_gets 129 = .ok (.getfield 146, 3) := dk_180 0 146 (dk_at dksX12_gets_5 11 rfl rfl)
theorem dX12_gets_132 : decode cX12_gets 132 = .ok (.lload 9, 2) := dk_22 9 (dk_at dksX12_gets_5 14 rfl rfl)
theorem dX12_gets_134 : decode cX12_gets 134 = .ok (.ladd, 1) := dk_97 (dk_at dksX12_gets_5 16 rfl rfl)
theorem dX12_gets_135 : decode cX12_gets 135 = .ok (.putfield 146, 3) := dk_181 0 146 (dk_at dksX12_gets_5 17 rfl rfl)
theorem dX12_gets_138 : decode cX12_gets 138 = .ok (.aload_n 0, 1) := dk_42 (dk_at dksX12_gets_5 20 rfl rfl)
theorem dX12_gets_139 : decode cX12_gets 139 = .ok (.getfield 32, 3) := dk_180 0 32 (dk_at dksX12_gets_5 21 rfl rfl)
theorem dX12_gets_142 : decode cX12_gets 142 = .ok (.lload 7, 2) := dk_22 7 (dk_at dksX12_gets_6 0 rfl rfl)
theorem dX12_gets_144 : decode cX12_gets 144 = .ok (.lload 9, 2) := dk_22 9 (dk_at dksX12_gets_6 2 rfl rfl)
theorem dX12_gets_146 : decode cX12_gets 146 = .ok (.lsub, 1) := dk_101 (dk_at dksX12_gets_6 4 rfl rfl)
theorem dX12_gets_147 : decode cX12_gets 147 = .ok (.invokevirtual 149, 3) := dk_182 0 149 (dk_at dksX12_gets_6 5 rfl rfl)
theorem dX12_gets_150 : decode cX12_gets 150 = .ok (.aload_n 0, 1) := dk_42 (dk_at dksX12_gets_6 8 rfl rfl)
theorem dX12_gets_151 : decode cX12_gets 151 = .ok (.getfield 32, 3) := dk_180 0 32 (dk_at dksX12_gets_6 9 rfl rfl)
theorem dX12_gets_154 : decode cX12_gets 154 = .ok (.invokevirtual 152, 3) := dk_182 0 152 (dk_at dksX12_gets_6 12 rfl rfl)
theorem dX12_gets_157 : decode cX12_gets 157 = .ok (.return_, 1) := dk_177 (dk_at dksX12_gets_6 15 rfl rfl)
abbrev cX12_payLawyers : ByteArray := prog_2_method_8_code
def yX12_payLawyers : MethodName := ⟨RX12, "payLawyers", "(J)V"⟩
def dkwX12_payLawyers_6 : List UInt8 := [180, 0, 3, 180, 0, 123, 180, 0, 155, 42, 182, 0, 111, 92, 47, 22, 4, 97, 80, 177]
abbrev dktX12_payLawyers_6 : List UInt8 := dkwX12_payLawyers_6 ++ []
def dkwX12_payLawyers_5 : List UInt8 := [3, 46, 92, 47, 22, 7, 97, 80, 22, 4, 22, 7, 101, 55, 4, 132, 6, 1, 167, 255, 150, 42]
abbrev dktX12_payLawyers_5 : List UInt8 := dkwX12_payLawyers_5 ++ dktX12_payLawyers_6
def dkwX12_payLawyers_4 : List UInt8 := [42, 180, 0, 3, 180, 0, 123, 180, 0, 155, 42, 180, 0, 25, 21, 6, 185, 0, 61, 2, 0, 192, 0, 65]
abbrev dktX12_payLawyers_4 : List UInt8 := dkwX12_payLawyers_4 ++ dktX12_payLawyers_5
def dkwX12_payLawyers_3 : List UInt8 := [180, 0, 25, 21, 6, 185, 0, 61, 2, 0, 192, 0, 65, 4, 46, 100, 133, 29, 133, 184, 0, 91, 55, 7]
abbrev dktX12_payLawyers_3 : List UInt8 := dkwX12_payLawyers_3 ++ dktX12_payLawyers_4
def dkwX12_payLawyers_2 : List UInt8 := [158, 0, 92, 31, 42, 180, 0, 25, 21, 6, 4, 96, 185, 0, 61, 2, 0, 192, 0, 65, 4, 46, 42]
abbrev dktX12_payLawyers_2 : List UInt8 := dkwX12_payLawyers_2 ++ dktX12_payLawyers_3
def dkwX12_payLawyers_1 : List UInt8 := [31, 55, 4, 3, 54, 6, 21, 6, 4, 96, 42, 180, 0, 25, 185, 0, 57, 1, 0, 162, 0, 96, 29]
abbrev dktX12_payLawyers_1 : List UInt8 := dkwX12_payLawyers_1 ++ dktX12_payLawyers_2
def dkwX12_payLawyers_0 : List UInt8 := [42, 180, 0, 3, 180, 0, 48, 42, 180, 0, 25, 3, 185, 0, 61, 2, 0, 192, 0, 65, 4, 46, 100, 62]
abbrev dktX12_payLawyers_0 : List UInt8 := dkwX12_payLawyers_0 ++ dktX12_payLawyers_1
theorem dksX12_payLawyers_0 : cX12_payLawyers.data.toList.drop 0 = dktX12_payLawyers_0 := by decide +kernel
theorem dksX12_payLawyers_1 : cX12_payLawyers.data.toList.drop 24 = dktX12_payLawyers_1 := dk_seg dksX12_payLawyers_0 24 rfl rfl
theorem dksX12_payLawyers_2 : cX12_payLawyers.data.toList.drop 47 = dktX12_payLawyers_2 := dk_seg dksX12_payLawyers_1 23 rfl rfl
theorem dksX12_payLawyers_3 : cX12_payLawyers.data.toList.drop 70 = dktX12_payLawyers_3 := dk_seg dksX12_payLawyers_2 23 rfl rfl
theorem dksX12_payLawyers_4 : cX12_payLawyers.data.toList.drop 94 = dktX12_payLawyers_4 := dk_seg dksX12_payLawyers_3 24 rfl rfl
theorem dksX12_payLawyers_5 : cX12_payLawyers.data.toList.drop 118 = dktX12_payLawyers_5 := dk_seg dksX12_payLawyers_4 24 rfl rfl
theorem dksX12_payLawyers_6 : cX12_payLawyers.data.toList.drop 140 = dktX12_payLawyers_6 := dk_seg dksX12_payLawyers_5 22 rfl rfl
theorem dX12_payLawyers_0 : decode cX12_payLawyers 0 = .ok (.aload_n 0, 1) := dk_42 (dk_at dksX12_payLawyers_0 0 rfl rfl)
theorem dX12_payLawyers_1 : decode cX12_payLawyers 1 = .ok (.getfield 3, 3) := dk_180 0 3 (dk_at dksX12_payLawyers_0 1 rfl rfl)
theorem dX12_payLawyers_4 : decode cX12_payLawyers 4 = .ok (.getfield 48, 3) := dk_180 0 48 (dk_at dksX12_payLawyers_0 4 rfl rfl)
theorem dX12_payLawyers_7 : decode cX12_payLawyers 7 = .ok (.aload_n 0, 1) := dk_42 (dk_at dksX12_payLawyers_0 7 rfl rfl)
theorem dX12_payLawyers_8 : decode cX12_payLawyers 8 = .ok (.getfield 25, 3) := dk_180 0 25 (dk_at dksX12_payLawyers_0 8 rfl rfl)
theorem dX12_payLawyers_11 : decode cX12_payLawyers 11 = .ok (.iconst 0, 1) := dk_3 (dk_at dksX12_payLawyers_0 11 rfl rfl)
theorem dX12_payLawyers_12 : decode cX12_payLawyers 12 = .ok (.invokeinterface 61 2, 5) := by decide +kernel
theorem dX12_payLawyers_17 : decode cX12_payLawyers 17 = .ok (.checkcast 65, 3) := dk_192 0 65 (dk_at dksX12_payLawyers_0 17 rfl rfl)
theorem dX12_payLawyers_20 : decode cX12_payLawyers 20 = .ok (.iconst 1, 1) := dk_4 (dk_at dksX12_payLawyers_0 20 rfl rfl)
theorem dX12_payLawyers_21 : decode cX12_payLawyers 21 = .ok (.iaload, 1) := dk_46 (dk_at dksX12_payLawyers_0 21 rfl rfl)
theorem dX12_payLawyers_22 : decode cX12_payLawyers 22 = .ok (.isub, 1) := dk_100 (dk_at dksX12_payLawyers_0 22 rfl rfl)
theorem dX12_payLawyers_23 : decode cX12_payLawyers 23 = .ok (.istore_n 3, 1) := dk_62 (dk_at dksX12_payLawyers_0 23 rfl rfl)
theorem dX12_payLawyers_24 : decode cX12_payLawyers 24 = .ok (.lload_n 1, 1) := dk_31 (dk_at dksX12_payLawyers_1 0 rfl rfl)
theorem dX12_payLawyers_25 : decode cX12_payLawyers 25 = .ok (.lstore 4, 2) := dk_55 4 (dk_at dksX12_payLawyers_1 1 rfl rfl)
theorem dX12_payLawyers_27 : decode cX12_payLawyers 27 = .ok (.iconst 0, 1) := dk_3 (dk_at dksX12_payLawyers_1 3 rfl rfl)
theorem dX12_payLawyers_28 : decode cX12_payLawyers 28 = .ok (.istore 6, 2) := dk_54 6 (dk_at dksX12_payLawyers_1 4 rfl rfl)
theorem dX12_payLawyers_30 : decode cX12_payLawyers 30 = .ok (.iload 6, 2) := dk_21 6 (dk_at dksX12_payLawyers_1 6 rfl rfl)
theorem dX12_payLawyers_32 : decode cX12_payLawyers 32 = .ok (.iconst 1, 1) := dk_4 (dk_at dksX12_payLawyers_1 8 rfl rfl)
theorem dX12_payLawyers_33 : decode cX12_payLawyers 33 = .ok (.iadd, 1) := dk_96 (dk_at dksX12_payLawyers_1 9 rfl rfl)
theorem dX12_payLawyers_34 : decode cX12_payLawyers 34 = .ok (.aload_n 0, 1) := dk_42 (dk_at dksX12_payLawyers_1 10 rfl rfl)
theorem dX12_payLawyers_35 : decode cX12_payLawyers 35 = .ok (.getfield 25, 3) := dk_180 0 25 (dk_at dksX12_payLawyers_1 11 rfl rfl)
theorem dX12_payLawyers_38 : decode cX12_payLawyers 38 = .ok (.invokeinterface 57 1, 5) := by decide +kernel
theorem dX12_payLawyers_43 : decode cX12_payLawyers 43 = .ok (.if_icmp .ge 96, 3) := dk_162 0 96 (dk_at dksX12_payLawyers_1 19 rfl rfl)
theorem dX12_payLawyers_46 : decode cX12_payLawyers 46 = .ok (.iload_n 3, 1) := dk_29 (dk_at dksX12_payLawyers_1 22 rfl rfl)
theorem dX12_payLawyers_47 : decode cX12_payLawyers 47 = .ok (.ifCond .le 92, 3) := dk_158 0 92 (dk_at dksX12_payLawyers_2 0 rfl rfl)
theorem dX12_payLawyers_50 : decode cX12_payLawyers 50 = .ok (.lload_n 1, 1) := dk_31 (dk_at dksX12_payLawyers_2 3 rfl rfl)
theorem dX12_payLawyers_51 : decode cX12_payLawyers 51 = .ok (.aload_n 0, 1) := dk_42 (dk_at dksX12_payLawyers_2 4 rfl rfl)
theorem dX12_payLawyers_52 : decode cX12_payLawyers 52 = .ok (.getfield 25, 3) := dk_180 0 25 (dk_at dksX12_payLawyers_2 5 rfl rfl)
theorem dX12_payLawyers_55 : decode cX12_payLawyers 55 = .ok (.iload 6, 2) := dk_21 6 (dk_at dksX12_payLawyers_2 8 rfl rfl)
theorem dX12_payLawyers_57 : decode cX12_payLawyers 57 = .ok (.iconst 1, 1) := dk_4 (dk_at dksX12_payLawyers_2 10 rfl rfl)
theorem dX12_payLawyers_58 : decode cX12_payLawyers 58 = .ok (.iadd, 1) := dk_96 (dk_at dksX12_payLawyers_2 11 rfl rfl)
theorem dX12_payLawyers_59 : decode cX12_payLawyers 59 = .ok (.invokeinterface 61 2, 5) := by decide +kernel
theorem dX12_payLawyers_64 : decode cX12_payLawyers 64 = .ok (.checkcast 65, 3) := dk_192 0 65 (dk_at dksX12_payLawyers_2 17 rfl rfl)
theorem dX12_payLawyers_67 : decode cX12_payLawyers 67 = .ok (.iconst 1, 1) := dk_4 (dk_at dksX12_payLawyers_2 20 rfl rfl)
theorem dX12_payLawyers_68 : decode cX12_payLawyers 68 = .ok (.iaload, 1) := dk_46 (dk_at dksX12_payLawyers_2 21 rfl rfl)
theorem dX12_payLawyers_69 : decode cX12_payLawyers 69 = .ok (.aload_n 0, 1) := dk_42 (dk_at dksX12_payLawyers_2 22 rfl rfl)
theorem dX12_payLawyers_70 : decode cX12_payLawyers 70 = .ok (.getfield 25, 3) := dk_180 0 25 (dk_at dksX12_payLawyers_3 0 rfl rfl)
theorem dX12_payLawyers_73 : decode cX12_payLawyers 73 = .ok (.iload 6, 2) := dk_21 6 (dk_at dksX12_payLawyers_3 3 rfl rfl)
theorem dX12_payLawyers_75 : decode cX12_payLawyers 75 = .ok (.invokeinterface 61 2, 5) := by decide +kernel
theorem dX12_payLawyers_80 : decode cX12_payLawyers 80 = .ok (.checkcast 65, 3) := dk_192 0 65 (dk_at dksX12_payLawyers_3 10 rfl rfl)
theorem dX12_payLawyers_83 : decode cX12_payLawyers 83 = .ok (.iconst 1, 1) := dk_4 (dk_at dksX12_payLawyers_3 13 rfl rfl)
theorem dX12_payLawyers_84 : decode cX12_payLawyers 84 = .ok (.iaload, 1) := dk_46 (dk_at dksX12_payLawyers_3 14 rfl rfl)
theorem dX12_payLawyers_85 : decode cX12_payLawyers 85 = .ok (.isub, 1) := dk_100 (dk_at dksX12_payLawyers_3 15 rfl rfl)
theorem dX12_payLawyers_86 : decode cX12_payLawyers 86 = .ok (.i2l, 1) := dk_133 (dk_at dksX12_payLawyers_3 16 rfl rfl)
theorem dX12_payLawyers_87 : decode cX12_payLawyers 87 = .ok (.iload_n 3, 1) := dk_29 (dk_at dksX12_payLawyers_3 17 rfl rfl)
theorem dX12_payLawyers_88 : decode cX12_payLawyers 88 = .ok (.i2l, 1) := dk_133 (dk_at dksX12_payLawyers_3 18 rfl rfl)
theorem dX12_payLawyers_89 : decode cX12_payLawyers 89 = .ok (.invokestatic 91, 3) := dk_184 0 91 (dk_at dksX12_payLawyers_3 19 rfl rfl)
theorem dX12_payLawyers_92 : decode cX12_payLawyers 92 = .ok (.lstore 7, 2) := dk_55 7 (dk_at dksX12_payLawyers_3 22 rfl rfl)
theorem dX12_payLawyers_94 : decode cX12_payLawyers 94 = .ok (.aload_n 0, 1) := dk_42 (dk_at dksX12_payLawyers_4 0 rfl rfl)
theorem dX12_payLawyers_95 : decode cX12_payLawyers 95 = .ok (.getfield 3, 3) := dk_180 0 3 (dk_at dksX12_payLawyers_4 1 rfl rfl)
theorem dX12_payLawyers_98 : decode cX12_payLawyers 98 = .ok (.getfield 123, 3) := dk_180 0 123 (dk_at dksX12_payLawyers_4 4 rfl rfl)
theorem dX12_payLawyers_101 : decode cX12_payLawyers 101 = .ok (.getfield 155, 3) := dk_180 0 155 (dk_at dksX12_payLawyers_4 7 rfl rfl)
theorem dX12_payLawyers_104 : decode cX12_payLawyers 104 = .ok (.aload_n 0, 1) := dk_42 (dk_at dksX12_payLawyers_4 10 rfl rfl)
theorem dX12_payLawyers_105 : decode cX12_payLawyers 105 = .ok (.getfield 25, 3) := dk_180 0 25 (dk_at dksX12_payLawyers_4 11 rfl rfl)
theorem dX12_payLawyers_108 : decode cX12_payLawyers 108 = .ok (.iload 6, 2) := dk_21 6 (dk_at dksX12_payLawyers_4 14 rfl rfl)
theorem dX12_payLawyers_110 : decode cX12_payLawyers 110 = .ok (.invokeinterface 61 2, 5) := by decide +kernel
theorem dX12_payLawyers_115 : decode cX12_payLawyers 115 = .ok (.checkcast 65, 3) := dk_192 0 65 (dk_at dksX12_payLawyers_4 21 rfl rfl)
theorem dX12_payLawyers_118 : decode cX12_payLawyers 118 = .ok (.iconst 0, 1) := dk_3 (dk_at dksX12_payLawyers_5 0 rfl rfl)
theorem dX12_payLawyers_119 : decode cX12_payLawyers 119 = .ok (.iaload, 1) := dk_46 (dk_at dksX12_payLawyers_5 1 rfl rfl)
theorem dX12_payLawyers_120 : decode cX12_payLawyers 120 = .ok (.dup2, 1) := dk_92 (dk_at dksX12_payLawyers_5 2 rfl rfl)
theorem dX12_payLawyers_121 : decode cX12_payLawyers 121 = .ok (.laload, 1) := dk_47 (dk_at dksX12_payLawyers_5 3 rfl rfl)
theorem dX12_payLawyers_122 : decode cX12_payLawyers 122 = .ok (.lload 7, 2) := dk_22 7 (dk_at dksX12_payLawyers_5 4 rfl rfl)
theorem dX12_payLawyers_124 : decode cX12_payLawyers 124 = .ok (.ladd, 1) := dk_97 (dk_at dksX12_payLawyers_5 6 rfl rfl)
theorem dX12_payLawyers_125 : decode cX12_payLawyers 125 = .ok (.lastore, 1) := dk_80 (dk_at dksX12_payLawyers_5 7 rfl rfl)
theorem dX12_payLawyers_126 : decode cX12_payLawyers 126 = .ok (.lload 4, 2) := dk_22 4 (dk_at dksX12_payLawyers_5 8 rfl rfl)
theorem dX12_payLawyers_128 : decode cX12_payLawyers 128 = .ok (.lload 7, 2) := dk_22 7 (dk_at dksX12_payLawyers_5 10 rfl rfl)
theorem dX12_payLawyers_130 : decode cX12_payLawyers 130 = .ok (.lsub, 1) := dk_101 (dk_at dksX12_payLawyers_5 12 rfl rfl)
theorem dX12_payLawyers_131 : decode cX12_payLawyers 131 = .ok (.lstore 4, 2) := dk_55 4 (dk_at dksX12_payLawyers_5 13 rfl rfl)
theorem dX12_payLawyers_133 : decode cX12_payLawyers 133 = .ok (.iinc 6 1, 3) := dk_132 6 1 (dk_at dksX12_payLawyers_5 15 rfl rfl)
theorem dX12_payLawyers_136 : decode cX12_payLawyers 136 = .ok (.goto (-106), 3) := dk_167 255 150 (dk_at dksX12_payLawyers_5 18 rfl rfl)
theorem dX12_payLawyers_139 : decode cX12_payLawyers 139 = .ok (.aload_n 0, 1) := dk_42 (dk_at dksX12_payLawyers_5 21 rfl rfl)
theorem dX12_payLawyers_140 : decode cX12_payLawyers 140 = .ok (.getfield 3, 3) := dk_180 0 3 (dk_at dksX12_payLawyers_6 0 rfl rfl)
theorem dX12_payLawyers_143 : decode cX12_payLawyers 143 = .ok (.getfield 123, 3) := dk_180 0 123 (dk_at dksX12_payLawyers_6 3 rfl rfl)
theorem dX12_payLawyers_146 : decode cX12_payLawyers 146 = .ok (.getfield 155, 3) := dk_180 0 155 (dk_at dksX12_payLawyers_6 6 rfl rfl)
theorem dX12_payLawyers_149 : decode cX12_payLawyers 149 = .ok (.aload_n 0, 1) := dk_42 (dk_at dksX12_payLawyers_6 9 rfl rfl)
theorem dX12_payLawyers_150 : decode cX12_payLawyers 150 = .ok (.invokevirtual 111, 3) := dk_182 0 111 (dk_at dksX12_payLawyers_6 10 rfl rfl)
theorem dX12_payLawyers_153 : decode cX12_payLawyers 153 = .ok (.dup2, 1) := dk_92 (dk_at dksX12_payLawyers_6 13 rfl rfl)
theorem dX12_payLawyers_154 : decode cX12_payLawyers 154 = .ok (.laload, 1) := dk_47 (dk_at dksX12_payLawyers_6 14 rfl rfl)
theorem dX12_payLawyers_155 : decode cX12_payLawyers 155 = .ok (.lload 4, 2) := dk_22 4 (dk_at dksX12_payLawyers_6 15 rfl rfl)
theorem dX12_payLawyers_157 : decode cX12_payLawyers 157 = .ok (.ladd, 1) := dk_97 (dk_at dksX12_payLawyers_6 17 rfl rfl)
theorem dX12_payLawyers_158 : decode cX12_payLawyers 158 = .ok (.lastore, 1) := dk_80 (dk_at dksX12_payLawyers_6 18 rfl rfl)
theorem dX12_payLawyers_159 : decode cX12_payLawyers 159 = .ok (.return_, 1) := dk_177 (dk_at dksX12_payLawyers_6 19 rfl rfl)
abbrev cX12_payLiens : ByteArray := prog_2_method_9_code
def yX12_payLiens : MethodName := ⟨RX12, "payLiens", "(J)J"⟩
def dkwX12_payLiens_5 : List UInt8 := [180, 0, 179, 21, 7, 133, 97, 181, 0, 179, 132, 5, 1, 167, 255, 133, 33, 173]
abbrev dktX12_payLiens_5 : List UInt8 := dkwX12_payLiens_5 ++ []
def dkwX12_payLiens_4 : List UInt8 := [180, 0, 172, 21, 7, 100, 181, 0, 172, 33, 21, 7, 133, 101, 66, 42, 180, 0, 3, 180, 0, 123, 89]
abbrev dktX12_payLiens_4 : List UInt8 := dkwX12_payLiens_4 ++ dktX12_payLiens_5
def dkwX12_payLiens_3 : List UInt8 := [180, 0, 175, 153, 0, 7, 6, 167, 0, 4, 5, 133, 109, 184, 0, 98, 136, 54, 7, 25, 6, 89]
abbrev dktX12_payLiens_3 : List UInt8 := dkwX12_payLiens_3 ++ dktX12_payLiens_4
def dkwX12_payLiens_2 : List UInt8 := [166, 0, 79, 25, 6, 180, 0, 172, 158, 0, 71, 25, 6, 180, 0, 172, 133, 33, 184, 0, 98, 31, 25, 6]
abbrev dktX12_payLiens_2 : List UInt8 := dkwX12_payLiens_2 ++ dktX12_payLiens_3
def dkwX12_payLiens_1 : List UInt8 := [180, 0, 158, 21, 5, 182, 0, 165, 192, 0, 169, 58, 6, 25, 6, 180, 0, 171, 42, 180, 0, 32]
abbrev dktX12_payLiens_1 : List UInt8 := dkwX12_payLiens_1 ++ dktX12_payLiens_2
def dkwX12_payLiens_0 : List UInt8 := [31, 66, 3, 54, 5, 21, 5, 42, 180, 0, 3, 180, 0, 158, 182, 0, 162, 162, 0, 114, 42, 180, 0, 3]
abbrev dktX12_payLiens_0 : List UInt8 := dkwX12_payLiens_0 ++ dktX12_payLiens_1
theorem dksX12_payLiens_0 : cX12_payLiens.data.toList.drop 0 = dktX12_payLiens_0 := by decide +kernel
theorem dksX12_payLiens_1 : cX12_payLiens.data.toList.drop 24 = dktX12_payLiens_1 := dk_seg dksX12_payLiens_0 24 rfl rfl
theorem dksX12_payLiens_2 : cX12_payLiens.data.toList.drop 46 = dktX12_payLiens_2 := dk_seg dksX12_payLiens_1 22 rfl rfl
theorem dksX12_payLiens_3 : cX12_payLiens.data.toList.drop 70 = dktX12_payLiens_3 := dk_seg dksX12_payLiens_2 24 rfl rfl
theorem dksX12_payLiens_4 : cX12_payLiens.data.toList.drop 92 = dktX12_payLiens_4 := dk_seg dksX12_payLiens_3 22 rfl rfl
theorem dksX12_payLiens_5 : cX12_payLiens.data.toList.drop 115 = dktX12_payLiens_5 := dk_seg dksX12_payLiens_4 23 rfl rfl
theorem dX12_payLiens_0 : decode cX12_payLiens 0 = .ok (.lload_n 1, 1) := dk_31 (dk_at dksX12_payLiens_0 0 rfl rfl)
theorem dX12_payLiens_1 : decode cX12_payLiens 1 = .ok (.lstore_n 3, 1) := dk_66 (dk_at dksX12_payLiens_0 1 rfl rfl)
theorem dX12_payLiens_2 : decode cX12_payLiens 2 = .ok (.iconst 0, 1) := dk_3 (dk_at dksX12_payLiens_0 2 rfl rfl)
theorem dX12_payLiens_3 : decode cX12_payLiens 3 = .ok (.istore 5, 2) := dk_54 5 (dk_at dksX12_payLiens_0 3 rfl rfl)
theorem dX12_payLiens_5 : decode cX12_payLiens 5 = .ok (.iload 5, 2) := dk_21 5 (dk_at dksX12_payLiens_0 5 rfl rfl)
theorem dX12_payLiens_7 : decode cX12_payLiens 7 = .ok (.aload_n 0, 1) := dk_42 (dk_at dksX12_payLiens_0 7 rfl rfl)
theorem dX12_payLiens_8 : decode cX12_payLiens 8 = .ok (.getfield 3, 3) := dk_180 0 3 (dk_at dksX12_payLiens_0 8 rfl rfl)
theorem dX12_payLiens_11 : decode cX12_payLiens 11 = .ok (.getfield 158, 3) := dk_180 0 158 (dk_at dksX12_payLiens_0 11 rfl rfl)
theorem dX12_payLiens_14 : decode cX12_payLiens 14 = .ok (.invokevirtual 162, 3) := dk_182 0 162 (dk_at dksX12_payLiens_0 14 rfl rfl)
theorem dX12_payLiens_17 : decode cX12_payLiens 17 = .ok (.if_icmp .ge 114, 3) := dk_162 0 114 (dk_at dksX12_payLiens_0 17 rfl rfl)
theorem dX12_payLiens_20 : decode cX12_payLiens 20 = .ok (.aload_n 0, 1) := dk_42 (dk_at dksX12_payLiens_0 20 rfl rfl)
theorem dX12_payLiens_21 : decode cX12_payLiens 21 = .ok (.getfield 3, 3) := dk_180 0 3 (dk_at dksX12_payLiens_0 21 rfl rfl)
theorem dX12_payLiens_24 : decode cX12_payLiens 24 = .ok (.getfield 158, 3) := dk_180 0 158 (dk_at dksX12_payLiens_1 0 rfl rfl)
theorem dX12_payLiens_27 : decode cX12_payLiens 27 = .ok (.iload 5, 2) := dk_21 5 (dk_at dksX12_payLiens_1 3 rfl rfl)
theorem dX12_payLiens_29 : decode cX12_payLiens 29 = .ok (.invokevirtual 165, 3) := dk_182 0 165 (dk_at dksX12_payLiens_1 5 rfl rfl)
theorem dX12_payLiens_32 : decode cX12_payLiens 32 = .ok (.checkcast 169, 3) := dk_192 0 169 (dk_at dksX12_payLiens_1 8 rfl rfl)
theorem dX12_payLiens_35 : decode cX12_payLiens 35 = .ok (.astore 6, 2) := dk_58 6 (dk_at dksX12_payLiens_1 11 rfl rfl)
theorem dX12_payLiens_37 : decode cX12_payLiens 37 = .ok (.aload 6, 2) := dk_25 6 (dk_at dksX12_payLiens_1 13 rfl rfl)
theorem dX12_payLiens_39 : decode cX12_payLiens 39 = .ok (.getfield 171, 3) := dk_180 0 171 (dk_at dksX12_payLiens_1 15 rfl rfl)
theorem dX12_payLiens_42 : decode cX12_payLiens 42 = .ok (.aload_n 0, 1) := dk_42 (dk_at dksX12_payLiens_1 18 rfl rfl)
theorem dX12_payLiens_43 : decode cX12_payLiens 43 = .ok (.getfield 32, 3) := dk_180 0 32 (dk_at dksX12_payLiens_1 19 rfl rfl)
theorem dX12_payLiens_46 : decode cX12_payLiens 46 = .ok (.if_acmp .ne 79, 3) := dk_166 0 79 (dk_at dksX12_payLiens_2 0 rfl rfl)
theorem dX12_payLiens_49 : decode cX12_payLiens 49 = .ok (.aload 6, 2) := dk_25 6 (dk_at dksX12_payLiens_2 3 rfl rfl)
theorem dX12_payLiens_51 : decode cX12_payLiens 51 = .ok (.getfield 172, 3) := dk_180 0 172 (dk_at dksX12_payLiens_2 5 rfl rfl)
theorem dX12_payLiens_54 : decode cX12_payLiens 54 = .ok (.ifCond .le 71, 3) := dk_158 0 71 (dk_at dksX12_payLiens_2 8 rfl rfl)
theorem dX12_payLiens_57 : decode cX12_payLiens 57 = .ok (.aload 6, 2) := dk_25 6 (dk_at dksX12_payLiens_2 11 rfl rfl)
theorem dX12_payLiens_59 : decode cX12_payLiens 59 = .ok (.getfield 172, 3) := dk_180 0 172 (dk_at dksX12_payLiens_2 13 rfl rfl)
theorem dX12_payLiens_62 : decode cX12_payLiens 62 = .ok (.i2l, 1) := dk_133 (dk_at dksX12_payLiens_2 16 rfl rfl)
theorem dX12_payLiens_63 : decode cX12_payLiens 63 = .ok (.lload_n 3, 1) := dk_33 (dk_at dksX12_payLiens_2 17 rfl rfl)
theorem dX12_payLiens_64 : decode cX12_payLiens 64 = .ok (.invokestatic 98, 3) := dk_184 0 98 (dk_at dksX12_payLiens_2 18 rfl rfl)
theorem dX12_payLiens_67 : decode cX12_payLiens 67 = .ok (.lload_n 1, 1) := dk_31 (dk_at dksX12_payLiens_2 21 rfl rfl)
theorem dX12_payLiens_68 : decode cX12_payLiens 68 = .ok (.aload 6, 2) := dk_25 6 (dk_at dksX12_payLiens_2 22 rfl rfl)
theorem dX12_payLiens_70 : decode cX12_payLiens 70 = .ok (.getfield 175, 3) := dk_180 0 175 (dk_at dksX12_payLiens_3 0 rfl rfl)
theorem dX12_payLiens_73 : decode cX12_payLiens 73 = .ok (.ifCond .eq 7, 3) := dk_153 0 7 (dk_at dksX12_payLiens_3 3 rfl rfl)
theorem dX12_payLiens_76 : decode cX12_payLiens 76 = .ok (.iconst 3, 1) := dk_6 (dk_at dksX12_payLiens_3 6 rfl rfl)
theorem dX12_payLiens_77 : decode cX12_payLiens 77 = .ok (.goto 4, 3) := dk_167 0 4 (dk_at dksX12_payLiens_3 7 rfl rfl)
theorem dX12_payLiens_80 : decode cX12_payLiens 80 = .ok (.iconst 2, 1) := dk_5 (dk_at dksX12_payLiens_3 10 rfl rfl)
theorem dX12_payLiens_81 : decode cX12_payLiens 81 = .ok (.i2l, 1) := dk_133 (dk_at dksX12_payLiens_3 11 rfl rfl)
theorem dX12_payLiens_82 : decode cX12_payLiens 82 = .ok (.ldiv, 1) := dk_109 (dk_at dksX12_payLiens_3 12 rfl rfl)
theorem dX12_payLiens_83 : decode cX12_payLiens 83 = .ok (.invokestatic 98, 3) := dk_184 0 98 (dk_at dksX12_payLiens_3 13 rfl rfl)
theorem dX12_payLiens_86 : decode cX12_payLiens 86 = .ok (.l2i, 1) := dk_136 (dk_at dksX12_payLiens_3 16 rfl rfl)
theorem dX12_payLiens_87 : decode cX12_payLiens 87 = .ok (.istore 7, 2) := dk_54 7 (dk_at dksX12_payLiens_3 17 rfl rfl)
theorem dX12_payLiens_89 : decode cX12_payLiens 89 = .ok (.aload 6, 2) := dk_25 6 (dk_at dksX12_payLiens_3 19 rfl rfl)
theorem dX12_payLiens_91 : decode cX12_payLiens 91 = .ok (.dup, 1) := dk_89 (dk_at dksX12_payLiens_3 21 rfl rfl)
theorem dX12_payLiens_92 : decode cX12_payLiens 92 = .ok (.getfield 172, 3) := dk_180 0 172 (dk_at dksX12_payLiens_4 0 rfl rfl)
theorem dX12_payLiens_95 : decode cX12_payLiens 95 = .ok (.iload 7, 2) := dk_21 7 (dk_at dksX12_payLiens_4 3 rfl rfl)
theorem dX12_payLiens_97 : decode cX12_payLiens 97 = .ok (.isub, 1) := dk_100 (dk_at dksX12_payLiens_4 5 rfl rfl)
theorem dX12_payLiens_98 : decode cX12_payLiens 98 = .ok (.putfield 172, 3) := dk_181 0 172 (dk_at dksX12_payLiens_4 6 rfl rfl)
theorem dX12_payLiens_101 : decode cX12_payLiens 101 = .ok (.lload_n 3, 1) := dk_33 (dk_at dksX12_payLiens_4 9 rfl rfl)
theorem dX12_payLiens_102 : decode cX12_payLiens 102 = .ok (.iload 7, 2) := dk_21 7 (dk_at dksX12_payLiens_4 10 rfl rfl)
theorem dX12_payLiens_104 : decode cX12_payLiens 104 = .ok (.i2l, 1) := dk_133 (dk_at dksX12_payLiens_4 12 rfl rfl)
theorem dX12_payLiens_105 : decode cX12_payLiens 105 = .ok (.lsub, 1) := dk_101 (dk_at dksX12_payLiens_4 13 rfl rfl)
theorem dX12_payLiens_106 : decode cX12_payLiens 106 = .ok (.lstore_n 3, 1) := dk_66 (dk_at dksX12_payLiens_4 14 rfl rfl)
theorem dX12_payLiens_107 : decode cX12_payLiens 107 = .ok (.aload_n 0, 1) := dk_42 (dk_at dksX12_payLiens_4 15 rfl rfl)
theorem dX12_payLiens_108 : decode cX12_payLiens 108 = .ok (.getfield 3, 3) := dk_180 0 3 (dk_at dksX12_payLiens_4 16 rfl rfl)
theorem dX12_payLiens_111 : decode cX12_payLiens 111 = .ok (.getfield 123, 3) := dk_180 0 123 (dk_at dksX12_payLiens_4 19 rfl rfl)
theorem dX12_payLiens_114 : decode cX12_payLiens 114 = .ok (.dup, 1) := dk_89 (dk_at dksX12_payLiens_4 22 rfl rfl)
theorem dX12_payLiens_115 : decode cX12_payLiens 115 = .ok (.getfield 179, 3) := dk_180 0 179 (dk_at dksX12_payLiens_5 0 rfl rfl)
theorem dX12_payLiens_118 : decode cX12_payLiens 118 = .ok (.iload 7, 2) := dk_21 7 (dk_at dksX12_payLiens_5 3 rfl rfl)
theorem dX12_payLiens_120 : decode cX12_payLiens 120 = .ok (.i2l, 1) := dk_133 (dk_at dksX12_payLiens_5 5 rfl rfl)
theorem dX12_payLiens_121 : decode cX12_payLiens 121 = .ok (.ladd, 1) := dk_97 (dk_at dksX12_payLiens_5 6 rfl rfl)
theorem dX12_payLiens_122 : decode cX12_payLiens 122 = .ok (.putfield 179, 3) := dk_181 0 179 (dk_at dksX12_payLiens_5 7 rfl rfl)
theorem dX12_payLiens_125 : decode cX12_payLiens 125 = .ok (.iinc 5 1, 3) := dk_132 5 1 (dk_at dksX12_payLiens_5 10 rfl rfl)
theorem dX12_payLiens_128 : decode cX12_payLiens 128 = .ok (.goto (-123), 3) := dk_167 255 133 (dk_at dksX12_payLiens_5 13 rfl rfl)
theorem dX12_payLiens_131 : decode cX12_payLiens 131 = .ok (.lload_n 3, 1) := dk_33 (dk_at dksX12_payLiens_5 16 rfl rfl)
theorem dX12_payLiens_132 : decode cX12_payLiens 132 = .ok (.lreturn, 1) := dk_173 (dk_at dksX12_payLiens_5 17 rfl rfl)
theorem q100 : (Jvm.Cond.initialized "Massclaim$Claim") ∈ lw_all := lw_g (lw_at lw_m1 36 rfl) rfl
theorem q166 : (Jvm.Cond.fieldLinkNest "Massclaim$Claim" (127 : Nat) "Massclaim$Out" "benefit" "J" "Massclaim") ∈ lw_tbl := lw_at lw_m1 102 rfl
theorem q169 : (Jvm.Cond.fieldLinkNest "Massclaim$Claim" (155 : Nat) "Massclaim$Out" "lawyers" "[J" "Massclaim") ∈ lw_tbl := lw_at lw_m1 105 rfl
theorem q172 : (Jvm.Cond.fieldLinkNest "Massclaim$Claim" (179 : Nat) "Massclaim$Out" "liens" "J" "Massclaim") ∈ lw_tbl := lw_at lw_m1 108 rfl
theorem q229 : (Jvm.Cond.fieldLinkNest "Massclaim$Claim" (158 : Nat) "Massclaim" "liens" "LMassclaim$Row;" "Massclaim") ∈ lw_tbl := lw_at lw_m1 165 rfl
theorem q232 : (Jvm.Cond.fieldLinkNest "Massclaim$Claim" (72 : Nat) "Massclaim" "grid" "[[I" "Massclaim") ∈ lw_tbl := lw_at lw_m1 168 rfl
theorem q236 : (Jvm.Cond.fieldLinkNest "Massclaim$Claim" (123 : Nat) "Massclaim" "out" "LMassclaim$Out;" "Massclaim") ∈ lw_tbl := lw_at lw_m1 172 rfl
theorem q246 : (Jvm.Cond.fieldLinkNest "Massclaim$Claim" (95 : Nat) "Massclaim" "cap" "I" "Massclaim") ∈ lw_tbl := lw_at lw_m1 182 rfl
theorem q251 : (Jvm.Cond.fieldLinkNest "Massclaim$Claim" (118 : Nat) "Massclaim" "fund" "J" "Massclaim") ∈ lw_tbl := lw_at lw_m1 187 rfl
theorem q254 : (Jvm.Cond.fieldLinkNest "Massclaim$Claim" (48 : Nat) "Massclaim" "today" "I" "Massclaim") ∈ lw_tbl := lw_at lw_m1 190 rfl
theorem q413 : (Jvm.Cond.instanceMethod ({ cls := "Massclaim$Claim", name := "value", desc := "()I" } : Jvm.MethodName)) ∈ lw_all := lw_g (lw_at lw_m2 109 rfl) rfl
theorem q414 : (Jvm.Cond.selects "Massclaim$Claim" ({ cls := "Massclaim$Claim", name := "value", desc := "()I" } : Jvm.MethodName) ({ cls := "Massclaim$Claim", name := "value", desc := "()I" } : Jvm.MethodName)) ∈ lw_all := lw_g (lw_at lw_m2 110 rfl) rfl
theorem q415 : (Jvm.Cond.code ({ cls := "Massclaim$Claim", name := "value", desc := "()I" } : Jvm.MethodName) prog_2_method_4_code (6 : Nat) (Option.some Jvm.ClassFile.FieldType.int)) ∈ lw_all := lw_g (lw_at lw_m2 111 rfl) rfl
theorem q416 : (Jvm.Cond.methodLink "Massclaim$Claim" (82 : Nat) ({ cls := "Massclaim$Person", name := "age", desc := "(I)I" } : Jvm.MethodName)) ∈ lw_all := lw_g (lw_at lw_m2 112 rfl) rfl
theorem q420 : (Jvm.Cond.methodLinkNest "Massclaim$Claim" (86 : Nat) ({ cls := "Massclaim", name := "band", desc := "(I)I" } : Jvm.MethodName) "Massclaim") ∈ lw_tbl := lw_at lw_m2 116 rfl
theorem q423 : (Jvm.Cond.constantLong "Massclaim$Claim" (89 : Nat) (100 : Int64)) ∈ lw_all := lw_g (lw_at lw_m2 119 rfl) rfl
theorem q424 : (Jvm.Cond.methodLinkNest "Massclaim$Claim" (91 : Nat) ({ cls := "Massclaim", name := "part", desc := "(JJJ)J" } : Jvm.MethodName) "Massclaim") ∈ lw_tbl := lw_at lw_m2 120 rfl
theorem q425 : (Jvm.Cond.methodLink "Massclaim$Claim" (98 : Nat) ({ cls := "java/lang/Math", name := "min", desc := "(JJ)J" } : Jvm.MethodName)) ∈ lw_all := lw_g (lw_at lw_m2 121 rfl) rfl
theorem q605 : (Jvm.Cond.fieldLinkNest "Massclaim$Claim" (114 : Nat) "Massclaim$Person" "state" "I" "Massclaim") ∈ lw_tbl := lw_at lw_m3 61 rfl
theorem q609 : (Jvm.Cond.fieldLinkNest "Massclaim$Claim" (67 : Nat) "Massclaim$Person" "months" "I" "Massclaim") ∈ lw_tbl := lw_at lw_m3 65 rfl
theorem q611 : (Jvm.Cond.fieldLinkNest "Massclaim$Claim" (76 : Nat) "Massclaim$Person" "level" "I" "Massclaim") ∈ lw_tbl := lw_at lw_m3 67 rfl
theorem q615 : (Jvm.Cond.fieldLinkNest "Massclaim$Claim" (79 : Nat) "Massclaim$Person" "known" "I" "Massclaim") ∈ lw_tbl := lw_at lw_m3 71 rfl
theorem q636 : (Jvm.Cond.fieldLinkNest "Massclaim$Claim" (146 : Nat) "Massclaim$Person" "heldBack" "J" "Massclaim") ∈ lw_tbl := lw_at lw_m3 92 rfl
theorem q753 : (Jvm.Cond.selects "Massclaim$Claim" ({ cls := "java/lang/Object", name := "getClass", desc := "()Ljava/lang/Class;" } : Jvm.MethodName) ({ cls := "java/lang/Object", name := "getClass", desc := "()Ljava/lang/Class;" } : Jvm.MethodName)) ∈ lw_all := lw_g (lw_at lw_m3 209 rfl) rfl
theorem q796 : (Jvm.Cond.castable "Massclaim$Claim" "Massclaim$Numbered") ∈ lw_tbl := lw_at lw_m4 12 rfl
theorem q797 : (Jvm.Cond.selects "Massclaim$Claim" ({ cls := "Massclaim$Numbered", name := "number", desc := "()I" } : Jvm.MethodName) ({ cls := "Massclaim$Claim", name := "number", desc := "()I" } : Jvm.MethodName)) ∈ lw_all := lw_g (lw_at lw_m4 13 rfl) rfl
theorem q798 : (Jvm.Cond.unhidden "Massclaim$Claim" "number" "()I") ∈ lw_tbl := lw_at lw_m4 14 rfl
theorem q799 : (Jvm.Cond.instanceMethod ({ cls := "Massclaim$Claim", name := "number", desc := "()I" } : Jvm.MethodName)) ∈ lw_all := lw_g (lw_at lw_m4 15 rfl) rfl
theorem q800 : (Jvm.Cond.publicMethod ({ cls := "Massclaim$Claim", name := "number", desc := "()I" } : Jvm.MethodName)) ∈ lw_tbl := lw_at lw_m4 16 rfl
theorem q801 : (Jvm.Cond.code ({ cls := "Massclaim$Claim", name := "number", desc := "()I" } : Jvm.MethodName) prog_2_method_2_code (1 : Nat) (Option.some Jvm.ClassFile.FieldType.int)) ∈ lw_all := lw_g (lw_at lw_m4 17 rfl) rfl
theorem q963 : (Jvm.Cond.unhidden "Massclaim$Claim" "compareTo" "(LMassclaim$Numbered;)I") ∈ lw_tbl := lw_at lw_m4 179 rfl
theorem q1534 : (Jvm.Cond.instantiable "Massclaim$Claim" (13 : Nat)) ∈ lw_all := lw_g (lw_at lw_m7 30 rfl) rfl
theorem q1536 : (Jvm.Cond.instanceMethod ({ cls := "Massclaim$Claim", name := "<init>", desc := "(LMassclaim;ILMassclaim$Person;III)V" } : Jvm.MethodName)) ∈ lw_all := lw_g (lw_at lw_m7 32 rfl) rfl
theorem q1537 : (Jvm.Cond.code ({ cls := "Massclaim$Claim", name := "<init>", desc := "(LMassclaim;ILMassclaim$Person;III)V" } : Jvm.MethodName) prog_2_method_1_code (8 : Nat) (Option.none : Option Jvm.ClassFile.FieldType)) ∈ lw_all := lw_g (lw_at lw_m7 33 rfl) rfl
theorem q1538 : (Jvm.Cond.methodLink "Massclaim$Claim" (9 : Nat) ({ cls := "java/lang/Object", name := "<init>", desc := "()V" } : Jvm.MethodName)) ∈ lw_all := lw_g (lw_at lw_m7 34 rfl) rfl
theorem q1539 : (Jvm.Cond.classLink "Massclaim$Claim" (22 : Nat) "java/util/ArrayList") ∈ lw_all := lw_g (lw_at lw_m7 35 rfl) rfl
theorem q1540 : (Jvm.Cond.methodLink "Massclaim$Claim" (24 : Nat) ({ cls := "java/util/ArrayList", name := "<init>", desc := "()V" } : Jvm.MethodName)) ∈ lw_all := lw_g (lw_at lw_m7 36 rfl) rfl
theorem q1541 : (Jvm.Cond.methodLink "Massclaim$Claim" (39 : Nat) ({ cls := "java/lang/Math", name := "min", desc := "(II)I" } : Jvm.MethodName)) ∈ lw_all := lw_g (lw_at lw_m7 37 rfl) rfl
theorem q1542 : (Jvm.Cond.interfaceEntry "Massclaim$Claim" (51 : Nat)) ∈ lw_tbl := lw_at lw_m7 38 rfl
theorem q1543 : (Jvm.Cond.methodLink "Massclaim$Claim" (51 : Nat) ({ cls := "java/util/List", name := "add", desc := "(Ljava/lang/Object;)Z" } : Jvm.MethodName)) ∈ lw_all := lw_g (lw_at lw_m7 39 rfl) rfl
theorem q1544 : (Jvm.Cond.fieldLink "Massclaim$Claim" (29 : Nat) "Massclaim$Claim" "number" "I") ∈ lw_all := lw_g (lw_at lw_m7 40 rfl) rfl
theorem q1546 : (Jvm.Cond.fieldLink "Massclaim$Claim" (32 : Nat) "Massclaim$Claim" "of" "LMassclaim$Person;") ∈ lw_all := lw_g (lw_at lw_m7 42 rfl) rfl
theorem q1548 : (Jvm.Cond.fieldLink "Massclaim$Claim" (36 : Nat) "Massclaim$Claim" "grade" "I") ∈ lw_all := lw_g (lw_at lw_m7 44 rfl) rfl
theorem q1550 : (Jvm.Cond.fieldLink "Massclaim$Claim" (45 : Nat) "Massclaim$Claim" "fee" "I") ∈ lw_all := lw_g (lw_at lw_m7 46 rfl) rfl
theorem q1551 : (Jvm.Cond.fieldLink "Massclaim$Claim" (15 : Nat) "Massclaim$Claim" "state" "I") ∈ lw_all := lw_g (lw_at lw_m7 47 rfl) rfl
theorem q1553 : (Jvm.Cond.fieldLink "Massclaim$Claim" (19 : Nat) "Massclaim$Claim" "parts" "I") ∈ lw_all := lw_g (lw_at lw_m7 49 rfl) rfl
theorem q1556 : (Jvm.Cond.fieldLink "Massclaim$Claim" (104 : Nat) "Massclaim$Claim" "got" "J") ∈ lw_all := lw_g (lw_at lw_m7 52 rfl) rfl
theorem q1558 : (Jvm.Cond.fieldLink "Massclaim$Claim" (115 : Nat) "Massclaim$Claim" "most" "J") ∈ lw_all := lw_g (lw_at lw_m7 54 rfl) rfl
theorem q1563 : (Jvm.Cond.fieldLink "Massclaim$Claim" (25 : Nat) "Massclaim$Claim" "lawyers" "Ljava/util/List;") ∈ lw_all := lw_g (lw_at lw_m7 59 rfl) rfl
theorem q1565 : (Jvm.Cond.fieldLink "Massclaim$Claim" (3 : Nat) "Massclaim$Claim" "this$0" "LMassclaim;") ∈ lw_all := lw_g (lw_at lw_m7 61 rfl) rfl
theorem q1566 : (Jvm.Cond.laysFinal "Massclaim$Claim" "Massclaim$Claim" "number" "I") ∈ lw_all := lw_g (lw_at lw_m7 62 rfl) rfl
theorem q1567 : (Jvm.Cond.soleField "Massclaim$Claim" "number") ∈ lw_all := lw_g (lw_at lw_m7 63 rfl) rfl
theorem q1568 : (Jvm.Cond.laysFinal "Massclaim$Claim" "Massclaim$Claim" "of" "LMassclaim$Person;") ∈ lw_all := lw_g (lw_at lw_m7 64 rfl) rfl
theorem q1569 : (Jvm.Cond.soleField "Massclaim$Claim" "of") ∈ lw_all := lw_g (lw_at lw_m7 65 rfl) rfl
theorem q1570 : (Jvm.Cond.lays "Massclaim$Claim" "Massclaim$Claim" "grade" "I") ∈ lw_all := lw_g (lw_at lw_m7 66 rfl) rfl
theorem q1571 : (Jvm.Cond.soleField "Massclaim$Claim" "grade") ∈ lw_all := lw_g (lw_at lw_m7 67 rfl) rfl
theorem q1572 : (Jvm.Cond.laysFinal "Massclaim$Claim" "Massclaim$Claim" "fee" "I") ∈ lw_all := lw_g (lw_at lw_m7 68 rfl) rfl
theorem q1573 : (Jvm.Cond.soleField "Massclaim$Claim" "fee") ∈ lw_all := lw_g (lw_at lw_m7 69 rfl) rfl
theorem q1574 : (Jvm.Cond.lays "Massclaim$Claim" "Massclaim$Claim" "state" "I") ∈ lw_all := lw_g (lw_at lw_m7 70 rfl) rfl
theorem q1575 : (Jvm.Cond.soleField "Massclaim$Claim" "state") ∈ lw_all := lw_g (lw_at lw_m7 71 rfl) rfl
theorem q1576 : (Jvm.Cond.lays "Massclaim$Claim" "Massclaim$Claim" "parts" "I") ∈ lw_all := lw_g (lw_at lw_m7 72 rfl) rfl
theorem q1577 : (Jvm.Cond.soleField "Massclaim$Claim" "parts") ∈ lw_all := lw_g (lw_at lw_m7 73 rfl) rfl
theorem q1578 : (Jvm.Cond.lays "Massclaim$Claim" "Massclaim$Claim" "got" "J") ∈ lw_all := lw_g (lw_at lw_m7 74 rfl) rfl
theorem q1579 : (Jvm.Cond.soleField "Massclaim$Claim" "got") ∈ lw_all := lw_g (lw_at lw_m7 75 rfl) rfl
theorem q1580 : (Jvm.Cond.lays "Massclaim$Claim" "Massclaim$Claim" "most" "J") ∈ lw_all := lw_g (lw_at lw_m7 76 rfl) rfl
theorem q1581 : (Jvm.Cond.soleField "Massclaim$Claim" "most") ∈ lw_all := lw_g (lw_at lw_m7 77 rfl) rfl
theorem q1582 : (Jvm.Cond.lays "Massclaim$Claim" "Massclaim$Claim" "found" "I") ∈ lw_all := lw_g (lw_at lw_m7 78 rfl) rfl
theorem q1583 : (Jvm.Cond.soleField "Massclaim$Claim" "found") ∈ lw_all := lw_g (lw_at lw_m7 79 rfl) rfl
theorem q1584 : (Jvm.Cond.lays "Massclaim$Claim" "Massclaim$Claim" "isAudited" "Z") ∈ lw_all := lw_g (lw_at lw_m7 80 rfl) rfl
theorem q1585 : (Jvm.Cond.soleField "Massclaim$Claim" "isAudited") ∈ lw_all := lw_g (lw_at lw_m7 81 rfl) rfl
theorem q1586 : (Jvm.Cond.lays "Massclaim$Claim" "Massclaim$Claim" "hasAppealed" "Z") ∈ lw_all := lw_g (lw_at lw_m7 82 rfl) rfl
theorem q1587 : (Jvm.Cond.soleField "Massclaim$Claim" "hasAppealed") ∈ lw_all := lw_g (lw_at lw_m7 83 rfl) rfl
theorem q1588 : (Jvm.Cond.laysFinal "Massclaim$Claim" "Massclaim$Claim" "lawyers" "Ljava/util/List;") ∈ lw_all := lw_g (lw_at lw_m7 84 rfl) rfl
theorem q1589 : (Jvm.Cond.soleField "Massclaim$Claim" "lawyers") ∈ lw_all := lw_g (lw_at lw_m7 85 rfl) rfl
theorem q1590 : (Jvm.Cond.laysFinal "Massclaim$Claim" "Massclaim$Claim" "this$0" "LMassclaim;") ∈ lw_all := lw_g (lw_at lw_m7 86 rfl) rfl
theorem q1591 : (Jvm.Cond.soleField "Massclaim$Claim" "this$0") ∈ lw_all := lw_g (lw_at lw_m7 87 rfl) rfl
theorem q1592 : (Jvm.Cond.superclass "Massclaim$Claim" "java/lang/Object") ∈ lw_all := lw_g (lw_at lw_m7 88 rfl) rfl
theorem q1598 : (Jvm.Cond.instanceMethod ({ cls := "Massclaim$Claim", name := "isLike", desc := "(LMassclaim$Claim;)Z" } : Jvm.MethodName)) ∈ lw_all := lw_g (lw_at lw_m7 94 rfl) rfl
theorem q1599 : (Jvm.Cond.selects "Massclaim$Claim" ({ cls := "Massclaim$Claim", name := "isLike", desc := "(LMassclaim$Claim;)Z" } : Jvm.MethodName) ({ cls := "Massclaim$Claim", name := "isLike", desc := "(LMassclaim$Claim;)Z" } : Jvm.MethodName)) ∈ lw_all := lw_g (lw_at lw_m7 95 rfl) rfl
theorem q1600 : (Jvm.Cond.code ({ cls := "Massclaim$Claim", name := "isLike", desc := "(LMassclaim$Claim;)Z" } : Jvm.MethodName) prog_2_method_6_code (3 : Nat) (Option.some Jvm.ClassFile.FieldType.boolean)) ∈ lw_all := lw_g (lw_at lw_m7 96 rfl) rfl
theorem q1601 : (Jvm.Cond.methodLink "Massclaim$Claim" (111 : Nat) ({ cls := "Massclaim$Claim", name := "lawyer", desc := "()I" } : Jvm.MethodName)) ∈ lw_all := lw_g (lw_at lw_m7 97 rfl) rfl
theorem q1602 : (Jvm.Cond.instanceMethod ({ cls := "Massclaim$Claim", name := "lawyer", desc := "()I" } : Jvm.MethodName)) ∈ lw_all := lw_g (lw_at lw_m7 98 rfl) rfl
theorem q1603 : (Jvm.Cond.selects "Massclaim$Claim" ({ cls := "Massclaim$Claim", name := "lawyer", desc := "()I" } : Jvm.MethodName) ({ cls := "Massclaim$Claim", name := "lawyer", desc := "()I" } : Jvm.MethodName)) ∈ lw_all := lw_g (lw_at lw_m7 99 rfl) rfl
theorem q1604 : (Jvm.Cond.code ({ cls := "Massclaim$Claim", name := "lawyer", desc := "()I" } : Jvm.MethodName) prog_2_method_3_code (1 : Nat) (Option.some Jvm.ClassFile.FieldType.int)) ∈ lw_all := lw_g (lw_at lw_m7 100 rfl) rfl
theorem q1605 : (Jvm.Cond.interfaceEntry "Massclaim$Claim" (57 : Nat)) ∈ lw_tbl := lw_at lw_m7 101 rfl
theorem q1606 : (Jvm.Cond.methodLink "Massclaim$Claim" (57 : Nat) ({ cls := "java/util/List", name := "size", desc := "()I" } : Jvm.MethodName)) ∈ lw_all := lw_g (lw_at lw_m7 102 rfl) rfl
theorem q1607 : (Jvm.Cond.interfaceEntry "Massclaim$Claim" (61 : Nat)) ∈ lw_tbl := lw_at lw_m7 103 rfl
theorem q1608 : (Jvm.Cond.methodLink "Massclaim$Claim" (61 : Nat) ({ cls := "java/util/List", name := "get", desc := "(I)Ljava/lang/Object;" } : Jvm.MethodName)) ∈ lw_all := lw_g (lw_at lw_m7 104 rfl) rfl
theorem q1609 : (Jvm.Cond.classLink "Massclaim$Claim" (65 : Nat) "[I") ∈ lw_all := lw_g (lw_at lw_m7 105 rfl) rfl
theorem q1619 : (Jvm.Cond.instanceMethod ({ cls := "Massclaim$Claim", name := "due", desc := "(I)J" } : Jvm.MethodName)) ∈ lw_all := lw_g (lw_at lw_m7 115 rfl) rfl
theorem q1620 : (Jvm.Cond.selects "Massclaim$Claim" ({ cls := "Massclaim$Claim", name := "due", desc := "(I)J" } : Jvm.MethodName) ({ cls := "Massclaim$Claim", name := "due", desc := "(I)J" } : Jvm.MethodName)) ∈ lw_all := lw_g (lw_at lw_m7 116 rfl) rfl
theorem q1621 : (Jvm.Cond.code ({ cls := "Massclaim$Claim", name := "due", desc := "(I)J" } : Jvm.MethodName) prog_2_method_5_code (2 : Nat) (Option.some Jvm.ClassFile.FieldType.long)) ∈ lw_all := lw_g (lw_at lw_m7 117 rfl) rfl
theorem q1622 : (Jvm.Cond.methodLink "Massclaim$Claim" (101 : Nat) ({ cls := "Massclaim$Claim", name := "value", desc := "()I" } : Jvm.MethodName)) ∈ lw_all := lw_g (lw_at lw_m7 118 rfl) rfl
theorem q1623 : (Jvm.Cond.methodLink "Massclaim$Claim" (108 : Nat) ({ cls := "java/lang/Math", name := "max", desc := "(JJ)J" } : Jvm.MethodName)) ∈ lw_all := lw_g (lw_at lw_m7 119 rfl) rfl
theorem q1694 : (Jvm.Cond.instanceMethod ({ cls := "Massclaim$Claim", name := "gets", desc := "(J)V" } : Jvm.MethodName)) ∈ lw_all := lw_g (lw_at lw_m7 190 rfl) rfl
theorem q1695 : (Jvm.Cond.selects "Massclaim$Claim" ({ cls := "Massclaim$Claim", name := "gets", desc := "(J)V" } : Jvm.MethodName) ({ cls := "Massclaim$Claim", name := "gets", desc := "(J)V" } : Jvm.MethodName)) ∈ lw_all := lw_g (lw_at lw_m7 191 rfl) rfl
theorem q1696 : (Jvm.Cond.code ({ cls := "Massclaim$Claim", name := "gets", desc := "(J)V" } : Jvm.MethodName) prog_2_method_7_code (11 : Nat) (Option.none : Option Jvm.ClassFile.FieldType)) ∈ lw_all := lw_g (lw_at lw_m7 192 rfl) rfl
theorem q1697 : (Jvm.Cond.constantLong "Massclaim$Claim" (121 : Nat) (6 : Int64)) ∈ lw_all := lw_g (lw_at lw_m7 193 rfl) rfl
theorem q1698 : (Jvm.Cond.methodLink "Massclaim$Claim" (132 : Nat) ({ cls := "Massclaim$Claim", name := "payLawyers", desc := "(J)V" } : Jvm.MethodName)) ∈ lw_all := lw_g (lw_at lw_m7 194 rfl) rfl
theorem q1699 : (Jvm.Cond.privateMethod ({ cls := "Massclaim$Claim", name := "payLawyers", desc := "(J)V" } : Jvm.MethodName)) ∈ lw_tbl := lw_at lw_m7 195 rfl
theorem q1700 : (Jvm.Cond.instanceMethod ({ cls := "Massclaim$Claim", name := "payLawyers", desc := "(J)V" } : Jvm.MethodName)) ∈ lw_all := lw_g (lw_at lw_m7 196 rfl) rfl
theorem q1701 : (Jvm.Cond.code ({ cls := "Massclaim$Claim", name := "payLawyers", desc := "(J)V" } : Jvm.MethodName) prog_2_method_8_code (9 : Nat) (Option.none : Option Jvm.ClassFile.FieldType)) ∈ lw_all := lw_g (lw_at lw_m7 197 rfl) rfl
theorem q1702 : (Jvm.Cond.methodLink "Massclaim$Claim" (136 : Nat) ({ cls := "Massclaim$Claim", name := "payLiens", desc := "(J)J" } : Jvm.MethodName)) ∈ lw_all := lw_g (lw_at lw_m7 198 rfl) rfl
theorem q1703 : (Jvm.Cond.privateMethod ({ cls := "Massclaim$Claim", name := "payLiens", desc := "(J)J" } : Jvm.MethodName)) ∈ lw_tbl := lw_at lw_m7 199 rfl
theorem q1704 : (Jvm.Cond.instanceMethod ({ cls := "Massclaim$Claim", name := "payLiens", desc := "(J)J" } : Jvm.MethodName)) ∈ lw_all := lw_g (lw_at lw_m7 200 rfl) rfl
theorem q1705 : (Jvm.Cond.code ({ cls := "Massclaim$Claim", name := "payLiens", desc := "(J)J" } : Jvm.MethodName) prog_2_method_9_code (8 : Nat) (Option.some Jvm.ClassFile.FieldType.long)) ∈ lw_all := lw_g (lw_at lw_m7 201 rfl) rfl
theorem q1706 : (Jvm.Cond.methodLink "Massclaim$Claim" (162 : Nat) ({ cls := "Massclaim$Row", name := "size", desc := "()I" } : Jvm.MethodName)) ∈ lw_all := lw_g (lw_at lw_m7 202 rfl) rfl
theorem q1707 : (Jvm.Cond.methodLink "Massclaim$Claim" (165 : Nat) ({ cls := "Massclaim$Row", name := "at", desc := "(I)LMassclaim$Numbered;" } : Jvm.MethodName)) ∈ lw_all := lw_g (lw_at lw_m7 203 rfl) rfl
theorem q1708 : (Jvm.Cond.classLink "Massclaim$Claim" (169 : Nat) "Massclaim$Lien") ∈ lw_all := lw_g (lw_at lw_m7 204 rfl) rfl
theorem q1709 : (Jvm.Cond.methodLink "Massclaim$Claim" (140 : Nat) ({ cls := "Massclaim$Person", name := "openLiens", desc := "()J" } : Jvm.MethodName)) ∈ lw_all := lw_g (lw_at lw_m7 205 rfl) rfl
theorem q1710 : (Jvm.Cond.constantLong "Massclaim$Claim" (144 : Nat) (5 : Int64)) ∈ lw_all := lw_g (lw_at lw_m7 206 rfl) rfl
theorem q1711 : (Jvm.Cond.methodLink "Massclaim$Claim" (149 : Nat) ({ cls := "Massclaim$Person", name := "deliver", desc := "(J)V" } : Jvm.MethodName)) ∈ lw_all := lw_g (lw_at lw_m7 207 rfl) rfl
theorem q1734 : (Jvm.Cond.methodLink "Massclaim$Claim" (152 : Nat) ({ cls := "Massclaim$Person", name := "releases", desc := "()V" } : Jvm.MethodName)) ∈ lw_all := lw_g (lw_at lw_m7 230 rfl) rfl
theorem q1755 : (Jvm.Cond.fieldLinkNest "Massclaim$Claim" (171 : Nat) "Massclaim$Lien" "of" "LMassclaim$Person;" "Massclaim") ∈ lw_tbl := lw_at lw_m8 11 rfl
theorem q1759 : (Jvm.Cond.fieldLinkNest "Massclaim$Claim" (175 : Nat) "Massclaim$Lien" "isState" "Z" "Massclaim") ∈ lw_tbl := lw_at lw_m8 15 rfl
theorem q1761 : (Jvm.Cond.fieldLinkNest "Massclaim$Claim" (172 : Nat) "Massclaim$Lien" "open" "I" "Massclaim") ∈ lw_tbl := lw_at lw_m8 17 rfl
theorem q2123 : (Jvm.Cond.selects "Massclaim$Claim" ({ cls := "java/lang/Object", name := "equals", desc := "(Ljava/lang/Object;)Z" } : Jvm.MethodName) ({ cls := "java/lang/Object", name := "equals", desc := "(Ljava/lang/Object;)Z" } : Jvm.MethodName)) ∈ lw_all := lw_g (lw_at lw_m9 139 rfl) rfl
theorem q2581 : (Jvm.Cond.castable "Massclaim$Claim" "java/lang/Object") ∈ lw_tbl := lw_at lw_m11 117 rfl
theorem in_X12 : ∀ w ∈ wsX120, w ∈ lw_all := lw_in wsX120 [1566, 1568, 1570, 1572, 1574, 1576, 1578, 1580, 1582, 1584, 1586, 1588, 1590] (by decide +kernel) (by decide +kernel)

/-! MassclaimModel$Claim -/
set_option maxRecDepth 100000
def RX13 : String := "MassclaimModel$Claim"
def TX13 : u_T := fun k => match k with
  | 0 => ("MassclaimModel$Claim", "of", "LMassclaimModel$Person;", false)
  | 1 => ("MassclaimModel$Claim", "grade", "I", false)
  | 2 => ("MassclaimModel$Claim", "fee", "I", false)
  | 3 => ("MassclaimModel$Claim", "state", "I", false)
  | 4 => ("MassclaimModel$Claim", "isAudited", "Z", false)
  | 5 => ("MassclaimModel$Claim", "isAppealed", "Z", false)
  | 6 => ("MassclaimModel$Claim", "deficient", "I", false)
  | 7 => ("MassclaimModel$Claim", "parts", "I", false)
  | 8 => ("MassclaimModel$Claim", "got", "J", false)
  | _ => ("MassclaimModel$Claim", "lawyers", "Ljava/util/ArrayList;", true)
def tyX13 : Nat → FieldType := fun k => match k with
  | 0 => .object "MassclaimModel$Person"
  | 1 => .int
  | 2 => .int
  | 3 => .int
  | 4 => .boolean
  | 5 => .boolean
  | 6 => .int
  | 7 => .int
  | 8 => .long
  | _ => .object "java/util/ArrayList"
abbrev wsX130 : List Cond := u_ws RX13 TX13 10
theorem nmX13 : ∀ a, a < 10 → ∀ b, b < 10 → a ≠ b → (TX13 a).2.1 ≠ (TX13 b).2.1 := by decide +kernel
theorem tyX13_ok : ∀ k, k < 10 → parseFieldDescriptor (TX13 k).2.2.1 = some (tyX13 k) := by decide +kernel
abbrev cX13_init : ByteArray := prog_15_method_1_code
def yX13_init : MethodName := ⟨RX13, "<init>", "()V"⟩
def dkwX13_init_1 : List UInt8 := [181, 0, 21, 177]
abbrev dktX13_init_1 : List UInt8 := dkwX13_init_1 ++ []
def dkwX13_init_0 : List UInt8 := [42, 183, 0, 3, 42, 3, 181, 0, 9, 42, 4, 181, 0, 15, 42, 187, 0, 18, 89, 183, 0, 20]
abbrev dktX13_init_0 : List UInt8 := dkwX13_init_0 ++ dktX13_init_1
theorem dksX13_init_0 : cX13_init.data.toList.drop 0 = dktX13_init_0 := by decide +kernel
theorem dksX13_init_1 : cX13_init.data.toList.drop 22 = dktX13_init_1 := dk_seg dksX13_init_0 22 rfl rfl
theorem dX13_init_0 : decode cX13_init 0 = .ok (.aload_n 0, 1) := dk_42 (dk_at dksX13_init_0 0 rfl rfl)
theorem dX13_init_1 : decode cX13_init 1 = .ok (.invokespecial 3, 3) := dk_183 0 3 (dk_at dksX13_init_0 1 rfl rfl)
theorem dX13_init_4 : decode cX13_init 4 = .ok (.aload_n 0, 1) := dk_42 (dk_at dksX13_init_0 4 rfl rfl)
theorem dX13_init_5 : decode cX13_init 5 = .ok (.iconst 0, 1) := dk_3 (dk_at dksX13_init_0 5 rfl rfl)
theorem dX13_init_6 : decode cX13_init 6 = .ok (.putfield 9, 3) := dk_181 0 9 (dk_at dksX13_init_0 6 rfl rfl)
theorem dX13_init_9 : decode cX13_init 9 = .ok (.aload_n 0, 1) := dk_42 (dk_at dksX13_init_0 9 rfl rfl)
theorem dX13_init_10 : decode cX13_init 10 = .ok (.iconst 1, 1) := dk_4 (dk_at dksX13_init_0 10 rfl rfl)
theorem dX13_init_11 : decode cX13_init 11 = .ok (.putfield 15, 3) := dk_181 0 15 (dk_at dksX13_init_0 11 rfl rfl)
theorem dX13_init_14 : decode cX13_init 14 = .ok (.aload_n 0, 1) := dk_42 (dk_at dksX13_init_0 14 rfl rfl)
theorem dX13_init_15 : decode cX13_init 15 = .ok (.new 18, 3) := dk_187 0 18 (dk_at dksX13_init_0 15 rfl rfl)
theorem dX13_init_18 : decode cX13_init 18 = .ok (.dup, 1) := dk_89 (dk_at dksX13_init_0 18 rfl rfl)
theorem dX13_init_19 : decode cX13_init 19 = .ok (.invokespecial 20, 3) := dk_183 0 20 (dk_at dksX13_init_0 19 rfl rfl)
theorem dX13_init_22 : decode cX13_init 22 = .ok (.putfield 21, 3) := dk_181 0 21 (dk_at dksX13_init_1 0 rfl rfl)
theorem dX13_init_25 : decode cX13_init 25 = .ok (.return_, 1) := dk_177 (dk_at dksX13_init_1 3 rfl rfl)
abbrev cX13_lawyer : ByteArray := prog_15_method_2_code
def yX13_lawyer : MethodName := ⟨RX13, "lawyer", "()I"⟩
def dkwX13_lawyer_0 : List UInt8 := [42, 180, 0, 21, 42, 180, 0, 21, 182, 0, 25, 4, 100, 182, 0, 29, 192, 0, 33, 3, 46, 172]
abbrev dktX13_lawyer_0 : List UInt8 := dkwX13_lawyer_0 ++ []
theorem dksX13_lawyer_0 : cX13_lawyer.data.toList.drop 0 = dktX13_lawyer_0 := by decide +kernel
theorem dX13_lawyer_0 : decode cX13_lawyer 0 = .ok (.aload_n 0, 1) := dk_42 (dk_at dksX13_lawyer_0 0 rfl rfl)
theorem dX13_lawyer_1 : decode cX13_lawyer 1 = .ok (.getfield 21, 3) := dk_180 0 21 (dk_at dksX13_lawyer_0 1 rfl rfl)
theorem dX13_lawyer_4 : decode cX13_lawyer 4 = .ok (.aload_n 0, 1) := dk_42 (dk_at dksX13_lawyer_0 4 rfl rfl)
theorem dX13_lawyer_5 : decode cX13_lawyer 5 = .ok (.getfield 21, 3) := dk_180 0 21 (dk_at dksX13_lawyer_0 5 rfl rfl)
theorem dX13_lawyer_8 : decode cX13_lawyer 8 = .ok (.invokevirtual 25, 3) := dk_182 0 25 (dk_at dksX13_lawyer_0 8 rfl rfl)
theorem dX13_lawyer_11 : decode cX13_lawyer 11 = .ok (.iconst 1, 1) := dk_4 (dk_at dksX13_lawyer_0 11 rfl rfl)
theorem dX13_lawyer_12 : decode cX13_lawyer 12 = .ok (.isub, 1) := dk_100 (dk_at dksX13_lawyer_0 12 rfl rfl)
theorem dX13_lawyer_13 : decode cX13_lawyer 13 = .ok (.invokevirtual 29, 3) := dk_182 0 29 (dk_at dksX13_lawyer_0 13 rfl rfl)
theorem dX13_lawyer_16 : decode cX13_lawyer 16 = .ok (.checkcast 33, 3) := dk_192 0 33 (dk_at dksX13_lawyer_0 16 rfl rfl)
theorem dX13_lawyer_19 : decode cX13_lawyer 19 = .ok (.iconst 0, 1) := dk_3 (dk_at dksX13_lawyer_0 19 rfl rfl)
theorem dX13_lawyer_20 : decode cX13_lawyer 20 = .ok (.iaload, 1) := dk_46 (dk_at dksX13_lawyer_0 20 rfl rfl)
theorem dX13_lawyer_21 : decode cX13_lawyer 21 = .ok (.ireturn, 1) := dk_172 (dk_at dksX13_lawyer_0 21 rfl rfl)
theorem q101 : (Jvm.Cond.initialized "MassclaimModel$Claim") ∈ lw_all := lw_g (lw_at lw_m1 37 rfl) rfl
theorem q764 : (Jvm.Cond.selects "MassclaimModel$Claim" ({ cls := "java/lang/Object", name := "getClass", desc := "()Ljava/lang/Class;" } : Jvm.MethodName) ({ cls := "java/lang/Object", name := "getClass", desc := "()Ljava/lang/Class;" } : Jvm.MethodName)) ∈ lw_all := lw_g (lw_at lw_m3 220 rfl) rfl
theorem q2134 : (Jvm.Cond.selects "MassclaimModel$Claim" ({ cls := "java/lang/Object", name := "equals", desc := "(Ljava/lang/Object;)Z" } : Jvm.MethodName) ({ cls := "java/lang/Object", name := "equals", desc := "(Ljava/lang/Object;)Z" } : Jvm.MethodName)) ∈ lw_all := lw_g (lw_at lw_m9 150 rfl) rfl
theorem q2308 : (Jvm.Cond.instantiable "MassclaimModel$Claim" (10 : Nat)) ∈ lw_all := lw_g (lw_at lw_m10 84 rfl) rfl
theorem q2310 : (Jvm.Cond.instanceMethod ({ cls := "MassclaimModel$Claim", name := "<init>", desc := "()V" } : Jvm.MethodName)) ∈ lw_all := lw_g (lw_at lw_m10 86 rfl) rfl
theorem q2311 : (Jvm.Cond.code ({ cls := "MassclaimModel$Claim", name := "<init>", desc := "()V" } : Jvm.MethodName) prog_15_method_1_code (1 : Nat) (Option.none : Option Jvm.ClassFile.FieldType)) ∈ lw_all := lw_g (lw_at lw_m10 87 rfl) rfl
theorem q2312 : (Jvm.Cond.methodLink "MassclaimModel$Claim" (3 : Nat) ({ cls := "java/lang/Object", name := "<init>", desc := "()V" } : Jvm.MethodName)) ∈ lw_all := lw_g (lw_at lw_m10 88 rfl) rfl
theorem q2313 : (Jvm.Cond.classLink "MassclaimModel$Claim" (18 : Nat) "java/util/ArrayList") ∈ lw_all := lw_g (lw_at lw_m10 89 rfl) rfl
theorem q2314 : (Jvm.Cond.methodLink "MassclaimModel$Claim" (20 : Nat) ({ cls := "java/util/ArrayList", name := "<init>", desc := "()V" } : Jvm.MethodName)) ∈ lw_all := lw_g (lw_at lw_m10 90 rfl) rfl
theorem q2318 : (Jvm.Cond.fieldLink "MassclaimModel$Claim" (9 : Nat) "MassclaimModel$Claim" "state" "I") ∈ lw_all := lw_g (lw_at lw_m10 94 rfl) rfl
theorem q2323 : (Jvm.Cond.fieldLink "MassclaimModel$Claim" (15 : Nat) "MassclaimModel$Claim" "parts" "I") ∈ lw_all := lw_g (lw_at lw_m10 99 rfl) rfl
theorem q2326 : (Jvm.Cond.fieldLink "MassclaimModel$Claim" (21 : Nat) "MassclaimModel$Claim" "lawyers" "Ljava/util/ArrayList;") ∈ lw_all := lw_g (lw_at lw_m10 102 rfl) rfl
theorem q2328 : (Jvm.Cond.lays "MassclaimModel$Claim" "MassclaimModel$Claim" "of" "LMassclaimModel$Person;") ∈ lw_all := lw_g (lw_at lw_m10 104 rfl) rfl
theorem q2329 : (Jvm.Cond.soleField "MassclaimModel$Claim" "of") ∈ lw_all := lw_g (lw_at lw_m10 105 rfl) rfl
theorem q2330 : (Jvm.Cond.lays "MassclaimModel$Claim" "MassclaimModel$Claim" "grade" "I") ∈ lw_all := lw_g (lw_at lw_m10 106 rfl) rfl
theorem q2331 : (Jvm.Cond.soleField "MassclaimModel$Claim" "grade") ∈ lw_all := lw_g (lw_at lw_m10 107 rfl) rfl
theorem q2332 : (Jvm.Cond.lays "MassclaimModel$Claim" "MassclaimModel$Claim" "fee" "I") ∈ lw_all := lw_g (lw_at lw_m10 108 rfl) rfl
theorem q2333 : (Jvm.Cond.soleField "MassclaimModel$Claim" "fee") ∈ lw_all := lw_g (lw_at lw_m10 109 rfl) rfl
theorem q2334 : (Jvm.Cond.lays "MassclaimModel$Claim" "MassclaimModel$Claim" "state" "I") ∈ lw_all := lw_g (lw_at lw_m10 110 rfl) rfl
theorem q2335 : (Jvm.Cond.soleField "MassclaimModel$Claim" "state") ∈ lw_all := lw_g (lw_at lw_m10 111 rfl) rfl
theorem q2336 : (Jvm.Cond.lays "MassclaimModel$Claim" "MassclaimModel$Claim" "isAudited" "Z") ∈ lw_all := lw_g (lw_at lw_m10 112 rfl) rfl
theorem q2337 : (Jvm.Cond.soleField "MassclaimModel$Claim" "isAudited") ∈ lw_all := lw_g (lw_at lw_m10 113 rfl) rfl
theorem q2338 : (Jvm.Cond.lays "MassclaimModel$Claim" "MassclaimModel$Claim" "isAppealed" "Z") ∈ lw_all := lw_g (lw_at lw_m10 114 rfl) rfl
theorem q2339 : (Jvm.Cond.soleField "MassclaimModel$Claim" "isAppealed") ∈ lw_all := lw_g (lw_at lw_m10 115 rfl) rfl
theorem q2340 : (Jvm.Cond.lays "MassclaimModel$Claim" "MassclaimModel$Claim" "deficient" "I") ∈ lw_all := lw_g (lw_at lw_m10 116 rfl) rfl
theorem q2341 : (Jvm.Cond.soleField "MassclaimModel$Claim" "deficient") ∈ lw_all := lw_g (lw_at lw_m10 117 rfl) rfl
theorem q2342 : (Jvm.Cond.lays "MassclaimModel$Claim" "MassclaimModel$Claim" "parts" "I") ∈ lw_all := lw_g (lw_at lw_m10 118 rfl) rfl
theorem q2343 : (Jvm.Cond.soleField "MassclaimModel$Claim" "parts") ∈ lw_all := lw_g (lw_at lw_m10 119 rfl) rfl
theorem q2344 : (Jvm.Cond.lays "MassclaimModel$Claim" "MassclaimModel$Claim" "got" "J") ∈ lw_all := lw_g (lw_at lw_m10 120 rfl) rfl
theorem q2345 : (Jvm.Cond.soleField "MassclaimModel$Claim" "got") ∈ lw_all := lw_g (lw_at lw_m10 121 rfl) rfl
theorem q2346 : (Jvm.Cond.laysFinal "MassclaimModel$Claim" "MassclaimModel$Claim" "lawyers" "Ljava/util/ArrayList;") ∈ lw_all := lw_g (lw_at lw_m10 122 rfl) rfl
theorem q2347 : (Jvm.Cond.soleField "MassclaimModel$Claim" "lawyers") ∈ lw_all := lw_g (lw_at lw_m10 123 rfl) rfl
theorem q2348 : (Jvm.Cond.superclass "MassclaimModel$Claim" "java/lang/Object") ∈ lw_all := lw_g (lw_at lw_m10 124 rfl) rfl
theorem q2358 : (Jvm.Cond.instanceMethod ({ cls := "MassclaimModel$Claim", name := "lawyer", desc := "()I" } : Jvm.MethodName)) ∈ lw_all := lw_g (lw_at lw_m10 134 rfl) rfl
theorem q2359 : (Jvm.Cond.selects "MassclaimModel$Claim" ({ cls := "MassclaimModel$Claim", name := "lawyer", desc := "()I" } : Jvm.MethodName) ({ cls := "MassclaimModel$Claim", name := "lawyer", desc := "()I" } : Jvm.MethodName)) ∈ lw_all := lw_g (lw_at lw_m10 135 rfl) rfl
theorem q2360 : (Jvm.Cond.code ({ cls := "MassclaimModel$Claim", name := "lawyer", desc := "()I" } : Jvm.MethodName) prog_15_method_2_code (1 : Nat) (Option.some Jvm.ClassFile.FieldType.int)) ∈ lw_all := lw_g (lw_at lw_m10 136 rfl) rfl
theorem q2361 : (Jvm.Cond.methodLink "MassclaimModel$Claim" (25 : Nat) ({ cls := "java/util/ArrayList", name := "size", desc := "()I" } : Jvm.MethodName)) ∈ lw_all := lw_g (lw_at lw_m10 137 rfl) rfl
theorem q2362 : (Jvm.Cond.methodLink "MassclaimModel$Claim" (29 : Nat) ({ cls := "java/util/ArrayList", name := "get", desc := "(I)Ljava/lang/Object;" } : Jvm.MethodName)) ∈ lw_all := lw_g (lw_at lw_m10 138 rfl) rfl
theorem q2363 : (Jvm.Cond.classLink "MassclaimModel$Claim" (33 : Nat) "[I") ∈ lw_all := lw_g (lw_at lw_m10 139 rfl) rfl
theorem q2582 : (Jvm.Cond.castable "MassclaimModel$Claim" "java/lang/Object") ∈ lw_tbl := lw_at lw_m11 118 rfl
theorem in_X13 : ∀ w ∈ wsX130, w ∈ lw_all := lw_in wsX130 [2328, 2330, 2332, 2334, 2336, 2338, 2340, 2342, 2344, 2346] (by decide +kernel) (by decide +kernel)

/-! Massclaim$Yearly -/
set_option maxRecDepth 100000
def RX14 : String := "Massclaim$Yearly"
def TX14 : u_T := fun k => match k with
  | 0 => ("Massclaim$Yearly", "lies", "J", false)
  | 1 => ("Massclaim$Yearly", "left", "I", false)
  | 2 => ("Massclaim$Yearly", "since", "I", true)
  | _ => ("Massclaim$Yearly", "this$0", "LMassclaim;", true)
def tyX14 : Nat → FieldType := fun k => match k with
  | 0 => .long
  | 1 => .int
  | 2 => .int
  | _ => .object "Massclaim"
abbrev wsX140 : List Cond := u_ws RX14 TX14 4
theorem nmX14 : ∀ a, a < 4 → ∀ b, b < 4 → a ≠ b → (TX14 a).2.1 ≠ (TX14 b).2.1 := by decide +kernel
theorem tyX14_ok : ∀ k, k < 4 → parseFieldDescriptor (TX14 k).2.2.1 = some (tyX14 k) := by decide +kernel
abbrev cX14_isDue : ByteArray := prog_12_method_2_code
def yX14_isDue : MethodName := ⟨RX14, "isDue", "()Z"⟩
def dkwX14_isDue_1 : List UInt8 := [154, 0, 7, 4, 167, 0, 4, 3, 172]
abbrev dktX14_isDue_1 : List UInt8 := dkwX14_isDue_1 ++ []
def dkwX14_isDue_0 : List UInt8 := [42, 180, 0, 26, 158, 0, 26, 42, 180, 0, 3, 180, 0, 15, 42, 180, 0, 19, 100, 17, 1, 104, 112]
abbrev dktX14_isDue_0 : List UInt8 := dkwX14_isDue_0 ++ dktX14_isDue_1
theorem dksX14_isDue_0 : cX14_isDue.data.toList.drop 0 = dktX14_isDue_0 := by decide +kernel
theorem dksX14_isDue_1 : cX14_isDue.data.toList.drop 23 = dktX14_isDue_1 := dk_seg dksX14_isDue_0 23 rfl rfl
theorem dX14_isDue_0 : decode cX14_isDue 0 = .ok (.aload_n 0, 1) := dk_42 (dk_at dksX14_isDue_0 0 rfl rfl)
theorem dX14_isDue_1 : decode cX14_isDue 1 = .ok (.getfield 26, 3) := dk_180 0 26 (dk_at dksX14_isDue_0 1 rfl rfl)
theorem dX14_isDue_4 : decode cX14_isDue 4 = .ok (.ifCond .le 26, 3) := dk_158 0 26 (dk_at dksX14_isDue_0 4 rfl rfl)
theorem dX14_isDue_7 : decode cX14_isDue 7 = .ok (.aload_n 0, 1) := dk_42 (dk_at dksX14_isDue_0 7 rfl rfl)
theorem dX14_isDue_8 : decode cX14_isDue 8 = .ok (.getfield 3, 3) := dk_180 0 3 (dk_at dksX14_isDue_0 8 rfl rfl)
theorem dX14_isDue_11 : decode cX14_isDue 11 = .ok (.getfield 15, 3) := dk_180 0 15 (dk_at dksX14_isDue_0 11 rfl rfl)
theorem dX14_isDue_14 : decode cX14_isDue 14 = .ok (.aload_n 0, 1) := dk_42 (dk_at dksX14_isDue_0 14 rfl rfl)
theorem dX14_isDue_15 : decode cX14_isDue 15 = .ok (.getfield 19, 3) := dk_180 0 19 (dk_at dksX14_isDue_0 15 rfl rfl)
theorem dX14_isDue_18 : decode cX14_isDue 18 = .ok (.isub, 1) := dk_100 (dk_at dksX14_isDue_0 18 rfl rfl)
theorem dX14_isDue_19 : decode cX14_isDue 19 = .ok (.sipush 360, 3) := dk_17 1 104 (dk_at dksX14_isDue_0 19 rfl rfl)
theorem dX14_isDue_22 : decode cX14_isDue 22 = .ok (.irem, 1) := dk_112 (dk_at dksX14_isDue_0 22 rfl rfl)
theorem dX14_isDue_23 : decode cX14_isDue 23 = .ok (.ifCond .ne 7, 3) := dk_154 0 7 (dk_at dksX14_isDue_1 0 rfl rfl)
theorem dX14_isDue_26 : decode cX14_isDue 26 = .ok (.iconst 1, 1) := dk_4 (dk_at dksX14_isDue_1 3 rfl rfl)
theorem dX14_isDue_27 : decode cX14_isDue 27 = .ok (.goto 4, 3) := dk_167 0 4 (dk_at dksX14_isDue_1 4 rfl rfl)
theorem dX14_isDue_30 : decode cX14_isDue 30 = .ok (.iconst 0, 1) := dk_3 (dk_at dksX14_isDue_1 7 rfl rfl)
theorem dX14_isDue_31 : decode cX14_isDue 31 = .ok (.ireturn, 1) := dk_172 (dk_at dksX14_isDue_1 8 rfl rfl)
abbrev cX14_comes : ByteArray := prog_12_method_3_code
def yX14_comes : MethodName := ⟨RX14, "comes", "()J"⟩
def dkwX14_comes_1 : List UInt8 := [180, 0, 26, 4, 100, 181, 0, 26, 31, 173]
abbrev dktX14_comes_1 : List UInt8 := dkwX14_comes_1 ++ []
def dkwX14_comes_0 : List UInt8 := [42, 180, 0, 22, 42, 180, 0, 26, 133, 109, 64, 42, 89, 180, 0, 22, 31, 101, 181, 0, 22, 42, 89]
abbrev dktX14_comes_0 : List UInt8 := dkwX14_comes_0 ++ dktX14_comes_1
theorem dksX14_comes_0 : cX14_comes.data.toList.drop 0 = dktX14_comes_0 := by decide +kernel
theorem dksX14_comes_1 : cX14_comes.data.toList.drop 23 = dktX14_comes_1 := dk_seg dksX14_comes_0 23 rfl rfl
theorem dX14_comes_0 : decode cX14_comes 0 = .ok (.aload_n 0, 1) := dk_42 (dk_at dksX14_comes_0 0 rfl rfl)
theorem dX14_comes_1 : decode cX14_comes 1 = .ok (.getfield 22, 3) := dk_180 0 22 (dk_at dksX14_comes_0 1 rfl rfl)
theorem dX14_comes_4 : decode cX14_comes 4 = .ok (.aload_n 0, 1) := dk_42 (dk_at dksX14_comes_0 4 rfl rfl)
theorem dX14_comes_5 : decode cX14_comes 5 = .ok (.getfield 26, 3) := dk_180 0 26 (dk_at dksX14_comes_0 5 rfl rfl)
theorem dX14_comes_8 : decode cX14_comes 8 = .ok (.i2l, 1) := dk_133 (dk_at dksX14_comes_0 8 rfl rfl)
theorem dX14_comes_9 : decode cX14_comes 9 = .ok (.ldiv, 1) := dk_109 (dk_at dksX14_comes_0 9 rfl rfl)
theorem dX14_comes_10 : decode cX14_comes 10 = .ok (.lstore_n 1, 1) := dk_64 (dk_at dksX14_comes_0 10 rfl rfl)
theorem dX14_comes_11 : decode cX14_comes 11 = .ok (.aload_n 0, 1) := dk_42 (dk_at dksX14_comes_0 11 rfl rfl)
theorem dX14_comes_12 : decode cX14_comes 12 = .ok (.dup, 1) := dk_89 (dk_at dksX14_comes_0 12 rfl rfl)
theorem dX14_comes_13 : decode cX14_comes 13 = .ok (.getfield 22, 3) := dk_180 0 22 (dk_at dksX14_comes_0 13 rfl rfl)
theorem dX14_comes_16 : decode cX14_comes 16 = .ok (.lload_n 1, 1) := dk_31 (dk_at dksX14_comes_0 16 rfl rfl)
theorem dX14_comes_17 : decode cX14_comes 17 = .ok (.lsub, 1) := dk_101 (dk_at dksX14_comes_0 17 rfl rfl)
theorem dX14_comes_18 : decode cX14_comes 18 = .ok (.putfield 22, 3) := dk_181 0 22 (dk_at dksX14_comes_0 18 rfl rfl)
theorem dX14_comes_21 : decode cX14_comes 21 = .ok (.aload_n 0, 1) := dk_42 (dk_at dksX14_comes_0 21 rfl rfl)
theorem dX14_comes_22 : decode cX14_comes 22 = .ok (.dup, 1) := dk_89 (dk_at dksX14_comes_0 22 rfl rfl)
theorem dX14_comes_23 : decode cX14_comes 23 = .ok (.getfield 26, 3) := dk_180 0 26 (dk_at dksX14_comes_1 0 rfl rfl)
theorem dX14_comes_26 : decode cX14_comes 26 = .ok (.iconst 1, 1) := dk_4 (dk_at dksX14_comes_1 3 rfl rfl)
theorem dX14_comes_27 : decode cX14_comes 27 = .ok (.isub, 1) := dk_100 (dk_at dksX14_comes_1 4 rfl rfl)
theorem dX14_comes_28 : decode cX14_comes 28 = .ok (.putfield 26, 3) := dk_181 0 26 (dk_at dksX14_comes_1 5 rfl rfl)
theorem dX14_comes_31 : decode cX14_comes 31 = .ok (.lload_n 1, 1) := dk_31 (dk_at dksX14_comes_1 8 rfl rfl)
theorem dX14_comes_32 : decode cX14_comes 32 = .ok (.lreturn, 1) := dk_173 (dk_at dksX14_comes_1 9 rfl rfl)
abbrev cX14_init : ByteArray := prog_12_method_1_code
def yX14_init : MethodName := ⟨RX14, "<init>", "(LMassclaim;JI)V"⟩
def dkwX14_init_1 : List UInt8 := [181, 0, 22, 42, 21, 4, 181, 0, 26, 177]
abbrev dktX14_init_1 : List UInt8 := dkwX14_init_1 ++ []
def dkwX14_init_0 : List UInt8 := [42, 43, 181, 0, 3, 42, 183, 0, 9, 42, 42, 180, 0, 3, 180, 0, 15, 181, 0, 19, 42, 32]
abbrev dktX14_init_0 : List UInt8 := dkwX14_init_0 ++ dktX14_init_1
theorem dksX14_init_0 : cX14_init.data.toList.drop 0 = dktX14_init_0 := by decide +kernel
theorem dksX14_init_1 : cX14_init.data.toList.drop 22 = dktX14_init_1 := dk_seg dksX14_init_0 22 rfl rfl
theorem dX14_init_0 : decode cX14_init 0 = .ok (.aload_n 0, 1) := dk_42 (dk_at dksX14_init_0 0 rfl rfl)
theorem dX14_init_1 : decode cX14_init 1 = .ok (.aload_n 1, 1) := dk_43 (dk_at dksX14_init_0 1 rfl rfl)
theorem dX14_init_2 : decode cX14_init 2 = .ok (.putfield 3, 3) := dk_181 0 3 (dk_at dksX14_init_0 2 rfl rfl)
theorem dX14_init_5 : decode cX14_init 5 = .ok (.aload_n 0, 1) := dk_42 (dk_at dksX14_init_0 5 rfl rfl)
theorem dX14_init_6 : decode cX14_init 6 = .ok (.invokespecial 9, 3) := dk_183 0 9 (dk_at dksX14_init_0 6 rfl rfl)
theorem dX14_init_9 : decode cX14_init 9 = .ok (.aload_n 0, 1) := dk_42 (dk_at dksX14_init_0 9 rfl rfl)
theorem dX14_init_10 : decode cX14_init 10 = .ok (.aload_n 0, 1) := dk_42 (dk_at dksX14_init_0 10 rfl rfl)
theorem dX14_init_11 : decode cX14_init 11 = .ok (.getfield 3, 3) := dk_180 0 3 (dk_at dksX14_init_0 11 rfl rfl)
theorem dX14_init_14 : decode cX14_init 14 = .ok (.getfield 15, 3) := dk_180 0 15 (dk_at dksX14_init_0 14 rfl rfl)
theorem dX14_init_17 : decode cX14_init 17 = .ok (.putfield 19, 3) := dk_181 0 19 (dk_at dksX14_init_0 17 rfl rfl)
theorem dX14_init_20 : decode cX14_init 20 = .ok (.aload_n 0, 1) := dk_42 (dk_at dksX14_init_0 20 rfl rfl)
theorem dX14_init_21 : decode cX14_init 21 = .ok (.lload_n 2, 1) := dk_32 (dk_at dksX14_init_0 21 rfl rfl)
theorem dX14_init_22 : decode cX14_init 22 = .ok (.putfield 22, 3) := dk_181 0 22 (dk_at dksX14_init_1 0 rfl rfl)
theorem dX14_init_25 : decode cX14_init 25 = .ok (.aload_n 0, 1) := dk_42 (dk_at dksX14_init_1 3 rfl rfl)
theorem dX14_init_26 : decode cX14_init 26 = .ok (.iload 4, 2) := dk_21 4 (dk_at dksX14_init_1 4 rfl rfl)
theorem dX14_init_28 : decode cX14_init 28 = .ok (.putfield 26, 3) := dk_181 0 26 (dk_at dksX14_init_1 6 rfl rfl)
theorem dX14_init_31 : decode cX14_init 31 = .ok (.return_, 1) := dk_177 (dk_at dksX14_init_1 9 rfl rfl)
theorem q102 : (Jvm.Cond.initialized "Massclaim$Yearly") ∈ lw_all := lw_g (lw_at lw_m1 38 rfl) rfl
theorem q253 : (Jvm.Cond.fieldLinkNest "Massclaim$Yearly" (15 : Nat) "Massclaim" "today" "I" "Massclaim") ∈ lw_tbl := lw_at lw_m1 189 rfl
theorem q575 : (Jvm.Cond.instanceMethod ({ cls := "Massclaim$Yearly", name := "isDue", desc := "()Z" } : Jvm.MethodName)) ∈ lw_all := lw_g (lw_at lw_m3 31 rfl) rfl
theorem q576 : (Jvm.Cond.selects "Massclaim$Yearly" ({ cls := "Massclaim$Yearly", name := "isDue", desc := "()Z" } : Jvm.MethodName) ({ cls := "Massclaim$Yearly", name := "isDue", desc := "()Z" } : Jvm.MethodName)) ∈ lw_all := lw_g (lw_at lw_m3 32 rfl) rfl
theorem q577 : (Jvm.Cond.code ({ cls := "Massclaim$Yearly", name := "isDue", desc := "()Z" } : Jvm.MethodName) prog_12_method_2_code (1 : Nat) (Option.some Jvm.ClassFile.FieldType.boolean)) ∈ lw_all := lw_g (lw_at lw_m3 33 rfl) rfl
theorem q579 : (Jvm.Cond.instanceMethod ({ cls := "Massclaim$Yearly", name := "comes", desc := "()J" } : Jvm.MethodName)) ∈ lw_all := lw_g (lw_at lw_m3 35 rfl) rfl
theorem q580 : (Jvm.Cond.selects "Massclaim$Yearly" ({ cls := "Massclaim$Yearly", name := "comes", desc := "()J" } : Jvm.MethodName) ({ cls := "Massclaim$Yearly", name := "comes", desc := "()J" } : Jvm.MethodName)) ∈ lw_all := lw_g (lw_at lw_m3 36 rfl) rfl
theorem q581 : (Jvm.Cond.code ({ cls := "Massclaim$Yearly", name := "comes", desc := "()J" } : Jvm.MethodName) prog_12_method_3_code (3 : Nat) (Option.some Jvm.ClassFile.FieldType.long)) ∈ lw_all := lw_g (lw_at lw_m3 37 rfl) rfl
theorem q762 : (Jvm.Cond.selects "Massclaim$Yearly" ({ cls := "java/lang/Object", name := "getClass", desc := "()Ljava/lang/Class;" } : Jvm.MethodName) ({ cls := "java/lang/Object", name := "getClass", desc := "()Ljava/lang/Class;" } : Jvm.MethodName)) ∈ lw_all := lw_g (lw_at lw_m3 218 rfl) rfl
theorem q1715 : (Jvm.Cond.instantiable "Massclaim$Yearly" (4 : Nat)) ∈ lw_all := lw_g (lw_at lw_m7 211 rfl) rfl
theorem q1717 : (Jvm.Cond.instanceMethod ({ cls := "Massclaim$Yearly", name := "<init>", desc := "(LMassclaim;JI)V" } : Jvm.MethodName)) ∈ lw_all := lw_g (lw_at lw_m7 213 rfl) rfl
theorem q1718 : (Jvm.Cond.code ({ cls := "Massclaim$Yearly", name := "<init>", desc := "(LMassclaim;JI)V" } : Jvm.MethodName) prog_12_method_1_code (5 : Nat) (Option.none : Option Jvm.ClassFile.FieldType)) ∈ lw_all := lw_g (lw_at lw_m7 214 rfl) rfl
theorem q1719 : (Jvm.Cond.methodLink "Massclaim$Yearly" (9 : Nat) ({ cls := "java/lang/Object", name := "<init>", desc := "()V" } : Jvm.MethodName)) ∈ lw_all := lw_g (lw_at lw_m7 215 rfl) rfl
theorem q1720 : (Jvm.Cond.fieldLink "Massclaim$Yearly" (22 : Nat) "Massclaim$Yearly" "lies" "J") ∈ lw_all := lw_g (lw_at lw_m7 216 rfl) rfl
theorem q1722 : (Jvm.Cond.fieldLink "Massclaim$Yearly" (26 : Nat) "Massclaim$Yearly" "left" "I") ∈ lw_all := lw_g (lw_at lw_m7 218 rfl) rfl
theorem q1723 : (Jvm.Cond.fieldLink "Massclaim$Yearly" (19 : Nat) "Massclaim$Yearly" "since" "I") ∈ lw_all := lw_g (lw_at lw_m7 219 rfl) rfl
theorem q1724 : (Jvm.Cond.fieldLink "Massclaim$Yearly" (3 : Nat) "Massclaim$Yearly" "this$0" "LMassclaim;") ∈ lw_all := lw_g (lw_at lw_m7 220 rfl) rfl
theorem q1725 : (Jvm.Cond.lays "Massclaim$Yearly" "Massclaim$Yearly" "lies" "J") ∈ lw_all := lw_g (lw_at lw_m7 221 rfl) rfl
theorem q1726 : (Jvm.Cond.soleField "Massclaim$Yearly" "lies") ∈ lw_all := lw_g (lw_at lw_m7 222 rfl) rfl
theorem q1727 : (Jvm.Cond.lays "Massclaim$Yearly" "Massclaim$Yearly" "left" "I") ∈ lw_all := lw_g (lw_at lw_m7 223 rfl) rfl
theorem q1728 : (Jvm.Cond.soleField "Massclaim$Yearly" "left") ∈ lw_all := lw_g (lw_at lw_m7 224 rfl) rfl
theorem q1729 : (Jvm.Cond.laysFinal "Massclaim$Yearly" "Massclaim$Yearly" "since" "I") ∈ lw_all := lw_g (lw_at lw_m7 225 rfl) rfl
theorem q1730 : (Jvm.Cond.soleField "Massclaim$Yearly" "since") ∈ lw_all := lw_g (lw_at lw_m7 226 rfl) rfl
theorem q1731 : (Jvm.Cond.laysFinal "Massclaim$Yearly" "Massclaim$Yearly" "this$0" "LMassclaim;") ∈ lw_all := lw_g (lw_at lw_m7 227 rfl) rfl
theorem q1732 : (Jvm.Cond.soleField "Massclaim$Yearly" "this$0") ∈ lw_all := lw_g (lw_at lw_m7 228 rfl) rfl
theorem q1733 : (Jvm.Cond.superclass "Massclaim$Yearly" "java/lang/Object") ∈ lw_all := lw_g (lw_at lw_m7 229 rfl) rfl
theorem q2132 : (Jvm.Cond.selects "Massclaim$Yearly" ({ cls := "java/lang/Object", name := "equals", desc := "(Ljava/lang/Object;)Z" } : Jvm.MethodName) ({ cls := "java/lang/Object", name := "equals", desc := "(Ljava/lang/Object;)Z" } : Jvm.MethodName)) ∈ lw_all := lw_g (lw_at lw_m9 148 rfl) rfl
theorem q2583 : (Jvm.Cond.castable "Massclaim$Yearly" "java/lang/Object") ∈ lw_tbl := lw_at lw_m11 119 rfl
theorem in_X14 : ∀ w ∈ wsX140, w ∈ lw_all := lw_in wsX140 [1725, 1727, 1729, 1731] (by decide +kernel) (by decide +kernel)

/-! MassclaimModel$Row -/
set_option maxRecDepth 100000
def RX15 : String := "MassclaimModel$Row"
def TX15 : u_T := fun k => match k with
  | 0 => ("MassclaimModel$Row", "left", "J", false)
  | 1 => ("MassclaimModel$Row", "parts", "I", false)
  | 2 => ("MassclaimModel$Row", "day", "I", true)
  | _ => ("MassclaimModel$Row", "years", "I", false)
def tyX15 : Nat → FieldType := fun k => match k with
  | 0 => .long
  | 1 => .int
  | 2 => .int
  | _ => .int
abbrev wsX150 : List Cond := u_ws RX15 TX15 4
theorem nmX15 : ∀ a, a < 4 → ∀ b, b < 4 → a ≠ b → (TX15 a).2.1 ≠ (TX15 b).2.1 := by decide +kernel
theorem tyX15_ok : ∀ k, k < 4 → parseFieldDescriptor (TX15 k).2.2.1 = some (tyX15 k) := by decide +kernel
abbrev cX15_init : ByteArray := prog_19_method_1_code
def yX15_init : MethodName := ⟨RX15, "<init>", "(JII)V"⟩
def dkwX15_init_0 : List UInt8 := [42, 183, 0, 1, 42, 31, 181, 0, 7, 42, 29, 181, 0, 13, 42, 21, 4, 181, 0, 17, 177]
abbrev dktX15_init_0 : List UInt8 := dkwX15_init_0 ++ []
theorem dksX15_init_0 : cX15_init.data.toList.drop 0 = dktX15_init_0 := by decide +kernel
theorem dX15_init_0 : decode cX15_init 0 = .ok (.aload_n 0, 1) := dk_42 (dk_at dksX15_init_0 0 rfl rfl)
theorem dX15_init_1 : decode cX15_init 1 = .ok (.invokespecial 1, 3) := dk_183 0 1 (dk_at dksX15_init_0 1 rfl rfl)
theorem dX15_init_4 : decode cX15_init 4 = .ok (.aload_n 0, 1) := dk_42 (dk_at dksX15_init_0 4 rfl rfl)
theorem dX15_init_5 : decode cX15_init 5 = .ok (.lload_n 1, 1) := dk_31 (dk_at dksX15_init_0 5 rfl rfl)
theorem dX15_init_6 : decode cX15_init 6 = .ok (.putfield 7, 3) := dk_181 0 7 (dk_at dksX15_init_0 6 rfl rfl)
theorem dX15_init_9 : decode cX15_init 9 = .ok (.aload_n 0, 1) := dk_42 (dk_at dksX15_init_0 9 rfl rfl)
theorem dX15_init_10 : decode cX15_init 10 = .ok (.iload_n 3, 1) := dk_29 (dk_at dksX15_init_0 10 rfl rfl)
theorem dX15_init_11 : decode cX15_init 11 = .ok (.putfield 13, 3) := dk_181 0 13 (dk_at dksX15_init_0 11 rfl rfl)
theorem dX15_init_14 : decode cX15_init 14 = .ok (.aload_n 0, 1) := dk_42 (dk_at dksX15_init_0 14 rfl rfl)
theorem dX15_init_15 : decode cX15_init 15 = .ok (.iload 4, 2) := dk_21 4 (dk_at dksX15_init_0 15 rfl rfl)
theorem dX15_init_17 : decode cX15_init 17 = .ok (.putfield 17, 3) := dk_181 0 17 (dk_at dksX15_init_0 17 rfl rfl)
theorem dX15_init_20 : decode cX15_init 20 = .ok (.return_, 1) := dk_177 (dk_at dksX15_init_0 20 rfl rfl)
theorem q103 : (Jvm.Cond.initialized "MassclaimModel$Row") ∈ lw_all := lw_g (lw_at lw_m1 39 rfl) rfl
theorem q768 : (Jvm.Cond.selects "MassclaimModel$Row" ({ cls := "java/lang/Object", name := "getClass", desc := "()Ljava/lang/Class;" } : Jvm.MethodName) ({ cls := "java/lang/Object", name := "getClass", desc := "()Ljava/lang/Class;" } : Jvm.MethodName)) ∈ lw_all := lw_g (lw_at lw_m3 224 rfl) rfl
theorem q2138 : (Jvm.Cond.selects "MassclaimModel$Row" ({ cls := "java/lang/Object", name := "equals", desc := "(Ljava/lang/Object;)Z" } : Jvm.MethodName) ({ cls := "java/lang/Object", name := "equals", desc := "(Ljava/lang/Object;)Z" } : Jvm.MethodName)) ∈ lw_all := lw_g (lw_at lw_m9 154 rfl) rfl
theorem q2446 : (Jvm.Cond.instantiable "MassclaimModel$Row" (4 : Nat)) ∈ lw_all := lw_g (lw_at lw_m10 222 rfl) rfl
theorem q2448 : (Jvm.Cond.instanceMethod ({ cls := "MassclaimModel$Row", name := "<init>", desc := "(JII)V" } : Jvm.MethodName)) ∈ lw_all := lw_g (lw_at lw_m10 224 rfl) rfl
theorem q2449 : (Jvm.Cond.code ({ cls := "MassclaimModel$Row", name := "<init>", desc := "(JII)V" } : Jvm.MethodName) prog_19_method_1_code (5 : Nat) (Option.none : Option Jvm.ClassFile.FieldType)) ∈ lw_all := lw_g (lw_at lw_m10 225 rfl) rfl
theorem q2450 : (Jvm.Cond.methodLink "MassclaimModel$Row" (1 : Nat) ({ cls := "java/lang/Object", name := "<init>", desc := "()V" } : Jvm.MethodName)) ∈ lw_all := lw_g (lw_at lw_m10 226 rfl) rfl
theorem q2451 : (Jvm.Cond.fieldLink "MassclaimModel$Row" (7 : Nat) "MassclaimModel$Row" "left" "J") ∈ lw_all := lw_g (lw_at lw_m10 227 rfl) rfl
theorem q2453 : (Jvm.Cond.fieldLink "MassclaimModel$Row" (13 : Nat) "MassclaimModel$Row" "parts" "I") ∈ lw_all := lw_g (lw_at lw_m10 229 rfl) rfl
theorem q2455 : (Jvm.Cond.fieldLink "MassclaimModel$Row" (17 : Nat) "MassclaimModel$Row" "day" "I") ∈ lw_all := lw_g (lw_at lw_m10 231 rfl) rfl
theorem q2458 : (Jvm.Cond.lays "MassclaimModel$Row" "MassclaimModel$Row" "left" "J") ∈ lw_all := lw_g (lw_at lw_m10 234 rfl) rfl
theorem q2459 : (Jvm.Cond.soleField "MassclaimModel$Row" "left") ∈ lw_all := lw_g (lw_at lw_m10 235 rfl) rfl
theorem q2460 : (Jvm.Cond.lays "MassclaimModel$Row" "MassclaimModel$Row" "parts" "I") ∈ lw_all := lw_g (lw_at lw_m10 236 rfl) rfl
theorem q2461 : (Jvm.Cond.soleField "MassclaimModel$Row" "parts") ∈ lw_all := lw_g (lw_at lw_m10 237 rfl) rfl
theorem q2462 : (Jvm.Cond.laysFinal "MassclaimModel$Row" "MassclaimModel$Row" "day" "I") ∈ lw_all := lw_g (lw_at lw_m10 238 rfl) rfl
theorem q2463 : (Jvm.Cond.soleField "MassclaimModel$Row" "day") ∈ lw_all := lw_g (lw_at lw_m10 239 rfl) rfl
theorem q2464 : (Jvm.Cond.lays "MassclaimModel$Row" "MassclaimModel$Row" "years" "I") ∈ lw_all := lw_g (lw_at lw_m11 0 rfl) rfl
theorem q2465 : (Jvm.Cond.soleField "MassclaimModel$Row" "years") ∈ lw_all := lw_g (lw_at lw_m11 1 rfl) rfl
theorem q2466 : (Jvm.Cond.superclass "MassclaimModel$Row" "java/lang/Object") ∈ lw_all := lw_g (lw_at lw_m11 2 rfl) rfl
theorem q2584 : (Jvm.Cond.castable "MassclaimModel$Row" "java/lang/Object") ∈ lw_tbl := lw_at lw_m11 120 rfl
theorem in_X15 : ∀ w ∈ wsX150, w ∈ lw_all := lw_in wsX150 [2458, 2460, 2462, 2464] (by decide +kernel) (by decide +kernel)

/-! Massclaim$Lien -/
set_option maxRecDepth 100000
def RX16 : String := "Massclaim$Lien"
def TX16 : u_T := fun k => match k with
  | 0 => ("Massclaim$Lien", "number", "I", true)
  | 1 => ("Massclaim$Lien", "of", "LMassclaim$Person;", true)
  | 2 => ("Massclaim$Lien", "isState", "Z", true)
  | _ => ("Massclaim$Lien", "open", "I", false)
def tyX16 : Nat → FieldType := fun k => match k with
  | 0 => .int
  | 1 => .object "Massclaim$Person"
  | 2 => .boolean
  | _ => .int
abbrev wsX160 : List Cond := u_ws RX16 TX16 4
theorem nmX16 : ∀ a, a < 4 → ∀ b, b < 4 → a ≠ b → (TX16 a).2.1 ≠ (TX16 b).2.1 := by decide +kernel
theorem tyX16_ok : ∀ k, k < 4 → parseFieldDescriptor (TX16 k).2.2.1 = some (tyX16 k) := by decide +kernel
abbrev cX16_number : ByteArray := prog_5_method_2_code
def yX16_number : MethodName := ⟨RX16, "number", "()I"⟩
theorem dX16_number_0 : decode cX16_number 0 = .ok (.aload_n 0, 1) := by decide +kernel
theorem dX16_number_1 : decode cX16_number 1 = .ok (.getfield 7, 3) := by decide +kernel
theorem dX16_number_4 : decode cX16_number 4 = .ok (.ireturn, 1) := by decide +kernel
abbrev cX16_init : ByteArray := prog_5_method_1_code
def yX16_init : MethodName := ⟨RX16, "<init>", "(ILMassclaim$Person;IZ)V"⟩
def dkwX16_init_1 : List UInt8 := [181, 0, 20, 177]
abbrev dktX16_init_1 : List UInt8 := dkwX16_init_1 ++ []
def dkwX16_init_0 : List UInt8 := [42, 183, 0, 1, 42, 27, 181, 0, 7, 42, 44, 181, 0, 13, 42, 29, 181, 0, 17, 42, 21, 4]
abbrev dktX16_init_0 : List UInt8 := dkwX16_init_0 ++ dktX16_init_1
theorem dksX16_init_0 : cX16_init.data.toList.drop 0 = dktX16_init_0 := by decide +kernel
theorem dksX16_init_1 : cX16_init.data.toList.drop 22 = dktX16_init_1 := dk_seg dksX16_init_0 22 rfl rfl
theorem dX16_init_0 : decode cX16_init 0 = .ok (.aload_n 0, 1) := dk_42 (dk_at dksX16_init_0 0 rfl rfl)
theorem dX16_init_1 : decode cX16_init 1 = .ok (.invokespecial 1, 3) := dk_183 0 1 (dk_at dksX16_init_0 1 rfl rfl)
theorem dX16_init_4 : decode cX16_init 4 = .ok (.aload_n 0, 1) := dk_42 (dk_at dksX16_init_0 4 rfl rfl)
theorem dX16_init_5 : decode cX16_init 5 = .ok (.iload_n 1, 1) := dk_27 (dk_at dksX16_init_0 5 rfl rfl)
theorem dX16_init_6 : decode cX16_init 6 = .ok (.putfield 7, 3) := dk_181 0 7 (dk_at dksX16_init_0 6 rfl rfl)
theorem dX16_init_9 : decode cX16_init 9 = .ok (.aload_n 0, 1) := dk_42 (dk_at dksX16_init_0 9 rfl rfl)
theorem dX16_init_10 : decode cX16_init 10 = .ok (.aload_n 2, 1) := dk_44 (dk_at dksX16_init_0 10 rfl rfl)
theorem dX16_init_11 : decode cX16_init 11 = .ok (.putfield 13, 3) := dk_181 0 13 (dk_at dksX16_init_0 11 rfl rfl)
theorem dX16_init_14 : decode cX16_init 14 = .ok (.aload_n 0, 1) := dk_42 (dk_at dksX16_init_0 14 rfl rfl)
theorem dX16_init_15 : decode cX16_init 15 = .ok (.iload_n 3, 1) := dk_29 (dk_at dksX16_init_0 15 rfl rfl)
theorem dX16_init_16 : decode cX16_init 16 = .ok (.putfield 17, 3) := dk_181 0 17 (dk_at dksX16_init_0 16 rfl rfl)
theorem dX16_init_19 : decode cX16_init 19 = .ok (.aload_n 0, 1) := dk_42 (dk_at dksX16_init_0 19 rfl rfl)
theorem dX16_init_20 : decode cX16_init 20 = .ok (.iload 4, 2) := dk_21 4 (dk_at dksX16_init_0 20 rfl rfl)
theorem dX16_init_22 : decode cX16_init 22 = .ok (.putfield 20, 3) := dk_181 0 20 (dk_at dksX16_init_1 0 rfl rfl)
theorem dX16_init_25 : decode cX16_init 25 = .ok (.return_, 1) := dk_177 (dk_at dksX16_init_1 3 rfl rfl)
theorem q104 : (Jvm.Cond.initialized "Massclaim$Lien") ∈ lw_all := lw_g (lw_at lw_m1 40 rfl) rfl
theorem q756 : (Jvm.Cond.selects "Massclaim$Lien" ({ cls := "java/lang/Object", name := "getClass", desc := "()Ljava/lang/Class;" } : Jvm.MethodName) ({ cls := "java/lang/Object", name := "getClass", desc := "()Ljava/lang/Class;" } : Jvm.MethodName)) ∈ lw_all := lw_g (lw_at lw_m3 212 rfl) rfl
theorem q808 : (Jvm.Cond.castable "Massclaim$Lien" "Massclaim$Numbered") ∈ lw_tbl := lw_at lw_m4 24 rfl
theorem q809 : (Jvm.Cond.selects "Massclaim$Lien" ({ cls := "Massclaim$Numbered", name := "number", desc := "()I" } : Jvm.MethodName) ({ cls := "Massclaim$Lien", name := "number", desc := "()I" } : Jvm.MethodName)) ∈ lw_all := lw_g (lw_at lw_m4 25 rfl) rfl
theorem q810 : (Jvm.Cond.unhidden "Massclaim$Lien" "number" "()I") ∈ lw_tbl := lw_at lw_m4 26 rfl
theorem q811 : (Jvm.Cond.instanceMethod ({ cls := "Massclaim$Lien", name := "number", desc := "()I" } : Jvm.MethodName)) ∈ lw_all := lw_g (lw_at lw_m4 27 rfl) rfl
theorem q812 : (Jvm.Cond.publicMethod ({ cls := "Massclaim$Lien", name := "number", desc := "()I" } : Jvm.MethodName)) ∈ lw_tbl := lw_at lw_m4 28 rfl
theorem q813 : (Jvm.Cond.code ({ cls := "Massclaim$Lien", name := "number", desc := "()I" } : Jvm.MethodName) prog_5_method_2_code (1 : Nat) (Option.some Jvm.ClassFile.FieldType.int)) ∈ lw_all := lw_g (lw_at lw_m4 29 rfl) rfl
theorem q970 : (Jvm.Cond.unhidden "Massclaim$Lien" "compareTo" "(LMassclaim$Numbered;)I") ∈ lw_tbl := lw_at lw_m4 186 rfl
theorem q1748 : (Jvm.Cond.instantiable "Massclaim$Lien" (4 : Nat)) ∈ lw_all := lw_g (lw_at lw_m8 4 rfl) rfl
theorem q1750 : (Jvm.Cond.instanceMethod ({ cls := "Massclaim$Lien", name := "<init>", desc := "(ILMassclaim$Person;IZ)V" } : Jvm.MethodName)) ∈ lw_all := lw_g (lw_at lw_m8 6 rfl) rfl
theorem q1751 : (Jvm.Cond.code ({ cls := "Massclaim$Lien", name := "<init>", desc := "(ILMassclaim$Person;IZ)V" } : Jvm.MethodName) prog_5_method_1_code (5 : Nat) (Option.none : Option Jvm.ClassFile.FieldType)) ∈ lw_all := lw_g (lw_at lw_m8 7 rfl) rfl
theorem q1752 : (Jvm.Cond.methodLink "Massclaim$Lien" (1 : Nat) ({ cls := "java/lang/Object", name := "<init>", desc := "()V" } : Jvm.MethodName)) ∈ lw_all := lw_g (lw_at lw_m8 8 rfl) rfl
theorem q1753 : (Jvm.Cond.fieldLink "Massclaim$Lien" (7 : Nat) "Massclaim$Lien" "number" "I") ∈ lw_all := lw_g (lw_at lw_m8 9 rfl) rfl
theorem q1754 : (Jvm.Cond.fieldLink "Massclaim$Lien" (13 : Nat) "Massclaim$Lien" "of" "LMassclaim$Person;") ∈ lw_all := lw_g (lw_at lw_m8 10 rfl) rfl
theorem q1758 : (Jvm.Cond.fieldLink "Massclaim$Lien" (20 : Nat) "Massclaim$Lien" "isState" "Z") ∈ lw_all := lw_g (lw_at lw_m8 14 rfl) rfl
theorem q1760 : (Jvm.Cond.fieldLink "Massclaim$Lien" (17 : Nat) "Massclaim$Lien" "open" "I") ∈ lw_all := lw_g (lw_at lw_m8 16 rfl) rfl
theorem q1764 : (Jvm.Cond.laysFinal "Massclaim$Lien" "Massclaim$Lien" "number" "I") ∈ lw_all := lw_g (lw_at lw_m8 20 rfl) rfl
theorem q1765 : (Jvm.Cond.soleField "Massclaim$Lien" "number") ∈ lw_all := lw_g (lw_at lw_m8 21 rfl) rfl
theorem q1766 : (Jvm.Cond.laysFinal "Massclaim$Lien" "Massclaim$Lien" "of" "LMassclaim$Person;") ∈ lw_all := lw_g (lw_at lw_m8 22 rfl) rfl
theorem q1767 : (Jvm.Cond.soleField "Massclaim$Lien" "of") ∈ lw_all := lw_g (lw_at lw_m8 23 rfl) rfl
theorem q1768 : (Jvm.Cond.laysFinal "Massclaim$Lien" "Massclaim$Lien" "isState" "Z") ∈ lw_all := lw_g (lw_at lw_m8 24 rfl) rfl
theorem q1769 : (Jvm.Cond.soleField "Massclaim$Lien" "isState") ∈ lw_all := lw_g (lw_at lw_m8 25 rfl) rfl
theorem q1770 : (Jvm.Cond.lays "Massclaim$Lien" "Massclaim$Lien" "open" "I") ∈ lw_all := lw_g (lw_at lw_m8 26 rfl) rfl
theorem q1771 : (Jvm.Cond.soleField "Massclaim$Lien" "open") ∈ lw_all := lw_g (lw_at lw_m8 27 rfl) rfl
theorem q1772 : (Jvm.Cond.superclass "Massclaim$Lien" "java/lang/Object") ∈ lw_all := lw_g (lw_at lw_m8 28 rfl) rfl
theorem q2126 : (Jvm.Cond.selects "Massclaim$Lien" ({ cls := "java/lang/Object", name := "equals", desc := "(Ljava/lang/Object;)Z" } : Jvm.MethodName) ({ cls := "java/lang/Object", name := "equals", desc := "(Ljava/lang/Object;)Z" } : Jvm.MethodName)) ∈ lw_all := lw_g (lw_at lw_m9 142 rfl) rfl
theorem q2585 : (Jvm.Cond.castable "Massclaim$Lien" "java/lang/Object") ∈ lw_tbl := lw_at lw_m11 121 rfl
theorem in_X16 : ∀ w ∈ wsX160, w ∈ lw_all := lw_in wsX160 [1764, 1766, 1768, 1770] (by decide +kernel) (by decide +kernel)

/-! MassclaimModel$Lien -/
set_option maxRecDepth 100000
def RX17 : String := "MassclaimModel$Lien"
def TX17 : u_T := fun k => match k with
  | 0 => ("MassclaimModel$Lien", "of", "LMassclaimModel$Person;", false)
  | 1 => ("MassclaimModel$Lien", "open", "I", false)
  | _ => ("MassclaimModel$Lien", "isState", "Z", false)
def tyX17 : Nat → FieldType := fun k => match k with
  | 0 => .object "MassclaimModel$Person"
  | 1 => .int
  | _ => .boolean
abbrev wsX170 : List Cond := u_ws RX17 TX17 3
theorem nmX17 : ∀ a, a < 3 → ∀ b, b < 3 → a ≠ b → (TX17 a).2.1 ≠ (TX17 b).2.1 := by decide +kernel
theorem tyX17_ok : ∀ k, k < 3 → parseFieldDescriptor (TX17 k).2.2.1 = some (tyX17 k) := by decide +kernel
abbrev cX17_init : ByteArray := prog_17_method_1_code
def yX17_init : MethodName := ⟨RX17, "<init>", "()V"⟩
theorem dX17_init_0 : decode cX17_init 0 = .ok (.aload_n 0, 1) := by decide +kernel
theorem dX17_init_1 : decode cX17_init 1 = .ok (.invokespecial 1, 3) := by decide +kernel
theorem dX17_init_4 : decode cX17_init 4 = .ok (.return_, 1) := by decide +kernel
theorem q105 : (Jvm.Cond.initialized "MassclaimModel$Lien") ∈ lw_all := lw_g (lw_at lw_m1 41 rfl) rfl
theorem q766 : (Jvm.Cond.selects "MassclaimModel$Lien" ({ cls := "java/lang/Object", name := "getClass", desc := "()Ljava/lang/Class;" } : Jvm.MethodName) ({ cls := "java/lang/Object", name := "getClass", desc := "()Ljava/lang/Class;" } : Jvm.MethodName)) ∈ lw_all := lw_g (lw_at lw_m3 222 rfl) rfl
theorem q2136 : (Jvm.Cond.selects "MassclaimModel$Lien" ({ cls := "java/lang/Object", name := "equals", desc := "(Ljava/lang/Object;)Z" } : Jvm.MethodName) ({ cls := "java/lang/Object", name := "equals", desc := "(Ljava/lang/Object;)Z" } : Jvm.MethodName)) ∈ lw_all := lw_g (lw_at lw_m9 152 rfl) rfl
theorem q2475 : (Jvm.Cond.instantiable "MassclaimModel$Lien" (3 : Nat)) ∈ lw_all := lw_g (lw_at lw_m11 11 rfl) rfl
theorem q2477 : (Jvm.Cond.instanceMethod ({ cls := "MassclaimModel$Lien", name := "<init>", desc := "()V" } : Jvm.MethodName)) ∈ lw_all := lw_g (lw_at lw_m11 13 rfl) rfl
theorem q2478 : (Jvm.Cond.code ({ cls := "MassclaimModel$Lien", name := "<init>", desc := "()V" } : Jvm.MethodName) prog_17_method_1_code (1 : Nat) (Option.none : Option Jvm.ClassFile.FieldType)) ∈ lw_all := lw_g (lw_at lw_m11 14 rfl) rfl
theorem q2479 : (Jvm.Cond.methodLink "MassclaimModel$Lien" (1 : Nat) ({ cls := "java/lang/Object", name := "<init>", desc := "()V" } : Jvm.MethodName)) ∈ lw_all := lw_g (lw_at lw_m11 15 rfl) rfl
theorem q2483 : (Jvm.Cond.lays "MassclaimModel$Lien" "MassclaimModel$Lien" "of" "LMassclaimModel$Person;") ∈ lw_all := lw_g (lw_at lw_m11 19 rfl) rfl
theorem q2484 : (Jvm.Cond.soleField "MassclaimModel$Lien" "of") ∈ lw_all := lw_g (lw_at lw_m11 20 rfl) rfl
theorem q2485 : (Jvm.Cond.lays "MassclaimModel$Lien" "MassclaimModel$Lien" "open" "I") ∈ lw_all := lw_g (lw_at lw_m11 21 rfl) rfl
theorem q2486 : (Jvm.Cond.soleField "MassclaimModel$Lien" "open") ∈ lw_all := lw_g (lw_at lw_m11 22 rfl) rfl
theorem q2487 : (Jvm.Cond.lays "MassclaimModel$Lien" "MassclaimModel$Lien" "isState" "Z") ∈ lw_all := lw_g (lw_at lw_m11 23 rfl) rfl
theorem q2488 : (Jvm.Cond.soleField "MassclaimModel$Lien" "isState") ∈ lw_all := lw_g (lw_at lw_m11 24 rfl) rfl
theorem q2489 : (Jvm.Cond.superclass "MassclaimModel$Lien" "java/lang/Object") ∈ lw_all := lw_g (lw_at lw_m11 25 rfl) rfl
theorem q2586 : (Jvm.Cond.castable "MassclaimModel$Lien" "java/lang/Object") ∈ lw_tbl := lw_at lw_m11 122 rfl
theorem in_X17 : ∀ w ∈ wsX170, w ∈ lw_all := lw_in wsX170 [2483, 2485, 2487] (by decide +kernel) (by decide +kernel)

/-! Massclaim$Numbered -/
set_option maxRecDepth 100000
def RX18 : String := "Massclaim$Numbered"
abbrev cX18_compareTo : ByteArray := prog_6_method_2_code
def yX18_compareTo : MethodName := ⟨RX18, "compareTo", "(LMassclaim$Numbered;)I"⟩
def dkwX18_compareTo_0 : List UInt8 := [42, 185, 0, 1, 1, 0, 43, 185, 0, 1, 1, 0, 100, 172]
abbrev dktX18_compareTo_0 : List UInt8 := dkwX18_compareTo_0 ++ []
theorem dksX18_compareTo_0 : cX18_compareTo.data.toList.drop 0 = dktX18_compareTo_0 := by decide +kernel
theorem dX18_compareTo_0 : decode cX18_compareTo 0 = .ok (.aload_n 0, 1) := dk_42 (dk_at dksX18_compareTo_0 0 rfl rfl)
theorem dX18_compareTo_1 : decode cX18_compareTo 1 = .ok (.invokeinterface 1 1, 5) := by decide +kernel
theorem dX18_compareTo_6 : decode cX18_compareTo 6 = .ok (.aload_n 1, 1) := dk_43 (dk_at dksX18_compareTo_0 6 rfl rfl)
theorem dX18_compareTo_7 : decode cX18_compareTo 7 = .ok (.invokeinterface 1 1, 5) := by decide +kernel
theorem dX18_compareTo_12 : decode cX18_compareTo 12 = .ok (.isub, 1) := dk_100 (dk_at dksX18_compareTo_0 12 rfl rfl)
theorem dX18_compareTo_13 : decode cX18_compareTo 13 = .ok (.ireturn, 1) := dk_172 (dk_at dksX18_compareTo_0 13 rfl rfl)
theorem q794 : (Jvm.Cond.interfaceMethod "Massclaim$Numbered" "Massclaim$Numbered" "number" "()I") ∈ lw_tbl := lw_at lw_m4 10 rfl
theorem q795 : (Jvm.Cond.declares ({ cls := "Massclaim$Numbered", name := "number", desc := "()I" } : Jvm.MethodName)) ∈ lw_tbl := lw_at lw_m4 11 rfl
theorem q961 : (Jvm.Cond.interfaceMethod "Massclaim$Numbered" "Massclaim$Numbered" "compareTo" "(LMassclaim$Numbered;)I") ∈ lw_tbl := lw_at lw_m4 177 rfl
theorem q962 : (Jvm.Cond.declares ({ cls := "Massclaim$Numbered", name := "compareTo", desc := "(LMassclaim$Numbered;)I" } : Jvm.MethodName)) ∈ lw_tbl := lw_at lw_m4 178 rfl
theorem q964 : (Jvm.Cond.instanceMethod ({ cls := "Massclaim$Numbered", name := "compareTo", desc := "(LMassclaim$Numbered;)I" } : Jvm.MethodName)) ∈ lw_all := lw_g (lw_at lw_m4 180 rfl) rfl
theorem q965 : (Jvm.Cond.publicMethod ({ cls := "Massclaim$Numbered", name := "compareTo", desc := "(LMassclaim$Numbered;)I" } : Jvm.MethodName)) ∈ lw_tbl := lw_at lw_m4 181 rfl
theorem q966 : (Jvm.Cond.code ({ cls := "Massclaim$Numbered", name := "compareTo", desc := "(LMassclaim$Numbered;)I" } : Jvm.MethodName) prog_6_method_2_code (2 : Nat) (Option.some Jvm.ClassFile.FieldType.int)) ∈ lw_all := lw_g (lw_at lw_m4 182 rfl) rfl
theorem q967 : (Jvm.Cond.interfaceEntry "Massclaim$Numbered" (1 : Nat)) ∈ lw_tbl := lw_at lw_m4 183 rfl
theorem q968 : (Jvm.Cond.methodLink "Massclaim$Numbered" (1 : Nat) ({ cls := "Massclaim$Numbered", name := "number", desc := "()I" } : Jvm.MethodName)) ∈ lw_all := lw_g (lw_at lw_m4 184 rfl) rfl
theorem q2560 : (Jvm.Cond.initialized "Massclaim$Numbered") ∈ lw_all := lw_g (lw_at lw_m11 96 rfl) rfl

/-! Massclaim$Row -/
set_option maxRecDepth 100000
def RX2 : String := "Massclaim$Row"
def TX2 : u_T := fun k => match k with
  | 0 => ("Massclaim$Row", "all", "Ljava/util/List;", true)
  | _ => ("Massclaim$Row", "most", "I", true)
def tyX2 : Nat → FieldType := fun k => match k with
  | 0 => .object "java/util/List"
  | _ => .int
abbrev wsX20 : List Cond := u_ws RX2 TX2 2
theorem nmX2 : ∀ a, a < 2 → ∀ b, b < 2 → a ≠ b → (TX2 a).2.1 ≠ (TX2 b).2.1 := by decide +kernel
theorem tyX2_ok : ∀ k, k < 2 → parseFieldDescriptor (TX2 k).2.2.1 = some (tyX2 k) := by decide +kernel
abbrev cX2_init : ByteArray := prog_10_method_1_code
def yX2_init : MethodName := ⟨RX2, "<init>", "(I)V"⟩
def dkwX2_init_0 : List UInt8 := [42, 183, 0, 1, 42, 187, 0, 7, 89, 183, 0, 9, 181, 0, 10, 42, 27, 181, 0, 16, 177]
abbrev dktX2_init_0 : List UInt8 := dkwX2_init_0 ++ []
theorem dksX2_init_0 : cX2_init.data.toList.drop 0 = dktX2_init_0 := by decide +kernel
theorem dX2_init_0 : decode cX2_init 0 = .ok (.aload_n 0, 1) := dk_42 (dk_at dksX2_init_0 0 rfl rfl)
theorem dX2_init_1 : decode cX2_init 1 = .ok (.invokespecial 1, 3) := dk_183 0 1 (dk_at dksX2_init_0 1 rfl rfl)
theorem dX2_init_4 : decode cX2_init 4 = .ok (.aload_n 0, 1) := dk_42 (dk_at dksX2_init_0 4 rfl rfl)
theorem dX2_init_5 : decode cX2_init 5 = .ok (.new 7, 3) := dk_187 0 7 (dk_at dksX2_init_0 5 rfl rfl)
theorem dX2_init_8 : decode cX2_init 8 = .ok (.dup, 1) := dk_89 (dk_at dksX2_init_0 8 rfl rfl)
theorem dX2_init_9 : decode cX2_init 9 = .ok (.invokespecial 9, 3) := dk_183 0 9 (dk_at dksX2_init_0 9 rfl rfl)
theorem dX2_init_12 : decode cX2_init 12 = .ok (.putfield 10, 3) := dk_181 0 10 (dk_at dksX2_init_0 12 rfl rfl)
theorem dX2_init_15 : decode cX2_init 15 = .ok (.aload_n 0, 1) := dk_42 (dk_at dksX2_init_0 15 rfl rfl)
theorem dX2_init_16 : decode cX2_init 16 = .ok (.iload_n 1, 1) := dk_27 (dk_at dksX2_init_0 16 rfl rfl)
theorem dX2_init_17 : decode cX2_init 17 = .ok (.putfield 16, 3) := dk_181 0 16 (dk_at dksX2_init_0 17 rfl rfl)
theorem dX2_init_20 : decode cX2_init 20 = .ok (.return_, 1) := dk_177 (dk_at dksX2_init_0 20 rfl rfl)
abbrev cX2_clear : ByteArray := prog_10_method_6_code
def yX2_clear : MethodName := ⟨RX2, "clear", "()I"⟩
def dkwX2_clear_0 : List UInt8 := [42, 180, 0, 10, 185, 0, 20, 1, 0, 60, 42, 180, 0, 10, 185, 0, 56, 1, 0, 27, 172]
abbrev dktX2_clear_0 : List UInt8 := dkwX2_clear_0 ++ []
theorem dksX2_clear_0 : cX2_clear.data.toList.drop 0 = dktX2_clear_0 := by decide +kernel
theorem dX2_clear_0 : decode cX2_clear 0 = .ok (.aload_n 0, 1) := dk_42 (dk_at dksX2_clear_0 0 rfl rfl)
theorem dX2_clear_1 : decode cX2_clear 1 = .ok (.getfield 10, 3) := dk_180 0 10 (dk_at dksX2_clear_0 1 rfl rfl)
theorem dX2_clear_4 : decode cX2_clear 4 = .ok (.invokeinterface 20 1, 5) := by decide +kernel
theorem dX2_clear_9 : decode cX2_clear 9 = .ok (.istore_n 1, 1) := dk_60 (dk_at dksX2_clear_0 9 rfl rfl)
theorem dX2_clear_10 : decode cX2_clear 10 = .ok (.aload_n 0, 1) := dk_42 (dk_at dksX2_clear_0 10 rfl rfl)
theorem dX2_clear_11 : decode cX2_clear 11 = .ok (.getfield 10, 3) := dk_180 0 10 (dk_at dksX2_clear_0 11 rfl rfl)
theorem dX2_clear_14 : decode cX2_clear 14 = .ok (.invokeinterface 56 1, 5) := by decide +kernel
theorem dX2_clear_19 : decode cX2_clear 19 = .ok (.iload_n 1, 1) := dk_27 (dk_at dksX2_clear_0 19 rfl rfl)
theorem dX2_clear_20 : decode cX2_clear 20 = .ok (.ireturn, 1) := dk_172 (dk_at dksX2_clear_0 20 rfl rfl)
abbrev cX2_iterator : ByteArray := prog_10_method_7_code
def yX2_iterator : MethodName := ⟨RX2, "iterator", "()Ljava/util/Iterator;"⟩
def dkwX2_iterator_0 : List UInt8 := [42, 180, 0, 10, 185, 0, 59, 1, 0, 176]
abbrev dktX2_iterator_0 : List UInt8 := dkwX2_iterator_0 ++ []
theorem dksX2_iterator_0 : cX2_iterator.data.toList.drop 0 = dktX2_iterator_0 := by decide +kernel
theorem dX2_iterator_0 : decode cX2_iterator 0 = .ok (.aload_n 0, 1) := dk_42 (dk_at dksX2_iterator_0 0 rfl rfl)
theorem dX2_iterator_1 : decode cX2_iterator 1 = .ok (.getfield 10, 3) := dk_180 0 10 (dk_at dksX2_iterator_0 1 rfl rfl)
theorem dX2_iterator_4 : decode cX2_iterator 4 = .ok (.invokeinterface 59 1, 5) := by decide +kernel
theorem dX2_iterator_9 : decode cX2_iterator 9 = .ok (.areturn, 1) := dk_176 (dk_at dksX2_iterator_0 9 rfl rfl)
abbrev cX2_size : ByteArray := prog_10_method_3_code
def yX2_size : MethodName := ⟨RX2, "size", "()I"⟩
def dkwX2_size_0 : List UInt8 := [42, 180, 0, 10, 185, 0, 20, 1, 0, 172]
abbrev dktX2_size_0 : List UInt8 := dkwX2_size_0 ++ []
theorem dksX2_size_0 : cX2_size.data.toList.drop 0 = dktX2_size_0 := by decide +kernel
theorem dX2_size_0 : decode cX2_size 0 = .ok (.aload_n 0, 1) := dk_42 (dk_at dksX2_size_0 0 rfl rfl)
theorem dX2_size_1 : decode cX2_size 1 = .ok (.getfield 10, 3) := dk_180 0 10 (dk_at dksX2_size_0 1 rfl rfl)
theorem dX2_size_4 : decode cX2_size 4 = .ok (.invokeinterface 20 1, 5) := by decide +kernel
theorem dX2_size_9 : decode cX2_size 9 = .ok (.ireturn, 1) := dk_172 (dk_at dksX2_size_0 9 rfl rfl)
abbrev cX2_at : ByteArray := prog_10_method_2_code
def yX2_at : MethodName := ⟨RX2, "at", "(I)LMassclaim$Numbered;"⟩
def dkwX2_at_1 : List UInt8 := [180, 0, 10, 27, 185, 0, 36, 2, 0, 192, 0, 40, 176]
abbrev dktX2_at_1 : List UInt8 := dkwX2_at_1 ++ []
def dkwX2_at_0 : List UInt8 := [27, 133, 9, 42, 180, 0, 10, 185, 0, 20, 1, 0, 4, 100, 133, 184, 0, 26, 184, 0, 32, 42]
abbrev dktX2_at_0 : List UInt8 := dkwX2_at_0 ++ dktX2_at_1
theorem dksX2_at_0 : cX2_at.data.toList.drop 0 = dktX2_at_0 := by decide +kernel
theorem dksX2_at_1 : cX2_at.data.toList.drop 22 = dktX2_at_1 := dk_seg dksX2_at_0 22 rfl rfl
theorem dX2_at_0 : decode cX2_at 0 = .ok (.iload_n 1, 1) := dk_27 (dk_at dksX2_at_0 0 rfl rfl)
theorem dX2_at_1 : decode cX2_at 1 = .ok (.i2l, 1) := dk_133 (dk_at dksX2_at_0 1 rfl rfl)
theorem dX2_at_2 : decode cX2_at 2 = .ok (.lconst 0, 1) := dk_9 (dk_at dksX2_at_0 2 rfl rfl)
theorem dX2_at_3 : decode cX2_at 3 = .ok (.aload_n 0, 1) := dk_42 (dk_at dksX2_at_0 3 rfl rfl)
theorem dX2_at_4 : decode cX2_at 4 = .ok (.getfield 10, 3) := dk_180 0 10 (dk_at dksX2_at_0 4 rfl rfl)
theorem dX2_at_7 : decode cX2_at 7 = .ok (.invokeinterface 20 1, 5) := by decide +kernel
theorem dX2_at_12 : decode cX2_at 12 = .ok (.iconst 1, 1) := dk_4 (dk_at dksX2_at_0 12 rfl rfl)
theorem dX2_at_13 : decode cX2_at 13 = .ok (.isub, 1) := dk_100 (dk_at dksX2_at_0 13 rfl rfl)
theorem dX2_at_14 : decode cX2_at 14 = .ok (.i2l, 1) := dk_133 (dk_at dksX2_at_0 14 rfl rfl)
theorem dX2_at_15 : decode cX2_at 15 = .ok (.invokestatic 26, 3) := dk_184 0 26 (dk_at dksX2_at_0 15 rfl rfl)
theorem dX2_at_18 : decode cX2_at 18 = .ok (.invokestatic 32, 3) := dk_184 0 32 (dk_at dksX2_at_0 18 rfl rfl)
theorem dX2_at_21 : decode cX2_at 21 = .ok (.aload_n 0, 1) := dk_42 (dk_at dksX2_at_0 21 rfl rfl)
theorem dX2_at_22 : decode cX2_at 22 = .ok (.getfield 10, 3) := dk_180 0 10 (dk_at dksX2_at_1 0 rfl rfl)
theorem dX2_at_25 : decode cX2_at 25 = .ok (.iload_n 1, 1) := dk_27 (dk_at dksX2_at_1 3 rfl rfl)
theorem dX2_at_26 : decode cX2_at 26 = .ok (.invokeinterface 36 2, 5) := by decide +kernel
theorem dX2_at_31 : decode cX2_at 31 = .ok (.checkcast 40, 3) := dk_192 0 40 (dk_at dksX2_at_1 9 rfl rfl)
theorem dX2_at_34 : decode cX2_at 34 = .ok (.areturn, 1) := dk_176 (dk_at dksX2_at_1 12 rfl rfl)
abbrev cX2_add : ByteArray := prog_10_method_5_code
def yX2_add : MethodName := ⟨RX2, "add", "(LMassclaim$Numbered;)I"⟩
def dkwX2_add_1 : List UInt8 := [172]
abbrev dktX2_add_1 : List UInt8 := dkwX2_add_1 ++ []
def dkwX2_add_0 : List UInt8 := [42, 182, 0, 42, 184, 0, 46, 42, 180, 0, 10, 43, 185, 0, 49, 2, 0, 61, 43, 185, 0, 53, 1, 0]
abbrev dktX2_add_0 : List UInt8 := dkwX2_add_0 ++ dktX2_add_1
theorem dksX2_add_0 : cX2_add.data.toList.drop 0 = dktX2_add_0 := by decide +kernel
theorem dksX2_add_1 : cX2_add.data.toList.drop 24 = dktX2_add_1 := dk_seg dksX2_add_0 24 rfl rfl
theorem dX2_add_0 : decode cX2_add 0 = .ok (.aload_n 0, 1) := dk_42 (dk_at dksX2_add_0 0 rfl rfl)
theorem dX2_add_1 : decode cX2_add 1 = .ok (.invokevirtual 42, 3) := dk_182 0 42 (dk_at dksX2_add_0 1 rfl rfl)
theorem dX2_add_4 : decode cX2_add 4 = .ok (.invokestatic 46, 3) := dk_184 0 46 (dk_at dksX2_add_0 4 rfl rfl)
theorem dX2_add_7 : decode cX2_add 7 = .ok (.aload_n 0, 1) := dk_42 (dk_at dksX2_add_0 7 rfl rfl)
theorem dX2_add_8 : decode cX2_add 8 = .ok (.getfield 10, 3) := dk_180 0 10 (dk_at dksX2_add_0 8 rfl rfl)
theorem dX2_add_11 : decode cX2_add 11 = .ok (.aload_n 1, 1) := dk_43 (dk_at dksX2_add_0 11 rfl rfl)
theorem dX2_add_12 : decode cX2_add 12 = .ok (.invokeinterface 49 2, 5) := by decide +kernel
theorem dX2_add_17 : decode cX2_add 17 = .ok (.istore_n 2, 1) := dk_61 (dk_at dksX2_add_0 17 rfl rfl)
theorem dX2_add_18 : decode cX2_add 18 = .ok (.aload_n 1, 1) := dk_43 (dk_at dksX2_add_0 18 rfl rfl)
theorem dX2_add_19 : decode cX2_add 19 = .ok (.invokeinterface 53 1, 5) := by decide +kernel
theorem dX2_add_24 : decode cX2_add 24 = .ok (.ireturn, 1) := dk_172 (dk_at dksX2_add_1 0 rfl rfl)
abbrev cX2_hasRoom : ByteArray := prog_10_method_4_code
def yX2_hasRoom : MethodName := ⟨RX2, "hasRoom", "()Z"⟩
def dkwX2_hasRoom_0 : List UInt8 := [42, 180, 0, 10, 185, 0, 20, 1, 0, 42, 180, 0, 16, 162, 0, 7, 4, 167, 0, 4, 3, 172]
abbrev dktX2_hasRoom_0 : List UInt8 := dkwX2_hasRoom_0 ++ []
theorem dksX2_hasRoom_0 : cX2_hasRoom.data.toList.drop 0 = dktX2_hasRoom_0 := by decide +kernel
theorem dX2_hasRoom_0 : decode cX2_hasRoom 0 = .ok (.aload_n 0, 1) := dk_42 (dk_at dksX2_hasRoom_0 0 rfl rfl)
theorem dX2_hasRoom_1 : decode cX2_hasRoom 1 = .ok (.getfield 10, 3) := dk_180 0 10 (dk_at dksX2_hasRoom_0 1 rfl rfl)
theorem dX2_hasRoom_4 : decode cX2_hasRoom 4 = .ok (.invokeinterface 20 1, 5) := by decide +kernel
theorem dX2_hasRoom_9 : decode cX2_hasRoom 9 = .ok (.aload_n 0, 1) := dk_42 (dk_at dksX2_hasRoom_0 9 rfl rfl)
theorem dX2_hasRoom_10 : decode cX2_hasRoom 10 = .ok (.getfield 16, 3) := dk_180 0 16 (dk_at dksX2_hasRoom_0 10 rfl rfl)
theorem dX2_hasRoom_13 : decode cX2_hasRoom 13 = .ok (.if_icmp .ge 7, 3) := dk_162 0 7 (dk_at dksX2_hasRoom_0 13 rfl rfl)
theorem dX2_hasRoom_16 : decode cX2_hasRoom 16 = .ok (.iconst 1, 1) := dk_4 (dk_at dksX2_hasRoom_0 16 rfl rfl)
theorem dX2_hasRoom_17 : decode cX2_hasRoom 17 = .ok (.goto 4, 3) := dk_167 0 4 (dk_at dksX2_hasRoom_0 17 rfl rfl)
theorem dX2_hasRoom_20 : decode cX2_hasRoom 20 = .ok (.iconst 0, 1) := dk_3 (dk_at dksX2_hasRoom_0 20 rfl rfl)
theorem dX2_hasRoom_21 : decode cX2_hasRoom 21 = .ok (.ireturn, 1) := dk_172 (dk_at dksX2_hasRoom_0 21 rfl rfl)
theorem q66 : (Jvm.Cond.initialized "Massclaim$Row") ∈ lw_all := lw_g (lw_at lw_m1 2 rfl) rfl
theorem q116 : (Jvm.Cond.instantiable "Massclaim$Row" (2 : Nat)) ∈ lw_all := lw_g (lw_at lw_m1 52 rfl) rfl
theorem q118 : (Jvm.Cond.instanceMethod ({ cls := "Massclaim$Row", name := "<init>", desc := "(I)V" } : Jvm.MethodName)) ∈ lw_all := lw_g (lw_at lw_m1 54 rfl) rfl
theorem q119 : (Jvm.Cond.code ({ cls := "Massclaim$Row", name := "<init>", desc := "(I)V" } : Jvm.MethodName) prog_10_method_1_code (2 : Nat) (Option.none : Option Jvm.ClassFile.FieldType)) ∈ lw_all := lw_g (lw_at lw_m1 55 rfl) rfl
theorem q120 : (Jvm.Cond.methodLink "Massclaim$Row" (1 : Nat) ({ cls := "java/lang/Object", name := "<init>", desc := "()V" } : Jvm.MethodName)) ∈ lw_all := lw_g (lw_at lw_m1 56 rfl) rfl
theorem q121 : (Jvm.Cond.classLink "Massclaim$Row" (7 : Nat) "java/util/ArrayList") ∈ lw_all := lw_g (lw_at lw_m1 57 rfl) rfl
theorem q123 : (Jvm.Cond.methodLink "Massclaim$Row" (9 : Nat) ({ cls := "java/util/ArrayList", name := "<init>", desc := "()V" } : Jvm.MethodName)) ∈ lw_all := lw_g (lw_at lw_m1 59 rfl) rfl
theorem q150 : (Jvm.Cond.fieldLink "Massclaim$Row" (10 : Nat) "Massclaim$Row" "all" "Ljava/util/List;") ∈ lw_all := lw_g (lw_at lw_m1 86 rfl) rfl
theorem q151 : (Jvm.Cond.fieldLink "Massclaim$Row" (16 : Nat) "Massclaim$Row" "most" "I") ∈ lw_all := lw_g (lw_at lw_m1 87 rfl) rfl
theorem q152 : (Jvm.Cond.laysFinal "Massclaim$Row" "Massclaim$Row" "all" "Ljava/util/List;") ∈ lw_all := lw_g (lw_at lw_m1 88 rfl) rfl
theorem q153 : (Jvm.Cond.soleField "Massclaim$Row" "all") ∈ lw_all := lw_g (lw_at lw_m1 89 rfl) rfl
theorem q154 : (Jvm.Cond.laysFinal "Massclaim$Row" "Massclaim$Row" "most" "I") ∈ lw_all := lw_g (lw_at lw_m1 90 rfl) rfl
theorem q155 : (Jvm.Cond.soleField "Massclaim$Row" "most") ∈ lw_all := lw_g (lw_at lw_m1 91 rfl) rfl
theorem q156 : (Jvm.Cond.superclass "Massclaim$Row" "java/lang/Object") ∈ lw_all := lw_g (lw_at lw_m1 92 rfl) rfl
theorem q201 : (Jvm.Cond.instanceMethod ({ cls := "Massclaim$Row", name := "clear", desc := "()I" } : Jvm.MethodName)) ∈ lw_all := lw_g (lw_at lw_m1 137 rfl) rfl
theorem q202 : (Jvm.Cond.selects "Massclaim$Row" ({ cls := "Massclaim$Row", name := "clear", desc := "()I" } : Jvm.MethodName) ({ cls := "Massclaim$Row", name := "clear", desc := "()I" } : Jvm.MethodName)) ∈ lw_all := lw_g (lw_at lw_m1 138 rfl) rfl
theorem q203 : (Jvm.Cond.code ({ cls := "Massclaim$Row", name := "clear", desc := "()I" } : Jvm.MethodName) prog_10_method_6_code (2 : Nat) (Option.some Jvm.ClassFile.FieldType.int)) ∈ lw_all := lw_g (lw_at lw_m1 139 rfl) rfl
theorem q204 : (Jvm.Cond.interfaceEntry "Massclaim$Row" (20 : Nat)) ∈ lw_tbl := lw_at lw_m1 140 rfl
theorem q205 : (Jvm.Cond.methodLink "Massclaim$Row" (20 : Nat) ({ cls := "java/util/List", name := "size", desc := "()I" } : Jvm.MethodName)) ∈ lw_all := lw_g (lw_at lw_m1 141 rfl) rfl
theorem q214 : (Jvm.Cond.interfaceEntry "Massclaim$Row" (56 : Nat)) ∈ lw_tbl := lw_at lw_m1 150 rfl
theorem q215 : (Jvm.Cond.methodLink "Massclaim$Row" (56 : Nat) ({ cls := "java/util/List", name := "clear", desc := "()V" } : Jvm.MethodName)) ∈ lw_all := lw_g (lw_at lw_m1 151 rfl) rfl
theorem q309 : (Jvm.Cond.instanceMethod ({ cls := "Massclaim$Row", name := "iterator", desc := "()Ljava/util/Iterator;" } : Jvm.MethodName)) ∈ lw_all := lw_g (lw_at lw_m2 5 rfl) rfl
theorem q310 : (Jvm.Cond.selects "Massclaim$Row" ({ cls := "Massclaim$Row", name := "iterator", desc := "()Ljava/util/Iterator;" } : Jvm.MethodName) ({ cls := "Massclaim$Row", name := "iterator", desc := "()Ljava/util/Iterator;" } : Jvm.MethodName)) ∈ lw_all := lw_g (lw_at lw_m2 6 rfl) rfl
theorem q311 : (Jvm.Cond.code ({ cls := "Massclaim$Row", name := "iterator", desc := "()Ljava/util/Iterator;" } : Jvm.MethodName) prog_10_method_7_code (1 : Nat) (Option.some (Jvm.ClassFile.FieldType.object "java/util/Iterator"))) ∈ lw_all := lw_g (lw_at lw_m2 7 rfl) rfl
theorem q312 : (Jvm.Cond.interfaceEntry "Massclaim$Row" (59 : Nat)) ∈ lw_tbl := lw_at lw_m2 8 rfl
theorem q313 : (Jvm.Cond.methodLink "Massclaim$Row" (59 : Nat) ({ cls := "java/util/List", name := "iterator", desc := "()Ljava/util/Iterator;" } : Jvm.MethodName)) ∈ lw_all := lw_g (lw_at lw_m2 9 rfl) rfl
theorem q443 : (Jvm.Cond.instanceMethod ({ cls := "Massclaim$Row", name := "size", desc := "()I" } : Jvm.MethodName)) ∈ lw_all := lw_g (lw_at lw_m2 139 rfl) rfl
theorem q444 : (Jvm.Cond.selects "Massclaim$Row" ({ cls := "Massclaim$Row", name := "size", desc := "()I" } : Jvm.MethodName) ({ cls := "Massclaim$Row", name := "size", desc := "()I" } : Jvm.MethodName)) ∈ lw_all := lw_g (lw_at lw_m2 140 rfl) rfl
theorem q445 : (Jvm.Cond.code ({ cls := "Massclaim$Row", name := "size", desc := "()I" } : Jvm.MethodName) prog_10_method_3_code (1 : Nat) (Option.some Jvm.ClassFile.FieldType.int)) ∈ lw_all := lw_g (lw_at lw_m2 141 rfl) rfl
theorem q528 : (Jvm.Cond.instanceMethod ({ cls := "Massclaim$Row", name := "at", desc := "(I)LMassclaim$Numbered;" } : Jvm.MethodName)) ∈ lw_all := lw_g (lw_at lw_m2 224 rfl) rfl
theorem q529 : (Jvm.Cond.selects "Massclaim$Row" ({ cls := "Massclaim$Row", name := "at", desc := "(I)LMassclaim$Numbered;" } : Jvm.MethodName) ({ cls := "Massclaim$Row", name := "at", desc := "(I)LMassclaim$Numbered;" } : Jvm.MethodName)) ∈ lw_all := lw_g (lw_at lw_m2 225 rfl) rfl
theorem q530 : (Jvm.Cond.code ({ cls := "Massclaim$Row", name := "at", desc := "(I)LMassclaim$Numbered;" } : Jvm.MethodName) prog_10_method_2_code (2 : Nat) (Option.some (Jvm.ClassFile.FieldType.object "Massclaim$Numbered"))) ∈ lw_all := lw_g (lw_at lw_m2 226 rfl) rfl
theorem q531 : (Jvm.Cond.methodLinkNest "Massclaim$Row" (26 : Nat) ({ cls := "Massclaim", name := "isIn", desc := "(JJJ)Z" } : Jvm.MethodName) "Massclaim") ∈ lw_tbl := lw_at lw_m2 227 rfl
theorem q532 : (Jvm.Cond.methodLinkNest "Massclaim$Row" (32 : Nat) ({ cls := "Massclaim", name := "requireIndex", desc := "(Z)V" } : Jvm.MethodName) "Massclaim") ∈ lw_tbl := lw_at lw_m2 228 rfl
theorem q550 : (Jvm.Cond.interfaceEntry "Massclaim$Row" (36 : Nat)) ∈ lw_tbl := lw_at lw_m3 6 rfl
theorem q551 : (Jvm.Cond.methodLink "Massclaim$Row" (36 : Nat) ({ cls := "java/util/List", name := "get", desc := "(I)Ljava/lang/Object;" } : Jvm.MethodName)) ∈ lw_all := lw_g (lw_at lw_m3 7 rfl) rfl
theorem q552 : (Jvm.Cond.classLink "Massclaim$Row" (40 : Nat) "Massclaim$Numbered") ∈ lw_all := lw_g (lw_at lw_m3 8 rfl) rfl
theorem q690 : (Jvm.Cond.instanceMethod ({ cls := "Massclaim$Row", name := "add", desc := "(LMassclaim$Numbered;)I" } : Jvm.MethodName)) ∈ lw_all := lw_g (lw_at lw_m3 146 rfl) rfl
theorem q691 : (Jvm.Cond.selects "Massclaim$Row" ({ cls := "Massclaim$Row", name := "add", desc := "(LMassclaim$Numbered;)I" } : Jvm.MethodName) ({ cls := "Massclaim$Row", name := "add", desc := "(LMassclaim$Numbered;)I" } : Jvm.MethodName)) ∈ lw_all := lw_g (lw_at lw_m3 147 rfl) rfl
theorem q692 : (Jvm.Cond.code ({ cls := "Massclaim$Row", name := "add", desc := "(LMassclaim$Numbered;)I" } : Jvm.MethodName) prog_10_method_5_code (3 : Nat) (Option.some Jvm.ClassFile.FieldType.int)) ∈ lw_all := lw_g (lw_at lw_m3 148 rfl) rfl
theorem q693 : (Jvm.Cond.methodLink "Massclaim$Row" (42 : Nat) ({ cls := "Massclaim$Row", name := "hasRoom", desc := "()Z" } : Jvm.MethodName)) ∈ lw_all := lw_g (lw_at lw_m3 149 rfl) rfl
theorem q694 : (Jvm.Cond.instanceMethod ({ cls := "Massclaim$Row", name := "hasRoom", desc := "()Z" } : Jvm.MethodName)) ∈ lw_all := lw_g (lw_at lw_m3 150 rfl) rfl
theorem q695 : (Jvm.Cond.selects "Massclaim$Row" ({ cls := "Massclaim$Row", name := "hasRoom", desc := "()Z" } : Jvm.MethodName) ({ cls := "Massclaim$Row", name := "hasRoom", desc := "()Z" } : Jvm.MethodName)) ∈ lw_all := lw_g (lw_at lw_m3 151 rfl) rfl
theorem q696 : (Jvm.Cond.code ({ cls := "Massclaim$Row", name := "hasRoom", desc := "()Z" } : Jvm.MethodName) prog_10_method_4_code (1 : Nat) (Option.some Jvm.ClassFile.FieldType.boolean)) ∈ lw_all := lw_g (lw_at lw_m3 152 rfl) rfl
theorem q697 : (Jvm.Cond.methodLinkNest "Massclaim$Row" (46 : Nat) ({ cls := "Massclaim", name := "requireState", desc := "(Z)V" } : Jvm.MethodName) "Massclaim") ∈ lw_tbl := lw_at lw_m3 153 rfl
theorem q715 : (Jvm.Cond.interfaceEntry "Massclaim$Row" (49 : Nat)) ∈ lw_tbl := lw_at lw_m3 171 rfl
theorem q716 : (Jvm.Cond.methodLink "Massclaim$Row" (49 : Nat) ({ cls := "java/util/List", name := "add", desc := "(Ljava/lang/Object;)Z" } : Jvm.MethodName)) ∈ lw_all := lw_g (lw_at lw_m3 172 rfl) rfl
theorem q760 : (Jvm.Cond.selects "Massclaim$Row" ({ cls := "java/lang/Object", name := "getClass", desc := "()Ljava/lang/Class;" } : Jvm.MethodName) ({ cls := "java/lang/Object", name := "getClass", desc := "()Ljava/lang/Class;" } : Jvm.MethodName)) ∈ lw_all := lw_g (lw_at lw_m3 216 rfl) rfl
theorem q792 : (Jvm.Cond.interfaceEntry "Massclaim$Row" (53 : Nat)) ∈ lw_tbl := lw_at lw_m4 8 rfl
theorem q793 : (Jvm.Cond.methodLink "Massclaim$Row" (53 : Nat) ({ cls := "Massclaim$Numbered", name := "number", desc := "()I" } : Jvm.MethodName)) ∈ lw_all := lw_g (lw_at lw_m4 9 rfl) rfl
theorem q2130 : (Jvm.Cond.selects "Massclaim$Row" ({ cls := "java/lang/Object", name := "equals", desc := "(Ljava/lang/Object;)Z" } : Jvm.MethodName) ({ cls := "java/lang/Object", name := "equals", desc := "(Ljava/lang/Object;)Z" } : Jvm.MethodName)) ∈ lw_all := lw_g (lw_at lw_m9 146 rfl) rfl
theorem q2563 : (Jvm.Cond.castable "Massclaim$Row" "java/lang/Object") ∈ lw_tbl := lw_at lw_m11 99 rfl
theorem in_X2 : ∀ w ∈ wsX20, w ∈ lw_all := lw_in wsX20 [152, 154] (by decide +kernel) (by decide +kernel)

/-! Massclaim$Out -/
set_option maxRecDepth 100000
def RX3 : String := "Massclaim$Out"
def TX3 : u_T := fun k => match k with
  | 0 => ("Massclaim$Out", "benefit", "J", false)
  | 1 => ("Massclaim$Out", "lawyers", "[J", true)
  | 2 => ("Massclaim$Out", "liens", "J", false)
  | 3 => ("Massclaim$Out", "persons", "J", false)
  | 4 => ("Massclaim$Out", "back", "J", false)
  | _ => ("Massclaim$Out", "next", "J", false)
def tyX3 : Nat → FieldType := fun k => match k with
  | 0 => .long
  | 1 => .array .long
  | 2 => .long
  | 3 => .long
  | 4 => .long
  | _ => .long
abbrev wsX30 : List Cond := u_ws RX3 TX3 6
theorem nmX3 : ∀ a, a < 6 → ∀ b, b < 6 → a ≠ b → (TX3 a).2.1 ≠ (TX3 b).2.1 := by decide +kernel
theorem tyX3_ok : ∀ k, k < 6 → parseFieldDescriptor (TX3 k).2.2.1 = some (tyX3 k) := by decide +kernel
abbrev cX3_init : ByteArray := prog_8_method_1_code
def yX3_init : MethodName := ⟨RX3, "<init>", "()V"⟩
def dkwX3_init_0 : List UInt8 := [42, 183, 0, 3, 42, 16, 6, 188, 11, 181, 0, 9, 177]
abbrev dktX3_init_0 : List UInt8 := dkwX3_init_0 ++ []
theorem dksX3_init_0 : cX3_init.data.toList.drop 0 = dktX3_init_0 := by decide +kernel
theorem dX3_init_0 : decode cX3_init 0 = .ok (.aload_n 0, 1) := dk_42 (dk_at dksX3_init_0 0 rfl rfl)
theorem dX3_init_1 : decode cX3_init 1 = .ok (.invokespecial 3, 3) := dk_183 0 3 (dk_at dksX3_init_0 1 rfl rfl)
theorem dX3_init_4 : decode cX3_init 4 = .ok (.aload_n 0, 1) := dk_42 (dk_at dksX3_init_0 4 rfl rfl)
theorem dX3_init_5 : decode cX3_init 5 = .ok (.bipush 6, 2) := dk_16 6 (dk_at dksX3_init_0 5 rfl rfl)
theorem dX3_init_7 : decode cX3_init 7 = .ok (.newarray .long, 2) := dk_188_11 (dk_at dksX3_init_0 7 rfl rfl)
theorem dX3_init_9 : decode cX3_init 9 = .ok (.putfield 9, 3) := dk_181 0 9 (dk_at dksX3_init_0 9 rfl rfl)
theorem dX3_init_12 : decode cX3_init 12 = .ok (.return_, 1) := dk_177 (dk_at dksX3_init_0 12 rfl rfl)
abbrev cX3_all : ByteArray := prog_8_method_3_code
def yX3_all : MethodName := ⟨RX3, "all", "()J"⟩
def dkwX3_all_1 : List UInt8 := [42, 180, 0, 31, 97, 173]
abbrev dktX3_all_1 : List UInt8 := dkwX3_all_1 ++ []
def dkwX3_all_0 : List UInt8 := [42, 180, 0, 15, 42, 182, 0, 19, 97, 42, 180, 0, 22, 97, 42, 180, 0, 25, 97, 42, 180, 0, 28, 97]
abbrev dktX3_all_0 : List UInt8 := dkwX3_all_0 ++ dktX3_all_1
theorem dksX3_all_0 : cX3_all.data.toList.drop 0 = dktX3_all_0 := by decide +kernel
theorem dksX3_all_1 : cX3_all.data.toList.drop 24 = dktX3_all_1 := dk_seg dksX3_all_0 24 rfl rfl
theorem dX3_all_0 : decode cX3_all 0 = .ok (.aload_n 0, 1) := dk_42 (dk_at dksX3_all_0 0 rfl rfl)
theorem dX3_all_1 : decode cX3_all 1 = .ok (.getfield 15, 3) := dk_180 0 15 (dk_at dksX3_all_0 1 rfl rfl)
theorem dX3_all_4 : decode cX3_all 4 = .ok (.aload_n 0, 1) := dk_42 (dk_at dksX3_all_0 4 rfl rfl)
theorem dX3_all_5 : decode cX3_all 5 = .ok (.invokevirtual 19, 3) := dk_182 0 19 (dk_at dksX3_all_0 5 rfl rfl)
theorem dX3_all_8 : decode cX3_all 8 = .ok (.ladd, 1) := dk_97 (dk_at dksX3_all_0 8 rfl rfl)
theorem dX3_all_9 : decode cX3_all 9 = .ok (.aload_n 0, 1) := dk_42 (dk_at dksX3_all_0 9 rfl rfl)
theorem dX3_all_10 : decode cX3_all 10 = .ok (.getfield 22, 3) := dk_180 0 22 (dk_at dksX3_all_0 10 rfl rfl)
theorem dX3_all_13 : decode cX3_all 13 = .ok (.ladd, 1) := dk_97 (dk_at dksX3_all_0 13 rfl rfl)
theorem dX3_all_14 : decode cX3_all 14 = .ok (.aload_n 0, 1) := dk_42 (dk_at dksX3_all_0 14 rfl rfl)
theorem dX3_all_15 : decode cX3_all 15 = .ok (.getfield 25, 3) := dk_180 0 25 (dk_at dksX3_all_0 15 rfl rfl)
theorem dX3_all_18 : decode cX3_all 18 = .ok (.ladd, 1) := dk_97 (dk_at dksX3_all_0 18 rfl rfl)
theorem dX3_all_19 : decode cX3_all 19 = .ok (.aload_n 0, 1) := dk_42 (dk_at dksX3_all_0 19 rfl rfl)
theorem dX3_all_20 : decode cX3_all 20 = .ok (.getfield 28, 3) := dk_180 0 28 (dk_at dksX3_all_0 20 rfl rfl)
theorem dX3_all_23 : decode cX3_all 23 = .ok (.ladd, 1) := dk_97 (dk_at dksX3_all_0 23 rfl rfl)
theorem dX3_all_24 : decode cX3_all 24 = .ok (.aload_n 0, 1) := dk_42 (dk_at dksX3_all_1 0 rfl rfl)
theorem dX3_all_25 : decode cX3_all 25 = .ok (.getfield 31, 3) := dk_180 0 31 (dk_at dksX3_all_1 1 rfl rfl)
theorem dX3_all_28 : decode cX3_all 28 = .ok (.ladd, 1) := dk_97 (dk_at dksX3_all_1 4 rfl rfl)
theorem dX3_all_29 : decode cX3_all 29 = .ok (.lreturn, 1) := dk_173 (dk_at dksX3_all_1 5 rfl rfl)
abbrev cX3_lawyers : ByteArray := prog_8_method_2_code
def yX3_lawyers : MethodName := ⟨RX3, "lawyers", "()J"⟩
def dkwX3_lawyers_1 : List UInt8 := [47, 55, 6, 31, 22, 6, 97, 64, 132, 5, 1, 167, 255, 235, 31, 173]
abbrev dktX3_lawyers_1 : List UInt8 := dkwX3_lawyers_1 ++ []
def dkwX3_lawyers_0 : List UInt8 := [9, 64, 42, 180, 0, 9, 78, 45, 190, 54, 4, 3, 54, 5, 21, 5, 21, 4, 162, 0, 20, 45, 21, 5]
abbrev dktX3_lawyers_0 : List UInt8 := dkwX3_lawyers_0 ++ dktX3_lawyers_1
theorem dksX3_lawyers_0 : cX3_lawyers.data.toList.drop 0 = dktX3_lawyers_0 := by decide +kernel
theorem dksX3_lawyers_1 : cX3_lawyers.data.toList.drop 24 = dktX3_lawyers_1 := dk_seg dksX3_lawyers_0 24 rfl rfl
theorem dX3_lawyers_0 : decode cX3_lawyers 0 = .ok (.lconst 0, 1) := dk_9 (dk_at dksX3_lawyers_0 0 rfl rfl)
theorem dX3_lawyers_1 : decode cX3_lawyers 1 = .ok (.lstore_n 1, 1) := dk_64 (dk_at dksX3_lawyers_0 1 rfl rfl)
theorem dX3_lawyers_2 : decode cX3_lawyers 2 = .ok (.aload_n 0, 1) := dk_42 (dk_at dksX3_lawyers_0 2 rfl rfl)
theorem dX3_lawyers_3 : decode cX3_lawyers 3 = .ok (.getfield 9, 3) := dk_180 0 9 (dk_at dksX3_lawyers_0 3 rfl rfl)
theorem dX3_lawyers_6 : decode cX3_lawyers 6 = .ok (.astore_n 3, 1) := dk_78 (dk_at dksX3_lawyers_0 6 rfl rfl)
theorem dX3_lawyers_7 : decode cX3_lawyers 7 = .ok (.aload_n 3, 1) := dk_45 (dk_at dksX3_lawyers_0 7 rfl rfl)
theorem dX3_lawyers_8 : decode cX3_lawyers 8 = .ok (.arraylength, 1) := dk_190 (dk_at dksX3_lawyers_0 8 rfl rfl)
theorem dX3_lawyers_9 : decode cX3_lawyers 9 = .ok (.istore 4, 2) := dk_54 4 (dk_at dksX3_lawyers_0 9 rfl rfl)
theorem dX3_lawyers_11 : decode cX3_lawyers 11 = .ok (.iconst 0, 1) := dk_3 (dk_at dksX3_lawyers_0 11 rfl rfl)
theorem dX3_lawyers_12 : decode cX3_lawyers 12 = .ok (.istore 5, 2) := dk_54 5 (dk_at dksX3_lawyers_0 12 rfl rfl)
theorem dX3_lawyers_14 : decode cX3_lawyers 14 = .ok (.iload 5, 2) := dk_21 5 (dk_at dksX3_lawyers_0 14 rfl rfl)
theorem dX3_lawyers_16 : decode cX3_lawyers 16 = .ok (.iload 4, 2) := dk_21 4 (dk_at dksX3_lawyers_0 16 rfl rfl)
theorem dX3_lawyers_18 : decode cX3_lawyers 18 = .ok (.if_icmp .ge 20, 3) := dk_162 0 20 (dk_at dksX3_lawyers_0 18 rfl rfl)
theorem dX3_lawyers_21 : decode cX3_lawyers 21 = .ok (.aload_n 3, 1) := dk_45 (dk_at dksX3_lawyers_0 21 rfl rfl)
theorem dX3_lawyers_22 : decode cX3_lawyers 22 = .ok (.iload 5, 2) := dk_21 5 (dk_at dksX3_lawyers_0 22 rfl rfl)
theorem dX3_lawyers_24 : decode cX3_lawyers 24 = .ok (.laload, 1) := dk_47 (dk_at dksX3_lawyers_1 0 rfl rfl)
theorem dX3_lawyers_25 : decode cX3_lawyers 25 = .ok (.lstore 6, 2) := dk_55 6 (dk_at dksX3_lawyers_1 1 rfl rfl)
theorem dX3_lawyers_27 : decode cX3_lawyers 27 = .ok (.lload_n 1, 1) := dk_31 (dk_at dksX3_lawyers_1 3 rfl rfl)
theorem dX3_lawyers_28 : decode cX3_lawyers 28 = .ok (.lload 6, 2) := dk_22 6 (dk_at dksX3_lawyers_1 4 rfl rfl)
theorem dX3_lawyers_30 : decode cX3_lawyers 30 = .ok (.ladd, 1) := dk_97 (dk_at dksX3_lawyers_1 6 rfl rfl)
theorem dX3_lawyers_31 : decode cX3_lawyers 31 = .ok (.lstore_n 1, 1) := dk_64 (dk_at dksX3_lawyers_1 7 rfl rfl)
theorem dX3_lawyers_32 : decode cX3_lawyers 32 = .ok (.iinc 5 1, 3) := dk_132 5 1 (dk_at dksX3_lawyers_1 8 rfl rfl)
theorem dX3_lawyers_35 : decode cX3_lawyers 35 = .ok (.goto (-21), 3) := dk_167 255 235 (dk_at dksX3_lawyers_1 11 rfl rfl)
theorem dX3_lawyers_38 : decode cX3_lawyers 38 = .ok (.lload_n 1, 1) := dk_31 (dk_at dksX3_lawyers_1 14 rfl rfl)
theorem dX3_lawyers_39 : decode cX3_lawyers 39 = .ok (.lreturn, 1) := dk_173 (dk_at dksX3_lawyers_1 15 rfl rfl)
theorem q70 : (Jvm.Cond.initialized "Massclaim$Out") ∈ lw_all := lw_g (lw_at lw_m1 6 rfl) rfl
theorem q160 : (Jvm.Cond.instantiable "Massclaim$Out" (6 : Nat)) ∈ lw_all := lw_g (lw_at lw_m1 96 rfl) rfl
theorem q162 : (Jvm.Cond.instanceMethod ({ cls := "Massclaim$Out", name := "<init>", desc := "()V" } : Jvm.MethodName)) ∈ lw_all := lw_g (lw_at lw_m1 98 rfl) rfl
theorem q163 : (Jvm.Cond.code ({ cls := "Massclaim$Out", name := "<init>", desc := "()V" } : Jvm.MethodName) prog_8_method_1_code (1 : Nat) (Option.none : Option Jvm.ClassFile.FieldType)) ∈ lw_all := lw_g (lw_at lw_m1 99 rfl) rfl
theorem q164 : (Jvm.Cond.methodLink "Massclaim$Out" (3 : Nat) ({ cls := "java/lang/Object", name := "<init>", desc := "()V" } : Jvm.MethodName)) ∈ lw_all := lw_g (lw_at lw_m1 100 rfl) rfl
theorem q165 : (Jvm.Cond.fieldLink "Massclaim$Out" (15 : Nat) "Massclaim$Out" "benefit" "J") ∈ lw_all := lw_g (lw_at lw_m1 101 rfl) rfl
theorem q168 : (Jvm.Cond.fieldLink "Massclaim$Out" (9 : Nat) "Massclaim$Out" "lawyers" "[J") ∈ lw_all := lw_g (lw_at lw_m1 104 rfl) rfl
theorem q171 : (Jvm.Cond.fieldLink "Massclaim$Out" (22 : Nat) "Massclaim$Out" "liens" "J") ∈ lw_all := lw_g (lw_at lw_m1 107 rfl) rfl
theorem q174 : (Jvm.Cond.fieldLink "Massclaim$Out" (25 : Nat) "Massclaim$Out" "persons" "J") ∈ lw_all := lw_g (lw_at lw_m1 110 rfl) rfl
theorem q177 : (Jvm.Cond.fieldLink "Massclaim$Out" (28 : Nat) "Massclaim$Out" "back" "J") ∈ lw_all := lw_g (lw_at lw_m1 113 rfl) rfl
theorem q179 : (Jvm.Cond.fieldLink "Massclaim$Out" (31 : Nat) "Massclaim$Out" "next" "J") ∈ lw_all := lw_g (lw_at lw_m1 115 rfl) rfl
theorem q181 : (Jvm.Cond.lays "Massclaim$Out" "Massclaim$Out" "benefit" "J") ∈ lw_all := lw_g (lw_at lw_m1 117 rfl) rfl
theorem q182 : (Jvm.Cond.soleField "Massclaim$Out" "benefit") ∈ lw_all := lw_g (lw_at lw_m1 118 rfl) rfl
theorem q183 : (Jvm.Cond.laysFinal "Massclaim$Out" "Massclaim$Out" "lawyers" "[J") ∈ lw_all := lw_g (lw_at lw_m1 119 rfl) rfl
theorem q184 : (Jvm.Cond.soleField "Massclaim$Out" "lawyers") ∈ lw_all := lw_g (lw_at lw_m1 120 rfl) rfl
theorem q185 : (Jvm.Cond.lays "Massclaim$Out" "Massclaim$Out" "liens" "J") ∈ lw_all := lw_g (lw_at lw_m1 121 rfl) rfl
theorem q186 : (Jvm.Cond.soleField "Massclaim$Out" "liens") ∈ lw_all := lw_g (lw_at lw_m1 122 rfl) rfl
theorem q187 : (Jvm.Cond.lays "Massclaim$Out" "Massclaim$Out" "persons" "J") ∈ lw_all := lw_g (lw_at lw_m1 123 rfl) rfl
theorem q188 : (Jvm.Cond.soleField "Massclaim$Out" "persons") ∈ lw_all := lw_g (lw_at lw_m1 124 rfl) rfl
theorem q189 : (Jvm.Cond.lays "Massclaim$Out" "Massclaim$Out" "back" "J") ∈ lw_all := lw_g (lw_at lw_m1 125 rfl) rfl
theorem q190 : (Jvm.Cond.soleField "Massclaim$Out" "back") ∈ lw_all := lw_g (lw_at lw_m1 126 rfl) rfl
theorem q191 : (Jvm.Cond.lays "Massclaim$Out" "Massclaim$Out" "next" "J") ∈ lw_all := lw_g (lw_at lw_m1 127 rfl) rfl
theorem q192 : (Jvm.Cond.soleField "Massclaim$Out" "next") ∈ lw_all := lw_g (lw_at lw_m1 128 rfl) rfl
theorem q193 : (Jvm.Cond.superclass "Massclaim$Out" "java/lang/Object") ∈ lw_all := lw_g (lw_at lw_m1 129 rfl) rfl
theorem q365 : (Jvm.Cond.instanceMethod ({ cls := "Massclaim$Out", name := "all", desc := "()J" } : Jvm.MethodName)) ∈ lw_all := lw_g (lw_at lw_m2 61 rfl) rfl
theorem q366 : (Jvm.Cond.selects "Massclaim$Out" ({ cls := "Massclaim$Out", name := "all", desc := "()J" } : Jvm.MethodName) ({ cls := "Massclaim$Out", name := "all", desc := "()J" } : Jvm.MethodName)) ∈ lw_all := lw_g (lw_at lw_m2 62 rfl) rfl
theorem q367 : (Jvm.Cond.code ({ cls := "Massclaim$Out", name := "all", desc := "()J" } : Jvm.MethodName) prog_8_method_3_code (1 : Nat) (Option.some Jvm.ClassFile.FieldType.long)) ∈ lw_all := lw_g (lw_at lw_m2 63 rfl) rfl
theorem q368 : (Jvm.Cond.methodLink "Massclaim$Out" (19 : Nat) ({ cls := "Massclaim$Out", name := "lawyers", desc := "()J" } : Jvm.MethodName)) ∈ lw_all := lw_g (lw_at lw_m2 64 rfl) rfl
theorem q369 : (Jvm.Cond.instanceMethod ({ cls := "Massclaim$Out", name := "lawyers", desc := "()J" } : Jvm.MethodName)) ∈ lw_all := lw_g (lw_at lw_m2 65 rfl) rfl
theorem q370 : (Jvm.Cond.selects "Massclaim$Out" ({ cls := "Massclaim$Out", name := "lawyers", desc := "()J" } : Jvm.MethodName) ({ cls := "Massclaim$Out", name := "lawyers", desc := "()J" } : Jvm.MethodName)) ∈ lw_all := lw_g (lw_at lw_m2 66 rfl) rfl
theorem q371 : (Jvm.Cond.code ({ cls := "Massclaim$Out", name := "lawyers", desc := "()J" } : Jvm.MethodName) prog_8_method_2_code (8 : Nat) (Option.some Jvm.ClassFile.FieldType.long)) ∈ lw_all := lw_g (lw_at lw_m2 67 rfl) rfl
theorem q758 : (Jvm.Cond.selects "Massclaim$Out" ({ cls := "java/lang/Object", name := "getClass", desc := "()Ljava/lang/Class;" } : Jvm.MethodName) ({ cls := "java/lang/Object", name := "getClass", desc := "()Ljava/lang/Class;" } : Jvm.MethodName)) ∈ lw_all := lw_g (lw_at lw_m3 214 rfl) rfl
theorem q2128 : (Jvm.Cond.selects "Massclaim$Out" ({ cls := "java/lang/Object", name := "equals", desc := "(Ljava/lang/Object;)Z" } : Jvm.MethodName) ({ cls := "java/lang/Object", name := "equals", desc := "(Ljava/lang/Object;)Z" } : Jvm.MethodName)) ∈ lw_all := lw_g (lw_at lw_m9 144 rfl) rfl
theorem q2565 : (Jvm.Cond.castable "Massclaim$Out" "java/lang/Object") ∈ lw_tbl := lw_at lw_m11 101 rfl
theorem in_X3 : ∀ w ∈ wsX30, w ∈ lw_all := lw_in wsX30 [181, 183, 185, 187, 189, 191] (by decide +kernel) (by decide +kernel)

/-! Massclaim$Person -/
set_option maxRecDepth 100000
def RX5 : String := "Massclaim$Person"
def TX5 : u_T := fun k => match k with
  | 0 => ("Massclaim$Person", "number", "I", true)
  | 1 => ("Massclaim$Person", "birth", "I", true)
  | 2 => ("Massclaim$Person", "state", "I", true)
  | 3 => ("Massclaim$Person", "product", "I", true)
  | 4 => ("Massclaim$Person", "months", "I", true)
  | 5 => ("Massclaim$Person", "level", "I", false)
  | 6 => ("Massclaim$Person", "known", "I", false)
  | 7 => ("Massclaim$Person", "ran", "I", false)
  | 8 => ("Massclaim$Person", "isOut", "Z", false)
  | 9 => ("Massclaim$Person", "hasAddress", "Z", false)
  | 10 => ("Massclaim$Person", "noticed", "I", false)
  | 11 => ("Massclaim$Person", "isDrawn", "Z", false)
  | 12 => ("Massclaim$Person", "hasVerdict", "Z", false)
  | 13 => ("Massclaim$Person", "vote", "I", false)
  | 14 => ("Massclaim$Person", "objects", "Z", false)
  | 15 => ("Massclaim$Person", "claim", "LMassclaim$Claim;", false)
  | 16 => ("Massclaim$Person", "delivered", "J", false)
  | 17 => ("Massclaim$Person", "blocked", "J", false)
  | 18 => ("Massclaim$Person", "heldBack", "J", false)
  | 19 => ("Massclaim$Person", "yearly", "Ljava/util/List;", true)
  | 20 => ("Massclaim$Person", "heirs", "[J", false)
  | _ => ("Massclaim$Person", "this$0", "LMassclaim;", true)
def tyX5 : Nat → FieldType := fun k => match k with
  | 0 => .int
  | 1 => .int
  | 2 => .int
  | 3 => .int
  | 4 => .int
  | 5 => .int
  | 6 => .int
  | 7 => .int
  | 8 => .boolean
  | 9 => .boolean
  | 10 => .int
  | 11 => .boolean
  | 12 => .boolean
  | 13 => .int
  | 14 => .boolean
  | 15 => .object "Massclaim$Claim"
  | 16 => .long
  | 17 => .long
  | 18 => .long
  | 19 => .object "java/util/List"
  | 20 => .array .long
  | _ => .object "Massclaim"
abbrev wsX50 : List Cond := u_ws RX5 TX5 22
set_option maxRecDepth 100000 in
theorem nmX5 : ∀ a, a < 22 → ∀ b, b < 22 → a ≠ b → (TX5 a).2.1 ≠ (TX5 b).2.1 := by decide +kernel
set_option maxRecDepth 100000 in
theorem tyX5_ok : ∀ k, k < 22 → parseFieldDescriptor (TX5 k).2.2.1 = some (tyX5 k) := by decide +kernel
abbrev cX5_lies : ByteArray := prog_9_method_9_code
def yX5_lies : MethodName := ⟨RX5, "lies", "()J"⟩
def dkwX5_lies_1 : List UInt8 := [185, 0, 111, 2, 0, 192, 0, 115, 180, 0, 117, 97, 64, 132, 3, 1, 167, 255, 221, 31, 173]
abbrev dktX5_lies_1 : List UInt8 := dkwX5_lies_1 ++ []
def dkwX5_lies_0 : List UInt8 := [9, 64, 3, 62, 29, 42, 180, 0, 32, 185, 0, 110, 1, 0, 162, 0, 28, 31, 42, 180, 0, 32, 29]
abbrev dktX5_lies_0 : List UInt8 := dkwX5_lies_0 ++ dktX5_lies_1
theorem dksX5_lies_0 : cX5_lies.data.toList.drop 0 = dktX5_lies_0 := by decide +kernel
theorem dksX5_lies_1 : cX5_lies.data.toList.drop 23 = dktX5_lies_1 := dk_seg dksX5_lies_0 23 rfl rfl
theorem dX5_lies_0 : decode cX5_lies 0 = .ok (.lconst 0, 1) := dk_9 (dk_at dksX5_lies_0 0 rfl rfl)
theorem dX5_lies_1 : decode cX5_lies 1 = .ok (.lstore_n 1, 1) := dk_64 (dk_at dksX5_lies_0 1 rfl rfl)
theorem dX5_lies_2 : decode cX5_lies 2 = .ok (.iconst 0, 1) := dk_3 (dk_at dksX5_lies_0 2 rfl rfl)
theorem dX5_lies_3 : decode cX5_lies 3 = .ok (.istore_n 3, 1) := dk_62 (dk_at dksX5_lies_0 3 rfl rfl)
theorem dX5_lies_4 : decode cX5_lies 4 = .ok (.iload_n 3, 1) := dk_29 (dk_at dksX5_lies_0 4 rfl rfl)
theorem dX5_lies_5 : decode cX5_lies 5 = .ok (.aload_n 0, 1) := dk_42 (dk_at dksX5_lies_0 5 rfl rfl)
theorem dX5_lies_6 : decode cX5_lies 6 = .ok (.getfield 32, 3) := dk_180 0 32 (dk_at dksX5_lies_0 6 rfl rfl)
theorem dX5_lies_9 : decode cX5_lies 9 = .ok (.invokeinterface 110 1, 5) := by decide +kernel
theorem dX5_lies_14 : decode cX5_lies 14 = .ok (.if_icmp .ge 28, 3) := dk_162 0 28 (dk_at dksX5_lies_0 14 rfl rfl)
theorem dX5_lies_17 : decode cX5_lies 17 = .ok (.lload_n 1, 1) := dk_31 (dk_at dksX5_lies_0 17 rfl rfl)
theorem dX5_lies_18 : decode cX5_lies 18 = .ok (.aload_n 0, 1) := dk_42 (dk_at dksX5_lies_0 18 rfl rfl)
theorem dX5_lies_19 : decode cX5_lies 19 = .ok (.getfield 32, 3) := dk_180 0 32 (dk_at dksX5_lies_0 19 rfl rfl)
theorem dX5_lies_22 : decode cX5_lies 22 = .ok (.iload_n 3, 1) := dk_29 (dk_at dksX5_lies_0 22 rfl rfl)
theorem dX5_lies_23 : decode cX5_lies 23 = .ok (.invokeinterface 111 2, 5) := by decide +kernel
theorem dX5_lies_28 : decode cX5_lies 28 = .ok (.checkcast 115, 3) := dk_192 0 115 (dk_at dksX5_lies_1 5 rfl rfl)
theorem dX5_lies_31 : decode cX5_lies 31 = .ok (.getfield 117, 3) := dk_180 0 117 (dk_at dksX5_lies_1 8 rfl rfl)
theorem dX5_lies_34 : decode cX5_lies 34 = .ok (.ladd, 1) := dk_97 (dk_at dksX5_lies_1 11 rfl rfl)
theorem dX5_lies_35 : decode cX5_lies 35 = .ok (.lstore_n 1, 1) := dk_64 (dk_at dksX5_lies_1 12 rfl rfl)
theorem dX5_lies_36 : decode cX5_lies 36 = .ok (.iinc 3 1, 3) := dk_132 3 1 (dk_at dksX5_lies_1 13 rfl rfl)
theorem dX5_lies_39 : decode cX5_lies 39 = .ok (.goto (-35), 3) := dk_167 255 221 (dk_at dksX5_lies_1 16 rfl rfl)
theorem dX5_lies_42 : decode cX5_lies 42 = .ok (.lload_n 1, 1) := dk_31 (dk_at dksX5_lies_1 19 rfl rfl)
theorem dX5_lies_43 : decode cX5_lies 43 = .ok (.lreturn, 1) := dk_173 (dk_at dksX5_lies_1 20 rfl rfl)
abbrev cX5_age : ByteArray := prog_9_method_3_code
def yX5_age : MethodName := ⟨RX5, "age", "(I)I"⟩
def dkwX5_age_0 : List UInt8 := [27, 42, 180, 0, 39, 100, 17, 1, 104, 108, 172]
abbrev dktX5_age_0 : List UInt8 := dkwX5_age_0 ++ []
theorem dksX5_age_0 : cX5_age.data.toList.drop 0 = dktX5_age_0 := by decide +kernel
theorem dX5_age_0 : decode cX5_age 0 = .ok (.iload_n 1, 1) := dk_27 (dk_at dksX5_age_0 0 rfl rfl)
theorem dX5_age_1 : decode cX5_age 1 = .ok (.aload_n 0, 1) := dk_42 (dk_at dksX5_age_0 1 rfl rfl)
theorem dX5_age_2 : decode cX5_age 2 = .ok (.getfield 39, 3) := dk_180 0 39 (dk_at dksX5_age_0 2 rfl rfl)
theorem dX5_age_5 : decode cX5_age 5 = .ok (.isub, 1) := dk_100 (dk_at dksX5_age_0 5 rfl rfl)
theorem dX5_age_6 : decode cX5_age 6 = .ok (.sipush 360, 3) := dk_17 1 104 (dk_at dksX5_age_0 6 rfl rfl)
theorem dX5_age_9 : decode cX5_age 9 = .ok (.idiv, 1) := dk_108 (dk_at dksX5_age_0 9 rfl rfl)
theorem dX5_age_10 : decode cX5_age 10 = .ok (.ireturn, 1) := dk_172 (dk_at dksX5_age_0 10 rfl rfl)
abbrev cX5_isMember : ByteArray := prog_9_method_6_code
def yX5_isMember : MethodName := ⟨RX5, "isMember", "()Z"⟩
def dkwX5_isMember_1 : List UInt8 := [4, 167, 0, 4, 3, 172]
abbrev dktX5_isMember_1 : List UInt8 := dkwX5_isMember_1 ++ []
def dkwX5_isMember_0 : List UInt8 := [42, 180, 0, 3, 180, 0, 55, 158, 0, 21, 42, 182, 0, 64, 153, 0, 14, 42, 180, 0, 68, 154, 0, 7]
abbrev dktX5_isMember_0 : List UInt8 := dkwX5_isMember_0 ++ dktX5_isMember_1
theorem dksX5_isMember_0 : cX5_isMember.data.toList.drop 0 = dktX5_isMember_0 := by decide +kernel
theorem dksX5_isMember_1 : cX5_isMember.data.toList.drop 24 = dktX5_isMember_1 := dk_seg dksX5_isMember_0 24 rfl rfl
theorem dX5_isMember_0 : decode cX5_isMember 0 = .ok (.aload_n 0, 1) := dk_42 (dk_at dksX5_isMember_0 0 rfl rfl)
theorem dX5_isMember_1 : decode cX5_isMember 1 = .ok (.getfield 3, 3) := dk_180 0 3 (dk_at dksX5_isMember_0 1 rfl rfl)
theorem dX5_isMember_4 : decode cX5_isMember 4 = .ok (.getfield 55, 3) := dk_180 0 55 (dk_at dksX5_isMember_0 4 rfl rfl)
theorem dX5_isMember_7 : decode cX5_isMember 7 = .ok (.ifCond .le 21, 3) := dk_158 0 21 (dk_at dksX5_isMember_0 7 rfl rfl)
theorem dX5_isMember_10 : decode cX5_isMember 10 = .ok (.aload_n 0, 1) := dk_42 (dk_at dksX5_isMember_0 10 rfl rfl)
theorem dX5_isMember_11 : decode cX5_isMember 11 = .ok (.invokevirtual 64, 3) := dk_182 0 64 (dk_at dksX5_isMember_0 11 rfl rfl)
theorem dX5_isMember_14 : decode cX5_isMember 14 = .ok (.ifCond .eq 14, 3) := dk_153 0 14 (dk_at dksX5_isMember_0 14 rfl rfl)
theorem dX5_isMember_17 : decode cX5_isMember 17 = .ok (.aload_n 0, 1) := dk_42 (dk_at dksX5_isMember_0 17 rfl rfl)
theorem dX5_isMember_18 : decode cX5_isMember 18 = .ok (.getfield 68, 3) := dk_180 0 68 (dk_at dksX5_isMember_0 18 rfl rfl)
theorem dX5_isMember_21 : decode cX5_isMember 21 = .ok (.ifCond .ne 7, 3) := dk_154 0 7 (dk_at dksX5_isMember_0 21 rfl rfl)
theorem dX5_isMember_24 : decode cX5_isMember 24 = .ok (.iconst 1, 1) := dk_4 (dk_at dksX5_isMember_1 0 rfl rfl)
theorem dX5_isMember_25 : decode cX5_isMember 25 = .ok (.goto 4, 3) := dk_167 0 4 (dk_at dksX5_isMember_1 1 rfl rfl)
theorem dX5_isMember_28 : decode cX5_isMember 28 = .ok (.iconst 0, 1) := dk_3 (dk_at dksX5_isMember_1 4 rfl rfl)
theorem dX5_isMember_29 : decode cX5_isMember 29 = .ok (.ireturn, 1) := dk_172 (dk_at dksX5_isMember_1 5 rfl rfl)
abbrev cX5_fits : ByteArray := prog_9_method_5_code
def yX5_fits : MethodName := ⟨RX5, "fits", "()Z"⟩
def dkwX5_fits_2 : List UInt8 := [180, 0, 61, 161, 0, 7, 4, 167, 0, 4, 3, 172]
abbrev dktX5_fits_2 : List UInt8 := dkwX5_fits_2 ++ []
def dkwX5_fits_1 : List UInt8 := [180, 0, 58, 42, 180, 0, 42, 122, 4, 126, 4, 160, 0, 21, 42, 180, 0, 48, 42, 180, 0, 3]
abbrev dktX5_fits_1 : List UInt8 := dkwX5_fits_1 ++ dktX5_fits_2
def dkwX5_fits_0 : List UInt8 := [42, 180, 0, 3, 180, 0, 55, 42, 180, 0, 45, 122, 4, 126, 4, 160, 0, 39, 42, 180, 0, 3]
abbrev dktX5_fits_0 : List UInt8 := dkwX5_fits_0 ++ dktX5_fits_1
theorem dksX5_fits_0 : cX5_fits.data.toList.drop 0 = dktX5_fits_0 := by decide +kernel
theorem dksX5_fits_1 : cX5_fits.data.toList.drop 22 = dktX5_fits_1 := dk_seg dksX5_fits_0 22 rfl rfl
theorem dksX5_fits_2 : cX5_fits.data.toList.drop 44 = dktX5_fits_2 := dk_seg dksX5_fits_1 22 rfl rfl
theorem dX5_fits_0 : decode cX5_fits 0 = .ok (.aload_n 0, 1) := dk_42 (dk_at dksX5_fits_0 0 rfl rfl)
theorem dX5_fits_1 : decode cX5_fits 1 = .ok (.getfield 3, 3) := dk_180 0 3 (dk_at dksX5_fits_0 1 rfl rfl)
theorem dX5_fits_4 : decode cX5_fits 4 = .ok (.getfield 55, 3) := dk_180 0 55 (dk_at dksX5_fits_0 4 rfl rfl)
theorem dX5_fits_7 : decode cX5_fits 7 = .ok (.aload_n 0, 1) := dk_42 (dk_at dksX5_fits_0 7 rfl rfl)
theorem dX5_fits_8 : decode cX5_fits 8 = .ok (.getfield 45, 3) := dk_180 0 45 (dk_at dksX5_fits_0 8 rfl rfl)
theorem dX5_fits_11 : decode cX5_fits 11 = .ok (.ishr, 1) := dk_122 (dk_at dksX5_fits_0 11 rfl rfl)
theorem dX5_fits_12 : decode cX5_fits 12 = .ok (.iconst 1, 1) := dk_4 (dk_at dksX5_fits_0 12 rfl rfl)
theorem dX5_fits_13 : decode cX5_fits 13 = .ok (.iand, 1) := dk_126 (dk_at dksX5_fits_0 13 rfl rfl)
theorem dX5_fits_14 : decode cX5_fits 14 = .ok (.iconst 1, 1) := dk_4 (dk_at dksX5_fits_0 14 rfl rfl)
theorem dX5_fits_15 : decode cX5_fits 15 = .ok (.if_icmp .ne 39, 3) := dk_160 0 39 (dk_at dksX5_fits_0 15 rfl rfl)
theorem dX5_fits_18 : decode cX5_fits 18 = .ok (.aload_n 0, 1) := dk_42 (dk_at dksX5_fits_0 18 rfl rfl)
theorem dX5_fits_19 : decode cX5_fits 19 = .ok (.getfield 3, 3) := dk_180 0 3 (dk_at dksX5_fits_0 19 rfl rfl)
theorem dX5_fits_22 : decode cX5_fits 22 = .ok (.getfield 58, 3) := dk_180 0 58 (dk_at dksX5_fits_1 0 rfl rfl)
theorem dX5_fits_25 : decode cX5_fits 25 = .ok (.aload_n 0, 1) := dk_42 (dk_at dksX5_fits_1 3 rfl rfl)
theorem dX5_fits_26 : decode cX5_fits 26 = .ok (.getfield 42, 3) := dk_180 0 42 (dk_at dksX5_fits_1 4 rfl rfl)
theorem dX5_fits_29 : decode cX5_fits 29 = .ok (.ishr, 1) := dk_122 (dk_at dksX5_fits_1 7 rfl rfl)
theorem dX5_fits_30 : decode cX5_fits 30 = .ok (.iconst 1, 1) := dk_4 (dk_at dksX5_fits_1 8 rfl rfl)
theorem dX5_fits_31 : decode cX5_fits 31 = .ok (.iand, 1) := dk_126 (dk_at dksX5_fits_1 9 rfl rfl)
theorem dX5_fits_32 : decode cX5_fits 32 = .ok (.iconst 1, 1) := dk_4 (dk_at dksX5_fits_1 10 rfl rfl)
theorem dX5_fits_33 : decode cX5_fits 33 = .ok (.if_icmp .ne 21, 3) := dk_160 0 21 (dk_at dksX5_fits_1 11 rfl rfl)
theorem dX5_fits_36 : decode cX5_fits 36 = .ok (.aload_n 0, 1) := dk_42 (dk_at dksX5_fits_1 14 rfl rfl)
theorem dX5_fits_37 : decode cX5_fits 37 = .ok (.getfield 48, 3) := dk_180 0 48 (dk_at dksX5_fits_1 15 rfl rfl)
theorem dX5_fits_40 : decode cX5_fits 40 = .ok (.aload_n 0, 1) := dk_42 (dk_at dksX5_fits_1 18 rfl rfl)
theorem dX5_fits_41 : decode cX5_fits 41 = .ok (.getfield 3, 3) := dk_180 0 3 (dk_at dksX5_fits_1 19 rfl rfl)
theorem dX5_fits_44 : decode cX5_fits 44 = .ok (.getfield 61, 3) := dk_180 0 61 (dk_at dksX5_fits_2 0 rfl rfl)
theorem dX5_fits_47 : decode cX5_fits 47 = .ok (.if_icmp .lt 7, 3) := dk_161 0 7 (dk_at dksX5_fits_2 3 rfl rfl)
theorem dX5_fits_50 : decode cX5_fits 50 = .ok (.iconst 1, 1) := dk_4 (dk_at dksX5_fits_2 6 rfl rfl)
theorem dX5_fits_51 : decode cX5_fits 51 = .ok (.goto 4, 3) := dk_167 0 4 (dk_at dksX5_fits_2 7 rfl rfl)
theorem dX5_fits_54 : decode cX5_fits 54 = .ok (.iconst 0, 1) := dk_3 (dk_at dksX5_fits_2 10 rfl rfl)
theorem dX5_fits_55 : decode cX5_fits 55 = .ok (.ireturn, 1) := dk_172 (dk_at dksX5_fits_2 11 rfl rfl)
abbrev cX5_looks : ByteArray := prog_9_method_14_code
def yX5_looks : MethodName := ⟨RX5, "looks", "()V"⟩
def dkwX5_looks_4 : List UInt8 := [182, 0, 136, 132, 1, 1, 167, 255, 201, 177]
abbrev dktX5_looks_4 : List UInt8 := dkwX5_looks_4 ++ []
def dkwX5_looks_3 : List UInt8 := [182, 0, 187, 153, 0, 23, 42, 42, 180, 0, 32, 27, 185, 0, 111, 2, 0, 192, 0, 115, 182, 0, 162]
abbrev dktX5_looks_3 : List UInt8 := dkwX5_looks_3 ++ dktX5_looks_4
def dkwX5_looks_2 : List UInt8 := [180, 0, 32, 185, 0, 110, 1, 0, 162, 0, 48, 42, 180, 0, 32, 27, 185, 0, 111, 2, 0, 192, 0, 115]
abbrev dktX5_looks_2 : List UInt8 := dkwX5_looks_2 ++ dktX5_looks_3
def dkwX5_looks_1 : List UInt8 := [161, 0, 18, 42, 180, 0, 147, 64, 42, 9, 181, 0, 147, 42, 31, 182, 0, 136, 3, 60, 27, 42]
abbrev dktX5_looks_1 : List UInt8 := dkwX5_looks_1 ++ dktX5_looks_2
def dkwX5_looks_0 : List UInt8 := [42, 180, 0, 147, 9, 148, 158, 0, 34, 42, 42, 180, 0, 3, 180, 0, 140, 182, 0, 143, 16, 18]
abbrev dktX5_looks_0 : List UInt8 := dkwX5_looks_0 ++ dktX5_looks_1
theorem dksX5_looks_0 : cX5_looks.data.toList.drop 0 = dktX5_looks_0 := by decide +kernel
theorem dksX5_looks_1 : cX5_looks.data.toList.drop 22 = dktX5_looks_1 := dk_seg dksX5_looks_0 22 rfl rfl
theorem dksX5_looks_2 : cX5_looks.data.toList.drop 44 = dktX5_looks_2 := dk_seg dksX5_looks_1 22 rfl rfl
theorem dksX5_looks_3 : cX5_looks.data.toList.drop 68 = dktX5_looks_3 := dk_seg dksX5_looks_2 24 rfl rfl
theorem dksX5_looks_4 : cX5_looks.data.toList.drop 91 = dktX5_looks_4 := dk_seg dksX5_looks_3 23 rfl rfl
theorem dX5_looks_0 : decode cX5_looks 0 = .ok (.aload_n 0, 1) := dk_42 (dk_at dksX5_looks_0 0 rfl rfl)
theorem dX5_looks_1 : decode cX5_looks 1 = .ok (.getfield 147, 3) := dk_180 0 147 (dk_at dksX5_looks_0 1 rfl rfl)
theorem dX5_looks_4 : decode cX5_looks 4 = .ok (.lconst 0, 1) := dk_9 (dk_at dksX5_looks_0 4 rfl rfl)
theorem dX5_looks_5 : decode cX5_looks 5 = .ok (.lcmp, 1) := dk_148 (dk_at dksX5_looks_0 5 rfl rfl)
theorem dX5_looks_6 : decode cX5_looks 6 = .ok (.ifCond .le 34, 3) := dk_158 0 34 (dk_at dksX5_looks_0 6 rfl rfl)
theorem dX5_looks_9 : decode cX5_looks 9 = .ok (.aload_n 0, 1) := dk_42 (dk_at dksX5_looks_0 9 rfl rfl)
theorem dX5_looks_10 : decode cX5_looks 10 = .ok (.aload_n 0, 1) := dk_42 (dk_at dksX5_looks_0 10 rfl rfl)
theorem dX5_looks_11 : decode cX5_looks 11 = .ok (.getfield 3, 3) := dk_180 0 3 (dk_at dksX5_looks_0 11 rfl rfl)
theorem dX5_looks_14 : decode cX5_looks 14 = .ok (.getfield 140, 3) := dk_180 0 140 (dk_at dksX5_looks_0 14 rfl rfl)
theorem dX5_looks_17 : decode cX5_looks 17 = .ok (.invokevirtual 143, 3) := dk_182 0 143 (dk_at dksX5_looks_0 17 rfl rfl)
theorem dX5_looks_20 : decode cX5_looks 20 = .ok (.bipush 18, 2) := dk_16 18 (dk_at dksX5_looks_0 20 rfl rfl)
theorem dX5_looks_22 : decode cX5_looks 22 = .ok (.if_icmp .lt 18, 3) := dk_161 0 18 (dk_at dksX5_looks_1 0 rfl rfl)
theorem dX5_looks_25 : decode cX5_looks 25 = .ok (.aload_n 0, 1) := dk_42 (dk_at dksX5_looks_1 3 rfl rfl)
theorem dX5_looks_26 : decode cX5_looks 26 = .ok (.getfield 147, 3) := dk_180 0 147 (dk_at dksX5_looks_1 4 rfl rfl)
theorem dX5_looks_29 : decode cX5_looks 29 = .ok (.lstore_n 1, 1) := dk_64 (dk_at dksX5_looks_1 7 rfl rfl)
theorem dX5_looks_30 : decode cX5_looks 30 = .ok (.aload_n 0, 1) := dk_42 (dk_at dksX5_looks_1 8 rfl rfl)
theorem dX5_looks_31 : decode cX5_looks 31 = .ok (.lconst 0, 1) := dk_9 (dk_at dksX5_looks_1 9 rfl rfl)
theorem dX5_looks_32 : decode cX5_looks 32 = .ok (.putfield 147, 3) := dk_181 0 147 (dk_at dksX5_looks_1 10 rfl rfl)
theorem dX5_looks_35 : decode cX5_looks 35 = .ok (.aload_n 0, 1) := dk_42 (dk_at dksX5_looks_1 13 rfl rfl)
theorem dX5_looks_36 : decode cX5_looks 36 = .ok (.lload_n 1, 1) := dk_31 (dk_at dksX5_looks_1 14 rfl rfl)
theorem dX5_looks_37 : decode cX5_looks 37 = .ok (.invokevirtual 136, 3) := dk_182 0 136 (dk_at dksX5_looks_1 15 rfl rfl)
theorem dX5_looks_40 : decode cX5_looks 40 = .ok (.iconst 0, 1) := dk_3 (dk_at dksX5_looks_1 18 rfl rfl)
theorem dX5_looks_41 : decode cX5_looks 41 = .ok (.istore_n 1, 1) := dk_60 (dk_at dksX5_looks_1 19 rfl rfl)
theorem dX5_looks_42 : decode cX5_looks 42 = .ok (.iload_n 1, 1) := dk_27 (dk_at dksX5_looks_1 20 rfl rfl)
theorem dX5_looks_43 : decode cX5_looks 43 = .ok (.aload_n 0, 1) := dk_42 (dk_at dksX5_looks_1 21 rfl rfl)
theorem dX5_looks_44 : decode cX5_looks 44 = .ok (.getfield 32, 3) := dk_180 0 32 (dk_at dksX5_looks_2 0 rfl rfl)
theorem dX5_looks_47 : decode cX5_looks 47 = .ok (.invokeinterface 110 1, 5) := by decide +kernel
theorem dX5_looks_52 : decode cX5_looks 52 = .ok (.if_icmp .ge 48, 3) := dk_162 0 48 (dk_at dksX5_looks_2 8 rfl rfl)
theorem dX5_looks_55 : decode cX5_looks 55 = .ok (.aload_n 0, 1) := dk_42 (dk_at dksX5_looks_2 11 rfl rfl)
theorem dX5_looks_56 : decode cX5_looks 56 = .ok (.getfield 32, 3) := dk_180 0 32 (dk_at dksX5_looks_2 12 rfl rfl)
theorem dX5_looks_59 : decode cX5_looks 59 = .ok (.iload_n 1, 1) := dk_27 (dk_at dksX5_looks_2 15 rfl rfl)
theorem dX5_looks_60 : decode cX5_looks 60 = .ok (.invokeinterface 111 2, 5) := by decide +kernel
theorem dX5_looks_65 : decode cX5_looks 65 = .ok (.checkcast 115, 3) := dk_192 0 115 (dk_at dksX5_looks_2 21 rfl rfl)
theorem dX5_looks_68 : decode cX5_looks 68 = .ok (.invokevirtual 187, 3) := dk_182 0 187 (dk_at dksX5_looks_3 0 rfl rfl)
theorem dX5_looks_71 : decode cX5_looks 71 = .ok (.ifCond .eq 23, 3) := dk_153 0 23 (dk_at dksX5_looks_3 3 rfl rfl)
theorem dX5_looks_74 : decode cX5_looks 74 = .ok (.aload_n 0, 1) := dk_42 (dk_at dksX5_looks_3 6 rfl rfl)
theorem dX5_looks_75 : decode cX5_looks 75 = .ok (.aload_n 0, 1) := dk_42 (dk_at dksX5_looks_3 7 rfl rfl)
theorem dX5_looks_76 : decode cX5_looks 76 = .ok (.getfield 32, 3) := dk_180 0 32 (dk_at dksX5_looks_3 8 rfl rfl)
theorem dX5_looks_79 : decode cX5_looks 79 = .ok (.iload_n 1, 1) := dk_27 (dk_at dksX5_looks_3 11 rfl rfl)
theorem dX5_looks_80 : decode cX5_looks 80 = .ok (.invokeinterface 111 2, 5) := by decide +kernel
theorem dX5_looks_85 : decode cX5_looks 85 = .ok (.checkcast 115, 3) := dk_192 0 115 (dk_at dksX5_looks_3 17 rfl rfl)
theorem dX5_looks_88 : decode cX5_looks 88 = .ok (.invokevirtual 162, 3) := dk_182 0 162 (dk_at dksX5_looks_3 20 rfl rfl)
theorem dX5_looks_91 : decode cX5_looks 91 = .ok (.invokevirtual 136, 3) := dk_182 0 136 (dk_at dksX5_looks_4 0 rfl rfl)
theorem dX5_looks_94 : decode cX5_looks 94 = .ok (.iinc 1 1, 3) := dk_132 1 1 (dk_at dksX5_looks_4 3 rfl rfl)
theorem dX5_looks_97 : decode cX5_looks 97 = .ok (.goto (-55), 3) := dk_167 255 201 (dk_at dksX5_looks_4 6 rfl rfl)
theorem dX5_looks_100 : decode cX5_looks 100 = .ok (.return_, 1) := dk_177 (dk_at dksX5_looks_4 9 rfl rfl)
abbrev cX5_gets : ByteArray := prog_9_method_10_code
def yX5_gets : MethodName := ⟨RX5, "gets", "(J)V"⟩
def dkwX5_gets_3 : List UInt8 := [167, 255, 232, 42, 180, 0, 51, 3, 92, 47, 31, 33, 42, 180, 0, 51, 190, 133, 105, 101, 97, 80, 177]
abbrev dktX5_gets_3 : List UInt8 := dkwX5_gets_3 ++ []
def dkwX5_gets_2 : List UInt8 := [42, 180, 0, 51, 190, 162, 0, 20, 42, 180, 0, 51, 21, 5, 92, 47, 33, 97, 80, 132, 5, 1]
abbrev dktX5_gets_2 : List UInt8 := dkwX5_gets_2 ++ dktX5_gets_3
def dkwX5_gets_1 : List UInt8 := [181, 0, 128, 42, 182, 0, 133, 153, 0, 61, 31, 42, 180, 0, 51, 190, 133, 109, 66, 3, 54, 5, 21, 5]
abbrev dktX5_gets_1 : List UInt8 := dkwX5_gets_1 ++ dktX5_gets_2
def dkwX5_gets_0 : List UInt8 := [42, 89, 180, 0, 121, 31, 97, 181, 0, 121, 42, 180, 0, 3, 180, 0, 124, 89, 180, 0, 128, 31, 97]
abbrev dktX5_gets_0 : List UInt8 := dkwX5_gets_0 ++ dktX5_gets_1
theorem dksX5_gets_0 : cX5_gets.data.toList.drop 0 = dktX5_gets_0 := by decide +kernel
theorem dksX5_gets_1 : cX5_gets.data.toList.drop 23 = dktX5_gets_1 := dk_seg dksX5_gets_0 23 rfl rfl
theorem dksX5_gets_2 : cX5_gets.data.toList.drop 47 = dktX5_gets_2 := dk_seg dksX5_gets_1 24 rfl rfl
theorem dksX5_gets_3 : cX5_gets.data.toList.drop 69 = dktX5_gets_3 := dk_seg dksX5_gets_2 22 rfl rfl
theorem dX5_gets_0 : decode cX5_gets 0 = .ok (.aload_n 0, 1) := dk_42 (dk_at dksX5_gets_0 0 rfl rfl)
theorem dX5_gets_1 : decode cX5_gets 1 = .ok (.dup, 1) := dk_89 (dk_at dksX5_gets_0 1 rfl rfl)
theorem dX5_gets_2 : decode cX5_gets 2 = .ok (.getfield 121, 3) := dk_180 0 121 (dk_at dksX5_gets_0 2 rfl rfl)
theorem dX5_gets_5 : decode cX5_gets 5 = .ok (.lload_n 1, 1) := dk_31 (dk_at dksX5_gets_0 5 rfl rfl)
theorem dX5_gets_6 : decode cX5_gets 6 = .ok (.ladd, 1) := dk_97 (dk_at dksX5_gets_0 6 rfl rfl)
theorem dX5_gets_7 : decode cX5_gets 7 = .ok (.putfield 121, 3) := dk_181 0 121 (dk_at dksX5_gets_0 7 rfl rfl)
theorem dX5_gets_10 : decode cX5_gets 10 = .ok (.aload_n 0, 1) := dk_42 (dk_at dksX5_gets_0 10 rfl rfl)
theorem dX5_gets_11 : decode cX5_gets 11 = .ok (.getfield 3, 3) := dk_180 0 3 (dk_at dksX5_gets_0 11 rfl rfl)
theorem dX5_gets_14 : decode cX5_gets 14 = .ok (.getfield 124, 3) := dk_180 0 124 (dk_at dksX5_gets_0 14 rfl rfl)
theorem dX5_gets_17 : decode cX5_gets 17 = .ok (.dup, 1) := dk_89 (dk_at dksX5_gets_0 17 rfl rfl)
theorem dX5_gets_18 : decode cX5_gets 18 = .ok (.getfield 128, 3) := dk_180 0 128 (dk_at dksX5_gets_0 18 rfl rfl)
theorem dX5_gets_21 : decode cX5_gets 21 = .ok (.lload_n 1, 1) := dk_31 (dk_at dksX5_gets_0 21 rfl rfl)
theorem dX5_gets_22 : decode cX5_gets 22 = .ok (.ladd, 1) := dk_97 (dk_at dksX5_gets_0 22 rfl rfl)
theorem dX5_gets_23 : decode cX5_gets 23 = .ok (.putfield 128, 3) := dk_181 0 128 (dk_at dksX5_gets_1 0 rfl rfl)
theorem dX5_gets_26 : decode cX5_gets 26 = .ok (.aload_n 0, 1) := dk_42 (dk_at dksX5_gets_1 3 rfl rfl)
theorem dX5_gets_27 : decode cX5_gets 27 = .ok (.invokevirtual 133, 3) := dk_182 0 133 (dk_at dksX5_gets_1 4 rfl rfl)
theorem dX5_gets_30 : decode cX5_gets 30 = .ok (.ifCond .eq 61, 3) := dk_153 0 61 (dk_at dksX5_gets_1 7 rfl rfl)
theorem dX5_gets_33 : decode cX5_gets 33 = .ok (.lload_n 1, 1) := dk_31 (dk_at dksX5_gets_1 10 rfl rfl)
theorem dX5_gets_34 : decode cX5_gets 34 = .ok (.aload_n 0, 1) := dk_42 (dk_at dksX5_gets_1 11 rfl rfl)
theorem dX5_gets_35 : decode cX5_gets 35 = .ok (.getfield 51, 3) := dk_180 0 51 (dk_at dksX5_gets_1 12 rfl rfl)
theorem dX5_gets_38 : decode cX5_gets 38 = .ok (.arraylength, 1) := dk_190 (dk_at dksX5_gets_1 15 rfl rfl)
theorem dX5_gets_39 : decode cX5_gets 39 = .ok (.i2l, 1) := dk_133 (dk_at dksX5_gets_1 16 rfl rfl)
theorem dX5_gets_40 : decode cX5_gets 40 = .ok (.ldiv, 1) := dk_109 (dk_at dksX5_gets_1 17 rfl rfl)
theorem dX5_gets_41 : decode cX5_gets 41 = .ok (.lstore_n 3, 1) := dk_66 (dk_at dksX5_gets_1 18 rfl rfl)
theorem dX5_gets_42 : decode cX5_gets 42 = .ok (.iconst 0, 1) := dk_3 (dk_at dksX5_gets_1 19 rfl rfl)
theorem dX5_gets_43 : decode cX5_gets 43 = .ok (.istore 5, 2) := dk_54 5 (dk_at dksX5_gets_1 20 rfl rfl)
theorem dX5_gets_45 : decode cX5_gets 45 = .ok (.iload 5, 2) := dk_21 5 (dk_at dksX5_gets_1 22 rfl rfl)
theorem dX5_gets_47 : decode cX5_gets 47 = .ok (.aload_n 0, 1) := dk_42 (dk_at dksX5_gets_2 0 rfl rfl)
theorem dX5_gets_48 : decode cX5_gets 48 = .ok (.getfield 51, 3) := dk_180 0 51 (dk_at dksX5_gets_2 1 rfl rfl)
theorem dX5_gets_51 : decode cX5_gets 51 = .ok (.arraylength, 1) := dk_190 (dk_at dksX5_gets_2 4 rfl rfl)
theorem dX5_gets_52 : decode cX5_gets 52 = .ok (.if_icmp .ge 20, 3) := dk_162 0 20 (dk_at dksX5_gets_2 5 rfl rfl)
theorem dX5_gets_55 : decode cX5_gets 55 = .ok (.aload_n 0, 1) := dk_42 (dk_at dksX5_gets_2 8 rfl rfl)
theorem dX5_gets_56 : decode cX5_gets 56 = .ok (.getfield 51, 3) := dk_180 0 51 (dk_at dksX5_gets_2 9 rfl rfl)
theorem dX5_gets_59 : decode cX5_gets 59 = .ok (.iload 5, 2) := dk_21 5 (dk_at dksX5_gets_2 12 rfl rfl)
theorem dX5_gets_61 : decode cX5_gets 61 = .ok (.dup2, 1) := dk_92 (dk_at dksX5_gets_2 14 rfl rfl)
theorem dX5_gets_62 : decode cX5_gets 62 = .ok (.laload, 1) := dk_47 (dk_at dksX5_gets_2 15 rfl rfl)
theorem dX5_gets_63 : decode cX5_gets 63 = .ok (.lload_n 3, 1) := dk_33 (dk_at dksX5_gets_2 16 rfl rfl)
theorem dX5_gets_64 : decode cX5_gets 64 = .ok (.ladd, 1) := dk_97 (dk_at dksX5_gets_2 17 rfl rfl)
theorem dX5_gets_65 : decode cX5_gets 65 = .ok (.lastore, 1) := dk_80 (dk_at dksX5_gets_2 18 rfl rfl)
theorem dX5_gets_66 : decode cX5_gets 66 = .ok (.iinc 5 1, 3) := dk_132 5 1 (dk_at dksX5_gets_2 19 rfl rfl)
theorem dX5_gets_69 : decode cX5_gets 69 = .ok (.goto (-24), 3) := dk_167 255 232 (dk_at dksX5_gets_3 0 rfl rfl)
theorem dX5_gets_72 : decode cX5_gets 72 = .ok (.aload_n 0, 1) := dk_42 (dk_at dksX5_gets_3 3 rfl rfl)
theorem dX5_gets_73 : decode cX5_gets 73 = .ok (.getfield 51, 3) := dk_180 0 51 (dk_at dksX5_gets_3 4 rfl rfl)
theorem dX5_gets_76 : decode cX5_gets 76 = .ok (.iconst 0, 1) := dk_3 (dk_at dksX5_gets_3 7 rfl rfl)
theorem dX5_gets_77 : decode cX5_gets 77 = .ok (.dup2, 1) := dk_92 (dk_at dksX5_gets_3 8 rfl rfl)
theorem dX5_gets_78 : decode cX5_gets 78 = .ok (.laload, 1) := dk_47 (dk_at dksX5_gets_3 9 rfl rfl)
theorem dX5_gets_79 : decode cX5_gets 79 = .ok (.lload_n 1, 1) := dk_31 (dk_at dksX5_gets_3 10 rfl rfl)
theorem dX5_gets_80 : decode cX5_gets 80 = .ok (.lload_n 3, 1) := dk_33 (dk_at dksX5_gets_3 11 rfl rfl)
theorem dX5_gets_81 : decode cX5_gets 81 = .ok (.aload_n 0, 1) := dk_42 (dk_at dksX5_gets_3 12 rfl rfl)
theorem dX5_gets_82 : decode cX5_gets 82 = .ok (.getfield 51, 3) := dk_180 0 51 (dk_at dksX5_gets_3 13 rfl rfl)
theorem dX5_gets_85 : decode cX5_gets 85 = .ok (.arraylength, 1) := dk_190 (dk_at dksX5_gets_3 16 rfl rfl)
theorem dX5_gets_86 : decode cX5_gets 86 = .ok (.i2l, 1) := dk_133 (dk_at dksX5_gets_3 17 rfl rfl)
theorem dX5_gets_87 : decode cX5_gets 87 = .ok (.lmul, 1) := dk_105 (dk_at dksX5_gets_3 18 rfl rfl)
theorem dX5_gets_88 : decode cX5_gets 88 = .ok (.lsub, 1) := dk_101 (dk_at dksX5_gets_3 19 rfl rfl)
theorem dX5_gets_89 : decode cX5_gets 89 = .ok (.ladd, 1) := dk_97 (dk_at dksX5_gets_3 20 rfl rfl)
theorem dX5_gets_90 : decode cX5_gets 90 = .ok (.lastore, 1) := dk_80 (dk_at dksX5_gets_3 21 rfl rfl)
theorem dX5_gets_91 : decode cX5_gets 91 = .ok (.return_, 1) := dk_177 (dk_at dksX5_gets_3 22 rfl rfl)
abbrev cX5_isDead : ByteArray := prog_9_method_4_code
def yX5_isDead : MethodName := ⟨RX5, "isDead", "()Z"⟩
def dkwX5_isDead_0 : List UInt8 := [42, 180, 0, 51, 198, 0, 7, 4, 167, 0, 4, 3, 172]
abbrev dktX5_isDead_0 : List UInt8 := dkwX5_isDead_0 ++ []
theorem dksX5_isDead_0 : cX5_isDead.data.toList.drop 0 = dktX5_isDead_0 := by decide +kernel
theorem dX5_isDead_0 : decode cX5_isDead 0 = .ok (.aload_n 0, 1) := dk_42 (dk_at dksX5_isDead_0 0 rfl rfl)
theorem dX5_isDead_1 : decode cX5_isDead 1 = .ok (.getfield 51, 3) := dk_180 0 51 (dk_at dksX5_isDead_0 1 rfl rfl)
theorem dX5_isDead_4 : decode cX5_isDead 4 = .ok (.ifnull 7, 3) := dk_198 0 7 (dk_at dksX5_isDead_0 4 rfl rfl)
theorem dX5_isDead_7 : decode cX5_isDead 7 = .ok (.iconst 1, 1) := dk_4 (dk_at dksX5_isDead_0 7 rfl rfl)
theorem dX5_isDead_8 : decode cX5_isDead 8 = .ok (.goto 4, 3) := dk_167 0 4 (dk_at dksX5_isDead_0 8 rfl rfl)
theorem dX5_isDead_11 : decode cX5_isDead 11 = .ok (.iconst 0, 1) := dk_3 (dk_at dksX5_isDead_0 11 rfl rfl)
theorem dX5_isDead_12 : decode cX5_isDead 12 = .ok (.ireturn, 1) := dk_172 (dk_at dksX5_isDead_0 12 rfl rfl)
abbrev cX5_init : ByteArray := prog_9_method_1_code
def yX5_init : MethodName := ⟨RX5, "<init>", "(LMassclaim;IIIII)V"⟩
def dkwX5_init_2 : List UInt8 := [181, 0, 39, 42, 21, 4, 181, 0, 42, 42, 21, 5, 181, 0, 45, 42, 21, 6, 181, 0, 48, 177]
abbrev dktX5_init_2 : List UInt8 := dkwX5_init_2 ++ []
def dkwX5_init_1 : List UInt8 := [42, 2, 181, 0, 26, 42, 187, 0, 29, 89, 183, 0, 31, 181, 0, 32, 42, 28, 181, 0, 36, 42, 29]
abbrev dktX5_init_1 : List UInt8 := dkwX5_init_1 ++ dktX5_init_2
def dkwX5_init_0 : List UInt8 := [42, 43, 181, 0, 3, 42, 183, 0, 9, 42, 2, 181, 0, 15, 42, 4, 181, 0, 19, 42, 2, 181, 0, 23]
abbrev dktX5_init_0 : List UInt8 := dkwX5_init_0 ++ dktX5_init_1
theorem dksX5_init_0 : cX5_init.data.toList.drop 0 = dktX5_init_0 := by decide +kernel
theorem dksX5_init_1 : cX5_init.data.toList.drop 24 = dktX5_init_1 := dk_seg dksX5_init_0 24 rfl rfl
theorem dksX5_init_2 : cX5_init.data.toList.drop 47 = dktX5_init_2 := dk_seg dksX5_init_1 23 rfl rfl
theorem dX5_init_0 : decode cX5_init 0 = .ok (.aload_n 0, 1) := dk_42 (dk_at dksX5_init_0 0 rfl rfl)
theorem dX5_init_1 : decode cX5_init 1 = .ok (.aload_n 1, 1) := dk_43 (dk_at dksX5_init_0 1 rfl rfl)
theorem dX5_init_2 : decode cX5_init 2 = .ok (.putfield 3, 3) := dk_181 0 3 (dk_at dksX5_init_0 2 rfl rfl)
theorem dX5_init_5 : decode cX5_init 5 = .ok (.aload_n 0, 1) := dk_42 (dk_at dksX5_init_0 5 rfl rfl)
theorem dX5_init_6 : decode cX5_init 6 = .ok (.invokespecial 9, 3) := dk_183 0 9 (dk_at dksX5_init_0 6 rfl rfl)
theorem dX5_init_9 : decode cX5_init 9 = .ok (.aload_n 0, 1) := dk_42 (dk_at dksX5_init_0 9 rfl rfl)
theorem dX5_init_10 : decode cX5_init 10 = .ok (.iconst (-1), 1) := dk_2 (dk_at dksX5_init_0 10 rfl rfl)
theorem dX5_init_11 : decode cX5_init 11 = .ok (.putfield 15, 3) := dk_181 0 15 (dk_at dksX5_init_0 11 rfl rfl)
theorem dX5_init_14 : decode cX5_init 14 = .ok (.aload_n 0, 1) := dk_42 (dk_at dksX5_init_0 14 rfl rfl)
theorem dX5_init_15 : decode cX5_init 15 = .ok (.iconst 1, 1) := dk_4 (dk_at dksX5_init_0 15 rfl rfl)
theorem dX5_init_16 : decode cX5_init 16 = .ok (.putfield 19, 3) := dk_181 0 19 (dk_at dksX5_init_0 16 rfl rfl)
theorem dX5_init_19 : decode cX5_init 19 = .ok (.aload_n 0, 1) := dk_42 (dk_at dksX5_init_0 19 rfl rfl)
theorem dX5_init_20 : decode cX5_init 20 = .ok (.iconst (-1), 1) := dk_2 (dk_at dksX5_init_0 20 rfl rfl)
theorem dX5_init_21 : decode cX5_init 21 = .ok (.putfield 23, 3) := dk_181 0 23 (dk_at dksX5_init_0 21 rfl rfl)
theorem dX5_init_24 : decode cX5_init 24 = .ok (.aload_n 0, 1) := dk_42 (dk_at dksX5_init_1 0 rfl rfl)
theorem dX5_init_25 : decode cX5_init 25 = .ok (.iconst (-1), 1) := dk_2 (dk_at dksX5_init_1 1 rfl rfl)
theorem dX5_init_26 : decode cX5_init 26 = .ok (.putfield 26, 3) := dk_181 0 26 (dk_at dksX5_init_1 2 rfl rfl)
theorem dX5_init_29 : decode cX5_init 29 = .ok (.aload_n 0, 1) := dk_42 (dk_at dksX5_init_1 5 rfl rfl)
theorem dX5_init_30 : decode cX5_init 30 = .ok (.new 29, 3) := dk_187 0 29 (dk_at dksX5_init_1 6 rfl rfl)
theorem dX5_init_33 : decode cX5_init 33 = .ok (.dup, 1) := dk_89 (dk_at dksX5_init_1 9 rfl rfl)
theorem dX5_init_34 : decode cX5_init 34 = .ok (.invokespecial 31, 3) := dk_183 0 31 (dk_at dksX5_init_1 10 rfl rfl)
theorem dX5_init_37 : decode cX5_init 37 = .ok (.putfield 32, 3) := dk_181 0 32 (dk_at dksX5_init_1 13 rfl rfl)
theorem dX5_init_40 : decode cX5_init 40 = .ok (.aload_n 0, 1) := dk_42 (dk_at dksX5_init_1 16 rfl rfl)
theorem dX5_init_41 : decode cX5_init 41 = .ok (.iload_n 2, 1) := dk_28 (dk_at dksX5_init_1 17 rfl rfl)
theorem dX5_init_42 : decode cX5_init 42 = .ok (.putfield 36, 3) := dk_181 0 36 (dk_at dksX5_init_1 18 rfl rfl)
theorem dX5_init_45 : decode cX5_init 45 = .ok (.aload_n 0, 1) := dk_42 (dk_at dksX5_init_1 21 rfl rfl)
theorem dX5_init_46 : decode cX5_init 46 = .ok (.iload_n 3, 1) := dk_29 (dk_at dksX5_init_1 22 rfl rfl)
theorem dX5_init_47 : decode cX5_init 47 = .ok (.putfield 39, 3) := dk_181 0 39 (dk_at dksX5_init_2 0 rfl rfl)
theorem dX5_init_50 : decode cX5_init 50 = .ok (.aload_n 0, 1) := dk_42 (dk_at dksX5_init_2 3 rfl rfl)
theorem dX5_init_51 : decode cX5_init 51 = .ok (.iload 4, 2) := dk_21 4 (dk_at dksX5_init_2 4 rfl rfl)
theorem dX5_init_53 : decode cX5_init 53 = .ok (.putfield 42, 3) := dk_181 0 42 (dk_at dksX5_init_2 6 rfl rfl)
theorem dX5_init_56 : decode cX5_init 56 = .ok (.aload_n 0, 1) := dk_42 (dk_at dksX5_init_2 9 rfl rfl)
theorem dX5_init_57 : decode cX5_init 57 = .ok (.iload 5, 2) := dk_21 5 (dk_at dksX5_init_2 10 rfl rfl)
theorem dX5_init_59 : decode cX5_init 59 = .ok (.putfield 45, 3) := dk_181 0 45 (dk_at dksX5_init_2 12 rfl rfl)
theorem dX5_init_62 : decode cX5_init 62 = .ok (.aload_n 0, 1) := dk_42 (dk_at dksX5_init_2 15 rfl rfl)
theorem dX5_init_63 : decode cX5_init 63 = .ok (.iload 6, 2) := dk_21 6 (dk_at dksX5_init_2 16 rfl rfl)
theorem dX5_init_65 : decode cX5_init 65 = .ok (.putfield 48, 3) := dk_181 0 48 (dk_at dksX5_init_2 18 rfl rfl)
theorem dX5_init_68 : decode cX5_init 68 = .ok (.return_, 1) := dk_177 (dk_at dksX5_init_2 21 rfl rfl)
abbrev cX5_number : ByteArray := prog_9_method_2_code
def yX5_number : MethodName := ⟨RX5, "number", "()I"⟩
theorem dX5_number_0 : decode cX5_number 0 = .ok (.aload_n 0, 1) := by decide +kernel
theorem dX5_number_1 : decode cX5_number 1 = .ok (.getfield 36, 3) := by decide +kernel
theorem dX5_number_4 : decode cX5_number 4 = .ok (.ireturn, 1) := by decide +kernel
abbrev cX5_subclass : ByteArray := prog_9_method_8_code
def yX5_subclass : MethodName := ⟨RX5, "subclass", "()LMassclaim$Subclass;"⟩
def dkwX5_subclass_4 : List UInt8 := [192, 0, 88, 167, 0, 4, 1, 176]
abbrev dktX5_subclass_4 : List UInt8 := dkwX5_subclass_4 ++ []
def dkwX5_subclass_3 : List UInt8 := [167, 0, 4, 3, 62, 132, 2, 1, 167, 255, 186, 42, 182, 0, 103, 153, 0, 13, 43, 184, 0, 106]
abbrev dktX5_subclass_3 : List UInt8 := dkwX5_subclass_3 ++ dktX5_subclass_4
def dkwX5_subclass_2 : List UInt8 := [43, 42, 180, 0, 3, 180, 0, 74, 28, 182, 0, 84, 192, 0, 88, 185, 0, 97, 2, 0, 153, 0, 7, 4]
abbrev dktX5_subclass_2 : List UInt8 := dkwX5_subclass_2 ++ dktX5_subclass_3
def dkwX5_subclass_1 : List UInt8 := [42, 180, 0, 3, 180, 0, 74, 28, 182, 0, 84, 192, 0, 88, 42, 180, 0, 90, 182, 0, 93, 153, 0, 30]
abbrev dktX5_subclass_1 : List UInt8 := dkwX5_subclass_1 ++ dktX5_subclass_2
def dkwX5_subclass_0 : List UInt8 := [187, 0, 29, 89, 183, 0, 31, 76, 3, 61, 28, 42, 180, 0, 3, 180, 0, 74, 182, 0, 78, 162, 0, 62]
abbrev dktX5_subclass_0 : List UInt8 := dkwX5_subclass_0 ++ dktX5_subclass_1
theorem dksX5_subclass_0 : cX5_subclass.data.toList.drop 0 = dktX5_subclass_0 := by decide +kernel
theorem dksX5_subclass_1 : cX5_subclass.data.toList.drop 24 = dktX5_subclass_1 := dk_seg dksX5_subclass_0 24 rfl rfl
theorem dksX5_subclass_2 : cX5_subclass.data.toList.drop 48 = dktX5_subclass_2 := dk_seg dksX5_subclass_1 24 rfl rfl
theorem dksX5_subclass_3 : cX5_subclass.data.toList.drop 72 = dktX5_subclass_3 := dk_seg dksX5_subclass_2 24 rfl rfl
theorem dksX5_subclass_4 : cX5_subclass.data.toList.drop 94 = dktX5_subclass_4 := dk_seg dksX5_subclass_3 22 rfl rfl
theorem dX5_subclass_0 : decode cX5_subclass 0 = .ok (.new 29, 3) := dk_187 0 29 (dk_at dksX5_subclass_0 0 rfl rfl)
theorem dX5_subclass_3 : decode cX5_subclass 3 = .ok (.dup, 1) := dk_89 (dk_at dksX5_subclass_0 3 rfl rfl)
theorem dX5_subclass_4 : decode cX5_subclass 4 = .ok (.invokespecial 31, 3) := dk_183 0 31 (dk_at dksX5_subclass_0 4 rfl rfl)
theorem dX5_subclass_7 : decode cX5_subclass 7 = .ok (.astore_n 1, 1) := dk_76 (dk_at dksX5_subclass_0 7 rfl rfl)
theorem dX5_subclass_8 : decode cX5_subclass 8 = .ok (.iconst 0, 1) := dk_3 (dk_at dksX5_subclass_0 8 rfl rfl)
theorem dX5_subclass_9 : decode cX5_subclass 9 = .ok (.istore_n 2, 1) := dk_61 (dk_at dksX5_subclass_0 9 rfl rfl)
theorem dX5_subclass_10 : decode cX5_subclass 10 = .ok (.iload_n 2, 1) := dk_28 (dk_at dksX5_subclass_0 10 rfl rfl)
theorem dX5_subclass_11 : decode cX5_subclass 11 = .ok (.aload_n 0, 1) := dk_42 (dk_at dksX5_subclass_0 11 rfl rfl)
theorem dX5_subclass_12 : decode cX5_subclass 12 = .ok (.getfield 3, 3) := dk_180 0 3 (dk_at dksX5_subclass_0 12 rfl rfl)
theorem dX5_subclass_15 : decode cX5_subclass 15 = .ok (.getfield 74, 3) := dk_180 0 74 (dk_at dksX5_subclass_0 15 rfl rfl)
theorem dX5_subclass_18 : decode cX5_subclass 18 = .ok (.invokevirtual 78, 3) := dk_182 0 78 (dk_at dksX5_subclass_0 18 rfl rfl)
theorem dX5_subclass_21 : decode cX5_subclass 21 = .ok (.if_icmp .ge 62, 3) := dk_162 0 62 (dk_at dksX5_subclass_0 21 rfl rfl)
theorem dX5_subclass_24 : decode cX5_subclass 24 = .ok (.aload_n 0, 1) := dk_42 (dk_at dksX5_subclass_1 0 rfl rfl)
theorem dX5_subclass_25 : decode cX5_subclass 25 = .ok (.getfield 3, 3) := dk_180 0 3 (dk_at dksX5_subclass_1 1 rfl rfl)
theorem dX5_subclass_28 : decode cX5_subclass 28 = .ok (.getfield 74, 3) := dk_180 0 74 (dk_at dksX5_subclass_1 4 rfl rfl)
theorem dX5_subclass_31 : decode cX5_subclass 31 = .ok (.iload_n 2, 1) := dk_28 (dk_at dksX5_subclass_1 7 rfl rfl)
theorem dX5_subclass_32 : decode cX5_subclass 32 = .ok (.invokevirtual 84, 3) := dk_182 0 84 (dk_at dksX5_subclass_1 8 rfl rfl)
theorem dX5_subclass_35 : decode cX5_subclass 35 = .ok (.checkcast 88, 3) := dk_192 0 88 (dk_at dksX5_subclass_1 11 rfl rfl)
theorem dX5_subclass_38 : decode cX5_subclass 38 = .ok (.aload_n 0, 1) := dk_42 (dk_at dksX5_subclass_1 14 rfl rfl)
theorem dX5_subclass_39 : decode cX5_subclass 39 = .ok (.getfield 90, 3) := dk_180 0 90 (dk_at dksX5_subclass_1 15 rfl rfl)
theorem dX5_subclass_42 : decode cX5_subclass 42 = .ok (.invokevirtual 93, 3) := dk_182 0 93 (dk_at dksX5_subclass_1 18 rfl rfl)
theorem dX5_subclass_45 : decode cX5_subclass 45 = .ok (.ifCond .eq 30, 3) := dk_153 0 30 (dk_at dksX5_subclass_1 21 rfl rfl)
theorem dX5_subclass_48 : decode cX5_subclass 48 = .ok (.aload_n 1, 1) := dk_43 (dk_at dksX5_subclass_2 0 rfl rfl)
theorem dX5_subclass_49 : decode cX5_subclass 49 = .ok (.aload_n 0, 1) := dk_42 (dk_at dksX5_subclass_2 1 rfl rfl)
theorem dX5_subclass_50 : decode cX5_subclass 50 = .ok (.getfield 3, 3) := dk_180 0 3 (dk_at dksX5_subclass_2 2 rfl rfl)
theorem dX5_subclass_53 : decode cX5_subclass 53 = .ok (.getfield 74, 3) := dk_180 0 74 (dk_at dksX5_subclass_2 5 rfl rfl)
theorem dX5_subclass_56 : decode cX5_subclass 56 = .ok (.iload_n 2, 1) := dk_28 (dk_at dksX5_subclass_2 8 rfl rfl)
theorem dX5_subclass_57 : decode cX5_subclass 57 = .ok (.invokevirtual 84, 3) := dk_182 0 84 (dk_at dksX5_subclass_2 9 rfl rfl)
theorem dX5_subclass_60 : decode cX5_subclass 60 = .ok (.checkcast 88, 3) := dk_192 0 88 (dk_at dksX5_subclass_2 12 rfl rfl)
theorem dX5_subclass_63 : decode cX5_subclass 63 = .ok (.invokeinterface 97 2, 5) := by decide +kernel
theorem dX5_subclass_68 : decode cX5_subclass 68 = .ok (.ifCond .eq 7, 3) := dk_153 0 7 (dk_at dksX5_subclass_2 20 rfl rfl)
theorem dX5_subclass_71 : decode cX5_subclass 71 = .ok (.iconst 1, 1) := dk_4 (dk_at dksX5_subclass_2 23 rfl rfl)
theorem dX5_subclass_72 : decode cX5_subclass 72 = .ok (.goto 4, 3) := dk_167 0 4 (dk_at dksX5_subclass_3 0 rfl rfl)
theorem dX5_subclass_75 : decode cX5_subclass 75 = .ok (.iconst 0, 1) := dk_3 (dk_at dksX5_subclass_3 3 rfl rfl)
theorem dX5_subclass_76 : decode cX5_subclass 76 = .ok (.istore_n 3, 1) := dk_62 (dk_at dksX5_subclass_3 4 rfl rfl)
theorem dX5_subclass_77 : decode cX5_subclass 77 = .ok (.iinc 2 1, 3) := dk_132 2 1 (dk_at dksX5_subclass_3 5 rfl rfl)
theorem dX5_subclass_80 : decode cX5_subclass 80 = .ok (.goto (-70), 3) := dk_167 255 186 (dk_at dksX5_subclass_3 8 rfl rfl)
theorem dX5_subclass_83 : decode cX5_subclass 83 = .ok (.aload_n 0, 1) := dk_42 (dk_at dksX5_subclass_3 11 rfl rfl)
theorem dX5_subclass_84 : decode cX5_subclass 84 = .ok (.invokevirtual 103, 3) := dk_182 0 103 (dk_at dksX5_subclass_3 12 rfl rfl)
theorem dX5_subclass_87 : decode cX5_subclass 87 = .ok (.ifCond .eq 13, 3) := dk_153 0 13 (dk_at dksX5_subclass_3 15 rfl rfl)
theorem dX5_subclass_90 : decode cX5_subclass 90 = .ok (.aload_n 1, 1) := dk_43 (dk_at dksX5_subclass_3 18 rfl rfl)
theorem dX5_subclass_91 : decode cX5_subclass 91 = .ok (.invokestatic 106, 3) := dk_184 0 106 (dk_at dksX5_subclass_3 19 rfl rfl)
theorem dX5_subclass_94 : decode cX5_subclass 94 = .ok (.checkcast 88, 3) := dk_192 0 88 (dk_at dksX5_subclass_4 0 rfl rfl)
theorem dX5_subclass_97 : decode cX5_subclass 97 = .ok (.goto 4, 3) := dk_167 0 4 (dk_at dksX5_subclass_4 3 rfl rfl)
theorem dX5_subclass_100 : decode cX5_subclass 100 = .ok (.aconst_null, 1) := dk_1 (dk_at dksX5_subclass_4 6 rfl rfl)
theorem dX5_subclass_101 : decode cX5_subclass 101 = .ok (.areturn, 1) := dk_176 (dk_at dksX5_subclass_4 7 rfl rfl)
abbrev cX5_isBarred : ByteArray := prog_9_method_7_code
def yX5_isBarred : MethodName := ⟨RX5, "isBarred", "()Z"⟩
def dkwX5_isBarred_0 : List UInt8 := [42, 180, 0, 71, 17, 4, 56, 161, 0, 7, 4, 167, 0, 4, 3, 172]
abbrev dktX5_isBarred_0 : List UInt8 := dkwX5_isBarred_0 ++ []
theorem dksX5_isBarred_0 : cX5_isBarred.data.toList.drop 0 = dktX5_isBarred_0 := by decide +kernel
theorem dX5_isBarred_0 : decode cX5_isBarred 0 = .ok (.aload_n 0, 1) := dk_42 (dk_at dksX5_isBarred_0 0 rfl rfl)
theorem dX5_isBarred_1 : decode cX5_isBarred 1 = .ok (.getfield 71, 3) := dk_180 0 71 (dk_at dksX5_isBarred_0 1 rfl rfl)
theorem dX5_isBarred_4 : decode cX5_isBarred 4 = .ok (.sipush 1080, 3) := dk_17 4 56 (dk_at dksX5_isBarred_0 4 rfl rfl)
theorem dX5_isBarred_7 : decode cX5_isBarred 7 = .ok (.if_icmp .lt 7, 3) := dk_161 0 7 (dk_at dksX5_isBarred_0 7 rfl rfl)
theorem dX5_isBarred_10 : decode cX5_isBarred 10 = .ok (.iconst 1, 1) := dk_4 (dk_at dksX5_isBarred_0 10 rfl rfl)
theorem dX5_isBarred_11 : decode cX5_isBarred 11 = .ok (.goto 4, 3) := dk_167 0 4 (dk_at dksX5_isBarred_0 11 rfl rfl)
theorem dX5_isBarred_14 : decode cX5_isBarred 14 = .ok (.iconst 0, 1) := dk_3 (dk_at dksX5_isBarred_0 14 rfl rfl)
theorem dX5_isBarred_15 : decode cX5_isBarred 15 = .ok (.ireturn, 1) := dk_172 (dk_at dksX5_isBarred_0 15 rfl rfl)
abbrev cX5_openLiens : ByteArray := prog_9_method_12_code
def yX5_openLiens : MethodName := ⟨RX5, "openLiens", "()J"⟩
def dkwX5_openLiens_3 : List UInt8 := [173]
abbrev dktX5_openLiens_3 : List UInt8 := dkwX5_openLiens_3 ++ []
def dkwX5_openLiens_2 : List UInt8 := [29, 182, 0, 84, 192, 0, 169, 180, 0, 175, 133, 167, 0, 4, 9, 97, 64, 132, 3, 1, 167, 255, 193, 31]
abbrev dktX5_openLiens_2 : List UInt8 := dkwX5_openLiens_2 ++ dktX5_openLiens_3
def dkwX5_openLiens_1 : List UInt8 := [180, 0, 166, 29, 182, 0, 84, 192, 0, 169, 180, 0, 171, 42, 166, 0, 24, 42, 180, 0, 3, 180, 0, 166]
abbrev dktX5_openLiens_1 : List UInt8 := dkwX5_openLiens_1 ++ dktX5_openLiens_2
def dkwX5_openLiens_0 : List UInt8 := [9, 64, 3, 62, 29, 42, 180, 0, 3, 180, 0, 166, 182, 0, 78, 162, 0, 55, 31, 42, 180, 0, 3]
abbrev dktX5_openLiens_0 : List UInt8 := dkwX5_openLiens_0 ++ dktX5_openLiens_1
theorem dksX5_openLiens_0 : cX5_openLiens.data.toList.drop 0 = dktX5_openLiens_0 := by decide +kernel
theorem dksX5_openLiens_1 : cX5_openLiens.data.toList.drop 23 = dktX5_openLiens_1 := dk_seg dksX5_openLiens_0 23 rfl rfl
theorem dksX5_openLiens_2 : cX5_openLiens.data.toList.drop 47 = dktX5_openLiens_2 := dk_seg dksX5_openLiens_1 24 rfl rfl
theorem dksX5_openLiens_3 : cX5_openLiens.data.toList.drop 71 = dktX5_openLiens_3 := dk_seg dksX5_openLiens_2 24 rfl rfl
theorem dX5_openLiens_0 : decode cX5_openLiens 0 = .ok (.lconst 0, 1) := dk_9 (dk_at dksX5_openLiens_0 0 rfl rfl)
theorem dX5_openLiens_1 : decode cX5_openLiens 1 = .ok (.lstore_n 1, 1) := dk_64 (dk_at dksX5_openLiens_0 1 rfl rfl)
theorem dX5_openLiens_2 : decode cX5_openLiens 2 = .ok (.iconst 0, 1) := dk_3 (dk_at dksX5_openLiens_0 2 rfl rfl)
theorem dX5_openLiens_3 : decode cX5_openLiens 3 = .ok (.istore_n 3, 1) := dk_62 (dk_at dksX5_openLiens_0 3 rfl rfl)
theorem dX5_openLiens_4 : decode cX5_openLiens 4 = .ok (.iload_n 3, 1) := dk_29 (dk_at dksX5_openLiens_0 4 rfl rfl)
theorem dX5_openLiens_5 : decode cX5_openLiens 5 = .ok (.aload_n 0, 1) := dk_42 (dk_at dksX5_openLiens_0 5 rfl rfl)
theorem dX5_openLiens_6 : decode cX5_openLiens 6 = .ok (.getfield 3, 3) := dk_180 0 3 (dk_at dksX5_openLiens_0 6 rfl rfl)
theorem dX5_openLiens_9 : decode cX5_openLiens 9 = .ok (.getfield 166, 3) := dk_180 0 166 (dk_at dksX5_openLiens_0 9 rfl rfl)
theorem dX5_openLiens_12 : decode cX5_openLiens 12 = .ok (.invokevirtual 78, 3) := dk_182 0 78 (dk_at dksX5_openLiens_0 12 rfl rfl)
theorem dX5_openLiens_15 : decode cX5_openLiens 15 = .ok (.if_icmp .ge 55, 3) := dk_162 0 55 (dk_at dksX5_openLiens_0 15 rfl rfl)
theorem dX5_openLiens_18 : decode cX5_openLiens 18 = .ok (.lload_n 1, 1) := dk_31 (dk_at dksX5_openLiens_0 18 rfl rfl)
theorem dX5_openLiens_19 : decode cX5_openLiens 19 = .ok (.aload_n 0, 1) := dk_42 (dk_at dksX5_openLiens_0 19 rfl rfl)
theorem dX5_openLiens_20 : decode cX5_openLiens 20 = .ok (.getfield 3, 3) := dk_180 0 3 (dk_at dksX5_openLiens_0 20 rfl rfl)
theorem dX5_openLiens_23 : decode cX5_openLiens 23 = .ok (.getfield 166, 3) := dk_180 0 166 (dk_at dksX5_openLiens_1 0 rfl rfl)
theorem dX5_openLiens_26 : decode cX5_openLiens 26 = .ok (.iload_n 3, 1) := dk_29 (dk_at dksX5_openLiens_1 3 rfl rfl)
theorem dX5_openLiens_27 : decode cX5_openLiens 27 = .ok (.invokevirtual 84, 3) := dk_182 0 84 (dk_at dksX5_openLiens_1 4 rfl rfl)
theorem dX5_openLiens_30 : decode cX5_openLiens 30 = .ok (.checkcast 169, 3) := dk_192 0 169 (dk_at dksX5_openLiens_1 7 rfl rfl)
theorem dX5_openLiens_33 : decode cX5_openLiens 33 = .ok (.getfield 171, 3) := dk_180 0 171 (dk_at dksX5_openLiens_1 10 rfl rfl)
theorem dX5_openLiens_36 : decode cX5_openLiens 36 = .ok (.aload_n 0, 1) := dk_42 (dk_at dksX5_openLiens_1 13 rfl rfl)
theorem dX5_openLiens_37 : decode cX5_openLiens 37 = .ok (.if_acmp .ne 24, 3) := dk_166 0 24 (dk_at dksX5_openLiens_1 14 rfl rfl)
theorem dX5_openLiens_40 : decode cX5_openLiens 40 = .ok (.aload_n 0, 1) := dk_42 (dk_at dksX5_openLiens_1 17 rfl rfl)
theorem dX5_openLiens_41 : decode cX5_openLiens 41 = .ok (.getfield 3, 3) := dk_180 0 3 (dk_at dksX5_openLiens_1 18 rfl rfl)
theorem dX5_openLiens_44 : decode cX5_openLiens 44 = .ok (.getfield 166, 3) := dk_180 0 166 (dk_at dksX5_openLiens_1 21 rfl rfl)
theorem dX5_openLiens_47 : decode cX5_openLiens 47 = .ok (.iload_n 3, 1) := dk_29 (dk_at dksX5_openLiens_2 0 rfl rfl)
theorem dX5_openLiens_48 : decode cX5_openLiens 48 = .ok (.invokevirtual 84, 3) := dk_182 0 84 (dk_at dksX5_openLiens_2 1 rfl rfl)
theorem dX5_openLiens_51 : decode cX5_openLiens 51 = .ok (.checkcast 169, 3) := dk_192 0 169 (dk_at dksX5_openLiens_2 4 rfl rfl)
theorem dX5_openLiens_54 : decode cX5_openLiens 54 = .ok (.getfield 175, 3) := dk_180 0 175 (dk_at dksX5_openLiens_2 7 rfl rfl)
theorem dX5_openLiens_57 : decode cX5_openLiens 57 = .ok (.i2l, 1) := dk_133 (dk_at dksX5_openLiens_2 10 rfl rfl)
theorem dX5_openLiens_58 : decode cX5_openLiens 58 = .ok (.goto 4, 3) := dk_167 0 4 (dk_at dksX5_openLiens_2 11 rfl rfl)
theorem dX5_openLiens_61 : decode cX5_openLiens 61 = .ok (.lconst 0, 1) := dk_9 (dk_at dksX5_openLiens_2 14 rfl rfl)
theorem dX5_openLiens_62 : decode cX5_openLiens 62 = .ok (.ladd, 1) := dk_97 (dk_at dksX5_openLiens_2 15 rfl rfl)
theorem dX5_openLiens_63 : decode cX5_openLiens 63 = .ok (.lstore_n 1, 1) := dk_64 (dk_at dksX5_openLiens_2 16 rfl rfl)
theorem dX5_openLiens_64 : decode cX5_openLiens 64 = .ok (.iinc 3 1, 3) := dk_132 3 1 (dk_at dksX5_openLiens_2 17 rfl rfl)
theorem dX5_openLiens_67 : decode cX5_openLiens 67 = .ok (.goto (-63), 3) := dk_167 255 193 (dk_at dksX5_openLiens_2 20 rfl rfl)
theorem dX5_openLiens_70 : decode cX5_openLiens 70 = .ok (.lload_n 1, 1) := dk_31 (dk_at dksX5_openLiens_2 23 rfl rfl)
theorem dX5_openLiens_71 : decode cX5_openLiens 71 = .ok (.lreturn, 1) := dk_173 (dk_at dksX5_openLiens_3 0 rfl rfl)
abbrev cX5_deliver : ByteArray := prog_9_method_11_code
def yX5_deliver : MethodName := ⟨RX5, "deliver", "(J)V"⟩
def dkwX5_deliver_4 : List UInt8 := [182, 0, 136, 167, 0, 8, 42, 31, 182, 0, 136, 177]
abbrev dktX5_deliver_4 : List UInt8 := dkwX5_deliver_4 ++ []
def dkwX5_deliver_3 : List UInt8 := [180, 0, 154, 183, 0, 159, 78, 42, 180, 0, 32, 45, 185, 0, 97, 2, 0, 54, 4, 42, 45, 182, 0, 162]
abbrev dktX5_deliver_3 : List UInt8 := dkwX5_deliver_3 ++ dktX5_deliver_4
def dkwX5_deliver_2 : List UInt8 := [180, 0, 150, 180, 0, 154, 4, 164, 0, 46, 187, 0, 115, 89, 42, 180, 0, 3, 31, 42, 180, 0, 150]
abbrev dktX5_deliver_2 : List UInt8 := dkwX5_deliver_2 ++ dktX5_deliver_3
def dkwX5_deliver_1 : List UInt8 := [182, 0, 143, 16, 18, 162, 0, 16, 42, 89, 180, 0, 147, 31, 97, 181, 0, 147, 167, 0, 62, 42]
abbrev dktX5_deliver_1 : List UInt8 := dkwX5_deliver_1 ++ dktX5_deliver_2
def dkwX5_deliver_0 : List UInt8 := [42, 182, 0, 133, 153, 0, 11, 42, 31, 182, 0, 136, 167, 0, 91, 42, 42, 180, 0, 3, 180, 0, 140]
abbrev dktX5_deliver_0 : List UInt8 := dkwX5_deliver_0 ++ dktX5_deliver_1
theorem dksX5_deliver_0 : cX5_deliver.data.toList.drop 0 = dktX5_deliver_0 := by decide +kernel
theorem dksX5_deliver_1 : cX5_deliver.data.toList.drop 23 = dktX5_deliver_1 := dk_seg dksX5_deliver_0 23 rfl rfl
theorem dksX5_deliver_2 : cX5_deliver.data.toList.drop 45 = dktX5_deliver_2 := dk_seg dksX5_deliver_1 22 rfl rfl
theorem dksX5_deliver_3 : cX5_deliver.data.toList.drop 68 = dktX5_deliver_3 := dk_seg dksX5_deliver_2 23 rfl rfl
theorem dksX5_deliver_4 : cX5_deliver.data.toList.drop 92 = dktX5_deliver_4 := dk_seg dksX5_deliver_3 24 rfl rfl
theorem dX5_deliver_0 : decode cX5_deliver 0 = .ok (.aload_n 0, 1) := dk_42 (dk_at dksX5_deliver_0 0 rfl rfl)
theorem dX5_deliver_1 : decode cX5_deliver 1 = .ok (.invokevirtual 133, 3) := dk_182 0 133 (dk_at dksX5_deliver_0 1 rfl rfl)
theorem dX5_deliver_4 : decode cX5_deliver 4 = .ok (.ifCond .eq 11, 3) := dk_153 0 11 (dk_at dksX5_deliver_0 4 rfl rfl)
theorem dX5_deliver_7 : decode cX5_deliver 7 = .ok (.aload_n 0, 1) := dk_42 (dk_at dksX5_deliver_0 7 rfl rfl)
theorem dX5_deliver_8 : decode cX5_deliver 8 = .ok (.lload_n 1, 1) := dk_31 (dk_at dksX5_deliver_0 8 rfl rfl)
theorem dX5_deliver_9 : decode cX5_deliver 9 = .ok (.invokevirtual 136, 3) := dk_182 0 136 (dk_at dksX5_deliver_0 9 rfl rfl)
theorem dX5_deliver_12 : decode cX5_deliver 12 = .ok (.goto 91, 3) := dk_167 0 91 (dk_at dksX5_deliver_0 12 rfl rfl)
theorem dX5_deliver_15 : decode cX5_deliver 15 = .ok (.aload_n 0, 1) := dk_42 (dk_at dksX5_deliver_0 15 rfl rfl)
theorem dX5_deliver_16 : decode cX5_deliver 16 = .ok (.aload_n 0, 1) := dk_42 (dk_at dksX5_deliver_0 16 rfl rfl)
theorem dX5_deliver_17 : decode cX5_deliver 17 = .ok (.getfield 3, 3) := dk_180 0 3 (dk_at dksX5_deliver_0 17 rfl rfl)
theorem dX5_deliver_20 : decode cX5_deliver 20 = .ok (.getfield 140, 3) := dk_180 0 140 (dk_at dksX5_deliver_0 20 rfl rfl)
theorem dX5_deliver_23 : decode cX5_deliver 23 = .ok (.invokevirtual 143, 3) := dk_182 0 143 (dk_at dksX5_deliver_1 0 rfl rfl)
theorem dX5_deliver_26 : decode cX5_deliver 26 = .ok (.bipush 18, 2) := dk_16 18 (dk_at dksX5_deliver_1 3 rfl rfl)
theorem dX5_deliver_28 : decode cX5_deliver 28 = .ok (.if_icmp .ge 16, 3) := dk_162 0 16 (dk_at dksX5_deliver_1 5 rfl rfl)
theorem dX5_deliver_31 : decode cX5_deliver 31 = .ok (.aload_n 0, 1) := dk_42 (dk_at dksX5_deliver_1 8 rfl rfl)
theorem dX5_deliver_32 : decode cX5_deliver 32 = .ok (.dup, 1) := dk_89 (dk_at dksX5_deliver_1 9 rfl rfl)
theorem dX5_deliver_33 : decode cX5_deliver 33 = .ok (.getfield 147, 3) := dk_180 0 147 (dk_at dksX5_deliver_1 10 rfl rfl)
theorem dX5_deliver_36 : decode cX5_deliver 36 = .ok (.lload_n 1, 1) := dk_31 (dk_at dksX5_deliver_1 13 rfl rfl)
theorem dX5_deliver_37 : decode cX5_deliver 37 = .ok (.ladd, 1) := dk_97 (dk_at dksX5_deliver_1 14 rfl rfl)
theorem dX5_deliver_38 : decode cX5_deliver 38 = .ok (.putfield 147, 3) := dk_181 0 147 (dk_at dksX5_deliver_1 15 rfl rfl)
theorem dX5_deliver_41 : decode cX5_deliver 41 = .ok (.goto 62, 3) := dk_167 0 62 (dk_at dksX5_deliver_1 18 rfl rfl)
theorem dX5_deliver_44 : decode cX5_deliver 44 = .ok (.aload_n 0, 1) := dk_42 (dk_at dksX5_deliver_1 21 rfl rfl)
theorem dX5_deliver_45 : decode cX5_deliver 45 = .ok (.getfield 150, 3) := dk_180 0 150 (dk_at dksX5_deliver_2 0 rfl rfl)
theorem dX5_deliver_48 : decode cX5_deliver 48 = .ok (.getfield 154, 3) := dk_180 0 154 (dk_at dksX5_deliver_2 3 rfl rfl)
theorem dX5_deliver_51 : decode cX5_deliver 51 = .ok (.iconst 1, 1) := dk_4 (dk_at dksX5_deliver_2 6 rfl rfl)
theorem dX5_deliver_52 : decode cX5_deliver 52 = .ok (.if_icmp .le 46, 3) := dk_164 0 46 (dk_at dksX5_deliver_2 7 rfl rfl)
theorem dX5_deliver_55 : decode cX5_deliver 55 = .ok (.new 115, 3) := dk_187 0 115 (dk_at dksX5_deliver_2 10 rfl rfl)
theorem dX5_deliver_58 : decode cX5_deliver 58 = .ok (.dup, 1) := dk_89 (dk_at dksX5_deliver_2 13 rfl rfl)
theorem dX5_deliver_59 : decode cX5_deliver 59 = .ok (.aload_n 0, 1) := dk_42 (dk_at dksX5_deliver_2 14 rfl rfl)
theorem dX5_deliver_60 : decode cX5_deliver 60 = .ok (.getfield 3, 3) := dk_180 0 3 (dk_at dksX5_deliver_2 15 rfl rfl)
theorem dX5_deliver_63 : decode cX5_deliver 63 = .ok (.lload_n 1, 1) := dk_31 (dk_at dksX5_deliver_2 18 rfl rfl)
theorem dX5_deliver_64 : decode cX5_deliver 64 = .ok (.aload_n 0, 1) := dk_42 (dk_at dksX5_deliver_2 19 rfl rfl)
theorem dX5_deliver_65 : decode cX5_deliver 65 = .ok (.getfield 150, 3) := dk_180 0 150 (dk_at dksX5_deliver_2 20 rfl rfl)
theorem dX5_deliver_68 : decode cX5_deliver 68 = .ok (.getfield 154, 3) := dk_180 0 154 (dk_at dksX5_deliver_3 0 rfl rfl)
theorem dX5_deliver_71 : decode cX5_deliver 71 = .ok (.invokespecial 159, 3) := dk_183 0 159 (dk_at dksX5_deliver_3 3 rfl rfl)
theorem dX5_deliver_74 : decode cX5_deliver 74 = .ok (.astore_n 3, 1) := dk_78 (dk_at dksX5_deliver_3 6 rfl rfl)
theorem dX5_deliver_75 : decode cX5_deliver 75 = .ok (.aload_n 0, 1) := dk_42 (dk_at dksX5_deliver_3 7 rfl rfl)
theorem dX5_deliver_76 : decode cX5_deliver 76 = .ok (.getfield 32, 3) := dk_180 0 32 (dk_at dksX5_deliver_3 8 rfl rfl)
theorem dX5_deliver_79 : decode cX5_deliver 79 = .ok (.aload_n 3, 1) := dk_45 (dk_at dksX5_deliver_3 11 rfl rfl)
theorem dX5_deliver_80 : decode cX5_deliver 80 = .ok (.invokeinterface 97 2, 5) := by decide +kernel
theorem dX5_deliver_85 : decode cX5_deliver 85 = .ok (.istore 4, 2) := dk_54 4 (dk_at dksX5_deliver_3 17 rfl rfl)
theorem dX5_deliver_87 : decode cX5_deliver 87 = .ok (.aload_n 0, 1) := dk_42 (dk_at dksX5_deliver_3 19 rfl rfl)
theorem dX5_deliver_88 : decode cX5_deliver 88 = .ok (.aload_n 3, 1) := dk_45 (dk_at dksX5_deliver_3 20 rfl rfl)
theorem dX5_deliver_89 : decode cX5_deliver 89 = .ok (.invokevirtual 162, 3) := dk_182 0 162 (dk_at dksX5_deliver_3 21 rfl rfl)
theorem dX5_deliver_92 : decode cX5_deliver 92 = .ok (.invokevirtual 136, 3) := dk_182 0 136 (dk_at dksX5_deliver_4 0 rfl rfl)
theorem dX5_deliver_95 : decode cX5_deliver 95 = .ok (.goto 8, 3) := dk_167 0 8 (dk_at dksX5_deliver_4 3 rfl rfl)
theorem dX5_deliver_98 : decode cX5_deliver 98 = .ok (.aload_n 0, 1) := dk_42 (dk_at dksX5_deliver_4 6 rfl rfl)
theorem dX5_deliver_99 : decode cX5_deliver 99 = .ok (.lload_n 1, 1) := dk_31 (dk_at dksX5_deliver_4 7 rfl rfl)
theorem dX5_deliver_100 : decode cX5_deliver 100 = .ok (.invokevirtual 136, 3) := dk_182 0 136 (dk_at dksX5_deliver_4 8 rfl rfl)
theorem dX5_deliver_103 : decode cX5_deliver 103 = .ok (.return_, 1) := dk_177 (dk_at dksX5_deliver_4 11 rfl rfl)
abbrev cX5_releases : ByteArray := prog_9_method_13_code
def yX5_releases : MethodName := ⟨RX5, "releases", "()V"⟩
def dkwX5_releases_1 : List UInt8 := [9, 181, 0, 178, 42, 31, 182, 0, 184, 177]
abbrev dktX5_releases_1 : List UInt8 := dkwX5_releases_1 ++ []
def dkwX5_releases_0 : List UInt8 := [42, 180, 0, 178, 9, 148, 158, 0, 27, 42, 182, 0, 181, 9, 148, 154, 0, 18, 42, 180, 0, 178, 64, 42]
abbrev dktX5_releases_0 : List UInt8 := dkwX5_releases_0 ++ dktX5_releases_1
theorem dksX5_releases_0 : cX5_releases.data.toList.drop 0 = dktX5_releases_0 := by decide +kernel
theorem dksX5_releases_1 : cX5_releases.data.toList.drop 24 = dktX5_releases_1 := dk_seg dksX5_releases_0 24 rfl rfl
theorem dX5_releases_0 : decode cX5_releases 0 = .ok (.aload_n 0, 1) := dk_42 (dk_at dksX5_releases_0 0 rfl rfl)
theorem dX5_releases_1 : decode cX5_releases 1 = .ok (.getfield 178, 3) := dk_180 0 178 (dk_at dksX5_releases_0 1 rfl rfl)
theorem dX5_releases_4 : decode cX5_releases 4 = .ok (.lconst 0, 1) := dk_9 (dk_at dksX5_releases_0 4 rfl rfl)
theorem dX5_releases_5 : decode cX5_releases 5 = .ok (.lcmp, 1) := dk_148 (dk_at dksX5_releases_0 5 rfl rfl)
theorem dX5_releases_6 : decode cX5_releases 6 = .ok (.ifCond .le 27, 3) := dk_158 0 27 (dk_at dksX5_releases_0 6 rfl rfl)
theorem dX5_releases_9 : decode cX5_releases 9 = .ok (.aload_n 0, 1) := dk_42 (dk_at dksX5_releases_0 9 rfl rfl)
theorem dX5_releases_10 : decode cX5_releases 10 = .ok (.invokevirtual 181, 3) := dk_182 0 181 (dk_at dksX5_releases_0 10 rfl rfl)
theorem dX5_releases_13 : decode cX5_releases 13 = .ok (.lconst 0, 1) := dk_9 (dk_at dksX5_releases_0 13 rfl rfl)
theorem dX5_releases_14 : decode cX5_releases 14 = .ok (.lcmp, 1) := dk_148 (dk_at dksX5_releases_0 14 rfl rfl)
theorem dX5_releases_15 : decode cX5_releases 15 = .ok (.ifCond .ne 18, 3) := dk_154 0 18 (dk_at dksX5_releases_0 15 rfl rfl)
theorem dX5_releases_18 : decode cX5_releases 18 = .ok (.aload_n 0, 1) := dk_42 (dk_at dksX5_releases_0 18 rfl rfl)
theorem dX5_releases_19 : decode cX5_releases 19 = .ok (.getfield 178, 3) := dk_180 0 178 (dk_at dksX5_releases_0 19 rfl rfl)
theorem dX5_releases_22 : decode cX5_releases 22 = .ok (.lstore_n 1, 1) := dk_64 (dk_at dksX5_releases_0 22 rfl rfl)
theorem dX5_releases_23 : decode cX5_releases 23 = .ok (.aload_n 0, 1) := dk_42 (dk_at dksX5_releases_0 23 rfl rfl)
theorem dX5_releases_24 : decode cX5_releases 24 = .ok (.lconst 0, 1) := dk_9 (dk_at dksX5_releases_1 0 rfl rfl)
theorem dX5_releases_25 : decode cX5_releases 25 = .ok (.putfield 178, 3) := dk_181 0 178 (dk_at dksX5_releases_1 1 rfl rfl)
theorem dX5_releases_28 : decode cX5_releases 28 = .ok (.aload_n 0, 1) := dk_42 (dk_at dksX5_releases_1 4 rfl rfl)
theorem dX5_releases_29 : decode cX5_releases 29 = .ok (.lload_n 1, 1) := dk_31 (dk_at dksX5_releases_1 5 rfl rfl)
theorem dX5_releases_30 : decode cX5_releases 30 = .ok (.invokevirtual 184, 3) := dk_182 0 184 (dk_at dksX5_releases_1 6 rfl rfl)
theorem dX5_releases_33 : decode cX5_releases 33 = .ok (.return_, 1) := dk_177 (dk_at dksX5_releases_1 9 rfl rfl)
theorem q80 : (Jvm.Cond.initialized "Massclaim$Person") ∈ lw_all := lw_g (lw_at lw_m1 16 rfl) rfl
theorem q175 : (Jvm.Cond.fieldLinkNest "Massclaim$Person" (128 : Nat) "Massclaim$Out" "persons" "J" "Massclaim") ∈ lw_tbl := lw_at lw_m1 111 rfl
theorem q225 : (Jvm.Cond.fieldLinkNest "Massclaim$Person" (74 : Nat) "Massclaim" "subclasses" "LMassclaim$Row;" "Massclaim") ∈ lw_tbl := lw_at lw_m1 161 rfl
theorem q231 : (Jvm.Cond.fieldLinkNest "Massclaim$Person" (166 : Nat) "Massclaim" "liens" "LMassclaim$Row;" "Massclaim") ∈ lw_tbl := lw_at lw_m1 167 rfl
theorem q238 : (Jvm.Cond.fieldLinkNest "Massclaim$Person" (124 : Nat) "Massclaim" "out" "LMassclaim$Out;" "Massclaim") ∈ lw_tbl := lw_at lw_m1 174 rfl
theorem q240 : (Jvm.Cond.fieldLinkNest "Massclaim$Person" (55 : Nat) "Massclaim" "products" "I" "Massclaim") ∈ lw_tbl := lw_at lw_m1 176 rfl
theorem q242 : (Jvm.Cond.fieldLinkNest "Massclaim$Person" (58 : Nat) "Massclaim" "states" "I" "Massclaim") ∈ lw_tbl := lw_at lw_m1 178 rfl
theorem q244 : (Jvm.Cond.fieldLinkNest "Massclaim$Person" (61 : Nat) "Massclaim" "least" "I" "Massclaim") ∈ lw_tbl := lw_at lw_m1 180 rfl
theorem q256 : (Jvm.Cond.fieldLinkNest "Massclaim$Person" (140 : Nat) "Massclaim" "today" "I" "Massclaim") ∈ lw_tbl := lw_at lw_m1 192 rfl
theorem q378 : (Jvm.Cond.instanceMethod ({ cls := "Massclaim$Person", name := "lies", desc := "()J" } : Jvm.MethodName)) ∈ lw_all := lw_g (lw_at lw_m2 74 rfl) rfl
theorem q379 : (Jvm.Cond.selects "Massclaim$Person" ({ cls := "Massclaim$Person", name := "lies", desc := "()J" } : Jvm.MethodName) ({ cls := "Massclaim$Person", name := "lies", desc := "()J" } : Jvm.MethodName)) ∈ lw_all := lw_g (lw_at lw_m2 75 rfl) rfl
theorem q380 : (Jvm.Cond.code ({ cls := "Massclaim$Person", name := "lies", desc := "()J" } : Jvm.MethodName) prog_9_method_9_code (4 : Nat) (Option.some Jvm.ClassFile.FieldType.long)) ∈ lw_all := lw_g (lw_at lw_m2 76 rfl) rfl
theorem q381 : (Jvm.Cond.interfaceEntry "Massclaim$Person" (110 : Nat)) ∈ lw_tbl := lw_at lw_m2 77 rfl
theorem q382 : (Jvm.Cond.methodLink "Massclaim$Person" (110 : Nat) ({ cls := "java/util/List", name := "size", desc := "()I" } : Jvm.MethodName)) ∈ lw_all := lw_g (lw_at lw_m2 78 rfl) rfl
theorem q383 : (Jvm.Cond.interfaceEntry "Massclaim$Person" (111 : Nat)) ∈ lw_tbl := lw_at lw_m2 79 rfl
theorem q384 : (Jvm.Cond.methodLink "Massclaim$Person" (111 : Nat) ({ cls := "java/util/List", name := "get", desc := "(I)Ljava/lang/Object;" } : Jvm.MethodName)) ∈ lw_all := lw_g (lw_at lw_m2 80 rfl) rfl
theorem q402 : (Jvm.Cond.classLink "Massclaim$Person" (115 : Nat) "Massclaim$Yearly") ∈ lw_all := lw_g (lw_at lw_m2 98 rfl) rfl
theorem q417 : (Jvm.Cond.instanceMethod ({ cls := "Massclaim$Person", name := "age", desc := "(I)I" } : Jvm.MethodName)) ∈ lw_all := lw_g (lw_at lw_m2 113 rfl) rfl
theorem q418 : (Jvm.Cond.selects "Massclaim$Person" ({ cls := "Massclaim$Person", name := "age", desc := "(I)I" } : Jvm.MethodName) ({ cls := "Massclaim$Person", name := "age", desc := "(I)I" } : Jvm.MethodName)) ∈ lw_all := lw_g (lw_at lw_m2 114 rfl) rfl
theorem q419 : (Jvm.Cond.code ({ cls := "Massclaim$Person", name := "age", desc := "(I)I" } : Jvm.MethodName) prog_9_method_3_code (2 : Nat) (Option.some Jvm.ClassFile.FieldType.int)) ∈ lw_all := lw_g (lw_at lw_m2 115 rfl) rfl
theorem q554 : (Jvm.Cond.instanceMethod ({ cls := "Massclaim$Person", name := "isMember", desc := "()Z" } : Jvm.MethodName)) ∈ lw_all := lw_g (lw_at lw_m3 10 rfl) rfl
theorem q555 : (Jvm.Cond.selects "Massclaim$Person" ({ cls := "Massclaim$Person", name := "isMember", desc := "()Z" } : Jvm.MethodName) ({ cls := "Massclaim$Person", name := "isMember", desc := "()Z" } : Jvm.MethodName)) ∈ lw_all := lw_g (lw_at lw_m3 11 rfl) rfl
theorem q556 : (Jvm.Cond.code ({ cls := "Massclaim$Person", name := "isMember", desc := "()Z" } : Jvm.MethodName) prog_9_method_6_code (1 : Nat) (Option.some Jvm.ClassFile.FieldType.boolean)) ∈ lw_all := lw_g (lw_at lw_m3 12 rfl) rfl
theorem q557 : (Jvm.Cond.methodLink "Massclaim$Person" (64 : Nat) ({ cls := "Massclaim$Person", name := "fits", desc := "()Z" } : Jvm.MethodName)) ∈ lw_all := lw_g (lw_at lw_m3 13 rfl) rfl
theorem q558 : (Jvm.Cond.instanceMethod ({ cls := "Massclaim$Person", name := "fits", desc := "()Z" } : Jvm.MethodName)) ∈ lw_all := lw_g (lw_at lw_m3 14 rfl) rfl
theorem q559 : (Jvm.Cond.selects "Massclaim$Person" ({ cls := "Massclaim$Person", name := "fits", desc := "()Z" } : Jvm.MethodName) ({ cls := "Massclaim$Person", name := "fits", desc := "()Z" } : Jvm.MethodName)) ∈ lw_all := lw_g (lw_at lw_m3 15 rfl) rfl
theorem q560 : (Jvm.Cond.code ({ cls := "Massclaim$Person", name := "fits", desc := "()Z" } : Jvm.MethodName) prog_9_method_5_code (1 : Nat) (Option.some Jvm.ClassFile.FieldType.boolean)) ∈ lw_all := lw_g (lw_at lw_m3 16 rfl) rfl
theorem q562 : (Jvm.Cond.instanceMethod ({ cls := "Massclaim$Person", name := "looks", desc := "()V" } : Jvm.MethodName)) ∈ lw_all := lw_g (lw_at lw_m3 18 rfl) rfl
theorem q563 : (Jvm.Cond.selects "Massclaim$Person" ({ cls := "Massclaim$Person", name := "looks", desc := "()V" } : Jvm.MethodName) ({ cls := "Massclaim$Person", name := "looks", desc := "()V" } : Jvm.MethodName)) ∈ lw_all := lw_g (lw_at lw_m3 19 rfl) rfl
theorem q564 : (Jvm.Cond.code ({ cls := "Massclaim$Person", name := "looks", desc := "()V" } : Jvm.MethodName) prog_9_method_14_code (3 : Nat) (Option.none : Option Jvm.ClassFile.FieldType)) ∈ lw_all := lw_g (lw_at lw_m3 20 rfl) rfl
theorem q565 : (Jvm.Cond.methodLink "Massclaim$Person" (143 : Nat) ({ cls := "Massclaim$Person", name := "age", desc := "(I)I" } : Jvm.MethodName)) ∈ lw_all := lw_g (lw_at lw_m3 21 rfl) rfl
theorem q566 : (Jvm.Cond.methodLink "Massclaim$Person" (136 : Nat) ({ cls := "Massclaim$Person", name := "gets", desc := "(J)V" } : Jvm.MethodName)) ∈ lw_all := lw_g (lw_at lw_m3 22 rfl) rfl
theorem q567 : (Jvm.Cond.instanceMethod ({ cls := "Massclaim$Person", name := "gets", desc := "(J)V" } : Jvm.MethodName)) ∈ lw_all := lw_g (lw_at lw_m3 23 rfl) rfl
theorem q568 : (Jvm.Cond.selects "Massclaim$Person" ({ cls := "Massclaim$Person", name := "gets", desc := "(J)V" } : Jvm.MethodName) ({ cls := "Massclaim$Person", name := "gets", desc := "(J)V" } : Jvm.MethodName)) ∈ lw_all := lw_g (lw_at lw_m3 24 rfl) rfl
theorem q569 : (Jvm.Cond.code ({ cls := "Massclaim$Person", name := "gets", desc := "(J)V" } : Jvm.MethodName) prog_9_method_10_code (6 : Nat) (Option.none : Option Jvm.ClassFile.FieldType)) ∈ lw_all := lw_g (lw_at lw_m3 25 rfl) rfl
theorem q570 : (Jvm.Cond.methodLink "Massclaim$Person" (133 : Nat) ({ cls := "Massclaim$Person", name := "isDead", desc := "()Z" } : Jvm.MethodName)) ∈ lw_all := lw_g (lw_at lw_m3 26 rfl) rfl
theorem q571 : (Jvm.Cond.instanceMethod ({ cls := "Massclaim$Person", name := "isDead", desc := "()Z" } : Jvm.MethodName)) ∈ lw_all := lw_g (lw_at lw_m3 27 rfl) rfl
theorem q572 : (Jvm.Cond.selects "Massclaim$Person" ({ cls := "Massclaim$Person", name := "isDead", desc := "()Z" } : Jvm.MethodName) ({ cls := "Massclaim$Person", name := "isDead", desc := "()Z" } : Jvm.MethodName)) ∈ lw_all := lw_g (lw_at lw_m3 28 rfl) rfl
theorem q573 : (Jvm.Cond.code ({ cls := "Massclaim$Person", name := "isDead", desc := "()Z" } : Jvm.MethodName) prog_9_method_4_code (1 : Nat) (Option.some Jvm.ClassFile.FieldType.boolean)) ∈ lw_all := lw_g (lw_at lw_m3 29 rfl) rfl
theorem q574 : (Jvm.Cond.methodLink "Massclaim$Person" (187 : Nat) ({ cls := "Massclaim$Yearly", name := "isDue", desc := "()Z" } : Jvm.MethodName)) ∈ lw_all := lw_g (lw_at lw_m3 30 rfl) rfl
theorem q578 : (Jvm.Cond.methodLink "Massclaim$Person" (162 : Nat) ({ cls := "Massclaim$Yearly", name := "comes", desc := "()J" } : Jvm.MethodName)) ∈ lw_all := lw_g (lw_at lw_m3 34 rfl) rfl
theorem q594 : (Jvm.Cond.instantiable "Massclaim$Person" (22 : Nat)) ∈ lw_all := lw_g (lw_at lw_m3 50 rfl) rfl
theorem q596 : (Jvm.Cond.instanceMethod ({ cls := "Massclaim$Person", name := "<init>", desc := "(LMassclaim;IIIII)V" } : Jvm.MethodName)) ∈ lw_all := lw_g (lw_at lw_m3 52 rfl) rfl
theorem q597 : (Jvm.Cond.code ({ cls := "Massclaim$Person", name := "<init>", desc := "(LMassclaim;IIIII)V" } : Jvm.MethodName) prog_9_method_1_code (7 : Nat) (Option.none : Option Jvm.ClassFile.FieldType)) ∈ lw_all := lw_g (lw_at lw_m3 53 rfl) rfl
theorem q598 : (Jvm.Cond.methodLink "Massclaim$Person" (9 : Nat) ({ cls := "java/lang/Object", name := "<init>", desc := "()V" } : Jvm.MethodName)) ∈ lw_all := lw_g (lw_at lw_m3 54 rfl) rfl
theorem q599 : (Jvm.Cond.classLink "Massclaim$Person" (29 : Nat) "java/util/ArrayList") ∈ lw_all := lw_g (lw_at lw_m3 55 rfl) rfl
theorem q600 : (Jvm.Cond.methodLink "Massclaim$Person" (31 : Nat) ({ cls := "java/util/ArrayList", name := "<init>", desc := "()V" } : Jvm.MethodName)) ∈ lw_all := lw_g (lw_at lw_m3 56 rfl) rfl
theorem q601 : (Jvm.Cond.fieldLink "Massclaim$Person" (36 : Nat) "Massclaim$Person" "number" "I") ∈ lw_all := lw_g (lw_at lw_m3 57 rfl) rfl
theorem q603 : (Jvm.Cond.fieldLink "Massclaim$Person" (39 : Nat) "Massclaim$Person" "birth" "I") ∈ lw_all := lw_g (lw_at lw_m3 59 rfl) rfl
theorem q604 : (Jvm.Cond.fieldLink "Massclaim$Person" (42 : Nat) "Massclaim$Person" "state" "I") ∈ lw_all := lw_g (lw_at lw_m3 60 rfl) rfl
theorem q607 : (Jvm.Cond.fieldLink "Massclaim$Person" (45 : Nat) "Massclaim$Person" "product" "I") ∈ lw_all := lw_g (lw_at lw_m3 63 rfl) rfl
theorem q608 : (Jvm.Cond.fieldLink "Massclaim$Person" (48 : Nat) "Massclaim$Person" "months" "I") ∈ lw_all := lw_g (lw_at lw_m3 64 rfl) rfl
theorem q612 : (Jvm.Cond.fieldLink "Massclaim$Person" (90 : Nat) "Massclaim$Person" "level" "I") ∈ lw_all := lw_g (lw_at lw_m3 68 rfl) rfl
theorem q614 : (Jvm.Cond.fieldLink "Massclaim$Person" (15 : Nat) "Massclaim$Person" "known" "I") ∈ lw_all := lw_g (lw_at lw_m3 70 rfl) rfl
theorem q617 : (Jvm.Cond.fieldLink "Massclaim$Person" (71 : Nat) "Massclaim$Person" "ran" "I") ∈ lw_all := lw_g (lw_at lw_m3 73 rfl) rfl
theorem q619 : (Jvm.Cond.fieldLink "Massclaim$Person" (68 : Nat) "Massclaim$Person" "isOut" "Z") ∈ lw_all := lw_g (lw_at lw_m3 75 rfl) rfl
theorem q621 : (Jvm.Cond.fieldLink "Massclaim$Person" (19 : Nat) "Massclaim$Person" "hasAddress" "Z") ∈ lw_all := lw_g (lw_at lw_m3 77 rfl) rfl
theorem q623 : (Jvm.Cond.fieldLink "Massclaim$Person" (23 : Nat) "Massclaim$Person" "noticed" "I") ∈ lw_all := lw_g (lw_at lw_m3 79 rfl) rfl
theorem q627 : (Jvm.Cond.fieldLink "Massclaim$Person" (26 : Nat) "Massclaim$Person" "vote" "I") ∈ lw_all := lw_g (lw_at lw_m3 83 rfl) rfl
theorem q630 : (Jvm.Cond.fieldLink "Massclaim$Person" (150 : Nat) "Massclaim$Person" "claim" "LMassclaim$Claim;") ∈ lw_all := lw_g (lw_at lw_m3 86 rfl) rfl
theorem q632 : (Jvm.Cond.fieldLink "Massclaim$Person" (121 : Nat) "Massclaim$Person" "delivered" "J") ∈ lw_all := lw_g (lw_at lw_m3 88 rfl) rfl
theorem q634 : (Jvm.Cond.fieldLink "Massclaim$Person" (147 : Nat) "Massclaim$Person" "blocked" "J") ∈ lw_all := lw_g (lw_at lw_m3 90 rfl) rfl
theorem q637 : (Jvm.Cond.fieldLink "Massclaim$Person" (178 : Nat) "Massclaim$Person" "heldBack" "J") ∈ lw_all := lw_g (lw_at lw_m3 93 rfl) rfl
theorem q639 : (Jvm.Cond.fieldLink "Massclaim$Person" (32 : Nat) "Massclaim$Person" "yearly" "Ljava/util/List;") ∈ lw_all := lw_g (lw_at lw_m3 95 rfl) rfl
theorem q641 : (Jvm.Cond.fieldLink "Massclaim$Person" (51 : Nat) "Massclaim$Person" "heirs" "[J") ∈ lw_all := lw_g (lw_at lw_m3 97 rfl) rfl
theorem q643 : (Jvm.Cond.fieldLink "Massclaim$Person" (3 : Nat) "Massclaim$Person" "this$0" "LMassclaim;") ∈ lw_all := lw_g (lw_at lw_m3 99 rfl) rfl
theorem q644 : (Jvm.Cond.laysFinal "Massclaim$Person" "Massclaim$Person" "number" "I") ∈ lw_all := lw_g (lw_at lw_m3 100 rfl) rfl
theorem q645 : (Jvm.Cond.soleField "Massclaim$Person" "number") ∈ lw_all := lw_g (lw_at lw_m3 101 rfl) rfl
theorem q646 : (Jvm.Cond.laysFinal "Massclaim$Person" "Massclaim$Person" "birth" "I") ∈ lw_all := lw_g (lw_at lw_m3 102 rfl) rfl
theorem q647 : (Jvm.Cond.soleField "Massclaim$Person" "birth") ∈ lw_all := lw_g (lw_at lw_m3 103 rfl) rfl
theorem q648 : (Jvm.Cond.laysFinal "Massclaim$Person" "Massclaim$Person" "state" "I") ∈ lw_all := lw_g (lw_at lw_m3 104 rfl) rfl
theorem q649 : (Jvm.Cond.soleField "Massclaim$Person" "state") ∈ lw_all := lw_g (lw_at lw_m3 105 rfl) rfl
theorem q650 : (Jvm.Cond.laysFinal "Massclaim$Person" "Massclaim$Person" "product" "I") ∈ lw_all := lw_g (lw_at lw_m3 106 rfl) rfl
theorem q651 : (Jvm.Cond.soleField "Massclaim$Person" "product") ∈ lw_all := lw_g (lw_at lw_m3 107 rfl) rfl
theorem q652 : (Jvm.Cond.laysFinal "Massclaim$Person" "Massclaim$Person" "months" "I") ∈ lw_all := lw_g (lw_at lw_m3 108 rfl) rfl
theorem q653 : (Jvm.Cond.soleField "Massclaim$Person" "months") ∈ lw_all := lw_g (lw_at lw_m3 109 rfl) rfl
theorem q654 : (Jvm.Cond.lays "Massclaim$Person" "Massclaim$Person" "level" "I") ∈ lw_all := lw_g (lw_at lw_m3 110 rfl) rfl
theorem q655 : (Jvm.Cond.soleField "Massclaim$Person" "level") ∈ lw_all := lw_g (lw_at lw_m3 111 rfl) rfl
theorem q656 : (Jvm.Cond.lays "Massclaim$Person" "Massclaim$Person" "known" "I") ∈ lw_all := lw_g (lw_at lw_m3 112 rfl) rfl
theorem q657 : (Jvm.Cond.soleField "Massclaim$Person" "known") ∈ lw_all := lw_g (lw_at lw_m3 113 rfl) rfl
theorem q658 : (Jvm.Cond.lays "Massclaim$Person" "Massclaim$Person" "ran" "I") ∈ lw_all := lw_g (lw_at lw_m3 114 rfl) rfl
theorem q659 : (Jvm.Cond.soleField "Massclaim$Person" "ran") ∈ lw_all := lw_g (lw_at lw_m3 115 rfl) rfl
theorem q660 : (Jvm.Cond.lays "Massclaim$Person" "Massclaim$Person" "isOut" "Z") ∈ lw_all := lw_g (lw_at lw_m3 116 rfl) rfl
theorem q661 : (Jvm.Cond.soleField "Massclaim$Person" "isOut") ∈ lw_all := lw_g (lw_at lw_m3 117 rfl) rfl
theorem q662 : (Jvm.Cond.lays "Massclaim$Person" "Massclaim$Person" "hasAddress" "Z") ∈ lw_all := lw_g (lw_at lw_m3 118 rfl) rfl
theorem q663 : (Jvm.Cond.soleField "Massclaim$Person" "hasAddress") ∈ lw_all := lw_g (lw_at lw_m3 119 rfl) rfl
theorem q664 : (Jvm.Cond.lays "Massclaim$Person" "Massclaim$Person" "noticed" "I") ∈ lw_all := lw_g (lw_at lw_m3 120 rfl) rfl
theorem q665 : (Jvm.Cond.soleField "Massclaim$Person" "noticed") ∈ lw_all := lw_g (lw_at lw_m3 121 rfl) rfl
theorem q666 : (Jvm.Cond.lays "Massclaim$Person" "Massclaim$Person" "isDrawn" "Z") ∈ lw_all := lw_g (lw_at lw_m3 122 rfl) rfl
theorem q667 : (Jvm.Cond.soleField "Massclaim$Person" "isDrawn") ∈ lw_all := lw_g (lw_at lw_m3 123 rfl) rfl
theorem q668 : (Jvm.Cond.lays "Massclaim$Person" "Massclaim$Person" "hasVerdict" "Z") ∈ lw_all := lw_g (lw_at lw_m3 124 rfl) rfl
theorem q669 : (Jvm.Cond.soleField "Massclaim$Person" "hasVerdict") ∈ lw_all := lw_g (lw_at lw_m3 125 rfl) rfl
theorem q670 : (Jvm.Cond.lays "Massclaim$Person" "Massclaim$Person" "vote" "I") ∈ lw_all := lw_g (lw_at lw_m3 126 rfl) rfl
theorem q671 : (Jvm.Cond.soleField "Massclaim$Person" "vote") ∈ lw_all := lw_g (lw_at lw_m3 127 rfl) rfl
theorem q672 : (Jvm.Cond.lays "Massclaim$Person" "Massclaim$Person" "objects" "Z") ∈ lw_all := lw_g (lw_at lw_m3 128 rfl) rfl
theorem q673 : (Jvm.Cond.soleField "Massclaim$Person" "objects") ∈ lw_all := lw_g (lw_at lw_m3 129 rfl) rfl
theorem q674 : (Jvm.Cond.lays "Massclaim$Person" "Massclaim$Person" "claim" "LMassclaim$Claim;") ∈ lw_all := lw_g (lw_at lw_m3 130 rfl) rfl
theorem q675 : (Jvm.Cond.soleField "Massclaim$Person" "claim") ∈ lw_all := lw_g (lw_at lw_m3 131 rfl) rfl
theorem q676 : (Jvm.Cond.lays "Massclaim$Person" "Massclaim$Person" "delivered" "J") ∈ lw_all := lw_g (lw_at lw_m3 132 rfl) rfl
theorem q677 : (Jvm.Cond.soleField "Massclaim$Person" "delivered") ∈ lw_all := lw_g (lw_at lw_m3 133 rfl) rfl
theorem q678 : (Jvm.Cond.lays "Massclaim$Person" "Massclaim$Person" "blocked" "J") ∈ lw_all := lw_g (lw_at lw_m3 134 rfl) rfl
theorem q679 : (Jvm.Cond.soleField "Massclaim$Person" "blocked") ∈ lw_all := lw_g (lw_at lw_m3 135 rfl) rfl
theorem q680 : (Jvm.Cond.lays "Massclaim$Person" "Massclaim$Person" "heldBack" "J") ∈ lw_all := lw_g (lw_at lw_m3 136 rfl) rfl
theorem q681 : (Jvm.Cond.soleField "Massclaim$Person" "heldBack") ∈ lw_all := lw_g (lw_at lw_m3 137 rfl) rfl
theorem q682 : (Jvm.Cond.laysFinal "Massclaim$Person" "Massclaim$Person" "yearly" "Ljava/util/List;") ∈ lw_all := lw_g (lw_at lw_m3 138 rfl) rfl
theorem q683 : (Jvm.Cond.soleField "Massclaim$Person" "yearly") ∈ lw_all := lw_g (lw_at lw_m3 139 rfl) rfl
theorem q684 : (Jvm.Cond.lays "Massclaim$Person" "Massclaim$Person" "heirs" "[J") ∈ lw_all := lw_g (lw_at lw_m3 140 rfl) rfl
theorem q685 : (Jvm.Cond.soleField "Massclaim$Person" "heirs") ∈ lw_all := lw_g (lw_at lw_m3 141 rfl) rfl
theorem q686 : (Jvm.Cond.laysFinal "Massclaim$Person" "Massclaim$Person" "this$0" "LMassclaim;") ∈ lw_all := lw_g (lw_at lw_m3 142 rfl) rfl
theorem q687 : (Jvm.Cond.soleField "Massclaim$Person" "this$0") ∈ lw_all := lw_g (lw_at lw_m3 143 rfl) rfl
theorem q688 : (Jvm.Cond.superclass "Massclaim$Person" "java/lang/Object") ∈ lw_all := lw_g (lw_at lw_m3 144 rfl) rfl
theorem q759 : (Jvm.Cond.selects "Massclaim$Person" ({ cls := "java/lang/Object", name := "getClass", desc := "()Ljava/lang/Class;" } : Jvm.MethodName) ({ cls := "java/lang/Object", name := "getClass", desc := "()Ljava/lang/Class;" } : Jvm.MethodName)) ∈ lw_all := lw_g (lw_at lw_m3 215 rfl) rfl
theorem q814 : (Jvm.Cond.castable "Massclaim$Person" "Massclaim$Numbered") ∈ lw_tbl := lw_at lw_m4 30 rfl
theorem q815 : (Jvm.Cond.selects "Massclaim$Person" ({ cls := "Massclaim$Numbered", name := "number", desc := "()I" } : Jvm.MethodName) ({ cls := "Massclaim$Person", name := "number", desc := "()I" } : Jvm.MethodName)) ∈ lw_all := lw_g (lw_at lw_m4 31 rfl) rfl
theorem q816 : (Jvm.Cond.unhidden "Massclaim$Person" "number" "()I") ∈ lw_tbl := lw_at lw_m4 32 rfl
theorem q817 : (Jvm.Cond.instanceMethod ({ cls := "Massclaim$Person", name := "number", desc := "()I" } : Jvm.MethodName)) ∈ lw_all := lw_g (lw_at lw_m4 33 rfl) rfl
theorem q818 : (Jvm.Cond.publicMethod ({ cls := "Massclaim$Person", name := "number", desc := "()I" } : Jvm.MethodName)) ∈ lw_tbl := lw_at lw_m4 34 rfl
theorem q819 : (Jvm.Cond.code ({ cls := "Massclaim$Person", name := "number", desc := "()I" } : Jvm.MethodName) prog_9_method_2_code (1 : Nat) (Option.some Jvm.ClassFile.FieldType.int)) ∈ lw_all := lw_g (lw_at lw_m4 35 rfl) rfl
theorem q937 : (Jvm.Cond.instanceMethod ({ cls := "Massclaim$Person", name := "subclass", desc := "()LMassclaim$Subclass;" } : Jvm.MethodName)) ∈ lw_all := lw_g (lw_at lw_m4 153 rfl) rfl
theorem q938 : (Jvm.Cond.selects "Massclaim$Person" ({ cls := "Massclaim$Person", name := "subclass", desc := "()LMassclaim$Subclass;" } : Jvm.MethodName) ({ cls := "Massclaim$Person", name := "subclass", desc := "()LMassclaim$Subclass;" } : Jvm.MethodName)) ∈ lw_all := lw_g (lw_at lw_m4 154 rfl) rfl
theorem q939 : (Jvm.Cond.code ({ cls := "Massclaim$Person", name := "subclass", desc := "()LMassclaim$Subclass;" } : Jvm.MethodName) prog_9_method_8_code (4 : Nat) (Option.some (Jvm.ClassFile.FieldType.object "Massclaim$Subclass"))) ∈ lw_all := lw_g (lw_at lw_m4 155 rfl) rfl
theorem q940 : (Jvm.Cond.methodLink "Massclaim$Person" (78 : Nat) ({ cls := "Massclaim$Row", name := "size", desc := "()I" } : Jvm.MethodName)) ∈ lw_all := lw_g (lw_at lw_m4 156 rfl) rfl
theorem q941 : (Jvm.Cond.methodLink "Massclaim$Person" (84 : Nat) ({ cls := "Massclaim$Row", name := "at", desc := "(I)LMassclaim$Numbered;" } : Jvm.MethodName)) ∈ lw_all := lw_g (lw_at lw_m4 157 rfl) rfl
theorem q942 : (Jvm.Cond.classLink "Massclaim$Person" (88 : Nat) "Massclaim$Subclass") ∈ lw_all := lw_g (lw_at lw_m4 158 rfl) rfl
theorem q943 : (Jvm.Cond.methodLink "Massclaim$Person" (93 : Nat) ({ cls := "Massclaim$Subclass", name := "has", desc := "(I)Z" } : Jvm.MethodName)) ∈ lw_all := lw_g (lw_at lw_m4 159 rfl) rfl
theorem q948 : (Jvm.Cond.interfaceEntry "Massclaim$Person" (97 : Nat)) ∈ lw_tbl := lw_at lw_m4 164 rfl
theorem q949 : (Jvm.Cond.methodLink "Massclaim$Person" (97 : Nat) ({ cls := "java/util/List", name := "add", desc := "(Ljava/lang/Object;)Z" } : Jvm.MethodName)) ∈ lw_all := lw_g (lw_at lw_m4 165 rfl) rfl
theorem q950 : (Jvm.Cond.methodLink "Massclaim$Person" (103 : Nat) ({ cls := "Massclaim$Person", name := "isMember", desc := "()Z" } : Jvm.MethodName)) ∈ lw_all := lw_g (lw_at lw_m4 166 rfl) rfl
theorem q951 : (Jvm.Cond.methodLinkNest "Massclaim$Person" (106 : Nat) ({ cls := "Massclaim", name := "first", desc := "(Ljava/util/List;)LMassclaim$Numbered;" } : Jvm.MethodName) "Massclaim") ∈ lw_tbl := lw_at lw_m4 167 rfl
theorem q971 : (Jvm.Cond.unhidden "Massclaim$Person" "compareTo" "(LMassclaim$Numbered;)I") ∈ lw_tbl := lw_at lw_m4 187 rfl
theorem q974 : (Jvm.Cond.instanceMethod ({ cls := "Massclaim$Person", name := "isBarred", desc := "()Z" } : Jvm.MethodName)) ∈ lw_all := lw_g (lw_at lw_m4 190 rfl) rfl
theorem q975 : (Jvm.Cond.selects "Massclaim$Person" ({ cls := "Massclaim$Person", name := "isBarred", desc := "()Z" } : Jvm.MethodName) ({ cls := "Massclaim$Person", name := "isBarred", desc := "()Z" } : Jvm.MethodName)) ∈ lw_all := lw_g (lw_at lw_m4 191 rfl) rfl
theorem q976 : (Jvm.Cond.code ({ cls := "Massclaim$Person", name := "isBarred", desc := "()Z" } : Jvm.MethodName) prog_9_method_7_code (1 : Nat) (Option.some Jvm.ClassFile.FieldType.boolean)) ∈ lw_all := lw_g (lw_at lw_m4 192 rfl) rfl
theorem q987 : (Jvm.Cond.instanceMethod ({ cls := "Massclaim$Person", name := "openLiens", desc := "()J" } : Jvm.MethodName)) ∈ lw_all := lw_g (lw_at lw_m4 203 rfl) rfl
theorem q988 : (Jvm.Cond.selects "Massclaim$Person" ({ cls := "Massclaim$Person", name := "openLiens", desc := "()J" } : Jvm.MethodName) ({ cls := "Massclaim$Person", name := "openLiens", desc := "()J" } : Jvm.MethodName)) ∈ lw_all := lw_g (lw_at lw_m4 204 rfl) rfl
theorem q989 : (Jvm.Cond.code ({ cls := "Massclaim$Person", name := "openLiens", desc := "()J" } : Jvm.MethodName) prog_9_method_12_code (4 : Nat) (Option.some Jvm.ClassFile.FieldType.long)) ∈ lw_all := lw_g (lw_at lw_m4 205 rfl) rfl
theorem q990 : (Jvm.Cond.classLink "Massclaim$Person" (169 : Nat) "Massclaim$Lien") ∈ lw_all := lw_g (lw_at lw_m4 206 rfl) rfl
theorem q1554 : (Jvm.Cond.fieldLinkNest "Massclaim$Person" (154 : Nat) "Massclaim$Claim" "parts" "I" "Massclaim") ∈ lw_tbl := lw_at lw_m7 50 rfl
theorem q1712 : (Jvm.Cond.instanceMethod ({ cls := "Massclaim$Person", name := "deliver", desc := "(J)V" } : Jvm.MethodName)) ∈ lw_all := lw_g (lw_at lw_m7 208 rfl) rfl
theorem q1713 : (Jvm.Cond.selects "Massclaim$Person" ({ cls := "Massclaim$Person", name := "deliver", desc := "(J)V" } : Jvm.MethodName) ({ cls := "Massclaim$Person", name := "deliver", desc := "(J)V" } : Jvm.MethodName)) ∈ lw_all := lw_g (lw_at lw_m7 209 rfl) rfl
theorem q1714 : (Jvm.Cond.code ({ cls := "Massclaim$Person", name := "deliver", desc := "(J)V" } : Jvm.MethodName) prog_9_method_11_code (5 : Nat) (Option.none : Option Jvm.ClassFile.FieldType)) ∈ lw_all := lw_g (lw_at lw_m7 210 rfl) rfl
theorem q1716 : (Jvm.Cond.methodLink "Massclaim$Person" (159 : Nat) ({ cls := "Massclaim$Yearly", name := "<init>", desc := "(LMassclaim;JI)V" } : Jvm.MethodName)) ∈ lw_all := lw_g (lw_at lw_m7 212 rfl) rfl
theorem q1721 : (Jvm.Cond.fieldLinkNest "Massclaim$Person" (117 : Nat) "Massclaim$Yearly" "lies" "J" "Massclaim") ∈ lw_tbl := lw_at lw_m7 217 rfl
theorem q1735 : (Jvm.Cond.instanceMethod ({ cls := "Massclaim$Person", name := "releases", desc := "()V" } : Jvm.MethodName)) ∈ lw_all := lw_g (lw_at lw_m7 231 rfl) rfl
theorem q1736 : (Jvm.Cond.selects "Massclaim$Person" ({ cls := "Massclaim$Person", name := "releases", desc := "()V" } : Jvm.MethodName) ({ cls := "Massclaim$Person", name := "releases", desc := "()V" } : Jvm.MethodName)) ∈ lw_all := lw_g (lw_at lw_m7 232 rfl) rfl
theorem q1737 : (Jvm.Cond.code ({ cls := "Massclaim$Person", name := "releases", desc := "()V" } : Jvm.MethodName) prog_9_method_13_code (3 : Nat) (Option.none : Option Jvm.ClassFile.FieldType)) ∈ lw_all := lw_g (lw_at lw_m7 233 rfl) rfl
theorem q1738 : (Jvm.Cond.methodLink "Massclaim$Person" (181 : Nat) ({ cls := "Massclaim$Person", name := "openLiens", desc := "()J" } : Jvm.MethodName)) ∈ lw_all := lw_g (lw_at lw_m7 234 rfl) rfl
theorem q1739 : (Jvm.Cond.methodLink "Massclaim$Person" (184 : Nat) ({ cls := "Massclaim$Person", name := "deliver", desc := "(J)V" } : Jvm.MethodName)) ∈ lw_all := lw_g (lw_at lw_m7 235 rfl) rfl
theorem q1756 : (Jvm.Cond.fieldLinkNest "Massclaim$Person" (171 : Nat) "Massclaim$Lien" "of" "LMassclaim$Person;" "Massclaim") ∈ lw_tbl := lw_at lw_m8 12 rfl
theorem q1762 : (Jvm.Cond.fieldLinkNest "Massclaim$Person" (175 : Nat) "Massclaim$Lien" "open" "I" "Massclaim") ∈ lw_tbl := lw_at lw_m8 18 rfl
theorem q2129 : (Jvm.Cond.selects "Massclaim$Person" ({ cls := "java/lang/Object", name := "equals", desc := "(Ljava/lang/Object;)Z" } : Jvm.MethodName) ({ cls := "java/lang/Object", name := "equals", desc := "(Ljava/lang/Object;)Z" } : Jvm.MethodName)) ∈ lw_all := lw_g (lw_at lw_m9 145 rfl) rfl
theorem q2569 : (Jvm.Cond.castable "Massclaim$Person" "java/lang/Object") ∈ lw_tbl := lw_at lw_m11 105 rfl
theorem in_X5 : ∀ w ∈ wsX50, w ∈ lw_all := lw_in wsX50 [644, 646, 648, 650, 652, 654, 656, 658, 660, 662, 664, 666, 668, 670, 672, 674, 676, 678, 680, 682, 684, 686] (by decide +kernel) (by decide +kernel)

/-! MassclaimModel$Person -/
set_option maxRecDepth 100000
def RX6 : String := "MassclaimModel$Person"
def TX6 : u_T := fun k => match k with
  | 0 => ("MassclaimModel$Person", "birth", "I", false)
  | 1 => ("MassclaimModel$Person", "state", "I", false)
  | 2 => ("MassclaimModel$Person", "product", "I", false)
  | 3 => ("MassclaimModel$Person", "months", "I", false)
  | 4 => ("MassclaimModel$Person", "level", "I", false)
  | 5 => ("MassclaimModel$Person", "known", "I", false)
  | 6 => ("MassclaimModel$Person", "heirs", "I", false)
  | 7 => ("MassclaimModel$Person", "came", "[J", true)
  | 8 => ("MassclaimModel$Person", "isReached", "Z", false)
  | 9 => ("MassclaimModel$Person", "noticed", "I", false)
  | 10 => ("MassclaimModel$Person", "isOut", "Z", false)
  | 11 => ("MassclaimModel$Person", "ran", "I", false)
  | 12 => ("MassclaimModel$Person", "isDrawn", "Z", false)
  | 13 => ("MassclaimModel$Person", "verdict", "I", false)
  | 14 => ("MassclaimModel$Person", "verdictLevel", "I", false)
  | 15 => ("MassclaimModel$Person", "vote", "I", false)
  | 16 => ("MassclaimModel$Person", "objects", "Z", false)
  | 17 => ("MassclaimModel$Person", "claim", "LMassclaimModel$Claim;", false)
  | 18 => ("MassclaimModel$Person", "delivered", "J", false)
  | 19 => ("MassclaimModel$Person", "blocked", "J", false)
  | 20 => ("MassclaimModel$Person", "held", "J", false)
  | _ => ("MassclaimModel$Person", "rows", "Ljava/util/ArrayList;", true)
def tyX6 : Nat → FieldType := fun k => match k with
  | 0 => .int
  | 1 => .int
  | 2 => .int
  | 3 => .int
  | 4 => .int
  | 5 => .int
  | 6 => .int
  | 7 => .array .long
  | 8 => .boolean
  | 9 => .int
  | 10 => .boolean
  | 11 => .int
  | 12 => .boolean
  | 13 => .int
  | 14 => .int
  | 15 => .int
  | 16 => .boolean
  | 17 => .object "MassclaimModel$Claim"
  | 18 => .long
  | 19 => .long
  | 20 => .long
  | _ => .object "java/util/ArrayList"
abbrev wsX60 : List Cond := u_ws RX6 TX6 22
set_option maxRecDepth 100000 in
theorem nmX6 : ∀ a, a < 22 → ∀ b, b < 22 → a ≠ b → (TX6 a).2.1 ≠ (TX6 b).2.1 := by decide +kernel
set_option maxRecDepth 100000 in
theorem tyX6_ok : ∀ k, k < 22 → parseFieldDescriptor (TX6 k).2.2.1 = some (tyX6 k) := by decide +kernel
abbrev cX6_lives : ByteArray := prog_18_method_2_code
def yX6_lives : MethodName := ⟨RX6, "lives", "()Z"⟩
def dkwX6_lives_0 : List UInt8 := [42, 180, 0, 36, 154, 0, 7, 4, 167, 0, 4, 3, 172]
abbrev dktX6_lives_0 : List UInt8 := dkwX6_lives_0 ++ []
theorem dksX6_lives_0 : cX6_lives.data.toList.drop 0 = dktX6_lives_0 := by decide +kernel
theorem dX6_lives_0 : decode cX6_lives 0 = .ok (.aload_n 0, 1) := dk_42 (dk_at dksX6_lives_0 0 rfl rfl)
theorem dX6_lives_1 : decode cX6_lives 1 = .ok (.getfield 36, 3) := dk_180 0 36 (dk_at dksX6_lives_0 1 rfl rfl)
theorem dX6_lives_4 : decode cX6_lives 4 = .ok (.ifCond .ne 7, 3) := dk_154 0 7 (dk_at dksX6_lives_0 4 rfl rfl)
theorem dX6_lives_7 : decode cX6_lives 7 = .ok (.iconst 1, 1) := dk_4 (dk_at dksX6_lives_0 7 rfl rfl)
theorem dX6_lives_8 : decode cX6_lives 8 = .ok (.goto 4, 3) := dk_167 0 4 (dk_at dksX6_lives_0 8 rfl rfl)
theorem dX6_lives_11 : decode cX6_lives 11 = .ok (.iconst 0, 1) := dk_3 (dk_at dksX6_lives_0 11 rfl rfl)
theorem dX6_lives_12 : decode cX6_lives 12 = .ok (.ireturn, 1) := dk_172 (dk_at dksX6_lives_0 12 rfl rfl)
abbrev cX6_age : ByteArray := prog_18_method_3_code
def yX6_age : MethodName := ⟨RX6, "age", "(I)I"⟩
def dkwX6_age_0 : List UInt8 := [27, 42, 180, 0, 39, 100, 17, 1, 104, 184, 0, 42, 172]
abbrev dktX6_age_0 : List UInt8 := dkwX6_age_0 ++ []
theorem dksX6_age_0 : cX6_age.data.toList.drop 0 = dktX6_age_0 := by decide +kernel
theorem dX6_age_0 : decode cX6_age 0 = .ok (.iload_n 1, 1) := dk_27 (dk_at dksX6_age_0 0 rfl rfl)
theorem dX6_age_1 : decode cX6_age 1 = .ok (.aload_n 0, 1) := dk_42 (dk_at dksX6_age_0 1 rfl rfl)
theorem dX6_age_2 : decode cX6_age 2 = .ok (.getfield 39, 3) := dk_180 0 39 (dk_at dksX6_age_0 2 rfl rfl)
theorem dX6_age_5 : decode cX6_age 5 = .ok (.isub, 1) := dk_100 (dk_at dksX6_age_0 5 rfl rfl)
theorem dX6_age_6 : decode cX6_age 6 = .ok (.sipush 360, 3) := dk_17 1 104 (dk_at dksX6_age_0 6 rfl rfl)
theorem dX6_age_9 : decode cX6_age 9 = .ok (.invokestatic 42, 3) := dk_184 0 42 (dk_at dksX6_age_0 9 rfl rfl)
theorem dX6_age_12 : decode cX6_age 12 = .ok (.ireturn, 1) := dk_172 (dk_at dksX6_age_0 12 rfl rfl)
abbrev cX6_init : ByteArray := prog_18_method_1_code
def yX6_init : MethodName := ⟨RX6, "<init>", "()V"⟩
def dkwX6_init_1 : List UInt8 := [181, 0, 23, 42, 2, 181, 0, 26, 42, 187, 0, 29, 89, 183, 0, 31, 181, 0, 32, 177]
abbrev dktX6_init_1 : List UInt8 := dkwX6_init_1 ++ []
def dkwX6_init_0 : List UInt8 := [42, 183, 0, 3, 42, 2, 181, 0, 9, 42, 6, 188, 11, 181, 0, 15, 42, 4, 181, 0, 19, 42, 2]
abbrev dktX6_init_0 : List UInt8 := dkwX6_init_0 ++ dktX6_init_1
theorem dksX6_init_0 : cX6_init.data.toList.drop 0 = dktX6_init_0 := by decide +kernel
theorem dksX6_init_1 : cX6_init.data.toList.drop 23 = dktX6_init_1 := dk_seg dksX6_init_0 23 rfl rfl
theorem dX6_init_0 : decode cX6_init 0 = .ok (.aload_n 0, 1) := dk_42 (dk_at dksX6_init_0 0 rfl rfl)
theorem dX6_init_1 : decode cX6_init 1 = .ok (.invokespecial 3, 3) := dk_183 0 3 (dk_at dksX6_init_0 1 rfl rfl)
theorem dX6_init_4 : decode cX6_init 4 = .ok (.aload_n 0, 1) := dk_42 (dk_at dksX6_init_0 4 rfl rfl)
theorem dX6_init_5 : decode cX6_init 5 = .ok (.iconst (-1), 1) := dk_2 (dk_at dksX6_init_0 5 rfl rfl)
theorem dX6_init_6 : decode cX6_init 6 = .ok (.putfield 9, 3) := dk_181 0 9 (dk_at dksX6_init_0 6 rfl rfl)
theorem dX6_init_9 : decode cX6_init 9 = .ok (.aload_n 0, 1) := dk_42 (dk_at dksX6_init_0 9 rfl rfl)
theorem dX6_init_10 : decode cX6_init 10 = .ok (.iconst 3, 1) := dk_6 (dk_at dksX6_init_0 10 rfl rfl)
theorem dX6_init_11 : decode cX6_init 11 = .ok (.newarray .long, 2) := dk_188_11 (dk_at dksX6_init_0 11 rfl rfl)
theorem dX6_init_13 : decode cX6_init 13 = .ok (.putfield 15, 3) := dk_181 0 15 (dk_at dksX6_init_0 13 rfl rfl)
theorem dX6_init_16 : decode cX6_init 16 = .ok (.aload_n 0, 1) := dk_42 (dk_at dksX6_init_0 16 rfl rfl)
theorem dX6_init_17 : decode cX6_init 17 = .ok (.iconst 1, 1) := dk_4 (dk_at dksX6_init_0 17 rfl rfl)
theorem dX6_init_18 : decode cX6_init 18 = .ok (.putfield 19, 3) := dk_181 0 19 (dk_at dksX6_init_0 18 rfl rfl)
theorem dX6_init_21 : decode cX6_init 21 = .ok (.aload_n 0, 1) := dk_42 (dk_at dksX6_init_0 21 rfl rfl)
theorem dX6_init_22 : decode cX6_init 22 = .ok (.iconst (-1), 1) := dk_2 (dk_at dksX6_init_0 22 rfl rfl)
theorem dX6_init_23 : decode cX6_init 23 = .ok (.putfield 23, 3) := dk_181 0 23 (dk_at dksX6_init_1 0 rfl rfl)
theorem dX6_init_26 : decode cX6_init 26 = .ok (.aload_n 0, 1) := dk_42 (dk_at dksX6_init_1 3 rfl rfl)
theorem dX6_init_27 : decode cX6_init 27 = .ok (.iconst (-1), 1) := dk_2 (dk_at dksX6_init_1 4 rfl rfl)
theorem dX6_init_28 : decode cX6_init 28 = .ok (.putfield 26, 3) := dk_181 0 26 (dk_at dksX6_init_1 5 rfl rfl)
theorem dX6_init_31 : decode cX6_init 31 = .ok (.aload_n 0, 1) := dk_42 (dk_at dksX6_init_1 8 rfl rfl)
theorem dX6_init_32 : decode cX6_init 32 = .ok (.new 29, 3) := dk_187 0 29 (dk_at dksX6_init_1 9 rfl rfl)
theorem dX6_init_35 : decode cX6_init 35 = .ok (.dup, 1) := dk_89 (dk_at dksX6_init_1 12 rfl rfl)
theorem dX6_init_36 : decode cX6_init 36 = .ok (.invokespecial 31, 3) := dk_183 0 31 (dk_at dksX6_init_1 13 rfl rfl)
theorem dX6_init_39 : decode cX6_init 39 = .ok (.putfield 32, 3) := dk_181 0 32 (dk_at dksX6_init_1 16 rfl rfl)
theorem dX6_init_42 : decode cX6_init 42 = .ok (.return_, 1) := dk_177 (dk_at dksX6_init_1 19 rfl rfl)
theorem q85 : (Jvm.Cond.initialized "MassclaimModel$Person") ∈ lw_all := lw_g (lw_at lw_m1 21 rfl) rfl
theorem q767 : (Jvm.Cond.selects "MassclaimModel$Person" ({ cls := "java/lang/Object", name := "getClass", desc := "()Ljava/lang/Class;" } : Jvm.MethodName) ({ cls := "java/lang/Object", name := "getClass", desc := "()Ljava/lang/Class;" } : Jvm.MethodName)) ∈ lw_all := lw_g (lw_at lw_m3 223 rfl) rfl
theorem q1961 : (Jvm.Cond.instanceMethod ({ cls := "MassclaimModel$Person", name := "lives", desc := "()Z" } : Jvm.MethodName)) ∈ lw_all := lw_g (lw_at lw_m8 217 rfl) rfl
theorem q1962 : (Jvm.Cond.selects "MassclaimModel$Person" ({ cls := "MassclaimModel$Person", name := "lives", desc := "()Z" } : Jvm.MethodName) ({ cls := "MassclaimModel$Person", name := "lives", desc := "()Z" } : Jvm.MethodName)) ∈ lw_all := lw_g (lw_at lw_m8 218 rfl) rfl
theorem q1963 : (Jvm.Cond.code ({ cls := "MassclaimModel$Person", name := "lives", desc := "()Z" } : Jvm.MethodName) prog_18_method_2_code (1 : Nat) (Option.some Jvm.ClassFile.FieldType.boolean)) ∈ lw_all := lw_g (lw_at lw_m8 219 rfl) rfl
theorem q1965 : (Jvm.Cond.instanceMethod ({ cls := "MassclaimModel$Person", name := "age", desc := "(I)I" } : Jvm.MethodName)) ∈ lw_all := lw_g (lw_at lw_m8 221 rfl) rfl
theorem q1966 : (Jvm.Cond.selects "MassclaimModel$Person" ({ cls := "MassclaimModel$Person", name := "age", desc := "(I)I" } : Jvm.MethodName) ({ cls := "MassclaimModel$Person", name := "age", desc := "(I)I" } : Jvm.MethodName)) ∈ lw_all := lw_g (lw_at lw_m8 222 rfl) rfl
theorem q1967 : (Jvm.Cond.code ({ cls := "MassclaimModel$Person", name := "age", desc := "(I)I" } : Jvm.MethodName) prog_18_method_3_code (2 : Nat) (Option.some Jvm.ClassFile.FieldType.int)) ∈ lw_all := lw_g (lw_at lw_m8 223 rfl) rfl
theorem q1968 : (Jvm.Cond.methodLink "MassclaimModel$Person" (42 : Nat) ({ cls := "java/lang/Math", name := "floorDiv", desc := "(II)I" } : Jvm.MethodName)) ∈ lw_all := lw_g (lw_at lw_m8 224 rfl) rfl
theorem q1980 : (Jvm.Cond.instantiable "MassclaimModel$Person" (22 : Nat)) ∈ lw_all := lw_g (lw_at lw_m8 236 rfl) rfl
theorem q1982 : (Jvm.Cond.instanceMethod ({ cls := "MassclaimModel$Person", name := "<init>", desc := "()V" } : Jvm.MethodName)) ∈ lw_all := lw_g (lw_at lw_m8 238 rfl) rfl
theorem q1983 : (Jvm.Cond.code ({ cls := "MassclaimModel$Person", name := "<init>", desc := "()V" } : Jvm.MethodName) prog_18_method_1_code (1 : Nat) (Option.none : Option Jvm.ClassFile.FieldType)) ∈ lw_all := lw_g (lw_at lw_m8 239 rfl) rfl
theorem q1984 : (Jvm.Cond.methodLink "MassclaimModel$Person" (3 : Nat) ({ cls := "java/lang/Object", name := "<init>", desc := "()V" } : Jvm.MethodName)) ∈ lw_all := lw_g (lw_at lw_m9 0 rfl) rfl
theorem q1985 : (Jvm.Cond.classLink "MassclaimModel$Person" (29 : Nat) "java/util/ArrayList") ∈ lw_all := lw_g (lw_at lw_m9 1 rfl) rfl
theorem q1986 : (Jvm.Cond.methodLink "MassclaimModel$Person" (31 : Nat) ({ cls := "java/util/ArrayList", name := "<init>", desc := "()V" } : Jvm.MethodName)) ∈ lw_all := lw_g (lw_at lw_m9 2 rfl) rfl
theorem q1987 : (Jvm.Cond.fieldLink "MassclaimModel$Person" (39 : Nat) "MassclaimModel$Person" "birth" "I") ∈ lw_all := lw_g (lw_at lw_m9 3 rfl) rfl
theorem q1993 : (Jvm.Cond.fieldLink "MassclaimModel$Person" (9 : Nat) "MassclaimModel$Person" "known" "I") ∈ lw_all := lw_g (lw_at lw_m9 9 rfl) rfl
theorem q1995 : (Jvm.Cond.fieldLink "MassclaimModel$Person" (36 : Nat) "MassclaimModel$Person" "heirs" "I") ∈ lw_all := lw_g (lw_at lw_m9 11 rfl) rfl
theorem q1997 : (Jvm.Cond.fieldLink "MassclaimModel$Person" (15 : Nat) "MassclaimModel$Person" "came" "[J") ∈ lw_all := lw_g (lw_at lw_m9 13 rfl) rfl
theorem q1999 : (Jvm.Cond.fieldLink "MassclaimModel$Person" (19 : Nat) "MassclaimModel$Person" "isReached" "Z") ∈ lw_all := lw_g (lw_at lw_m9 15 rfl) rfl
theorem q2001 : (Jvm.Cond.fieldLink "MassclaimModel$Person" (23 : Nat) "MassclaimModel$Person" "noticed" "I") ∈ lw_all := lw_g (lw_at lw_m9 17 rfl) rfl
theorem q2006 : (Jvm.Cond.fieldLink "MassclaimModel$Person" (26 : Nat) "MassclaimModel$Person" "verdict" "I") ∈ lw_all := lw_g (lw_at lw_m9 22 rfl) rfl
theorem q2015 : (Jvm.Cond.fieldLink "MassclaimModel$Person" (32 : Nat) "MassclaimModel$Person" "rows" "Ljava/util/ArrayList;") ∈ lw_all := lw_g (lw_at lw_m9 31 rfl) rfl
theorem q2017 : (Jvm.Cond.lays "MassclaimModel$Person" "MassclaimModel$Person" "birth" "I") ∈ lw_all := lw_g (lw_at lw_m9 33 rfl) rfl
theorem q2018 : (Jvm.Cond.soleField "MassclaimModel$Person" "birth") ∈ lw_all := lw_g (lw_at lw_m9 34 rfl) rfl
theorem q2019 : (Jvm.Cond.lays "MassclaimModel$Person" "MassclaimModel$Person" "state" "I") ∈ lw_all := lw_g (lw_at lw_m9 35 rfl) rfl
theorem q2020 : (Jvm.Cond.soleField "MassclaimModel$Person" "state") ∈ lw_all := lw_g (lw_at lw_m9 36 rfl) rfl
theorem q2021 : (Jvm.Cond.lays "MassclaimModel$Person" "MassclaimModel$Person" "product" "I") ∈ lw_all := lw_g (lw_at lw_m9 37 rfl) rfl
theorem q2022 : (Jvm.Cond.soleField "MassclaimModel$Person" "product") ∈ lw_all := lw_g (lw_at lw_m9 38 rfl) rfl
theorem q2023 : (Jvm.Cond.lays "MassclaimModel$Person" "MassclaimModel$Person" "months" "I") ∈ lw_all := lw_g (lw_at lw_m9 39 rfl) rfl
theorem q2024 : (Jvm.Cond.soleField "MassclaimModel$Person" "months") ∈ lw_all := lw_g (lw_at lw_m9 40 rfl) rfl
theorem q2025 : (Jvm.Cond.lays "MassclaimModel$Person" "MassclaimModel$Person" "level" "I") ∈ lw_all := lw_g (lw_at lw_m9 41 rfl) rfl
theorem q2026 : (Jvm.Cond.soleField "MassclaimModel$Person" "level") ∈ lw_all := lw_g (lw_at lw_m9 42 rfl) rfl
theorem q2027 : (Jvm.Cond.lays "MassclaimModel$Person" "MassclaimModel$Person" "known" "I") ∈ lw_all := lw_g (lw_at lw_m9 43 rfl) rfl
theorem q2028 : (Jvm.Cond.soleField "MassclaimModel$Person" "known") ∈ lw_all := lw_g (lw_at lw_m9 44 rfl) rfl
theorem q2029 : (Jvm.Cond.lays "MassclaimModel$Person" "MassclaimModel$Person" "heirs" "I") ∈ lw_all := lw_g (lw_at lw_m9 45 rfl) rfl
theorem q2030 : (Jvm.Cond.soleField "MassclaimModel$Person" "heirs") ∈ lw_all := lw_g (lw_at lw_m9 46 rfl) rfl
theorem q2031 : (Jvm.Cond.laysFinal "MassclaimModel$Person" "MassclaimModel$Person" "came" "[J") ∈ lw_all := lw_g (lw_at lw_m9 47 rfl) rfl
theorem q2032 : (Jvm.Cond.soleField "MassclaimModel$Person" "came") ∈ lw_all := lw_g (lw_at lw_m9 48 rfl) rfl
theorem q2033 : (Jvm.Cond.lays "MassclaimModel$Person" "MassclaimModel$Person" "isReached" "Z") ∈ lw_all := lw_g (lw_at lw_m9 49 rfl) rfl
theorem q2034 : (Jvm.Cond.soleField "MassclaimModel$Person" "isReached") ∈ lw_all := lw_g (lw_at lw_m9 50 rfl) rfl
theorem q2035 : (Jvm.Cond.lays "MassclaimModel$Person" "MassclaimModel$Person" "noticed" "I") ∈ lw_all := lw_g (lw_at lw_m9 51 rfl) rfl
theorem q2036 : (Jvm.Cond.soleField "MassclaimModel$Person" "noticed") ∈ lw_all := lw_g (lw_at lw_m9 52 rfl) rfl
theorem q2037 : (Jvm.Cond.lays "MassclaimModel$Person" "MassclaimModel$Person" "isOut" "Z") ∈ lw_all := lw_g (lw_at lw_m9 53 rfl) rfl
theorem q2038 : (Jvm.Cond.soleField "MassclaimModel$Person" "isOut") ∈ lw_all := lw_g (lw_at lw_m9 54 rfl) rfl
theorem q2039 : (Jvm.Cond.lays "MassclaimModel$Person" "MassclaimModel$Person" "ran" "I") ∈ lw_all := lw_g (lw_at lw_m9 55 rfl) rfl
theorem q2040 : (Jvm.Cond.soleField "MassclaimModel$Person" "ran") ∈ lw_all := lw_g (lw_at lw_m9 56 rfl) rfl
theorem q2041 : (Jvm.Cond.lays "MassclaimModel$Person" "MassclaimModel$Person" "isDrawn" "Z") ∈ lw_all := lw_g (lw_at lw_m9 57 rfl) rfl
theorem q2042 : (Jvm.Cond.soleField "MassclaimModel$Person" "isDrawn") ∈ lw_all := lw_g (lw_at lw_m9 58 rfl) rfl
theorem q2043 : (Jvm.Cond.lays "MassclaimModel$Person" "MassclaimModel$Person" "verdict" "I") ∈ lw_all := lw_g (lw_at lw_m9 59 rfl) rfl
theorem q2044 : (Jvm.Cond.soleField "MassclaimModel$Person" "verdict") ∈ lw_all := lw_g (lw_at lw_m9 60 rfl) rfl
theorem q2045 : (Jvm.Cond.lays "MassclaimModel$Person" "MassclaimModel$Person" "verdictLevel" "I") ∈ lw_all := lw_g (lw_at lw_m9 61 rfl) rfl
theorem q2046 : (Jvm.Cond.soleField "MassclaimModel$Person" "verdictLevel") ∈ lw_all := lw_g (lw_at lw_m9 62 rfl) rfl
theorem q2047 : (Jvm.Cond.lays "MassclaimModel$Person" "MassclaimModel$Person" "vote" "I") ∈ lw_all := lw_g (lw_at lw_m9 63 rfl) rfl
theorem q2048 : (Jvm.Cond.soleField "MassclaimModel$Person" "vote") ∈ lw_all := lw_g (lw_at lw_m9 64 rfl) rfl
theorem q2049 : (Jvm.Cond.lays "MassclaimModel$Person" "MassclaimModel$Person" "objects" "Z") ∈ lw_all := lw_g (lw_at lw_m9 65 rfl) rfl
theorem q2050 : (Jvm.Cond.soleField "MassclaimModel$Person" "objects") ∈ lw_all := lw_g (lw_at lw_m9 66 rfl) rfl
theorem q2051 : (Jvm.Cond.lays "MassclaimModel$Person" "MassclaimModel$Person" "claim" "LMassclaimModel$Claim;") ∈ lw_all := lw_g (lw_at lw_m9 67 rfl) rfl
theorem q2052 : (Jvm.Cond.soleField "MassclaimModel$Person" "claim") ∈ lw_all := lw_g (lw_at lw_m9 68 rfl) rfl
theorem q2053 : (Jvm.Cond.lays "MassclaimModel$Person" "MassclaimModel$Person" "delivered" "J") ∈ lw_all := lw_g (lw_at lw_m9 69 rfl) rfl
theorem q2054 : (Jvm.Cond.soleField "MassclaimModel$Person" "delivered") ∈ lw_all := lw_g (lw_at lw_m9 70 rfl) rfl
theorem q2055 : (Jvm.Cond.lays "MassclaimModel$Person" "MassclaimModel$Person" "blocked" "J") ∈ lw_all := lw_g (lw_at lw_m9 71 rfl) rfl
theorem q2056 : (Jvm.Cond.soleField "MassclaimModel$Person" "blocked") ∈ lw_all := lw_g (lw_at lw_m9 72 rfl) rfl
theorem q2057 : (Jvm.Cond.lays "MassclaimModel$Person" "MassclaimModel$Person" "held" "J") ∈ lw_all := lw_g (lw_at lw_m9 73 rfl) rfl
theorem q2058 : (Jvm.Cond.soleField "MassclaimModel$Person" "held") ∈ lw_all := lw_g (lw_at lw_m9 74 rfl) rfl
theorem q2059 : (Jvm.Cond.laysFinal "MassclaimModel$Person" "MassclaimModel$Person" "rows" "Ljava/util/ArrayList;") ∈ lw_all := lw_g (lw_at lw_m9 75 rfl) rfl
theorem q2060 : (Jvm.Cond.soleField "MassclaimModel$Person" "rows") ∈ lw_all := lw_g (lw_at lw_m9 76 rfl) rfl
theorem q2061 : (Jvm.Cond.superclass "MassclaimModel$Person" "java/lang/Object") ∈ lw_all := lw_g (lw_at lw_m9 77 rfl) rfl
theorem q2137 : (Jvm.Cond.selects "MassclaimModel$Person" ({ cls := "java/lang/Object", name := "equals", desc := "(Ljava/lang/Object;)Z" } : Jvm.MethodName) ({ cls := "java/lang/Object", name := "equals", desc := "(Ljava/lang/Object;)Z" } : Jvm.MethodName)) ∈ lw_all := lw_g (lw_at lw_m9 153 rfl) rfl
theorem q2571 : (Jvm.Cond.castable "MassclaimModel$Person" "java/lang/Object") ∈ lw_tbl := lw_at lw_m11 107 rfl
theorem in_X6 : ∀ w ∈ wsX60, w ∈ lw_all := lw_in wsX60 [2017, 2019, 2021, 2023, 2025, 2027, 2029, 2031, 2033, 2035, 2037, 2039, 2041, 2043, 2045, 2047, 2049, 2051, 2053, 2055, 2057, 2059] (by decide +kernel) (by decide +kernel)

/-! Massclaim$Subclass -/
set_option maxRecDepth 100000
def RX7 : String := "Massclaim$Subclass"
def TX7 : u_T := fun k => match k with
  | 0 => ("Massclaim$Subclass", "number", "I", true)
  | 1 => ("Massclaim$Subclass", "low", "I", true)
  | 2 => ("Massclaim$Subclass", "high", "I", true)
  | _ => ("Massclaim$Subclass", "isCut", "Z", true)
def tyX7 : Nat → FieldType := fun k => match k with
  | 0 => .int
  | 1 => .int
  | 2 => .int
  | _ => .boolean
abbrev wsX70 : List Cond := u_ws RX7 TX7 4
theorem nmX7 : ∀ a, a < 4 → ∀ b, b < 4 → a ≠ b → (TX7 a).2.1 ≠ (TX7 b).2.1 := by decide +kernel
theorem tyX7_ok : ∀ k, k < 4 → parseFieldDescriptor (TX7 k).2.2.1 = some (tyX7 k) := by decide +kernel
abbrev cX7_number : ByteArray := prog_11_method_2_code
def yX7_number : MethodName := ⟨RX7, "number", "()I"⟩
theorem dX7_number_0 : decode cX7_number 0 = .ok (.aload_n 0, 1) := by decide +kernel
theorem dX7_number_1 : decode cX7_number 1 = .ok (.getfield 7, 3) := by decide +kernel
theorem dX7_number_4 : decode cX7_number 4 = .ok (.ireturn, 1) := by decide +kernel
abbrev cX7_init : ByteArray := prog_11_method_1_code
def yX7_init : MethodName := ⟨RX7, "<init>", "(IIIZ)V"⟩
def dkwX7_init_1 : List UInt8 := [181, 0, 19, 177]
abbrev dktX7_init_1 : List UInt8 := dkwX7_init_1 ++ []
def dkwX7_init_0 : List UInt8 := [42, 183, 0, 1, 42, 27, 181, 0, 7, 42, 28, 181, 0, 13, 42, 29, 181, 0, 16, 42, 21, 4]
abbrev dktX7_init_0 : List UInt8 := dkwX7_init_0 ++ dktX7_init_1
theorem dksX7_init_0 : cX7_init.data.toList.drop 0 = dktX7_init_0 := by decide +kernel
theorem dksX7_init_1 : cX7_init.data.toList.drop 22 = dktX7_init_1 := dk_seg dksX7_init_0 22 rfl rfl
theorem dX7_init_0 : decode cX7_init 0 = .ok (.aload_n 0, 1) := dk_42 (dk_at dksX7_init_0 0 rfl rfl)
theorem dX7_init_1 : decode cX7_init 1 = .ok (.invokespecial 1, 3) := dk_183 0 1 (dk_at dksX7_init_0 1 rfl rfl)
theorem dX7_init_4 : decode cX7_init 4 = .ok (.aload_n 0, 1) := dk_42 (dk_at dksX7_init_0 4 rfl rfl)
theorem dX7_init_5 : decode cX7_init 5 = .ok (.iload_n 1, 1) := dk_27 (dk_at dksX7_init_0 5 rfl rfl)
theorem dX7_init_6 : decode cX7_init 6 = .ok (.putfield 7, 3) := dk_181 0 7 (dk_at dksX7_init_0 6 rfl rfl)
theorem dX7_init_9 : decode cX7_init 9 = .ok (.aload_n 0, 1) := dk_42 (dk_at dksX7_init_0 9 rfl rfl)
theorem dX7_init_10 : decode cX7_init 10 = .ok (.iload_n 2, 1) := dk_28 (dk_at dksX7_init_0 10 rfl rfl)
theorem dX7_init_11 : decode cX7_init 11 = .ok (.putfield 13, 3) := dk_181 0 13 (dk_at dksX7_init_0 11 rfl rfl)
theorem dX7_init_14 : decode cX7_init 14 = .ok (.aload_n 0, 1) := dk_42 (dk_at dksX7_init_0 14 rfl rfl)
theorem dX7_init_15 : decode cX7_init 15 = .ok (.iload_n 3, 1) := dk_29 (dk_at dksX7_init_0 15 rfl rfl)
theorem dX7_init_16 : decode cX7_init 16 = .ok (.putfield 16, 3) := dk_181 0 16 (dk_at dksX7_init_0 16 rfl rfl)
theorem dX7_init_19 : decode cX7_init 19 = .ok (.aload_n 0, 1) := dk_42 (dk_at dksX7_init_0 19 rfl rfl)
theorem dX7_init_20 : decode cX7_init 20 = .ok (.iload 4, 2) := dk_21 4 (dk_at dksX7_init_0 20 rfl rfl)
theorem dX7_init_22 : decode cX7_init 22 = .ok (.putfield 19, 3) := dk_181 0 19 (dk_at dksX7_init_1 0 rfl rfl)
theorem dX7_init_25 : decode cX7_init 25 = .ok (.return_, 1) := dk_177 (dk_at dksX7_init_1 3 rfl rfl)
abbrev cX7_has : ByteArray := prog_11_method_3_code
def yX7_has : MethodName := ⟨RX7, "has", "(I)Z"⟩
def dkwX7_has_0 : List UInt8 := [27, 133, 42, 180, 0, 13, 133, 42, 180, 0, 16, 133, 184, 0, 23, 172]
abbrev dktX7_has_0 : List UInt8 := dkwX7_has_0 ++ []
theorem dksX7_has_0 : cX7_has.data.toList.drop 0 = dktX7_has_0 := by decide +kernel
theorem dX7_has_0 : decode cX7_has 0 = .ok (.iload_n 1, 1) := dk_27 (dk_at dksX7_has_0 0 rfl rfl)
theorem dX7_has_1 : decode cX7_has 1 = .ok (.i2l, 1) := dk_133 (dk_at dksX7_has_0 1 rfl rfl)
theorem dX7_has_2 : decode cX7_has 2 = .ok (.aload_n 0, 1) := dk_42 (dk_at dksX7_has_0 2 rfl rfl)
theorem dX7_has_3 : decode cX7_has 3 = .ok (.getfield 13, 3) := dk_180 0 13 (dk_at dksX7_has_0 3 rfl rfl)
theorem dX7_has_6 : decode cX7_has 6 = .ok (.i2l, 1) := dk_133 (dk_at dksX7_has_0 6 rfl rfl)
theorem dX7_has_7 : decode cX7_has 7 = .ok (.aload_n 0, 1) := dk_42 (dk_at dksX7_has_0 7 rfl rfl)
theorem dX7_has_8 : decode cX7_has 8 = .ok (.getfield 16, 3) := dk_180 0 16 (dk_at dksX7_has_0 8 rfl rfl)
theorem dX7_has_11 : decode cX7_has 11 = .ok (.i2l, 1) := dk_133 (dk_at dksX7_has_0 11 rfl rfl)
theorem dX7_has_12 : decode cX7_has 12 = .ok (.invokestatic 23, 3) := dk_184 0 23 (dk_at dksX7_has_0 12 rfl rfl)
theorem dX7_has_15 : decode cX7_has 15 = .ok (.ireturn, 1) := dk_172 (dk_at dksX7_has_0 15 rfl rfl)
theorem q89 : (Jvm.Cond.initialized "Massclaim$Subclass") ∈ lw_all := lw_g (lw_at lw_m1 25 rfl) rfl
theorem q761 : (Jvm.Cond.selects "Massclaim$Subclass" ({ cls := "java/lang/Object", name := "getClass", desc := "()Ljava/lang/Class;" } : Jvm.MethodName) ({ cls := "java/lang/Object", name := "getClass", desc := "()Ljava/lang/Class;" } : Jvm.MethodName)) ∈ lw_all := lw_g (lw_at lw_m3 217 rfl) rfl
theorem q820 : (Jvm.Cond.castable "Massclaim$Subclass" "Massclaim$Numbered") ∈ lw_tbl := lw_at lw_m4 36 rfl
theorem q821 : (Jvm.Cond.selects "Massclaim$Subclass" ({ cls := "Massclaim$Numbered", name := "number", desc := "()I" } : Jvm.MethodName) ({ cls := "Massclaim$Subclass", name := "number", desc := "()I" } : Jvm.MethodName)) ∈ lw_all := lw_g (lw_at lw_m4 37 rfl) rfl
theorem q822 : (Jvm.Cond.unhidden "Massclaim$Subclass" "number" "()I") ∈ lw_tbl := lw_at lw_m4 38 rfl
theorem q823 : (Jvm.Cond.instanceMethod ({ cls := "Massclaim$Subclass", name := "number", desc := "()I" } : Jvm.MethodName)) ∈ lw_all := lw_g (lw_at lw_m4 39 rfl) rfl
theorem q824 : (Jvm.Cond.publicMethod ({ cls := "Massclaim$Subclass", name := "number", desc := "()I" } : Jvm.MethodName)) ∈ lw_tbl := lw_at lw_m4 40 rfl
theorem q825 : (Jvm.Cond.code ({ cls := "Massclaim$Subclass", name := "number", desc := "()I" } : Jvm.MethodName) prog_11_method_2_code (1 : Nat) (Option.some Jvm.ClassFile.FieldType.int)) ∈ lw_all := lw_g (lw_at lw_m4 41 rfl) rfl
theorem q908 : (Jvm.Cond.instantiable "Massclaim$Subclass" (4 : Nat)) ∈ lw_all := lw_g (lw_at lw_m4 124 rfl) rfl
theorem q910 : (Jvm.Cond.instanceMethod ({ cls := "Massclaim$Subclass", name := "<init>", desc := "(IIIZ)V" } : Jvm.MethodName)) ∈ lw_all := lw_g (lw_at lw_m4 126 rfl) rfl
theorem q911 : (Jvm.Cond.code ({ cls := "Massclaim$Subclass", name := "<init>", desc := "(IIIZ)V" } : Jvm.MethodName) prog_11_method_1_code (5 : Nat) (Option.none : Option Jvm.ClassFile.FieldType)) ∈ lw_all := lw_g (lw_at lw_m4 127 rfl) rfl
theorem q912 : (Jvm.Cond.methodLink "Massclaim$Subclass" (1 : Nat) ({ cls := "java/lang/Object", name := "<init>", desc := "()V" } : Jvm.MethodName)) ∈ lw_all := lw_g (lw_at lw_m4 128 rfl) rfl
theorem q913 : (Jvm.Cond.fieldLink "Massclaim$Subclass" (7 : Nat) "Massclaim$Subclass" "number" "I") ∈ lw_all := lw_g (lw_at lw_m4 129 rfl) rfl
theorem q915 : (Jvm.Cond.fieldLink "Massclaim$Subclass" (13 : Nat) "Massclaim$Subclass" "low" "I") ∈ lw_all := lw_g (lw_at lw_m4 131 rfl) rfl
theorem q916 : (Jvm.Cond.fieldLink "Massclaim$Subclass" (16 : Nat) "Massclaim$Subclass" "high" "I") ∈ lw_all := lw_g (lw_at lw_m4 132 rfl) rfl
theorem q917 : (Jvm.Cond.fieldLink "Massclaim$Subclass" (19 : Nat) "Massclaim$Subclass" "isCut" "Z") ∈ lw_all := lw_g (lw_at lw_m4 133 rfl) rfl
theorem q919 : (Jvm.Cond.laysFinal "Massclaim$Subclass" "Massclaim$Subclass" "number" "I") ∈ lw_all := lw_g (lw_at lw_m4 135 rfl) rfl
theorem q920 : (Jvm.Cond.soleField "Massclaim$Subclass" "number") ∈ lw_all := lw_g (lw_at lw_m4 136 rfl) rfl
theorem q921 : (Jvm.Cond.laysFinal "Massclaim$Subclass" "Massclaim$Subclass" "low" "I") ∈ lw_all := lw_g (lw_at lw_m4 137 rfl) rfl
theorem q922 : (Jvm.Cond.soleField "Massclaim$Subclass" "low") ∈ lw_all := lw_g (lw_at lw_m4 138 rfl) rfl
theorem q923 : (Jvm.Cond.laysFinal "Massclaim$Subclass" "Massclaim$Subclass" "high" "I") ∈ lw_all := lw_g (lw_at lw_m4 139 rfl) rfl
theorem q924 : (Jvm.Cond.soleField "Massclaim$Subclass" "high") ∈ lw_all := lw_g (lw_at lw_m4 140 rfl) rfl
theorem q925 : (Jvm.Cond.laysFinal "Massclaim$Subclass" "Massclaim$Subclass" "isCut" "Z") ∈ lw_all := lw_g (lw_at lw_m4 141 rfl) rfl
theorem q926 : (Jvm.Cond.soleField "Massclaim$Subclass" "isCut") ∈ lw_all := lw_g (lw_at lw_m4 142 rfl) rfl
theorem q927 : (Jvm.Cond.superclass "Massclaim$Subclass" "java/lang/Object") ∈ lw_all := lw_g (lw_at lw_m4 143 rfl) rfl
theorem q944 : (Jvm.Cond.instanceMethod ({ cls := "Massclaim$Subclass", name := "has", desc := "(I)Z" } : Jvm.MethodName)) ∈ lw_all := lw_g (lw_at lw_m4 160 rfl) rfl
theorem q945 : (Jvm.Cond.selects "Massclaim$Subclass" ({ cls := "Massclaim$Subclass", name := "has", desc := "(I)Z" } : Jvm.MethodName) ({ cls := "Massclaim$Subclass", name := "has", desc := "(I)Z" } : Jvm.MethodName)) ∈ lw_all := lw_g (lw_at lw_m4 161 rfl) rfl
theorem q946 : (Jvm.Cond.code ({ cls := "Massclaim$Subclass", name := "has", desc := "(I)Z" } : Jvm.MethodName) prog_11_method_3_code (2 : Nat) (Option.some Jvm.ClassFile.FieldType.boolean)) ∈ lw_all := lw_g (lw_at lw_m4 162 rfl) rfl
theorem q947 : (Jvm.Cond.methodLinkNest "Massclaim$Subclass" (23 : Nat) ({ cls := "Massclaim", name := "isIn", desc := "(JJJ)Z" } : Jvm.MethodName) "Massclaim") ∈ lw_tbl := lw_at lw_m4 163 rfl
theorem q972 : (Jvm.Cond.unhidden "Massclaim$Subclass" "compareTo" "(LMassclaim$Numbered;)I") ∈ lw_tbl := lw_at lw_m4 188 rfl
theorem q2131 : (Jvm.Cond.selects "Massclaim$Subclass" ({ cls := "java/lang/Object", name := "equals", desc := "(Ljava/lang/Object;)Z" } : Jvm.MethodName) ({ cls := "java/lang/Object", name := "equals", desc := "(Ljava/lang/Object;)Z" } : Jvm.MethodName)) ∈ lw_all := lw_g (lw_at lw_m9 147 rfl) rfl
theorem q2574 : (Jvm.Cond.castable "Massclaim$Subclass" "java/lang/Object") ∈ lw_tbl := lw_at lw_m11 110 rfl
theorem in_X7 : ∀ w ∈ wsX70, w ∈ lw_all := lw_in wsX70 [919, 921, 923, 925] (by decide +kernel) (by decide +kernel)

/-! Massclaim$Defendant -/
set_option maxRecDepth 100000
def RX8 : String := "Massclaim$Defendant"
def TX8 : u_T := fun k => match k with
  | 0 => ("Massclaim$Defendant", "number", "I", true)
  | 1 => ("Massclaim$Defendant", "share", "I", true)
  | 2 => ("Massclaim$Defendant", "wealth", "I", false)
  | 3 => ("Massclaim$Defendant", "owes", "J", false)
  | 4 => ("Massclaim$Defendant", "paid", "J", false)
  | _ => ("Massclaim$Defendant", "hasFailed", "Z", false)
def tyX8 : Nat → FieldType := fun k => match k with
  | 0 => .int
  | 1 => .int
  | 2 => .int
  | 3 => .long
  | 4 => .long
  | _ => .boolean
abbrev wsX80 : List Cond := u_ws RX8 TX8 6
theorem nmX8 : ∀ a, a < 6 → ∀ b, b < 6 → a ≠ b → (TX8 a).2.1 ≠ (TX8 b).2.1 := by decide +kernel
theorem tyX8_ok : ∀ k, k < 6 → parseFieldDescriptor (TX8 k).2.2.1 = some (tyX8 k) := by decide +kernel
abbrev cX8_number : ByteArray := prog_4_method_2_code
def yX8_number : MethodName := ⟨RX8, "number", "()I"⟩
theorem dX8_number_0 : decode cX8_number 0 = .ok (.aload_n 0, 1) := by decide +kernel
theorem dX8_number_1 : decode cX8_number 1 = .ok (.getfield 7, 3) := by decide +kernel
theorem dX8_number_4 : decode cX8_number 4 = .ok (.ireturn, 1) := by decide +kernel
abbrev cX8_init : ByteArray := prog_4_method_1_code
def yX8_init : MethodName := ⟨RX8, "<init>", "(III)V"⟩
def dkwX8_init_0 : List UInt8 := [42, 183, 0, 1, 42, 27, 181, 0, 7, 42, 28, 181, 0, 13, 42, 29, 181, 0, 16, 177]
abbrev dktX8_init_0 : List UInt8 := dkwX8_init_0 ++ []
theorem dksX8_init_0 : cX8_init.data.toList.drop 0 = dktX8_init_0 := by decide +kernel
theorem dX8_init_0 : decode cX8_init 0 = .ok (.aload_n 0, 1) := dk_42 (dk_at dksX8_init_0 0 rfl rfl)
theorem dX8_init_1 : decode cX8_init 1 = .ok (.invokespecial 1, 3) := dk_183 0 1 (dk_at dksX8_init_0 1 rfl rfl)
theorem dX8_init_4 : decode cX8_init 4 = .ok (.aload_n 0, 1) := dk_42 (dk_at dksX8_init_0 4 rfl rfl)
theorem dX8_init_5 : decode cX8_init 5 = .ok (.iload_n 1, 1) := dk_27 (dk_at dksX8_init_0 5 rfl rfl)
theorem dX8_init_6 : decode cX8_init 6 = .ok (.putfield 7, 3) := dk_181 0 7 (dk_at dksX8_init_0 6 rfl rfl)
theorem dX8_init_9 : decode cX8_init 9 = .ok (.aload_n 0, 1) := dk_42 (dk_at dksX8_init_0 9 rfl rfl)
theorem dX8_init_10 : decode cX8_init 10 = .ok (.iload_n 2, 1) := dk_28 (dk_at dksX8_init_0 10 rfl rfl)
theorem dX8_init_11 : decode cX8_init 11 = .ok (.putfield 13, 3) := dk_181 0 13 (dk_at dksX8_init_0 11 rfl rfl)
theorem dX8_init_14 : decode cX8_init 14 = .ok (.aload_n 0, 1) := dk_42 (dk_at dksX8_init_0 14 rfl rfl)
theorem dX8_init_15 : decode cX8_init 15 = .ok (.iload_n 3, 1) := dk_29 (dk_at dksX8_init_0 15 rfl rfl)
theorem dX8_init_16 : decode cX8_init 16 = .ok (.putfield 16, 3) := dk_181 0 16 (dk_at dksX8_init_0 16 rfl rfl)
theorem dX8_init_19 : decode cX8_init 19 = .ok (.return_, 1) := dk_177 (dk_at dksX8_init_0 19 rfl rfl)
theorem q96 : (Jvm.Cond.initialized "Massclaim$Defendant") ∈ lw_all := lw_g (lw_at lw_m1 32 rfl) rfl
theorem q755 : (Jvm.Cond.selects "Massclaim$Defendant" ({ cls := "java/lang/Object", name := "getClass", desc := "()Ljava/lang/Class;" } : Jvm.MethodName) ({ cls := "java/lang/Object", name := "getClass", desc := "()Ljava/lang/Class;" } : Jvm.MethodName)) ∈ lw_all := lw_g (lw_at lw_m3 211 rfl) rfl
theorem q802 : (Jvm.Cond.castable "Massclaim$Defendant" "Massclaim$Numbered") ∈ lw_tbl := lw_at lw_m4 18 rfl
theorem q803 : (Jvm.Cond.selects "Massclaim$Defendant" ({ cls := "Massclaim$Numbered", name := "number", desc := "()I" } : Jvm.MethodName) ({ cls := "Massclaim$Defendant", name := "number", desc := "()I" } : Jvm.MethodName)) ∈ lw_all := lw_g (lw_at lw_m4 19 rfl) rfl
theorem q804 : (Jvm.Cond.unhidden "Massclaim$Defendant" "number" "()I") ∈ lw_tbl := lw_at lw_m4 20 rfl
theorem q805 : (Jvm.Cond.instanceMethod ({ cls := "Massclaim$Defendant", name := "number", desc := "()I" } : Jvm.MethodName)) ∈ lw_all := lw_g (lw_at lw_m4 21 rfl) rfl
theorem q806 : (Jvm.Cond.publicMethod ({ cls := "Massclaim$Defendant", name := "number", desc := "()I" } : Jvm.MethodName)) ∈ lw_tbl := lw_at lw_m4 22 rfl
theorem q807 : (Jvm.Cond.code ({ cls := "Massclaim$Defendant", name := "number", desc := "()I" } : Jvm.MethodName) prog_4_method_2_code (1 : Nat) (Option.some Jvm.ClassFile.FieldType.int)) ∈ lw_all := lw_g (lw_at lw_m4 23 rfl) rfl
theorem q969 : (Jvm.Cond.unhidden "Massclaim$Defendant" "compareTo" "(LMassclaim$Numbered;)I") ∈ lw_tbl := lw_at lw_m4 185 rfl
theorem q1329 : (Jvm.Cond.instantiable "Massclaim$Defendant" (6 : Nat)) ∈ lw_all := lw_g (lw_at lw_m6 65 rfl) rfl
theorem q1331 : (Jvm.Cond.instanceMethod ({ cls := "Massclaim$Defendant", name := "<init>", desc := "(III)V" } : Jvm.MethodName)) ∈ lw_all := lw_g (lw_at lw_m6 67 rfl) rfl
theorem q1332 : (Jvm.Cond.code ({ cls := "Massclaim$Defendant", name := "<init>", desc := "(III)V" } : Jvm.MethodName) prog_4_method_1_code (4 : Nat) (Option.none : Option Jvm.ClassFile.FieldType)) ∈ lw_all := lw_g (lw_at lw_m6 68 rfl) rfl
theorem q1333 : (Jvm.Cond.methodLink "Massclaim$Defendant" (1 : Nat) ({ cls := "java/lang/Object", name := "<init>", desc := "()V" } : Jvm.MethodName)) ∈ lw_all := lw_g (lw_at lw_m6 69 rfl) rfl
theorem q1334 : (Jvm.Cond.fieldLink "Massclaim$Defendant" (7 : Nat) "Massclaim$Defendant" "number" "I") ∈ lw_all := lw_g (lw_at lw_m6 70 rfl) rfl
theorem q1335 : (Jvm.Cond.fieldLink "Massclaim$Defendant" (13 : Nat) "Massclaim$Defendant" "share" "I") ∈ lw_all := lw_g (lw_at lw_m6 71 rfl) rfl
theorem q1337 : (Jvm.Cond.fieldLink "Massclaim$Defendant" (16 : Nat) "Massclaim$Defendant" "wealth" "I") ∈ lw_all := lw_g (lw_at lw_m6 73 rfl) rfl
theorem q1342 : (Jvm.Cond.laysFinal "Massclaim$Defendant" "Massclaim$Defendant" "number" "I") ∈ lw_all := lw_g (lw_at lw_m6 78 rfl) rfl
theorem q1343 : (Jvm.Cond.soleField "Massclaim$Defendant" "number") ∈ lw_all := lw_g (lw_at lw_m6 79 rfl) rfl
theorem q1344 : (Jvm.Cond.laysFinal "Massclaim$Defendant" "Massclaim$Defendant" "share" "I") ∈ lw_all := lw_g (lw_at lw_m6 80 rfl) rfl
theorem q1345 : (Jvm.Cond.soleField "Massclaim$Defendant" "share") ∈ lw_all := lw_g (lw_at lw_m6 81 rfl) rfl
theorem q1346 : (Jvm.Cond.lays "Massclaim$Defendant" "Massclaim$Defendant" "wealth" "I") ∈ lw_all := lw_g (lw_at lw_m6 82 rfl) rfl
theorem q1347 : (Jvm.Cond.soleField "Massclaim$Defendant" "wealth") ∈ lw_all := lw_g (lw_at lw_m6 83 rfl) rfl
theorem q1348 : (Jvm.Cond.lays "Massclaim$Defendant" "Massclaim$Defendant" "owes" "J") ∈ lw_all := lw_g (lw_at lw_m6 84 rfl) rfl
theorem q1349 : (Jvm.Cond.soleField "Massclaim$Defendant" "owes") ∈ lw_all := lw_g (lw_at lw_m6 85 rfl) rfl
theorem q1350 : (Jvm.Cond.lays "Massclaim$Defendant" "Massclaim$Defendant" "paid" "J") ∈ lw_all := lw_g (lw_at lw_m6 86 rfl) rfl
theorem q1351 : (Jvm.Cond.soleField "Massclaim$Defendant" "paid") ∈ lw_all := lw_g (lw_at lw_m6 87 rfl) rfl
theorem q1352 : (Jvm.Cond.lays "Massclaim$Defendant" "Massclaim$Defendant" "hasFailed" "Z") ∈ lw_all := lw_g (lw_at lw_m6 88 rfl) rfl
theorem q1353 : (Jvm.Cond.soleField "Massclaim$Defendant" "hasFailed") ∈ lw_all := lw_g (lw_at lw_m6 89 rfl) rfl
theorem q1354 : (Jvm.Cond.superclass "Massclaim$Defendant" "java/lang/Object") ∈ lw_all := lw_g (lw_at lw_m6 90 rfl) rfl
theorem q2125 : (Jvm.Cond.selects "Massclaim$Defendant" ({ cls := "java/lang/Object", name := "equals", desc := "(Ljava/lang/Object;)Z" } : Jvm.MethodName) ({ cls := "java/lang/Object", name := "equals", desc := "(Ljava/lang/Object;)Z" } : Jvm.MethodName)) ∈ lw_all := lw_g (lw_at lw_m9 141 rfl) rfl
theorem q2577 : (Jvm.Cond.castable "Massclaim$Defendant" "java/lang/Object") ∈ lw_tbl := lw_at lw_m11 113 rfl
theorem in_X8 : ∀ w ∈ wsX80, w ∈ lw_all := lw_in wsX80 [1342, 1344, 1346, 1348, 1350, 1352] (by decide +kernel) (by decide +kernel)

/-! MassclaimModel$Defendant -/
set_option maxRecDepth 100000
def RX9 : String := "MassclaimModel$Defendant"
def TX9 : u_T := fun k => match k with
  | 0 => ("MassclaimModel$Defendant", "share", "I", false)
  | 1 => ("MassclaimModel$Defendant", "wealth", "J", false)
  | 2 => ("MassclaimModel$Defendant", "owes", "J", false)
  | 3 => ("MassclaimModel$Defendant", "paid", "J", false)
  | _ => ("MassclaimModel$Defendant", "hasFailed", "Z", false)
def tyX9 : Nat → FieldType := fun k => match k with
  | 0 => .int
  | 1 => .long
  | 2 => .long
  | 3 => .long
  | _ => .boolean
abbrev wsX90 : List Cond := u_ws RX9 TX9 5
theorem nmX9 : ∀ a, a < 5 → ∀ b, b < 5 → a ≠ b → (TX9 a).2.1 ≠ (TX9 b).2.1 := by decide +kernel
theorem tyX9_ok : ∀ k, k < 5 → parseFieldDescriptor (TX9 k).2.2.1 = some (tyX9 k) := by decide +kernel
abbrev cX9_init : ByteArray := prog_16_method_1_code
def yX9_init : MethodName := ⟨RX9, "<init>", "()V"⟩
theorem dX9_init_0 : decode cX9_init 0 = .ok (.aload_n 0, 1) := by decide +kernel
theorem dX9_init_1 : decode cX9_init 1 = .ok (.invokespecial 1, 3) := by decide +kernel
theorem dX9_init_4 : decode cX9_init 4 = .ok (.return_, 1) := by decide +kernel
theorem q97 : (Jvm.Cond.initialized "MassclaimModel$Defendant") ∈ lw_all := lw_g (lw_at lw_m1 33 rfl) rfl
theorem q765 : (Jvm.Cond.selects "MassclaimModel$Defendant" ({ cls := "java/lang/Object", name := "getClass", desc := "()Ljava/lang/Class;" } : Jvm.MethodName) ({ cls := "java/lang/Object", name := "getClass", desc := "()Ljava/lang/Class;" } : Jvm.MethodName)) ∈ lw_all := lw_g (lw_at lw_m3 221 rfl) rfl
theorem q2135 : (Jvm.Cond.selects "MassclaimModel$Defendant" ({ cls := "java/lang/Object", name := "equals", desc := "(Ljava/lang/Object;)Z" } : Jvm.MethodName) ({ cls := "java/lang/Object", name := "equals", desc := "(Ljava/lang/Object;)Z" } : Jvm.MethodName)) ∈ lw_all := lw_g (lw_at lw_m9 151 rfl) rfl
theorem q2212 : (Jvm.Cond.instantiable "MassclaimModel$Defendant" (5 : Nat)) ∈ lw_all := lw_g (lw_at lw_m9 228 rfl) rfl
theorem q2214 : (Jvm.Cond.instanceMethod ({ cls := "MassclaimModel$Defendant", name := "<init>", desc := "()V" } : Jvm.MethodName)) ∈ lw_all := lw_g (lw_at lw_m9 230 rfl) rfl
theorem q2215 : (Jvm.Cond.code ({ cls := "MassclaimModel$Defendant", name := "<init>", desc := "()V" } : Jvm.MethodName) prog_16_method_1_code (1 : Nat) (Option.none : Option Jvm.ClassFile.FieldType)) ∈ lw_all := lw_g (lw_at lw_m9 231 rfl) rfl
theorem q2216 : (Jvm.Cond.methodLink "MassclaimModel$Defendant" (1 : Nat) ({ cls := "java/lang/Object", name := "<init>", desc := "()V" } : Jvm.MethodName)) ∈ lw_all := lw_g (lw_at lw_m9 232 rfl) rfl
theorem q2222 : (Jvm.Cond.lays "MassclaimModel$Defendant" "MassclaimModel$Defendant" "share" "I") ∈ lw_all := lw_g (lw_at lw_m9 238 rfl) rfl
theorem q2223 : (Jvm.Cond.soleField "MassclaimModel$Defendant" "share") ∈ lw_all := lw_g (lw_at lw_m9 239 rfl) rfl
theorem q2224 : (Jvm.Cond.lays "MassclaimModel$Defendant" "MassclaimModel$Defendant" "wealth" "J") ∈ lw_all := lw_g (lw_at lw_m10 0 rfl) rfl
theorem q2225 : (Jvm.Cond.soleField "MassclaimModel$Defendant" "wealth") ∈ lw_all := lw_g (lw_at lw_m10 1 rfl) rfl
theorem q2226 : (Jvm.Cond.lays "MassclaimModel$Defendant" "MassclaimModel$Defendant" "owes" "J") ∈ lw_all := lw_g (lw_at lw_m10 2 rfl) rfl
theorem q2227 : (Jvm.Cond.soleField "MassclaimModel$Defendant" "owes") ∈ lw_all := lw_g (lw_at lw_m10 3 rfl) rfl
theorem q2228 : (Jvm.Cond.lays "MassclaimModel$Defendant" "MassclaimModel$Defendant" "paid" "J") ∈ lw_all := lw_g (lw_at lw_m10 4 rfl) rfl
theorem q2229 : (Jvm.Cond.soleField "MassclaimModel$Defendant" "paid") ∈ lw_all := lw_g (lw_at lw_m10 5 rfl) rfl
theorem q2230 : (Jvm.Cond.lays "MassclaimModel$Defendant" "MassclaimModel$Defendant" "hasFailed" "Z") ∈ lw_all := lw_g (lw_at lw_m10 6 rfl) rfl
theorem q2231 : (Jvm.Cond.soleField "MassclaimModel$Defendant" "hasFailed") ∈ lw_all := lw_g (lw_at lw_m10 7 rfl) rfl
theorem q2232 : (Jvm.Cond.superclass "MassclaimModel$Defendant" "java/lang/Object") ∈ lw_all := lw_g (lw_at lw_m10 8 rfl) rfl
theorem q2578 : (Jvm.Cond.castable "MassclaimModel$Defendant" "java/lang/Object") ∈ lw_tbl := lw_at lw_m11 114 rfl
theorem in_X9 : ∀ w ∈ wsX90, w ∈ lw_all := lw_in wsX90 [2222, 2224, 2226, 2228, 2230] (by decide +kernel) (by decide +kernel)
