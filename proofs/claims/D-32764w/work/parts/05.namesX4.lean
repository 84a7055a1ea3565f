/-! MassclaimModel -/
set_option maxRecDepth 100000
def RX4 : String := "MassclaimModel"
def TX4 : u_T := fun k => match k with
  | 0 => ("MassclaimModel", "thrown", "I", false)
  | 1 => ("MassclaimModel", "today", "I", false)
  | 2 => ("MassclaimModel", "persons", "Ljava/util/ArrayList;", true)
  | 3 => ("MassclaimModel", "isFiled", "Z", false)
  | 4 => ("MassclaimModel", "products", "I", false)
  | 5 => ("MassclaimModel", "states", "I", false)
  | 6 => ("MassclaimModel", "least", "I", false)
  | 7 => ("MassclaimModel", "subclasses", "Ljava/util/ArrayList;", true)
  | 8 => ("MassclaimModel", "defendants", "Ljava/util/ArrayList;", true)
  | 9 => ("MassclaimModel", "stage", "I", false)
  | 10 => ("MassclaimModel", "amount", "J", false)
  | 11 => ("MassclaimModel", "mostOut", "I", false)
  | 12 => ("MassclaimModel", "reversion", "I", false)
  | 13 => ("MassclaimModel", "begun", "I", false)
  | 14 => ("MassclaimModel", "isBought", "Z", false)
  | 15 => ("MassclaimModel", "grid", "[I", true)
  | 16 => ("MassclaimModel", "cap", "I", false)
  | 17 => ("MassclaimModel", "chance", "I", false)
  | 18 => ("MassclaimModel", "order", "I", false)
  | 19 => ("MassclaimModel", "percent", "I", false)
  | 20 => ("MassclaimModel", "claims", "Ljava/util/ArrayList;", true)
  | 21 => ("MassclaimModel", "liens", "Ljava/util/ArrayList;", true)
  | 22 => ("MassclaimModel", "fund", "J", false)
  | 23 => ("MassclaimModel", "paidIn", "J", false)
  | 24 => ("MassclaimModel", "common", "J", false)
  | 25 => ("MassclaimModel", "lawyers", "[J", true)
  | 26 => ("MassclaimModel", "toLiens", "J", false)
  | 27 => ("MassclaimModel", "back", "J", false)
  | _ => ("MassclaimModel", "nextBest", "J", false)
def tyX4 : Nat → FieldType := fun k => match k with
  | 0 => .int
  | 1 => .int
  | 2 => .object "java/util/ArrayList"
  | 3 => .boolean
  | 4 => .int
  | 5 => .int
  | 6 => .int
  | 7 => .object "java/util/ArrayList"
  | 8 => .object "java/util/ArrayList"
  | 9 => .int
  | 10 => .long
  | 11 => .int
  | 12 => .int
  | 13 => .int
  | 14 => .boolean
  | 15 => .array .int
  | 16 => .int
  | 17 => .int
  | 18 => .int
  | 19 => .int
  | 20 => .object "java/util/ArrayList"
  | 21 => .object "java/util/ArrayList"
  | 22 => .long
  | 23 => .long
  | 24 => .long
  | 25 => .array .long
  | 26 => .long
  | 27 => .long
  | _ => .long
abbrev wsX40 : List Cond := u_ws RX4 TX4 29
set_option maxRecDepth 100000 in
theorem nmX4 : ∀ a, a < 29 → ∀ b, b < 29 → a ≠ b → (TX4 a).2.1 ≠ (TX4 b).2.1 := by decide +kernel
set_option maxRecDepth 100000 in
theorem tyX4_ok : ∀ k, k < 29 → parseFieldDescriptor (TX4 k).2.2.1 = some (tyX4 k) := by decide +kernel
abbrev cX4_thrown : ByteArray := prog_14_method_3_code
def yX4_thrown : MethodName := ⟨RX4, "thrown", "()I"⟩
theorem dX4_thrown_0 : decode cX4_thrown 0 = .ok (.aload_n 0, 1) := by decide +kernel
theorem dX4_thrown_1 : decode cX4_thrown 1 = .ok (.getfield 1, 3) := by decide +kernel
theorem dX4_thrown_4 : decode cX4_thrown 4 = .ok (.ireturn, 1) := by decide +kernel
abbrev cX4_init : ByteArray := prog_14_method_4_code
def yX4_init : MethodName := ⟨RX4, "<init>", "()V"⟩
def dkwX4_init_3 : List UInt8 := [188, 11, 181, 0, 36, 42, 182, 0, 40, 177]
abbrev dktX4_init_3 : List UInt8 := dkwX4_init_3 ++ []
def dkwX4_init_2 : List UInt8 := [187, 0, 13, 89, 183, 0, 15, 181, 0, 30, 42, 187, 0, 13, 89, 183, 0, 15, 181, 0, 33, 42, 16, 6]
abbrev dktX4_init_2 : List UInt8 := dkwX4_init_2 ++ dktX4_init_3
def dkwX4_init_1 : List UInt8 := [181, 0, 20, 42, 187, 0, 13, 89, 183, 0, 15, 181, 0, 23, 42, 16, 20, 188, 10, 181, 0, 26, 42]
abbrev dktX4_init_1 : List UInt8 := dkwX4_init_1 ++ dktX4_init_2
def dkwX4_init_0 : List UInt8 := [42, 183, 0, 7, 42, 187, 0, 13, 89, 183, 0, 15, 181, 0, 16, 42, 187, 0, 13, 89, 183, 0, 15]
abbrev dktX4_init_0 : List UInt8 := dkwX4_init_0 ++ dktX4_init_1
theorem dksX4_init_0 : cX4_init.data.toList.drop 0 = dktX4_init_0 := by decide +kernel
theorem dksX4_init_1 : cX4_init.data.toList.drop 23 = dktX4_init_1 := dk_seg dksX4_init_0 23 rfl rfl
theorem dksX4_init_2 : cX4_init.data.toList.drop 46 = dktX4_init_2 := dk_seg dksX4_init_1 23 rfl rfl
theorem dksX4_init_3 : cX4_init.data.toList.drop 70 = dktX4_init_3 := dk_seg dksX4_init_2 24 rfl rfl
theorem dX4_init_0 : decode cX4_init 0 = .ok (.aload_n 0, 1) := dk_42 (dk_at dksX4_init_0 0 rfl rfl)
theorem dX4_init_1 : decode cX4_init 1 = .ok (.invokespecial 7, 3) := dk_183 0 7 (dk_at dksX4_init_0 1 rfl rfl)
theorem dX4_init_4 : decode cX4_init 4 = .ok (.aload_n 0, 1) := dk_42 (dk_at dksX4_init_0 4 rfl rfl)
theorem dX4_init_5 : decode cX4_init 5 = .ok (.new 13, 3) := dk_187 0 13 (dk_at dksX4_init_0 5 rfl rfl)
theorem dX4_init_8 : decode cX4_init 8 = .ok (.dup, 1) := dk_89 (dk_at dksX4_init_0 8 rfl rfl)
theorem dX4_init_9 : decode cX4_init 9 = .ok (.invokespecial 15, 3) := dk_183 0 15 (dk_at dksX4_init_0 9 rfl rfl)
theorem dX4_init_12 : decode cX4_init 12 = .ok (.putfield 16, 3) := dk_181 0 16 (dk_at dksX4_init_0 12 rfl rfl)
theorem dX4_init_15 : decode cX4_init 15 = .ok (.aload_n 0, 1) := dk_42 (dk_at dksX4_init_0 15 rfl rfl)
theorem dX4_init_16 : decode cX4_init 16 = .ok (.new 13, 3) := dk_187 0 13 (dk_at dksX4_init_0 16 rfl rfl)
theorem dX4_init_19 : decode cX4_init 19 = .ok (.dup, 1) := dk_89 (dk_at dksX4_init_0 19 rfl rfl)
theorem dX4_init_20 : decode cX4_init 20 = .ok (.invokespecial 15, 3) := dk_183 0 15 (dk_at dksX4_init_0 20 rfl rfl)
theorem dX4_init_23 : decode cX4_init 23 = .ok (.putfield 20, 3) := dk_181 0 20 (dk_at dksX4_init_1 0 rfl rfl)
theorem dX4_init_26 : decode cX4_init 26 = .ok (.aload_n 0, 1) := dk_42 (dk_at dksX4_init_1 3 rfl rfl)
theorem dX4_init_27 : decode cX4_init 27 = .ok (.new 13, 3) := dk_187 0 13 (dk_at dksX4_init_1 4 rfl rfl)
theorem dX4_init_30 : decode cX4_init 30 = .ok (.dup, 1) := dk_89 (dk_at dksX4_init_1 7 rfl rfl)
theorem dX4_init_31 : decode cX4_init 31 = .ok (.invokespecial 15, 3) := dk_183 0 15 (dk_at dksX4_init_1 8 rfl rfl)
theorem dX4_init_34 : decode cX4_init 34 = .ok (.putfield 23, 3) := dk_181 0 23 (dk_at dksX4_init_1 11 rfl rfl)
theorem dX4_init_37 : decode cX4_init 37 = .ok (.aload_n 0, 1) := dk_42 (dk_at dksX4_init_1 14 rfl rfl)
theorem dX4_init_38 : decode cX4_init 38 = .ok (.bipush 20, 2) := dk_16 20 (dk_at dksX4_init_1 15 rfl rfl)
theorem dX4_init_40 : decode cX4_init 40 = .ok (.newarray .int, 2) := dk_188_10 (dk_at dksX4_init_1 17 rfl rfl)
theorem dX4_init_42 : decode cX4_init 42 = .ok (.putfield 26, 3) := dk_181 0 26 (dk_at dksX4_init_1 19 rfl rfl)
theorem dX4_init_45 : decode cX4_init 45 = .ok (.aload_n 0, 1) := dk_42 (dk_at dksX4_init_1 22 rfl rfl)
theorem dX4_init_46 : decode cX4_init 46 = .ok (.new 13, 3) := dk_187 0 13 (dk_at dksX4_init_2 0 rfl rfl)
theorem dX4_init_49 : decode cX4_init 49 = .ok (.dup, 1) := dk_89 (dk_at dksX4_init_2 3 rfl rfl)
theorem dX4_init_50 : decode cX4_init 50 = .ok (.invokespecial 15, 3) := dk_183 0 15 (dk_at dksX4_init_2 4 rfl rfl)
theorem dX4_init_53 : decode cX4_init 53 = .ok (.putfield 30, 3) := dk_181 0 30 (dk_at dksX4_init_2 7 rfl rfl)
theorem dX4_init_56 : decode cX4_init 56 = .ok (.aload_n 0, 1) := dk_42 (dk_at dksX4_init_2 10 rfl rfl)
theorem dX4_init_57 : decode cX4_init 57 = .ok (.new 13, 3) := dk_187 0 13 (dk_at dksX4_init_2 11 rfl rfl)
theorem dX4_init_60 : decode cX4_init 60 = .ok (.dup, 1) := dk_89 (dk_at dksX4_init_2 14 rfl rfl)
theorem dX4_init_61 : decode cX4_init 61 = .ok (.invokespecial 15, 3) := dk_183 0 15 (dk_at dksX4_init_2 15 rfl rfl)
theorem dX4_init_64 : decode cX4_init 64 = .ok (.putfield 33, 3) := dk_181 0 33 (dk_at dksX4_init_2 18 rfl rfl)
theorem dX4_init_67 : decode cX4_init 67 = .ok (.aload_n 0, 1) := dk_42 (dk_at dksX4_init_2 21 rfl rfl)
theorem dX4_init_68 : decode cX4_init 68 = .ok (.bipush 6, 2) := dk_16 6 (dk_at dksX4_init_2 22 rfl rfl)
theorem dX4_init_70 : decode cX4_init 70 = .ok (.newarray .long, 2) := dk_188_11 (dk_at dksX4_init_3 0 rfl rfl)
theorem dX4_init_72 : decode cX4_init 72 = .ok (.putfield 36, 3) := dk_181 0 36 (dk_at dksX4_init_3 2 rfl rfl)
theorem dX4_init_75 : decode cX4_init 75 = .ok (.aload_n 0, 1) := dk_42 (dk_at dksX4_init_3 5 rfl rfl)
theorem dX4_init_76 : decode cX4_init 76 = .ok (.invokevirtual 40, 3) := dk_182 0 40 (dk_at dksX4_init_3 6 rfl rfl)
theorem dX4_init_79 : decode cX4_init 79 = .ok (.return_, 1) := dk_177 (dk_at dksX4_init_3 9 rfl rfl)
abbrev cX4_fresh : ByteArray := prog_14_method_5_code
def yX4_fresh : MethodName := ⟨RX4, "fresh", "()V"⟩
def dkwX4_fresh_7 : List UInt8 := [42, 9, 181, 0, 85, 42, 9, 181, 0, 88, 42, 9, 181, 0, 91, 177]
abbrev dktX4_fresh_7 : List UInt8 := dkwX4_fresh_7 ++ []
def dkwX4_fresh_6 : List UInt8 := [181, 0, 82, 3, 60, 27, 16, 6, 162, 0, 16, 42, 180, 0, 36, 27, 9, 80, 132, 1, 1, 167, 255, 240]
abbrev dktX4_fresh_6 : List UInt8 := dkwX4_fresh_6 ++ dktX4_fresh_7
def dkwX4_fresh_5 : List UInt8 := [182, 0, 46, 42, 180, 0, 33, 182, 0, 46, 42, 9, 181, 0, 76, 42, 9, 181, 0, 79, 42, 9]
abbrev dktX4_fresh_5 : List UInt8 := dkwX4_fresh_5 ++ dktX4_fresh_6
def dkwX4_fresh_4 : List UInt8 := [181, 0, 64, 42, 16, 10, 181, 0, 67, 42, 3, 181, 0, 70, 42, 3, 181, 0, 73, 42, 180, 0, 30]
abbrev dktX4_fresh_4 : List UInt8 := dkwX4_fresh_4 ++ dktX4_fresh_5
def dkwX4_fresh_3 : List UInt8 := [27, 4, 96, 104, 27, 4, 96, 104, 79, 132, 2, 1, 167, 255, 227, 132, 1, 1, 167, 255, 214, 42, 18, 63]
abbrev dktX4_fresh_3 : List UInt8 := dkwX4_fresh_3 ++ dktX4_fresh_4
def dkwX4_fresh_2 : List UInt8 := [27, 8, 162, 0, 43, 3, 61, 28, 7, 162, 0, 30, 42, 180, 0, 26, 7, 27, 104, 28, 96, 17, 3, 232]
abbrev dktX4_fresh_2 : List UInt8 := dkwX4_fresh_2 ++ dktX4_fresh_3
def dkwX4_fresh_1 : List UInt8 := [42, 180, 0, 23, 182, 0, 46, 42, 3, 181, 0, 53, 42, 9, 181, 0, 56, 42, 3, 181, 0, 60, 3, 60]
abbrev dktX4_fresh_1 : List UInt8 := dkwX4_fresh_1 ++ dktX4_fresh_2
def dkwX4_fresh_0 : List UInt8 := [42, 3, 181, 0, 43, 42, 180, 0, 16, 182, 0, 46, 42, 3, 181, 0, 49, 42, 180, 0, 20, 182, 0, 46]
abbrev dktX4_fresh_0 : List UInt8 := dkwX4_fresh_0 ++ dktX4_fresh_1
theorem dksX4_fresh_0 : cX4_fresh.data.toList.drop 0 = dktX4_fresh_0 := by decide +kernel
theorem dksX4_fresh_1 : cX4_fresh.data.toList.drop 24 = dktX4_fresh_1 := dk_seg dksX4_fresh_0 24 rfl rfl
theorem dksX4_fresh_2 : cX4_fresh.data.toList.drop 48 = dktX4_fresh_2 := dk_seg dksX4_fresh_1 24 rfl rfl
theorem dksX4_fresh_3 : cX4_fresh.data.toList.drop 72 = dktX4_fresh_3 := dk_seg dksX4_fresh_2 24 rfl rfl
theorem dksX4_fresh_4 : cX4_fresh.data.toList.drop 96 = dktX4_fresh_4 := dk_seg dksX4_fresh_3 24 rfl rfl
theorem dksX4_fresh_5 : cX4_fresh.data.toList.drop 119 = dktX4_fresh_5 := dk_seg dksX4_fresh_4 23 rfl rfl
theorem dksX4_fresh_6 : cX4_fresh.data.toList.drop 141 = dktX4_fresh_6 := dk_seg dksX4_fresh_5 22 rfl rfl
theorem dksX4_fresh_7 : cX4_fresh.data.toList.drop 165 = dktX4_fresh_7 := dk_seg dksX4_fresh_6 24 rfl rfl
theorem dX4_fresh_0 : decode cX4_fresh 0 = .ok (.aload_n 0, 1) := dk_42 (dk_at dksX4_fresh_0 0 rfl rfl)
theorem dX4_fresh_1 : decode cX4_fresh 1 = .ok (.iconst 0, 1) := dk_3 (dk_at dksX4_fresh_0 1 rfl rfl)
theorem dX4_fresh_2 : decode cX4_fresh 2 = .ok (.putfield 43, 3) := dk_181 0 43 (dk_at dksX4_fresh_0 2 rfl rfl)
theorem dX4_fresh_5 : decode cX4_fresh 5 = .ok (.aload_n 0, 1) := dk_42 (dk_at dksX4_fresh_0 5 rfl rfl)
theorem dX4_fresh_6 : decode cX4_fresh 6 = .ok (.getfield 16, 3) := dk_180 0 16 (dk_at dksX4_fresh_0 6 rfl rfl)
theorem dX4_fresh_9 : decode cX4_fresh 9 = .ok (.invokevirtual 46, 3) := dk_182 0 46 (dk_at dksX4_fresh_0 9 rfl rfl)
theorem dX4_fresh_12 : decode cX4_fresh 12 = .ok (.aload_n 0, 1) := dk_42 (dk_at dksX4_fresh_0 12 rfl rfl)
theorem dX4_fresh_13 : decode cX4_fresh 13 = .ok (.iconst 0, 1) := dk_3 (dk_at dksX4_fresh_0 13 rfl rfl)
theorem dX4_fresh_14 : decode cX4_fresh 14 = .ok (.putfield 49, 3) := dk_181 0 49 (dk_at dksX4_fresh_0 14 rfl rfl)
theorem dX4_fresh_17 : decode cX4_fresh 17 = .ok (.aload_n 0, 1) := dk_42 (dk_at dksX4_fresh_0 17 rfl rfl)
theorem dX4_fresh_18 : decode cX4_fresh 18 = .ok (.getfield 20, 3) := dk_180 0 20 (dk_at dksX4_fresh_0 18 rfl rfl)
theorem dX4_fresh_21 : decode cX4_fresh 21 = .ok (.invokevirtual 46, 3) := dk_182 0 46 (dk_at dksX4_fresh_0 21 rfl rfl)
theorem dX4_fresh_24 : decode cX4_fresh 24 = .ok (.aload_n 0, 1) := dk_42 (dk_at dksX4_fresh_1 0 rfl rfl)
theorem dX4_fresh_25 : decode cX4_fresh 25 = .ok (.getfield 23, 3) := dk_180 0 23 (dk_at dksX4_fresh_1 1 rfl rfl)
theorem dX4_fresh_28 : decode cX4_fresh 28 = .ok (.invokevirtual 46, 3) := dk_182 0 46 (dk_at dksX4_fresh_1 4 rfl rfl)
theorem dX4_fresh_31 : decode cX4_fresh 31 = .ok (.aload_n 0, 1) := dk_42 (dk_at dksX4_fresh_1 7 rfl rfl)
theorem dX4_fresh_32 : decode cX4_fresh 32 = .ok (.iconst 0, 1) := dk_3 (dk_at dksX4_fresh_1 8 rfl rfl)
theorem dX4_fresh_33 : decode cX4_fresh 33 = .ok (.putfield 53, 3) := dk_181 0 53 (dk_at dksX4_fresh_1 9 rfl rfl)
theorem dX4_fresh_36 : decode cX4_fresh 36 = .ok (.aload_n 0, 1) := dk_42 (dk_at dksX4_fresh_1 12 rfl rfl)
theorem dX4_fresh_37 : decode cX4_fresh 37 = .ok (.lconst 0, 1) := dk_9 (dk_at dksX4_fresh_1 13 rfl rfl)
theorem dX4_fresh_38 : decode cX4_fresh 38 = .ok (.putfield 56, 3) := dk_181 0 56 (dk_at dksX4_fresh_1 14 rfl rfl)
theorem dX4_fresh_41 : decode cX4_fresh 41 = .ok (.aload_n 0, 1) := dk_42 (dk_at dksX4_fresh_1 17 rfl rfl)
theorem dX4_fresh_42 : decode cX4_fresh 42 = .ok (.iconst 0, 1) := dk_3 (dk_at dksX4_fresh_1 18 rfl rfl)
theorem dX4_fresh_43 : decode cX4_fresh 43 = .ok (.putfield 60, 3) := dk_181 0 60 (dk_at dksX4_fresh_1 19 rfl rfl)
theorem dX4_fresh_46 : decode cX4_fresh 46 = .ok (.iconst 0, 1) := dk_3 (dk_at dksX4_fresh_1 22 rfl rfl)
theorem dX4_fresh_47 : decode cX4_fresh 47 = .ok (.istore_n 1, 1) := dk_60 (dk_at dksX4_fresh_1 23 rfl rfl)
theorem dX4_fresh_48 : decode cX4_fresh 48 = .ok (.iload_n 1, 1) := dk_27 (dk_at dksX4_fresh_2 0 rfl rfl)
theorem dX4_fresh_49 : decode cX4_fresh 49 = .ok (.iconst 5, 1) := dk_8 (dk_at dksX4_fresh_2 1 rfl rfl)
theorem dX4_fresh_50 : decode cX4_fresh 50 = .ok (.if_icmp .ge 43, 3) := dk_162 0 43 (dk_at dksX4_fresh_2 2 rfl rfl)
theorem dX4_fresh_53 : decode cX4_fresh 53 = .ok (.iconst 0, 1) := dk_3 (dk_at dksX4_fresh_2 5 rfl rfl)
theorem dX4_fresh_54 : decode cX4_fresh 54 = .ok (.istore_n 2, 1) := dk_61 (dk_at dksX4_fresh_2 6 rfl rfl)
theorem dX4_fresh_55 : decode cX4_fresh 55 = .ok (.iload_n 2, 1) := dk_28 (dk_at dksX4_fresh_2 7 rfl rfl)
theorem dX4_fresh_56 : decode cX4_fresh 56 = .ok (.iconst 4, 1) := dk_7 (dk_at dksX4_fresh_2 8 rfl rfl)
theorem dX4_fresh_57 : decode cX4_fresh 57 = .ok (.if_icmp .ge 30, 3) := dk_162 0 30 (dk_at dksX4_fresh_2 9 rfl rfl)
theorem dX4_fresh_60 : decode cX4_fresh 60 = .ok (.aload_n 0, 1) := dk_42 (dk_at dksX4_fresh_2 12 rfl rfl)
theorem dX4_fresh_61 : decode cX4_fresh 61 = .ok (.getfield 26, 3) := dk_180 0 26 (dk_at dksX4_fresh_2 13 rfl rfl)
theorem dX4_fresh_64 : decode cX4_fresh 64 = .ok (.iconst 4, 1) := dk_7 (dk_at dksX4_fresh_2 16 rfl rfl)
theorem dX4_fresh_65 : decode cX4_fresh 65 = .ok (.iload_n 1, 1) := dk_27 (dk_at dksX4_fresh_2 17 rfl rfl)
theorem dX4_fresh_66 : decode cX4_fresh 66 = .ok (.imul, 1) := dk_104 (dk_at dksX4_fresh_2 18 rfl rfl)
theorem dX4_fresh_67 : decode cX4_fresh 67 = .ok (.iload_n 2, 1) := dk_28 (dk_at dksX4_fresh_2 19 rfl rfl)
theorem dX4_fresh_68 : decode cX4_fresh 68 = .ok (.iadd, 1) := dk_96 (dk_at dksX4_fresh_2 20 rfl rfl)
theorem dX4_fresh_69 : decode cX4_fresh 69 = .ok (.sipush 1000, 3) := dk_17 3 232 (dk_at dksX4_fresh_2 21 rfl rfl)
theorem dX4_fresh_72 : decode cX4_fresh 72 = .ok (.iload_n 1, 1) := dk_27 (dk_at dksX4_fresh_3 0 rfl rfl)
theorem dX4_fresh_73 : decode cX4_fresh 73 = .ok (.iconst 1, 1) := dk_4 (dk_at dksX4_fresh_3 1 rfl rfl)
theorem dX4_fresh_74 : decode cX4_fresh 74 = .ok (.iadd, 1) := dk_96 (dk_at dksX4_fresh_3 2 rfl rfl)
theorem dX4_fresh_75 : decode cX4_fresh 75 = .ok (.imul, 1) := dk_104 (dk_at dksX4_fresh_3 3 rfl rfl)
theorem dX4_fresh_76 : decode cX4_fresh 76 = .ok (.iload_n 1, 1) := dk_27 (dk_at dksX4_fresh_3 4 rfl rfl)
theorem dX4_fresh_77 : decode cX4_fresh 77 = .ok (.iconst 1, 1) := dk_4 (dk_at dksX4_fresh_3 5 rfl rfl)
theorem dX4_fresh_78 : decode cX4_fresh 78 = .ok (.iadd, 1) := dk_96 (dk_at dksX4_fresh_3 6 rfl rfl)
theorem dX4_fresh_79 : decode cX4_fresh 79 = .ok (.imul, 1) := dk_104 (dk_at dksX4_fresh_3 7 rfl rfl)
theorem dX4_fresh_80 : decode cX4_fresh 80 = .ok (.iastore, 1) := dk_79 (dk_at dksX4_fresh_3 8 rfl rfl)
theorem dX4_fresh_81 : decode cX4_fresh 81 = .ok (.iinc 2 1, 3) := dk_132 2 1 (dk_at dksX4_fresh_3 9 rfl rfl)
theorem dX4_fresh_84 : decode cX4_fresh 84 = .ok (.goto (-29), 3) := dk_167 255 227 (dk_at dksX4_fresh_3 12 rfl rfl)
theorem dX4_fresh_87 : decode cX4_fresh 87 = .ok (.iinc 1 1, 3) := dk_132 1 1 (dk_at dksX4_fresh_3 15 rfl rfl)
theorem dX4_fresh_90 : decode cX4_fresh 90 = .ok (.goto (-42), 3) := dk_167 255 214 (dk_at dksX4_fresh_3 18 rfl rfl)
theorem dX4_fresh_93 : decode cX4_fresh 93 = .ok (.aload_n 0, 1) := dk_42 (dk_at dksX4_fresh_3 21 rfl rfl)
theorem dX4_fresh_94 : decode cX4_fresh 94 = .ok (.ldc 63, 2) := dk_18 63 (dk_at dksX4_fresh_3 22 rfl rfl)
theorem dX4_fresh_96 : decode cX4_fresh 96 = .ok (.putfield 64, 3) := dk_181 0 64 (dk_at dksX4_fresh_4 0 rfl rfl)
theorem dX4_fresh_99 : decode cX4_fresh 99 = .ok (.aload_n 0, 1) := dk_42 (dk_at dksX4_fresh_4 3 rfl rfl)
theorem dX4_fresh_100 : decode cX4_fresh 100 = .ok (.bipush 10, 2) := dk_16 10 (dk_at dksX4_fresh_4 4 rfl rfl)
theorem dX4_fresh_102 : decode cX4_fresh 102 = .ok (.putfield 67, 3) := dk_181 0 67 (dk_at dksX4_fresh_4 6 rfl rfl)
theorem dX4_fresh_105 : decode cX4_fresh 105 = .ok (.aload_n 0, 1) := dk_42 (dk_at dksX4_fresh_4 9 rfl rfl)
theorem dX4_fresh_106 : decode cX4_fresh 106 = .ok (.iconst 0, 1) := dk_3 (dk_at dksX4_fresh_4 10 rfl rfl)
theorem dX4_fresh_107 : decode cX4_fresh 107 = .ok (.putfield 70, 3) := dk_181 0 70 (dk_at dksX4_fresh_4 11 rfl rfl)
theorem dX4_fresh_110 : decode cX4_fresh 110 = .ok (.aload_n 0, 1) := dk_42 (dk_at dksX4_fresh_4 14 rfl rfl)
theorem dX4_fresh_111 : decode cX4_fresh 111 = .ok (.iconst 0, 1) := dk_3 (dk_at dksX4_fresh_4 15 rfl rfl)
theorem dX4_fresh_112 : decode cX4_fresh 112 = .ok (.putfield 73, 3) := dk_181 0 73 (dk_at dksX4_fresh_4 16 rfl rfl)
theorem dX4_fresh_115 : decode cX4_fresh 115 = .ok (.aload_n 0, 1) := dk_42 (dk_at dksX4_fresh_4 19 rfl rfl)
theorem dX4_fresh_116 : decode cX4_fresh 116 = .ok (.getfield 30, 3) := dk_180 0 30 (dk_at dksX4_fresh_4 20 rfl rfl)
theorem dX4_fresh_119 : decode cX4_fresh 119 = .ok (.invokevirtual 46, 3) := dk_182 0 46 (dk_at dksX4_fresh_5 0 rfl rfl)
theorem dX4_fresh_122 : decode cX4_fresh 122 = .ok (.aload_n 0, 1) := dk_42 (dk_at dksX4_fresh_5 3 rfl rfl)
theorem dX4_fresh_123 : decode cX4_fresh 123 = .ok (.getfield 33, 3) := dk_180 0 33 (dk_at dksX4_fresh_5 4 rfl rfl)
theorem dX4_fresh_126 : decode cX4_fresh 126 = .ok (.invokevirtual 46, 3) := dk_182 0 46 (dk_at dksX4_fresh_5 7 rfl rfl)
theorem dX4_fresh_129 : decode cX4_fresh 129 = .ok (.aload_n 0, 1) := dk_42 (dk_at dksX4_fresh_5 10 rfl rfl)
theorem dX4_fresh_130 : decode cX4_fresh 130 = .ok (.lconst 0, 1) := dk_9 (dk_at dksX4_fresh_5 11 rfl rfl)
theorem dX4_fresh_131 : decode cX4_fresh 131 = .ok (.putfield 76, 3) := dk_181 0 76 (dk_at dksX4_fresh_5 12 rfl rfl)
theorem dX4_fresh_134 : decode cX4_fresh 134 = .ok (.aload_n 0, 1) := dk_42 (dk_at dksX4_fresh_5 15 rfl rfl)
theorem dX4_fresh_135 : decode cX4_fresh 135 = .ok (.lconst 0, 1) := dk_9 (dk_at dksX4_fresh_5 16 rfl rfl)
theorem dX4_fresh_136 : decode cX4_fresh 136 = .ok (.putfield 79, 3) := dk_181 0 79 (dk_at dksX4_fresh_5 17 rfl rfl)
theorem dX4_fresh_139 : decode cX4_fresh 139 = .ok (.aload_n 0, 1) := dk_42 (dk_at dksX4_fresh_5 20 rfl rfl)
theorem dX4_fresh_140 : decode cX4_fresh 140 = .ok (.lconst 0, 1) := dk_9 (dk_at dksX4_fresh_5 21 rfl rfl)
theorem dX4_fresh_141 : decode cX4_fresh 141 = .ok (.putfield 82, 3) := dk_181 0 82 (dk_at dksX4_fresh_6 0 rfl rfl)
theorem dX4_fresh_144 : decode cX4_fresh 144 = .ok (.iconst 0, 1) := dk_3 (dk_at dksX4_fresh_6 3 rfl rfl)
theorem dX4_fresh_145 : decode cX4_fresh 145 = .ok (.istore_n 1, 1) := dk_60 (dk_at dksX4_fresh_6 4 rfl rfl)
theorem dX4_fresh_146 : decode cX4_fresh 146 = .ok (.iload_n 1, 1) := dk_27 (dk_at dksX4_fresh_6 5 rfl rfl)
theorem dX4_fresh_147 : decode cX4_fresh 147 = .ok (.bipush 6, 2) := dk_16 6 (dk_at dksX4_fresh_6 6 rfl rfl)
theorem dX4_fresh_149 : decode cX4_fresh 149 = .ok (.if_icmp .ge 16, 3) := dk_162 0 16 (dk_at dksX4_fresh_6 8 rfl rfl)
theorem dX4_fresh_152 : decode cX4_fresh 152 = .ok (.aload_n 0, 1) := dk_42 (dk_at dksX4_fresh_6 11 rfl rfl)
theorem dX4_fresh_153 : decode cX4_fresh 153 = .ok (.getfield 36, 3) := dk_180 0 36 (dk_at dksX4_fresh_6 12 rfl rfl)
theorem dX4_fresh_156 : decode cX4_fresh 156 = .ok (.iload_n 1, 1) := dk_27 (dk_at dksX4_fresh_6 15 rfl rfl)
theorem dX4_fresh_157 : decode cX4_fresh 157 = .ok (.lconst 0, 1) := dk_9 (dk_at dksX4_fresh_6 16 rfl rfl)
theorem dX4_fresh_158 : decode cX4_fresh 158 = .ok (.lastore, 1) := dk_80 (dk_at dksX4_fresh_6 17 rfl rfl)
theorem dX4_fresh_159 : decode cX4_fresh 159 = .ok (.iinc 1 1, 3) := dk_132 1 1 (dk_at dksX4_fresh_6 18 rfl rfl)
theorem dX4_fresh_162 : decode cX4_fresh 162 = .ok (.goto (-16), 3) := dk_167 255 240 (dk_at dksX4_fresh_6 21 rfl rfl)
theorem dX4_fresh_165 : decode cX4_fresh 165 = .ok (.aload_n 0, 1) := dk_42 (dk_at dksX4_fresh_7 0 rfl rfl)
theorem dX4_fresh_166 : decode cX4_fresh 166 = .ok (.lconst 0, 1) := dk_9 (dk_at dksX4_fresh_7 1 rfl rfl)
theorem dX4_fresh_167 : decode cX4_fresh 167 = .ok (.putfield 85, 3) := dk_181 0 85 (dk_at dksX4_fresh_7 2 rfl rfl)
theorem dX4_fresh_170 : decode cX4_fresh 170 = .ok (.aload_n 0, 1) := dk_42 (dk_at dksX4_fresh_7 5 rfl rfl)
theorem dX4_fresh_171 : decode cX4_fresh 171 = .ok (.lconst 0, 1) := dk_9 (dk_at dksX4_fresh_7 6 rfl rfl)
theorem dX4_fresh_172 : decode cX4_fresh 172 = .ok (.putfield 88, 3) := dk_181 0 88 (dk_at dksX4_fresh_7 7 rfl rfl)
theorem dX4_fresh_175 : decode cX4_fresh 175 = .ok (.aload_n 0, 1) := dk_42 (dk_at dksX4_fresh_7 10 rfl rfl)
theorem dX4_fresh_176 : decode cX4_fresh 176 = .ok (.lconst 0, 1) := dk_9 (dk_at dksX4_fresh_7 11 rfl rfl)
theorem dX4_fresh_177 : decode cX4_fresh 177 = .ok (.putfield 91, 3) := dk_181 0 91 (dk_at dksX4_fresh_7 12 rfl rfl)
theorem dX4_fresh_180 : decode cX4_fresh 180 = .ok (.return_, 1) := dk_177 (dk_at dksX4_fresh_7 15 rfl rfl)
abbrev cX4_begin : ByteArray := prog_14_method_6_code
def yX4_begin : MethodName := ⟨RX4, "begin", "()I"⟩
def dkwX4_begin_0 : List UInt8 := [42, 3, 181, 0, 1, 42, 180, 0, 16, 182, 0, 94, 60, 42, 182, 0, 40, 27, 172]
abbrev dktX4_begin_0 : List UInt8 := dkwX4_begin_0 ++ []
theorem dksX4_begin_0 : cX4_begin.data.toList.drop 0 = dktX4_begin_0 := by decide +kernel
theorem dX4_begin_0 : decode cX4_begin 0 = .ok (.aload_n 0, 1) := dk_42 (dk_at dksX4_begin_0 0 rfl rfl)
theorem dX4_begin_1 : decode cX4_begin 1 = .ok (.iconst 0, 1) := dk_3 (dk_at dksX4_begin_0 1 rfl rfl)
theorem dX4_begin_2 : decode cX4_begin 2 = .ok (.putfield 1, 3) := dk_181 0 1 (dk_at dksX4_begin_0 2 rfl rfl)
theorem dX4_begin_5 : decode cX4_begin 5 = .ok (.aload_n 0, 1) := dk_42 (dk_at dksX4_begin_0 5 rfl rfl)
theorem dX4_begin_6 : decode cX4_begin 6 = .ok (.getfield 16, 3) := dk_180 0 16 (dk_at dksX4_begin_0 6 rfl rfl)
theorem dX4_begin_9 : decode cX4_begin 9 = .ok (.invokevirtual 94, 3) := dk_182 0 94 (dk_at dksX4_begin_0 9 rfl rfl)
theorem dX4_begin_12 : decode cX4_begin 12 = .ok (.istore_n 1, 1) := dk_60 (dk_at dksX4_begin_0 12 rfl rfl)
theorem dX4_begin_13 : decode cX4_begin 13 = .ok (.aload_n 0, 1) := dk_42 (dk_at dksX4_begin_0 13 rfl rfl)
theorem dX4_begin_14 : decode cX4_begin 14 = .ok (.invokevirtual 40, 3) := dk_182 0 40 (dk_at dksX4_begin_0 14 rfl rfl)
theorem dX4_begin_17 : decode cX4_begin 17 = .ok (.iload_n 1, 1) := dk_27 (dk_at dksX4_begin_0 17 rfl rfl)
theorem dX4_begin_18 : decode cX4_begin 18 = .ok (.ireturn, 1) := dk_172 (dk_at dksX4_begin_0 18 rfl rfl)
abbrev cX4_goOn : ByteArray := prog_14_method_8_code
def yX4_goOn : MethodName := ⟨RX4, "goOn", "(I)I"⟩
def dkwX4_goOn_10 : List UInt8 := [180, 0, 43, 172]
abbrev dktX4_goOn_10 : List UInt8 := dkwX4_goOn_10 ++ []
def dkwX4_goOn_9 : List UInt8 := [29, 182, 0, 108, 192, 0, 112, 182, 0, 132, 132, 3, 1, 167, 255, 227, 132, 2, 1, 167, 255, 70, 42]
abbrev dktX4_goOn_9 : List UInt8 := dkwX4_goOn_9 ++ dktX4_goOn_10
def dkwX4_goOn_8 : List UInt8 := [132, 3, 1, 167, 255, 191, 3, 62, 29, 42, 180, 0, 16, 182, 0, 94, 162, 0, 24, 42, 42, 180, 0, 16]
abbrev dktX4_goOn_8 : List UInt8 := dkwX4_goOn_8 ++ dktX4_goOn_9
def dkwX4_goOn_7 : List UInt8 := [25, 4, 180, 0, 129, 100, 16, 90, 164, 0, 7, 6, 167, 0, 8, 25, 4, 180, 0, 126, 181, 0, 126]
abbrev dktX4_goOn_7 : List UInt8 := dkwX4_goOn_7 ++ dktX4_goOn_8
def dkwX4_goOn_6 : List UInt8 := [182, 0, 108, 192, 0, 124, 58, 4, 25, 4, 25, 4, 180, 0, 126, 4, 160, 0, 22, 42, 180, 0, 43]
abbrev dktX4_goOn_6 : List UInt8 := dkwX4_goOn_6 ++ dktX4_goOn_7
def dkwX4_goOn_5 : List UInt8 := [96, 181, 0, 43, 3, 62, 29, 42, 180, 0, 30, 182, 0, 94, 162, 0, 60, 42, 180, 0, 30, 29]
abbrev dktX4_goOn_5 : List UInt8 := dkwX4_goOn_5 ++ dktX4_goOn_6
def dkwX4_goOn_4 : List UInt8 := [154, 0, 7, 4, 167, 0, 4, 3, 96, 181, 0, 114, 132, 3, 1, 167, 255, 197, 42, 89, 180, 0, 43, 4]
abbrev dktX4_goOn_4 : List UInt8 := dkwX4_goOn_4 ++ dktX4_goOn_5
def dkwX4_goOn_3 : List UInt8 := [58, 4, 25, 4, 89, 180, 0, 114, 25, 4, 180, 0, 117, 158, 0, 16, 42, 25, 4, 182, 0, 120]
abbrev dktX4_goOn_3 : List UInt8 := dkwX4_goOn_3 ++ dktX4_goOn_4
def dkwX4_goOn_2 : List UInt8 := [3, 62, 29, 42, 180, 0, 16, 182, 0, 94, 162, 0, 54, 42, 180, 0, 16, 29, 182, 0, 108, 192, 0, 112]
abbrev dktX4_goOn_2 : List UInt8 := dkwX4_goOn_2 ++ dktX4_goOn_3
def dkwX4_goOn_1 : List UInt8 := [163, 0, 7, 4, 167, 0, 4, 3, 4, 182, 0, 104, 154, 0, 5, 3, 172, 3, 61, 28, 27, 162, 0, 187]
abbrev dktX4_goOn_1 : List UInt8 := dkwX4_goOn_1 ++ dktX4_goOn_2
def dkwX4_goOn_0 : List UInt8 := [42, 27, 133, 10, 20, 0, 98, 184, 0, 100, 153, 0, 19, 42, 180, 0, 43, 27, 96, 17, 78, 32]
abbrev dktX4_goOn_0 : List UInt8 := dkwX4_goOn_0 ++ dktX4_goOn_1
theorem dksX4_goOn_0 : cX4_goOn.data.toList.drop 0 = dktX4_goOn_0 := by decide +kernel
theorem dksX4_goOn_1 : cX4_goOn.data.toList.drop 22 = dktX4_goOn_1 := dk_seg dksX4_goOn_0 22 rfl rfl
theorem dksX4_goOn_2 : cX4_goOn.data.toList.drop 46 = dktX4_goOn_2 := dk_seg dksX4_goOn_1 24 rfl rfl
theorem dksX4_goOn_3 : cX4_goOn.data.toList.drop 70 = dktX4_goOn_3 := dk_seg dksX4_goOn_2 24 rfl rfl
theorem dksX4_goOn_4 : cX4_goOn.data.toList.drop 92 = dktX4_goOn_4 := dk_seg dksX4_goOn_3 22 rfl rfl
theorem dksX4_goOn_5 : cX4_goOn.data.toList.drop 116 = dktX4_goOn_5 := dk_seg dksX4_goOn_4 24 rfl rfl
theorem dksX4_goOn_6 : cX4_goOn.data.toList.drop 138 = dktX4_goOn_6 := dk_seg dksX4_goOn_5 22 rfl rfl
theorem dksX4_goOn_7 : cX4_goOn.data.toList.drop 161 = dktX4_goOn_7 := dk_seg dksX4_goOn_6 23 rfl rfl
theorem dksX4_goOn_8 : cX4_goOn.data.toList.drop 184 = dktX4_goOn_8 := dk_seg dksX4_goOn_7 23 rfl rfl
theorem dksX4_goOn_9 : cX4_goOn.data.toList.drop 208 = dktX4_goOn_9 := dk_seg dksX4_goOn_8 24 rfl rfl
theorem dksX4_goOn_10 : cX4_goOn.data.toList.drop 231 = dktX4_goOn_10 := dk_seg dksX4_goOn_9 23 rfl rfl
theorem dX4_goOn_0 : decode cX4_goOn 0 = .ok (.aload_n 0, 1) := dk_42 (dk_at dksX4_goOn_0 0 rfl rfl)
theorem dX4_goOn_1 : decode cX4_goOn 1 = .ok (.iload_n 1, 1) := dk_27 (dk_at dksX4_goOn_0 1 rfl rfl)
theorem dX4_goOn_2 : decode cX4_goOn 2 = .ok (.i2l, 1) := dk_133 (dk_at dksX4_goOn_0 2 rfl rfl)
theorem dX4_goOn_3 : decode cX4_goOn 3 = .ok (.lconst 1, 1) := dk_10 (dk_at dksX4_goOn_0 3 rfl rfl)
theorem dX4_goOn_4 : decode cX4_goOn 4 = .ok (.ldc2_w 98, 3) := dk_20 0 98 (dk_at dksX4_goOn_0 4 rfl rfl)
theorem dX4_goOn_7 : decode cX4_goOn 7 = .ok (.invokestatic 100, 3) := dk_184 0 100 (dk_at dksX4_goOn_0 7 rfl rfl)
theorem dX4_goOn_10 : decode cX4_goOn 10 = .ok (.ifCond .eq 19, 3) := dk_153 0 19 (dk_at dksX4_goOn_0 10 rfl rfl)
theorem dX4_goOn_13 : decode cX4_goOn 13 = .ok (.aload_n 0, 1) := dk_42 (dk_at dksX4_goOn_0 13 rfl rfl)
theorem dX4_goOn_14 : decode cX4_goOn 14 = .ok (.getfield 43, 3) := dk_180 0 43 (dk_at dksX4_goOn_0 14 rfl rfl)
theorem dX4_goOn_17 : decode cX4_goOn 17 = .ok (.iload_n 1, 1) := dk_27 (dk_at dksX4_goOn_0 17 rfl rfl)
theorem dX4_goOn_18 : decode cX4_goOn 18 = .ok (.iadd, 1) := dk_96 (dk_at dksX4_goOn_0 18 rfl rfl)
theorem dX4_goOn_19 : decode cX4_goOn 19 = .ok (.sipush 20000, 3) := dk_17 78 32 (dk_at dksX4_goOn_0 19 rfl rfl)
theorem dX4_goOn_22 : decode cX4_goOn 22 = .ok (.if_icmp .gt 7, 3) := dk_163 0 7 (dk_at dksX4_goOn_1 0 rfl rfl)
theorem dX4_goOn_25 : decode cX4_goOn 25 = .ok (.iconst 1, 1) := dk_4 (dk_at dksX4_goOn_1 3 rfl rfl)
theorem dX4_goOn_26 : decode cX4_goOn 26 = .ok (.goto 4, 3) := dk_167 0 4 (dk_at dksX4_goOn_1 4 rfl rfl)
theorem dX4_goOn_29 : decode cX4_goOn 29 = .ok (.iconst 0, 1) := dk_3 (dk_at dksX4_goOn_1 7 rfl rfl)
theorem dX4_goOn_30 : decode cX4_goOn 30 = .ok (.iconst 1, 1) := dk_4 (dk_at dksX4_goOn_1 8 rfl rfl)
theorem dX4_goOn_31 : decode cX4_goOn 31 = .ok (.invokevirtual 104, 3) := dk_182 0 104 (dk_at dksX4_goOn_1 9 rfl rfl)
theorem dX4_goOn_34 : decode cX4_goOn 34 = .ok (.ifCond .ne 5, 3) := dk_154 0 5 (dk_at dksX4_goOn_1 12 rfl rfl)
theorem dX4_goOn_37 : decode cX4_goOn 37 = .ok (.iconst 0, 1) := dk_3 (dk_at dksX4_goOn_1 15 rfl rfl)
theorem dX4_goOn_38 : decode cX4_goOn 38 = .ok (.ireturn, 1) := dk_172 (dk_at dksX4_goOn_1 16 rfl rfl)
theorem dX4_goOn_39 : decode cX4_goOn 39 = .ok (.iconst 0, 1) := dk_3 (dk_at dksX4_goOn_1 17 rfl rfl)
theorem dX4_goOn_40 : decode cX4_goOn 40 = .ok (.istore_n 2, 1) := dk_61 (dk_at dksX4_goOn_1 18 rfl rfl)
theorem dX4_goOn_41 : decode cX4_goOn 41 = .ok (.iload_n 2, 1) := dk_28 (dk_at dksX4_goOn_1 19 rfl rfl)
theorem dX4_goOn_42 : decode cX4_goOn 42 = .ok (.iload_n 1, 1) := dk_27 (dk_at dksX4_goOn_1 20 rfl rfl)
theorem dX4_goOn_43 : decode cX4_goOn 43 = .ok (.if_icmp .ge 187, 3) := dk_162 0 187 (dk_at dksX4_goOn_1 21 rfl rfl)
theorem dX4_goOn_46 : decode cX4_goOn 46 = .ok (.iconst 0, 1) := dk_3 (dk_at dksX4_goOn_2 0 rfl rfl)
theorem dX4_goOn_47 : decode cX4_goOn 47 = .ok (.istore_n 3, 1) := dk_62 (dk_at dksX4_goOn_2 1 rfl rfl)
theorem dX4_goOn_48 : decode cX4_goOn 48 = .ok (.iload_n 3, 1) := dk_29 (dk_at dksX4_goOn_2 2 rfl rfl)
theorem dX4_goOn_49 : decode cX4_goOn 49 = .ok (.aload_n 0, 1) := dk_42 (dk_at dksX4_goOn_2 3 rfl rfl)
theorem dX4_goOn_50 : decode cX4_goOn 50 = .ok (.getfield 16, 3) := dk_180 0 16 (dk_at dksX4_goOn_2 4 rfl rfl)
theorem dX4_goOn_53 : decode cX4_goOn 53 = .ok (.invokevirtual 94, 3) := dk_182 0 94 (dk_at dksX4_goOn_2 7 rfl rfl)
theorem dX4_goOn_56 : decode cX4_goOn 56 = .ok (.if_icmp .ge 54, 3) := dk_162 0 54 (dk_at dksX4_goOn_2 10 rfl rfl)
theorem dX4_goOn_59 : decode cX4_goOn 59 = .ok (.aload_n 0, 1) := dk_42 (dk_at dksX4_goOn_2 13 rfl rfl)
theorem dX4_goOn_60 : decode cX4_goOn 60 = .ok (.getfield 16, 3) := dk_180 0 16 (dk_at dksX4_goOn_2 14 rfl rfl)
theorem dX4_goOn_63 : decode cX4_goOn 63 = .ok (.iload_n 3, 1) := dk_29 (dk_at dksX4_goOn_2 17 rfl rfl)
theorem dX4_goOn_64 : decode cX4_goOn 64 = .ok (.invokevirtual 108, 3) := dk_182 0 108 (dk_at dksX4_goOn_2 18 rfl rfl)
theorem dX4_goOn_67 : decode cX4_goOn 67 = .ok (.checkcast 112, 3) := dk_192 0 112 (dk_at dksX4_goOn_2 21 rfl rfl)
theorem dX4_goOn_70 : decode cX4_goOn 70 = .ok (.astore 4, 2) := dk_58 4 (dk_at dksX4_goOn_3 0 rfl rfl)
theorem dX4_goOn_72 : decode cX4_goOn 72 = .ok (.aload 4, 2) := dk_25 4 (dk_at dksX4_goOn_3 2 rfl rfl)
theorem dX4_goOn_74 : decode cX4_goOn 74 = .ok (.dup, 1) := dk_89 (dk_at dksX4_goOn_3 4 rfl rfl)
theorem dX4_goOn_75 : decode cX4_goOn 75 = .ok (.getfield 114, 3) := dk_180 0 114 (dk_at dksX4_goOn_3 5 rfl rfl)
theorem dX4_goOn_78 : decode cX4_goOn 78 = .ok (.aload 4, 2) := dk_25 4 (dk_at dksX4_goOn_3 8 rfl rfl)
theorem dX4_goOn_80 : decode cX4_goOn 80 = .ok (.getfield 117, 3) := dk_180 0 117 (dk_at dksX4_goOn_3 10 rfl rfl)
theorem dX4_goOn_83 : decode cX4_goOn 83 = .ok (.ifCond .le 16, 3) := dk_158 0 16 (dk_at dksX4_goOn_3 13 rfl rfl)
theorem dX4_goOn_86 : decode cX4_goOn 86 = .ok (.aload_n 0, 1) := dk_42 (dk_at dksX4_goOn_3 16 rfl rfl)
theorem dX4_goOn_87 : decode cX4_goOn 87 = .ok (.aload 4, 2) := dk_25 4 (dk_at dksX4_goOn_3 17 rfl rfl)
theorem dX4_goOn_89 : decode cX4_goOn 89 = .ok (.invokevirtual 120, 3) := dk_182 0 120 (dk_at dksX4_goOn_3 19 rfl rfl)
theorem dX4_goOn_92 : decode cX4_goOn 92 = .ok (.ifCond .ne 7, 3) := dk_154 0 7 (dk_at dksX4_goOn_4 0 rfl rfl)
theorem dX4_goOn_95 : decode cX4_goOn 95 = .ok (.iconst 1, 1) := dk_4 (dk_at dksX4_goOn_4 3 rfl rfl)
theorem dX4_goOn_96 : decode cX4_goOn 96 = .ok (.goto 4, 3) := dk_167 0 4 (dk_at dksX4_goOn_4 4 rfl rfl)
theorem dX4_goOn_99 : decode cX4_goOn 99 = .ok (.iconst 0, 1) := dk_3 (dk_at dksX4_goOn_4 7 rfl rfl)
theorem dX4_goOn_100 : decode cX4_goOn 100 = .ok (.iadd, 1) := dk_96 (dk_at dksX4_goOn_4 8 rfl rfl)
theorem dX4_goOn_101 : decode cX4_goOn 101 = .ok (.putfield 114, 3) := dk_181 0 114 (dk_at dksX4_goOn_4 9 rfl rfl)
theorem dX4_goOn_104 : decode cX4_goOn 104 = .ok (.iinc 3 1, 3) := dk_132 3 1 (dk_at dksX4_goOn_4 12 rfl rfl)
theorem dX4_goOn_107 : decode cX4_goOn 107 = .ok (.goto (-59), 3) := dk_167 255 197 (dk_at dksX4_goOn_4 15 rfl rfl)
theorem dX4_goOn_110 : decode cX4_goOn 110 = .ok (.aload_n 0, 1) := dk_42 (dk_at dksX4_goOn_4 18 rfl rfl)
theorem dX4_goOn_111 : decode cX4_goOn 111 = .ok (.dup, 1) := dk_89 (dk_at dksX4_goOn_4 19 rfl rfl)
theorem dX4_goOn_112 : decode cX4_goOn 112 = .ok (.getfield 43, 3) := dk_180 0 43 (dk_at dksX4_goOn_4 20 rfl rfl)
theorem dX4_goOn_115 : decode cX4_goOn 115 = .ok (.iconst 1, 1) := dk_4 (dk_at dksX4_goOn_4 23 rfl rfl)
theorem dX4_goOn_116 : decode cX4_goOn 116 = .ok (.iadd, 1) := dk_96 (dk_at dksX4_goOn_5 0 rfl rfl)
theorem dX4_goOn_117 : decode cX4_goOn 117 = .ok (.putfield 43, 3) := dk_181 0 43 (dk_at dksX4_goOn_5 1 rfl rfl)
theorem dX4_goOn_120 : decode cX4_goOn 120 = .ok (.iconst 0, 1) := dk_3 (dk_at dksX4_goOn_5 4 rfl rfl)
theorem dX4_goOn_121 : decode cX4_goOn 121 = .ok (.istore_n 3, 1) := dk_62 (dk_at dksX4_goOn_5 5 rfl rfl)
theorem dX4_goOn_122 : decode cX4_goOn 122 = .ok (.iload_n 3, 1) := dk_29 (dk_at dksX4_goOn_5 6 rfl rfl)
theorem dX4_goOn_123 : decode cX4_goOn 123 = .ok (.aload_n 0, 1) := dk_42 (dk_at dksX4_goOn_5 7 rfl rfl)
theorem dX4_goOn_124 : decode cX4_goOn 124 = .ok (.getfield 30, 3) := dk_180 0 30 (dk_at dksX4_goOn_5 8 rfl rfl)
theorem dX4_goOn_127 : decode cX4_goOn 127 = .ok (.invokevirtual 94, 3) := dk_182 0 94 (dk_at dksX4_goOn_5 11 rfl rfl)
theorem dX4_goOn_130 : decode cX4_goOn 130 = .ok (.if_icmp .ge 60, 3) := dk_162 0 60 (dk_at dksX4_goOn_5 14 rfl rfl)
theorem dX4_goOn_133 : decode cX4_goOn 133 = .ok (.aload_n 0, 1) := dk_42 (dk_at dksX4_goOn_5 17 rfl rfl)
theorem dX4_goOn_134 : decode cX4_goOn 134 = .ok (.getfield 30, 3) := dk_180 0 30 (dk_at dksX4_goOn_5 18 rfl rfl)
theorem dX4_goOn_137 : decode cX4_goOn 137 = .ok (.iload_n 3, 1) := dk_29 (dk_at dksX4_goOn_5 21 rfl rfl)
theorem dX4_goOn_138 : decode cX4_goOn 138 = .ok (.invokevirtual 108, 3) := dk_182 0 108 (dk_at dksX4_goOn_6 0 rfl rfl)
theorem dX4_goOn_141 : decode cX4_goOn 141 = .ok (.checkcast 124, 3) := dk_192 0 124 (dk_at dksX4_goOn_6 3 rfl rfl)
theorem dX4_goOn_144 : decode cX4_goOn 144 = .ok (.astore 4, 2) := dk_58 4 (dk_at dksX4_goOn_6 6 rfl rfl)
theorem dX4_goOn_146 : decode cX4_goOn 146 = .ok (.aload 4, 2) := dk_25 4 (dk_at dksX4_goOn_6 8 rfl rfl)
theorem dX4_goOn_148 : decode cX4_goOn 148 = .ok (.aload 4, 2) := dk_25 4 (dk_at dksX4_goOn_6 10 rfl rfl)
theorem dX4_goOn_150 : decode cX4_goOn 150 = .ok (.getfield 126, 3) := dk_180 0 126 (dk_at dksX4_goOn_6 12 rfl rfl)
theorem dX4_goOn_153 : decode cX4_goOn 153 = .ok (.iconst 1, 1) := dk_4 (dk_at dksX4_goOn_6 15 rfl rfl)
theorem dX4_goOn_154 : decode cX4_goOn 154 = .ok (.if_icmp .ne 22, 3) := dk_160 0 22 (dk_at dksX4_goOn_6 16 rfl rfl)
theorem dX4_goOn_157 : decode cX4_goOn 157 = .ok (.aload_n 0, 1) := dk_42 (dk_at dksX4_goOn_6 19 rfl rfl)
theorem dX4_goOn_158 : decode cX4_goOn 158 = .ok (.getfield 43, 3) := dk_180 0 43 (dk_at dksX4_goOn_6 20 rfl rfl)
theorem dX4_goOn_161 : decode cX4_goOn 161 = .ok (.aload 4, 2) := dk_25 4 (dk_at dksX4_goOn_7 0 rfl rfl)
theorem dX4_goOn_163 : decode cX4_goOn 163 = .ok (.getfield 129, 3) := dk_180 0 129 (dk_at dksX4_goOn_7 2 rfl rfl)
theorem dX4_goOn_166 : decode cX4_goOn 166 = .ok (.isub, 1) := dk_100 (dk_at dksX4_goOn_7 5 rfl rfl)
theorem dX4_goOn_167 : decode cX4_goOn 167 = .ok (.bipush 90, 2) := dk_16 90 (dk_at dksX4_goOn_7 6 rfl rfl)
theorem dX4_goOn_169 : decode cX4_goOn 169 = .ok (.if_icmp .le 7, 3) := dk_164 0 7 (dk_at dksX4_goOn_7 8 rfl rfl)
theorem dX4_goOn_172 : decode cX4_goOn 172 = .ok (.iconst 3, 1) := dk_6 (dk_at dksX4_goOn_7 11 rfl rfl)
theorem dX4_goOn_173 : decode cX4_goOn 173 = .ok (.goto 8, 3) := dk_167 0 8 (dk_at dksX4_goOn_7 12 rfl rfl)
theorem dX4_goOn_176 : decode cX4_goOn 176 = .ok (.aload 4, 2) := dk_25 4 (dk_at dksX4_goOn_7 15 rfl rfl)
theorem dX4_goOn_178 : decode cX4_goOn 178 = .ok (.getfield 126, 3) := dk_180 0 126 (dk_at dksX4_goOn_7 17 rfl rfl)
theorem dX4_goOn_181 : decode cX4_goOn 181 = .ok (.putfield 126, 3) := dk_181 0 126 (dk_at dksX4_goOn_7 20 rfl rfl)
theorem dX4_goOn_184 : decode cX4_goOn 184 = .ok (.iinc 3 1, 3) := dk_132 3 1 (dk_at dksX4_goOn_8 0 rfl rfl)
theorem dX4_goOn_187 : decode cX4_goOn 187 = .ok (.goto (-65), 3) := dk_167 255 191 (dk_at dksX4_goOn_8 3 rfl rfl)
theorem dX4_goOn_190 : decode cX4_goOn 190 = .ok (.iconst 0, 1) := dk_3 (dk_at dksX4_goOn_8 6 rfl rfl)
theorem dX4_goOn_191 : decode cX4_goOn 191 = .ok (.istore_n 3, 1) := dk_62 (dk_at dksX4_goOn_8 7 rfl rfl)
theorem dX4_goOn_192 : decode cX4_goOn 192 = .ok (.iload_n 3, 1) := dk_29 (dk_at dksX4_goOn_8 8 rfl rfl)
theorem dX4_goOn_193 : decode cX4_goOn 193 = .ok (.aload_n 0, 1) := dk_42 (dk_at dksX4_goOn_8 9 rfl rfl)
theorem dX4_goOn_194 : decode cX4_goOn 194 = .ok (.getfield 16, 3) := dk_180 0 16 (dk_at dksX4_goOn_8 10 rfl rfl)
theorem dX4_goOn_197 : decode cX4_goOn 197 = .ok (.invokevirtual 94, 3) := dk_182 0 94 (dk_at dksX4_goOn_8 13 rfl rfl)
theorem dX4_goOn_200 : decode cX4_goOn 200 = .ok (.if_icmp .ge 24, 3) := dk_162 0 24 (dk_at dksX4_goOn_8 16 rfl rfl)
theorem dX4_goOn_203 : decode cX4_goOn 203 = .ok (.aload_n 0, 1) := dk_42 (dk_at dksX4_goOn_8 19 rfl rfl)
theorem dX4_goOn_204 : decode cX4_goOn 204 = .ok (.aload_n 0, 1) := dk_42 (dk_at dksX4_goOn_8 20 rfl rfl)
theorem dX4_goOn_205 : decode cX4_goOn 205 = .ok (.getfield 16, 3) := dk_180 0 16 (dk_at dksX4_goOn_8 21 rfl rfl)
theorem dX4_goOn_208 : decode cX4_goOn 208 = .ok (.iload_n 3, 1) := dk_29 (dk_at dksX4_goOn_9 0 rfl rfl)
theorem dX4_goOn_209 : decode cX4_goOn 209 = .ok (.invokevirtual 108, 3) := dk_182 0 108 (dk_at dksX4_goOn_9 1 rfl rfl)
theorem dX4_goOn_212 : decode cX4_goOn 212 = .ok (.checkcast 112, 3) := dk_192 0 112 (dk_at dksX4_goOn_9 4 rfl rfl)
theorem dX4_goOn_215 : decode cX4_goOn 215 = .ok (.invokevirtual 132, 3) := dk_182 0 132 (dk_at dksX4_goOn_9 7 rfl rfl)
theorem dX4_goOn_218 : decode cX4_goOn 218 = .ok (.iinc 3 1, 3) := dk_132 3 1 (dk_at dksX4_goOn_9 10 rfl rfl)
theorem dX4_goOn_221 : decode cX4_goOn 221 = .ok (.goto (-29), 3) := dk_167 255 227 (dk_at dksX4_goOn_9 13 rfl rfl)
theorem dX4_goOn_224 : decode cX4_goOn 224 = .ok (.iinc 2 1, 3) := dk_132 2 1 (dk_at dksX4_goOn_9 16 rfl rfl)
theorem dX4_goOn_227 : decode cX4_goOn 227 = .ok (.goto (-186), 3) := dk_167 255 70 (dk_at dksX4_goOn_9 19 rfl rfl)
theorem dX4_goOn_230 : decode cX4_goOn 230 = .ok (.aload_n 0, 1) := dk_42 (dk_at dksX4_goOn_9 22 rfl rfl)
theorem dX4_goOn_231 : decode cX4_goOn 231 = .ok (.getfield 43, 3) := dk_180 0 43 (dk_at dksX4_goOn_10 0 rfl rfl)
theorem dX4_goOn_234 : decode cX4_goOn 234 = .ok (.ireturn, 1) := dk_172 (dk_at dksX4_goOn_10 3 rfl rfl)
abbrev cX4_isWithin : ByteArray := prog_14_method_1_code
def yX4_isWithin : MethodName := ⟨RX4, "isWithin", "(JJJ)Z"⟩
def dkwX4_isWithin_0 : List UInt8 := [30, 32, 148, 155, 0, 14, 30, 22, 4, 148, 157, 0, 7, 4, 167, 0, 4, 3, 172]
abbrev dktX4_isWithin_0 : List UInt8 := dkwX4_isWithin_0 ++ []
theorem dksX4_isWithin_0 : cX4_isWithin.data.toList.drop 0 = dktX4_isWithin_0 := by decide +kernel
theorem dX4_isWithin_0 : decode cX4_isWithin 0 = .ok (.lload_n 0, 1) := dk_30 (dk_at dksX4_isWithin_0 0 rfl rfl)
theorem dX4_isWithin_1 : decode cX4_isWithin 1 = .ok (.lload_n 2, 1) := dk_32 (dk_at dksX4_isWithin_0 1 rfl rfl)
theorem dX4_isWithin_2 : decode cX4_isWithin 2 = .ok (.lcmp, 1) := dk_148 (dk_at dksX4_isWithin_0 2 rfl rfl)
theorem dX4_isWithin_3 : decode cX4_isWithin 3 = .ok (.ifCond .lt 14, 3) := dk_155 0 14 (dk_at dksX4_isWithin_0 3 rfl rfl)
theorem dX4_isWithin_6 : decode cX4_isWithin 6 = .ok (.lload_n 0, 1) := dk_30 (dk_at dksX4_isWithin_0 6 rfl rfl)
theorem dX4_isWithin_7 : decode cX4_isWithin 7 = .ok (.lload 4, 2) := dk_22 4 (dk_at dksX4_isWithin_0 7 rfl rfl)
theorem dX4_isWithin_9 : decode cX4_isWithin 9 = .ok (.lcmp, 1) := dk_148 (dk_at dksX4_isWithin_0 9 rfl rfl)
theorem dX4_isWithin_10 : decode cX4_isWithin 10 = .ok (.ifCond .gt 7, 3) := dk_157 0 7 (dk_at dksX4_isWithin_0 10 rfl rfl)
theorem dX4_isWithin_13 : decode cX4_isWithin 13 = .ok (.iconst 1, 1) := dk_4 (dk_at dksX4_isWithin_0 13 rfl rfl)
theorem dX4_isWithin_14 : decode cX4_isWithin 14 = .ok (.goto 4, 3) := dk_167 0 4 (dk_at dksX4_isWithin_0 14 rfl rfl)
theorem dX4_isWithin_17 : decode cX4_isWithin 17 = .ok (.iconst 0, 1) := dk_3 (dk_at dksX4_isWithin_0 17 rfl rfl)
theorem dX4_isWithin_18 : decode cX4_isWithin 18 = .ok (.ireturn, 1) := dk_172 (dk_at dksX4_isWithin_0 18 rfl rfl)
abbrev cX4_isGood : ByteArray := prog_14_method_2_code
def yX4_isGood : MethodName := ⟨RX4, "isGood", "(ZI)Z"⟩
def dkwX4_isGood_0 : List UInt8 := [42, 27, 153, 0, 7, 3, 167, 0, 4, 28, 181, 0, 1, 27, 172]
abbrev dktX4_isGood_0 : List UInt8 := dkwX4_isGood_0 ++ []
theorem dksX4_isGood_0 : cX4_isGood.data.toList.drop 0 = dktX4_isGood_0 := by decide +kernel
theorem dX4_isGood_0 : decode cX4_isGood 0 = .ok (.aload_n 0, 1) := dk_42 (dk_at dksX4_isGood_0 0 rfl rfl)
theorem dX4_isGood_1 : decode cX4_isGood 1 = .ok (.iload_n 1, 1) := dk_27 (dk_at dksX4_isGood_0 1 rfl rfl)
theorem dX4_isGood_2 : decode cX4_isGood 2 = .ok (.ifCond .eq 7, 3) := dk_153 0 7 (dk_at dksX4_isGood_0 2 rfl rfl)
theorem dX4_isGood_5 : decode cX4_isGood 5 = .ok (.iconst 0, 1) := dk_3 (dk_at dksX4_isGood_0 5 rfl rfl)
theorem dX4_isGood_6 : decode cX4_isGood 6 = .ok (.goto 4, 3) := dk_167 0 4 (dk_at dksX4_isGood_0 6 rfl rfl)
theorem dX4_isGood_9 : decode cX4_isGood 9 = .ok (.iload_n 2, 1) := dk_28 (dk_at dksX4_isGood_0 9 rfl rfl)
theorem dX4_isGood_10 : decode cX4_isGood 10 = .ok (.putfield 1, 3) := dk_181 0 1 (dk_at dksX4_isGood_0 10 rfl rfl)
theorem dX4_isGood_13 : decode cX4_isGood 13 = .ok (.iload_n 1, 1) := dk_27 (dk_at dksX4_isGood_0 13 rfl rfl)
theorem dX4_isGood_14 : decode cX4_isGood 14 = .ok (.ireturn, 1) := dk_172 (dk_at dksX4_isGood_0 14 rfl rfl)
abbrev cX4_isIn : ByteArray := prog_14_method_17_code
def yX4_isIn : MethodName := ⟨RX4, "isIn", "(LMassclaimModel$Person;)Z"⟩
def dkwX4_isIn_0 : List UInt8 := [42, 43, 182, 0, 222, 153, 0, 14, 43, 180, 0, 225, 154, 0, 7, 4, 167, 0, 4, 3, 172]
abbrev dktX4_isIn_0 : List UInt8 := dkwX4_isIn_0 ++ []
theorem dksX4_isIn_0 : cX4_isIn.data.toList.drop 0 = dktX4_isIn_0 := by decide +kernel
theorem dX4_isIn_0 : decode cX4_isIn 0 = .ok (.aload_n 0, 1) := dk_42 (dk_at dksX4_isIn_0 0 rfl rfl)
theorem dX4_isIn_1 : decode cX4_isIn 1 = .ok (.aload_n 1, 1) := dk_43 (dk_at dksX4_isIn_0 1 rfl rfl)
theorem dX4_isIn_2 : decode cX4_isIn 2 = .ok (.invokevirtual 222, 3) := dk_182 0 222 (dk_at dksX4_isIn_0 2 rfl rfl)
theorem dX4_isIn_5 : decode cX4_isIn 5 = .ok (.ifCond .eq 14, 3) := dk_153 0 14 (dk_at dksX4_isIn_0 5 rfl rfl)
theorem dX4_isIn_8 : decode cX4_isIn 8 = .ok (.aload_n 1, 1) := dk_43 (dk_at dksX4_isIn_0 8 rfl rfl)
theorem dX4_isIn_9 : decode cX4_isIn 9 = .ok (.getfield 225, 3) := dk_180 0 225 (dk_at dksX4_isIn_0 9 rfl rfl)
theorem dX4_isIn_12 : decode cX4_isIn 12 = .ok (.ifCond .ne 7, 3) := dk_154 0 7 (dk_at dksX4_isIn_0 12 rfl rfl)
theorem dX4_isIn_15 : decode cX4_isIn 15 = .ok (.iconst 1, 1) := dk_4 (dk_at dksX4_isIn_0 15 rfl rfl)
theorem dX4_isIn_16 : decode cX4_isIn 16 = .ok (.goto 4, 3) := dk_167 0 4 (dk_at dksX4_isIn_0 16 rfl rfl)
theorem dX4_isIn_19 : decode cX4_isIn 19 = .ok (.iconst 0, 1) := dk_3 (dk_at dksX4_isIn_0 19 rfl rfl)
theorem dX4_isIn_20 : decode cX4_isIn 20 = .ok (.ireturn, 1) := dk_172 (dk_at dksX4_isIn_0 20 rfl rfl)
abbrev cX4_fits : ByteArray := prog_14_method_16_code
def yX4_fits : MethodName := ⟨RX4, "fits", "(LMassclaimModel$Person;)Z"⟩
def dkwX4_fits_2 : List UInt8 := [161, 0, 7, 4, 167, 0, 4, 3, 172]
abbrev dktX4_fits_2 : List UInt8 := dkwX4_fits_2 ++ []
def dkwX4_fits_1 : List UInt8 := [180, 0, 216, 43, 180, 0, 179, 122, 4, 126, 4, 160, 0, 18, 43, 180, 0, 183, 42, 180, 0, 219]
abbrev dktX4_fits_1 : List UInt8 := dkwX4_fits_1 ++ dktX4_fits_2
def dkwX4_fits_0 : List UInt8 := [42, 180, 0, 49, 153, 0, 48, 42, 180, 0, 213, 43, 180, 0, 180, 122, 4, 126, 4, 160, 0, 33, 42]
abbrev dktX4_fits_0 : List UInt8 := dkwX4_fits_0 ++ dktX4_fits_1
theorem dksX4_fits_0 : cX4_fits.data.toList.drop 0 = dktX4_fits_0 := by decide +kernel
theorem dksX4_fits_1 : cX4_fits.data.toList.drop 23 = dktX4_fits_1 := dk_seg dksX4_fits_0 23 rfl rfl
theorem dksX4_fits_2 : cX4_fits.data.toList.drop 45 = dktX4_fits_2 := dk_seg dksX4_fits_1 22 rfl rfl
theorem dX4_fits_0 : decode cX4_fits 0 = .ok (.aload_n 0, 1) := dk_42 (dk_at dksX4_fits_0 0 rfl rfl)
theorem dX4_fits_1 : decode cX4_fits 1 = .ok (.getfield 49, 3) := dk_180 0 49 (dk_at dksX4_fits_0 1 rfl rfl)
theorem dX4_fits_4 : decode cX4_fits 4 = .ok (.ifCond .eq 48, 3) := dk_153 0 48 (dk_at dksX4_fits_0 4 rfl rfl)
theorem dX4_fits_7 : decode cX4_fits 7 = .ok (.aload_n 0, 1) := dk_42 (dk_at dksX4_fits_0 7 rfl rfl)
theorem dX4_fits_8 : decode cX4_fits 8 = .ok (.getfield 213, 3) := dk_180 0 213 (dk_at dksX4_fits_0 8 rfl rfl)
theorem dX4_fits_11 : decode cX4_fits 11 = .ok (.aload_n 1, 1) := dk_43 (dk_at dksX4_fits_0 11 rfl rfl)
theorem dX4_fits_12 : decode cX4_fits 12 = .ok (.getfield 180, 3) := dk_180 0 180 (dk_at dksX4_fits_0 12 rfl rfl)
theorem dX4_fits_15 : decode cX4_fits 15 = .ok (.ishr, 1) := dk_122 (dk_at dksX4_fits_0 15 rfl rfl)
theorem dX4_fits_16 : decode cX4_fits 16 = .ok (.iconst 1, 1) := dk_4 (dk_at dksX4_fits_0 16 rfl rfl)
theorem dX4_fits_17 : decode cX4_fits 17 = .ok (.iand, 1) := dk_126 (dk_at dksX4_fits_0 17 rfl rfl)
theorem dX4_fits_18 : decode cX4_fits 18 = .ok (.iconst 1, 1) := dk_4 (dk_at dksX4_fits_0 18 rfl rfl)
theorem dX4_fits_19 : decode cX4_fits 19 = .ok (.if_icmp .ne 33, 3) := dk_160 0 33 (dk_at dksX4_fits_0 19 rfl rfl)
theorem dX4_fits_22 : decode cX4_fits 22 = .ok (.aload_n 0, 1) := dk_42 (dk_at dksX4_fits_0 22 rfl rfl)
theorem dX4_fits_23 : decode cX4_fits 23 = .ok (.getfield 216, 3) := dk_180 0 216 (dk_at dksX4_fits_1 0 rfl rfl)
theorem dX4_fits_26 : decode cX4_fits 26 = .ok (.aload_n 1, 1) := dk_43 (dk_at dksX4_fits_1 3 rfl rfl)
theorem dX4_fits_27 : decode cX4_fits 27 = .ok (.getfield 179, 3) := dk_180 0 179 (dk_at dksX4_fits_1 4 rfl rfl)
theorem dX4_fits_30 : decode cX4_fits 30 = .ok (.ishr, 1) := dk_122 (dk_at dksX4_fits_1 7 rfl rfl)
theorem dX4_fits_31 : decode cX4_fits 31 = .ok (.iconst 1, 1) := dk_4 (dk_at dksX4_fits_1 8 rfl rfl)
theorem dX4_fits_32 : decode cX4_fits 32 = .ok (.iand, 1) := dk_126 (dk_at dksX4_fits_1 9 rfl rfl)
theorem dX4_fits_33 : decode cX4_fits 33 = .ok (.iconst 1, 1) := dk_4 (dk_at dksX4_fits_1 10 rfl rfl)
theorem dX4_fits_34 : decode cX4_fits 34 = .ok (.if_icmp .ne 18, 3) := dk_160 0 18 (dk_at dksX4_fits_1 11 rfl rfl)
theorem dX4_fits_37 : decode cX4_fits 37 = .ok (.aload_n 1, 1) := dk_43 (dk_at dksX4_fits_1 14 rfl rfl)
theorem dX4_fits_38 : decode cX4_fits 38 = .ok (.getfield 183, 3) := dk_180 0 183 (dk_at dksX4_fits_1 15 rfl rfl)
theorem dX4_fits_41 : decode cX4_fits 41 = .ok (.aload_n 0, 1) := dk_42 (dk_at dksX4_fits_1 18 rfl rfl)
theorem dX4_fits_42 : decode cX4_fits 42 = .ok (.getfield 219, 3) := dk_180 0 219 (dk_at dksX4_fits_1 19 rfl rfl)
theorem dX4_fits_45 : decode cX4_fits 45 = .ok (.if_icmp .lt 7, 3) := dk_161 0 7 (dk_at dksX4_fits_2 0 rfl rfl)
theorem dX4_fits_48 : decode cX4_fits 48 = .ok (.iconst 1, 1) := dk_4 (dk_at dksX4_fits_2 3 rfl rfl)
theorem dX4_fits_49 : decode cX4_fits 49 = .ok (.goto 4, 3) := dk_167 0 4 (dk_at dksX4_fits_2 4 rfl rfl)
theorem dX4_fits_52 : decode cX4_fits 52 = .ok (.iconst 0, 1) := dk_3 (dk_at dksX4_fits_2 7 rfl rfl)
theorem dX4_fits_53 : decode cX4_fits 53 = .ok (.ireturn, 1) := dk_172 (dk_at dksX4_fits_2 8 rfl rfl)
abbrev cX4_free : ByteArray := prog_14_method_9_code
def yX4_free : MethodName := ⟨RX4, "free", "(LMassclaimModel$Person;)V"⟩
def dkwX4_free_6 : List UInt8 := [100, 181, 0, 155, 43, 89, 180, 0, 147, 22, 4, 97, 181, 0, 147, 132, 2, 1, 167, 255, 149, 177]
abbrev dktX4_free_6 : List UInt8 := dkwX4_free_6 ++ []
def dkwX4_free_5 : List UInt8 := [180, 0, 155, 133, 109, 55, 4, 45, 89, 180, 0, 164, 22, 4, 101, 181, 0, 164, 45, 89, 180, 0, 155, 4]
abbrev dktX4_free_5 : List UInt8 := dkwX4_free_5 ++ dktX4_free_6
def dkwX4_free_4 : List UInt8 := [45, 180, 0, 161, 164, 0, 57, 45, 89, 180, 0, 161, 4, 96, 181, 0, 161, 45, 180, 0, 164, 45]
abbrev dktX4_free_4 : List UInt8 := dkwX4_free_4 ++ dktX4_free_5
def dkwX4_free_3 : List UInt8 := [192, 0, 153, 78, 45, 180, 0, 155, 158, 0, 77, 42, 180, 0, 43, 45, 180, 0, 158, 100, 17, 1, 104, 108]
abbrev dktX4_free_3 : List UInt8 := dkwX4_free_3 ++ dktX4_free_4
def dkwX4_free_2 : List UInt8 := [181, 0, 147, 3, 61, 28, 43, 180, 0, 150, 182, 0, 94, 162, 0, 102, 43, 180, 0, 150, 28, 182, 0, 108]
abbrev dktX4_free_2 : List UInt8 := dkwX4_free_2 ++ dktX4_free_3
def dkwX4_free_1 : List UInt8 := [16, 18, 161, 0, 23, 43, 180, 0, 140, 65, 43, 9, 181, 0, 140, 43, 89, 180, 0, 147, 32, 97]
abbrev dktX4_free_1 : List UInt8 := dkwX4_free_1 ++ dktX4_free_2
def dkwX4_free_0 : List UInt8 := [43, 182, 0, 136, 153, 0, 45, 43, 180, 0, 140, 9, 148, 158, 0, 36, 43, 42, 180, 0, 43, 182, 0, 143]
abbrev dktX4_free_0 : List UInt8 := dkwX4_free_0 ++ dktX4_free_1
theorem dksX4_free_0 : cX4_free.data.toList.drop 0 = dktX4_free_0 := by decide +kernel
theorem dksX4_free_1 : cX4_free.data.toList.drop 24 = dktX4_free_1 := dk_seg dksX4_free_0 24 rfl rfl
theorem dksX4_free_2 : cX4_free.data.toList.drop 46 = dktX4_free_2 := dk_seg dksX4_free_1 22 rfl rfl
theorem dksX4_free_3 : cX4_free.data.toList.drop 70 = dktX4_free_3 := dk_seg dksX4_free_2 24 rfl rfl
theorem dksX4_free_4 : cX4_free.data.toList.drop 94 = dktX4_free_4 := dk_seg dksX4_free_3 24 rfl rfl
theorem dksX4_free_5 : cX4_free.data.toList.drop 116 = dktX4_free_5 := dk_seg dksX4_free_4 22 rfl rfl
theorem dksX4_free_6 : cX4_free.data.toList.drop 140 = dktX4_free_6 := dk_seg dksX4_free_5 24 rfl rfl
theorem dX4_free_0 : decode cX4_free 0 = .ok (.aload_n 1, 1) := dk_43 (dk_at dksX4_free_0 0 rfl rfl)
theorem dX4_free_1 : decode cX4_free 1 = .ok (.invokevirtual 136, 3) := dk_182 0 136 (dk_at dksX4_free_0 1 rfl rfl)
theorem dX4_free_4 : decode cX4_free 4 = .ok (.ifCond .eq 45, 3) := dk_153 0 45 (dk_at dksX4_free_0 4 rfl rfl)
theorem dX4_free_7 : decode cX4_free 7 = .ok (.aload_n 1, 1) := dk_43 (dk_at dksX4_free_0 7 rfl rfl)
theorem dX4_free_8 : decode cX4_free 8 = .ok (.getfield 140, 3) := dk_180 0 140 (dk_at dksX4_free_0 8 rfl rfl)
theorem dX4_free_11 : decode cX4_free 11 = .ok (.lconst 0, 1) := dk_9 (dk_at dksX4_free_0 11 rfl rfl)
theorem dX4_free_12 : decode cX4_free 12 = .ok (.lcmp, 1) := dk_148 (dk_at dksX4_free_0 12 rfl rfl)
theorem dX4_free_13 : decode cX4_free 13 = .ok (.ifCond .le 36, 3) := dk_158 0 36 (dk_at dksX4_free_0 13 rfl rfl)
theorem dX4_free_16 : decode cX4_free 16 = .ok (.aload_n 1, 1) := dk_43 (dk_at dksX4_free_0 16 rfl rfl)
theorem dX4_free_17 : decode cX4_free 17 = .ok (.aload_n 0, 1) := dk_42 (dk_at dksX4_free_0 17 rfl rfl)
theorem dX4_free_18 : decode cX4_free 18 = .ok (.getfield 43, 3) := dk_180 0 43 (dk_at dksX4_free_0 18 rfl rfl)
theorem dX4_free_21 : decode cX4_free 21 = .ok (.invokevirtual 143, 3) := dk_182 0 143 (dk_at dksX4_free_0 21 rfl rfl)
theorem dX4_free_24 : decode cX4_free 24 = .ok (.bipush 18, 2) := dk_16 18 (dk_at dksX4_free_1 0 rfl rfl)
theorem dX4_free_26 : decode cX4_free 26 = .ok (.if_icmp .lt 23, 3) := dk_161 0 23 (dk_at dksX4_free_1 2 rfl rfl)
theorem dX4_free_29 : decode cX4_free 29 = .ok (.aload_n 1, 1) := dk_43 (dk_at dksX4_free_1 5 rfl rfl)
theorem dX4_free_30 : decode cX4_free 30 = .ok (.getfield 140, 3) := dk_180 0 140 (dk_at dksX4_free_1 6 rfl rfl)
theorem dX4_free_33 : decode cX4_free 33 = .ok (.lstore_n 2, 1) := dk_65 (dk_at dksX4_free_1 9 rfl rfl)
theorem dX4_free_34 : decode cX4_free 34 = .ok (.aload_n 1, 1) := dk_43 (dk_at dksX4_free_1 10 rfl rfl)
theorem dX4_free_35 : decode cX4_free 35 = .ok (.lconst 0, 1) := dk_9 (dk_at dksX4_free_1 11 rfl rfl)
theorem dX4_free_36 : decode cX4_free 36 = .ok (.putfield 140, 3) := dk_181 0 140 (dk_at dksX4_free_1 12 rfl rfl)
theorem dX4_free_39 : decode cX4_free 39 = .ok (.aload_n 1, 1) := dk_43 (dk_at dksX4_free_1 15 rfl rfl)
theorem dX4_free_40 : decode cX4_free 40 = .ok (.dup, 1) := dk_89 (dk_at dksX4_free_1 16 rfl rfl)
theorem dX4_free_41 : decode cX4_free 41 = .ok (.getfield 147, 3) := dk_180 0 147 (dk_at dksX4_free_1 17 rfl rfl)
theorem dX4_free_44 : decode cX4_free 44 = .ok (.lload_n 2, 1) := dk_32 (dk_at dksX4_free_1 20 rfl rfl)
theorem dX4_free_45 : decode cX4_free 45 = .ok (.ladd, 1) := dk_97 (dk_at dksX4_free_1 21 rfl rfl)
theorem dX4_free_46 : decode cX4_free 46 = .ok (.putfield 147, 3) := dk_181 0 147 (dk_at dksX4_free_2 0 rfl rfl)
theorem dX4_free_49 : decode cX4_free 49 = .ok (.iconst 0, 1) := dk_3 (dk_at dksX4_free_2 3 rfl rfl)
theorem dX4_free_50 : decode cX4_free 50 = .ok (.istore_n 2, 1) := dk_61 (dk_at dksX4_free_2 4 rfl rfl)
theorem dX4_free_51 : decode cX4_free 51 = .ok (.iload_n 2, 1) := dk_28 (dk_at dksX4_free_2 5 rfl rfl)
theorem dX4_free_52 : decode cX4_free 52 = .ok (.aload_n 1, 1) := dk_43 (dk_at dksX4_free_2 6 rfl rfl)
theorem dX4_free_53 : decode cX4_free 53 = .ok (.getfield 150, 3) := dk_180 0 150 (dk_at dksX4_free_2 7 rfl rfl)
theorem dX4_free_56 : decode cX4_free 56 = .ok (.invokevirtual 94, 3) := dk_182 0 94 (dk_at dksX4_free_2 10 rfl rfl)
theorem dX4_free_59 : decode cX4_free 59 = .ok (.if_icmp .ge 102, 3) := dk_162 0 102 (dk_at dksX4_free_2 13 rfl rfl)
theorem dX4_free_62 : decode cX4_free 62 = .ok (.aload_n 1, 1) := dk_43 (dk_at dksX4_free_2 16 rfl rfl)
theorem dX4_free_63 : decode cX4_free 63 = .ok (.getfield 150, 3) := dk_180 0 150 (dk_at dksX4_free_2 17 rfl rfl)
theorem dX4_free_66 : decode cX4_free 66 = .ok (.iload_n 2, 1) := dk_28 (dk_at dksX4_free_2 20 rfl rfl)
theorem dX4_free_67 : decode cX4_free 67 = .ok (.invokevirtual 108, 3) := dk_182 0 108 (dk_at dksX4_free_2 21 rfl rfl)
theorem dX4_free_70 : decode cX4_free 70 = .ok (.checkcast 153, 3) := dk_192 0 153 (dk_at dksX4_free_3 0 rfl rfl)
theorem dX4_free_73 : decode cX4_free 73 = .ok (.astore_n 3, 1) := dk_78 (dk_at dksX4_free_3 3 rfl rfl)
theorem dX4_free_74 : decode cX4_free 74 = .ok (.aload_n 3, 1) := dk_45 (dk_at dksX4_free_3 4 rfl rfl)
theorem dX4_free_75 : decode cX4_free 75 = .ok (.getfield 155, 3) := dk_180 0 155 (dk_at dksX4_free_3 5 rfl rfl)
theorem dX4_free_78 : decode cX4_free 78 = .ok (.ifCond .le 77, 3) := dk_158 0 77 (dk_at dksX4_free_3 8 rfl rfl)
theorem dX4_free_81 : decode cX4_free 81 = .ok (.aload_n 0, 1) := dk_42 (dk_at dksX4_free_3 11 rfl rfl)
theorem dX4_free_82 : decode cX4_free 82 = .ok (.getfield 43, 3) := dk_180 0 43 (dk_at dksX4_free_3 12 rfl rfl)
theorem dX4_free_85 : decode cX4_free 85 = .ok (.aload_n 3, 1) := dk_45 (dk_at dksX4_free_3 15 rfl rfl)
theorem dX4_free_86 : decode cX4_free 86 = .ok (.getfield 158, 3) := dk_180 0 158 (dk_at dksX4_free_3 16 rfl rfl)
theorem dX4_free_89 : decode cX4_free 89 = .ok (.isub, 1) := dk_100 (dk_at dksX4_free_3 19 rfl rfl)
theorem dX4_free_90 : decode cX4_free 90 = .ok (.sipush 360, 3) := dk_17 1 104 (dk_at dksX4_free_3 20 rfl rfl)
theorem dX4_free_93 : decode cX4_free 93 = .ok (.idiv, 1) := dk_108 (dk_at dksX4_free_3 23 rfl rfl)
theorem dX4_free_94 : decode cX4_free 94 = .ok (.aload_n 3, 1) := dk_45 (dk_at dksX4_free_4 0 rfl rfl)
theorem dX4_free_95 : decode cX4_free 95 = .ok (.getfield 161, 3) := dk_180 0 161 (dk_at dksX4_free_4 1 rfl rfl)
theorem dX4_free_98 : decode cX4_free 98 = .ok (.if_icmp .le 57, 3) := dk_164 0 57 (dk_at dksX4_free_4 4 rfl rfl)
theorem dX4_free_101 : decode cX4_free 101 = .ok (.aload_n 3, 1) := dk_45 (dk_at dksX4_free_4 7 rfl rfl)
theorem dX4_free_102 : decode cX4_free 102 = .ok (.dup, 1) := dk_89 (dk_at dksX4_free_4 8 rfl rfl)
theorem dX4_free_103 : decode cX4_free 103 = .ok (.getfield 161, 3) := dk_180 0 161 (dk_at dksX4_free_4 9 rfl rfl)
theorem dX4_free_106 : decode cX4_free 106 = .ok (.iconst 1, 1) := dk_4 (dk_at dksX4_free_4 12 rfl rfl)
theorem dX4_free_107 : decode cX4_free 107 = .ok (.iadd, 1) := dk_96 (dk_at dksX4_free_4 13 rfl rfl)
theorem dX4_free_108 : decode cX4_free 108 = .ok (.putfield 161, 3) := dk_181 0 161 (dk_at dksX4_free_4 14 rfl rfl)
theorem dX4_free_111 : decode cX4_free 111 = .ok (.aload_n 3, 1) := dk_45 (dk_at dksX4_free_4 17 rfl rfl)
theorem dX4_free_112 : decode cX4_free 112 = .ok (.getfield 164, 3) := dk_180 0 164 (dk_at dksX4_free_4 18 rfl rfl)
theorem dX4_free_115 : decode cX4_free 115 = .ok (.aload_n 3, 1) := dk_45 (dk_at dksX4_free_4 21 rfl rfl)
theorem dX4_free_116 : decode cX4_free 116 = .ok (.getfield 155, 3) := dk_180 0 155 (dk_at dksX4_free_5 0 rfl rfl)
theorem dX4_free_119 : decode cX4_free 119 = .ok (.i2l, 1) := dk_133 (dk_at dksX4_free_5 3 rfl rfl)
theorem dX4_free_120 : decode cX4_free 120 = .ok (.ldiv, 1) := dk_109 (dk_at dksX4_free_5 4 rfl rfl)
theorem dX4_free_121 : decode cX4_free 121 = .ok (.lstore 4, 2) := dk_55 4 (dk_at dksX4_free_5 5 rfl rfl)
theorem dX4_free_123 : decode cX4_free 123 = .ok (.aload_n 3, 1) := dk_45 (dk_at dksX4_free_5 7 rfl rfl)
theorem dX4_free_124 : decode cX4_free 124 = .ok (.dup, 1) := dk_89 (dk_at dksX4_free_5 8 rfl rfl)
theorem dX4_free_125 : decode cX4_free 125 = .ok (.getfield 164, 3) := dk_180 0 164 (dk_at dksX4_free_5 9 rfl rfl)
theorem dX4_free_128 : decode cX4_free 128 = .ok (.lload 4, 2) := dk_22 4 (dk_at dksX4_free_5 12 rfl rfl)
theorem dX4_free_130 : decode cX4_free 130 = .ok (.lsub, 1) := dk_101 (dk_at dksX4_free_5 14 rfl rfl)
theorem dX4_free_131 : decode cX4_free 131 = .ok (.putfield 164, 3) := dk_181 0 164 (dk_at dksX4_free_5 15 rfl rfl)
theorem dX4_free_134 : decode cX4_free 134 = .ok (.aload_n 3, 1) := dk_45 (dk_at dksX4_free_5 18 rfl rfl)
theorem dX4_free_135 : decode cX4_free 135 = .ok (.dup, 1) := dk_89 (dk_at dksX4_free_5 19 rfl rfl)
theorem dX4_free_136 : decode cX4_free 136 = .ok (.getfield 155, 3) := dk_180 0 155 (dk_at dksX4_free_5 20 rfl rfl)
theorem dX4_free_139 : decode cX4_free 139 = .ok (.iconst 1, 1) := dk_4 (dk_at dksX4_free_5 23 rfl rfl)
theorem dX4_free_140 : decode cX4_free 140 = .ok (.isub, 1) := dk_100 (dk_at dksX4_free_6 0 rfl rfl)
theorem dX4_free_141 : decode cX4_free 141 = .ok (.putfield 155, 3) := dk_181 0 155 (dk_at dksX4_free_6 1 rfl rfl)
theorem dX4_free_144 : decode cX4_free 144 = .ok (.aload_n 1, 1) := dk_43 (dk_at dksX4_free_6 4 rfl rfl)
theorem dX4_free_145 : decode cX4_free 145 = .ok (.dup, 1) := dk_89 (dk_at dksX4_free_6 5 rfl rfl)
theorem dX4_free_146 : decode cX4_free 146 = .ok (.getfield 147, 3) := dk_180 0 147 (dk_at dksX4_free_6 6 rfl rfl)
theorem dX4_free_149 : decode cX4_free 149 = .ok (.lload 4, 2) := dk_22 4 (dk_at dksX4_free_6 9 rfl rfl)
theorem dX4_free_151 : decode cX4_free 151 = .ok (.ladd, 1) := dk_97 (dk_at dksX4_free_6 11 rfl rfl)
theorem dX4_free_152 : decode cX4_free 152 = .ok (.putfield 147, 3) := dk_181 0 147 (dk_at dksX4_free_6 12 rfl rfl)
theorem dX4_free_155 : decode cX4_free 155 = .ok (.iinc 2 1, 3) := dk_132 2 1 (dk_at dksX4_free_6 15 rfl rfl)
theorem dX4_free_158 : decode cX4_free 158 = .ok (.goto (-107), 3) := dk_167 255 149 (dk_at dksX4_free_6 18 rfl rfl)
theorem dX4_free_161 : decode cX4_free 161 = .ok (.return_, 1) := dk_177 (dk_at dksX4_free_6 21 rfl rfl)
abbrev cX4_person : ByteArray := prog_14_method_11_code
def yX4_person : MethodName := ⟨RX4, "person", "(IIII)I"⟩
def dkwX4_person_6 : List UInt8 := [25, 6, 182, 0, 186, 87, 42, 180, 0, 16, 182, 0, 94, 4, 100, 172]
abbrev dktX4_person_6 : List UInt8 := dkwX4_person_6 ++ []
def dkwX4_person_5 : List UInt8 := [25, 6, 28, 181, 0, 179, 25, 6, 29, 181, 0, 180, 25, 6, 21, 4, 181, 0, 183, 42, 180, 0, 16]
abbrev dktX4_person_5 : List UInt8 := dkwX4_person_5 ++ dktX4_person_6
def dkwX4_person_4 : List UInt8 := [182, 0, 104, 154, 0, 5, 3, 172, 187, 0, 112, 89, 183, 0, 175, 58, 6, 25, 6, 27, 181, 0, 176]
abbrev dktX4_person_4 : List UInt8 := dkwX4_person_4 ++ dktX4_person_5
def dkwX4_person_3 : List UInt8 := [153, 0, 28, 42, 42, 180, 0, 16, 182, 0, 94, 16, 50, 162, 0, 7, 4, 167, 0, 4, 3, 5]
abbrev dktX4_person_3 : List UInt8 := dkwX4_person_3 ++ dktX4_person_4
def dkwX4_person_2 : List UInt8 := [20, 0, 173, 184, 0, 100, 153, 0, 7, 4, 167, 0, 4, 3, 54, 5, 42, 21, 5, 4, 182, 0, 104]
abbrev dktX4_person_2 : List UInt8 := dkwX4_person_2 ++ dktX4_person_3
def dkwX4_person_1 : List UInt8 := [184, 0, 100, 153, 0, 32, 29, 133, 9, 20, 0, 171, 184, 0, 100, 153, 0, 20, 21, 4, 133, 9]
abbrev dktX4_person_1 : List UInt8 := dkwX4_person_1 ++ dktX4_person_2
def dkwX4_person_0 : List UInt8 := [27, 133, 20, 0, 167, 42, 180, 0, 43, 133, 184, 0, 100, 153, 0, 44, 28, 133, 9, 20, 0, 169]
abbrev dktX4_person_0 : List UInt8 := dkwX4_person_0 ++ dktX4_person_1
theorem dksX4_person_0 : cX4_person.data.toList.drop 0 = dktX4_person_0 := by decide +kernel
theorem dksX4_person_1 : cX4_person.data.toList.drop 22 = dktX4_person_1 := dk_seg dksX4_person_0 22 rfl rfl
theorem dksX4_person_2 : cX4_person.data.toList.drop 44 = dktX4_person_2 := dk_seg dksX4_person_1 22 rfl rfl
theorem dksX4_person_3 : cX4_person.data.toList.drop 67 = dktX4_person_3 := dk_seg dksX4_person_2 23 rfl rfl
theorem dksX4_person_4 : cX4_person.data.toList.drop 89 = dktX4_person_4 := dk_seg dksX4_person_3 22 rfl rfl
theorem dksX4_person_5 : cX4_person.data.toList.drop 112 = dktX4_person_5 := dk_seg dksX4_person_4 23 rfl rfl
theorem dksX4_person_6 : cX4_person.data.toList.drop 135 = dktX4_person_6 := dk_seg dksX4_person_5 23 rfl rfl
theorem dX4_person_0 : decode cX4_person 0 = .ok (.iload_n 1, 1) := dk_27 (dk_at dksX4_person_0 0 rfl rfl)
theorem dX4_person_1 : decode cX4_person 1 = .ok (.i2l, 1) := dk_133 (dk_at dksX4_person_0 1 rfl rfl)
theorem dX4_person_2 : decode cX4_person 2 = .ok (.ldc2_w 167, 3) := dk_20 0 167 (dk_at dksX4_person_0 2 rfl rfl)
theorem dX4_person_5 : decode cX4_person 5 = .ok (.aload_n 0, 1) := dk_42 (dk_at dksX4_person_0 5 rfl rfl)
theorem dX4_person_6 : decode cX4_person 6 = .ok (.getfield 43, 3) := dk_180 0 43 (dk_at dksX4_person_0 6 rfl rfl)
theorem dX4_person_9 : decode cX4_person 9 = .ok (.i2l, 1) := dk_133 (dk_at dksX4_person_0 9 rfl rfl)
theorem dX4_person_10 : decode cX4_person 10 = .ok (.invokestatic 100, 3) := dk_184 0 100 (dk_at dksX4_person_0 10 rfl rfl)
theorem dX4_person_13 : decode cX4_person 13 = .ok (.ifCond .eq 44, 3) := dk_153 0 44 (dk_at dksX4_person_0 13 rfl rfl)
theorem dX4_person_16 : decode cX4_person 16 = .ok (.iload_n 2, 1) := dk_28 (dk_at dksX4_person_0 16 rfl rfl)
theorem dX4_person_17 : decode cX4_person 17 = .ok (.i2l, 1) := dk_133 (dk_at dksX4_person_0 17 rfl rfl)
theorem dX4_person_18 : decode cX4_person 18 = .ok (.lconst 0, 1) := dk_9 (dk_at dksX4_person_0 18 rfl rfl)
theorem dX4_person_19 : decode cX4_person 19 = .ok (.ldc2_w 169, 3) := dk_20 0 169 (dk_at dksX4_person_0 19 rfl rfl)
theorem dX4_person_22 : decode cX4_person 22 = .ok (.invokestatic 100, 3) := dk_184 0 100 (dk_at dksX4_person_1 0 rfl rfl)
theorem dX4_person_25 : decode cX4_person 25 = .ok (.ifCond .eq 32, 3) := dk_153 0 32 (dk_at dksX4_person_1 3 rfl rfl)
theorem dX4_person_28 : decode cX4_person 28 = .ok (.iload_n 3, 1) := dk_29 (dk_at dksX4_person_1 6 rfl rfl)
theorem dX4_person_29 : decode cX4_person 29 = .ok (.i2l, 1) := dk_133 (dk_at dksX4_person_1 7 rfl rfl)
theorem dX4_person_30 : decode cX4_person 30 = .ok (.lconst 0, 1) := dk_9 (dk_at dksX4_person_1 8 rfl rfl)
theorem dX4_person_31 : decode cX4_person 31 = .ok (.ldc2_w 171, 3) := dk_20 0 171 (dk_at dksX4_person_1 9 rfl rfl)
theorem dX4_person_34 : decode cX4_person 34 = .ok (.invokestatic 100, 3) := dk_184 0 100 (dk_at dksX4_person_1 12 rfl rfl)
theorem dX4_person_37 : decode cX4_person 37 = .ok (.ifCond .eq 20, 3) := dk_153 0 20 (dk_at dksX4_person_1 15 rfl rfl)
theorem dX4_person_40 : decode cX4_person 40 = .ok (.iload 4, 2) := dk_21 4 (dk_at dksX4_person_1 18 rfl rfl)
theorem dX4_person_42 : decode cX4_person 42 = .ok (.i2l, 1) := dk_133 (dk_at dksX4_person_1 20 rfl rfl)
theorem dX4_person_43 : decode cX4_person 43 = .ok (.lconst 0, 1) := dk_9 (dk_at dksX4_person_1 21 rfl rfl)
theorem dX4_person_44 : decode cX4_person 44 = .ok (.ldc2_w 173, 3) := dk_20 0 173 (dk_at dksX4_person_2 0 rfl rfl)
theorem dX4_person_47 : decode cX4_person 47 = .ok (.invokestatic 100, 3) := dk_184 0 100 (dk_at dksX4_person_2 3 rfl rfl)
theorem dX4_person_50 : decode cX4_person 50 = .ok (.ifCond .eq 7, 3) := dk_153 0 7 (dk_at dksX4_person_2 6 rfl rfl)
theorem dX4_person_53 : decode cX4_person 53 = .ok (.iconst 1, 1) := dk_4 (dk_at dksX4_person_2 9 rfl rfl)
theorem dX4_person_54 : decode cX4_person 54 = .ok (.goto 4, 3) := dk_167 0 4 (dk_at dksX4_person_2 10 rfl rfl)
theorem dX4_person_57 : decode cX4_person 57 = .ok (.iconst 0, 1) := dk_3 (dk_at dksX4_person_2 13 rfl rfl)
theorem dX4_person_58 : decode cX4_person 58 = .ok (.istore 5, 2) := dk_54 5 (dk_at dksX4_person_2 14 rfl rfl)
theorem dX4_person_60 : decode cX4_person 60 = .ok (.aload_n 0, 1) := dk_42 (dk_at dksX4_person_2 16 rfl rfl)
theorem dX4_person_61 : decode cX4_person 61 = .ok (.iload 5, 2) := dk_21 5 (dk_at dksX4_person_2 17 rfl rfl)
theorem dX4_person_63 : decode cX4_person 63 = .ok (.iconst 1, 1) := dk_4 (dk_at dksX4_person_2 19 rfl rfl)
theorem dX4_person_64 : decode cX4_person 64 = .ok (.invokevirtual 104, 3) := dk_182 0 104 (dk_at dksX4_person_2 20 rfl rfl)
theorem dX4_person_67 : decode cX4_person 67 = .ok (.ifCond .eq 28, 3) := dk_153 0 28 (dk_at dksX4_person_3 0 rfl rfl)
theorem dX4_person_70 : decode cX4_person 70 = .ok (.aload_n 0, 1) := dk_42 (dk_at dksX4_person_3 3 rfl rfl)
theorem dX4_person_71 : decode cX4_person 71 = .ok (.aload_n 0, 1) := dk_42 (dk_at dksX4_person_3 4 rfl rfl)
theorem dX4_person_72 : decode cX4_person 72 = .ok (.getfield 16, 3) := dk_180 0 16 (dk_at dksX4_person_3 5 rfl rfl)
theorem dX4_person_75 : decode cX4_person 75 = .ok (.invokevirtual 94, 3) := dk_182 0 94 (dk_at dksX4_person_3 8 rfl rfl)
theorem dX4_person_78 : decode cX4_person 78 = .ok (.bipush 50, 2) := dk_16 50 (dk_at dksX4_person_3 11 rfl rfl)
theorem dX4_person_80 : decode cX4_person 80 = .ok (.if_icmp .ge 7, 3) := dk_162 0 7 (dk_at dksX4_person_3 13 rfl rfl)
theorem dX4_person_83 : decode cX4_person 83 = .ok (.iconst 1, 1) := dk_4 (dk_at dksX4_person_3 16 rfl rfl)
theorem dX4_person_84 : decode cX4_person 84 = .ok (.goto 4, 3) := dk_167 0 4 (dk_at dksX4_person_3 17 rfl rfl)
theorem dX4_person_87 : decode cX4_person 87 = .ok (.iconst 0, 1) := dk_3 (dk_at dksX4_person_3 20 rfl rfl)
theorem dX4_person_88 : decode cX4_person 88 = .ok (.iconst 2, 1) := dk_5 (dk_at dksX4_person_3 21 rfl rfl)
theorem dX4_person_89 : decode cX4_person 89 = .ok (.invokevirtual 104, 3) := dk_182 0 104 (dk_at dksX4_person_4 0 rfl rfl)
theorem dX4_person_92 : decode cX4_person 92 = .ok (.ifCond .ne 5, 3) := dk_154 0 5 (dk_at dksX4_person_4 3 rfl rfl)
theorem dX4_person_95 : decode cX4_person 95 = .ok (.iconst 0, 1) := dk_3 (dk_at dksX4_person_4 6 rfl rfl)
theorem dX4_person_96 : decode cX4_person 96 = .ok (.ireturn, 1) := dk_172 (dk_at dksX4_person_4 7 rfl rfl)
theorem dX4_person_97 : decode cX4_person 97 = .ok (.new 112, 3) := dk_187 0 112 (dk_at dksX4_person_4 8 rfl rfl)
theorem dX4_person_100 : decode cX4_person 100 = .ok (.dup, 1) := dk_89 (dk_at dksX4_person_4 11 rfl rfl)
theorem dX4_person_101 : decode cX4_person 101 = .ok (.invokespecial 175, 3) := dk_183 0 175 (dk_at dksX4_person_4 12 rfl rfl)
theorem dX4_person_104 : decode cX4_person 104 = .ok (.astore 6, 2) := dk_58 6 (dk_at dksX4_person_4 15 rfl rfl)
theorem dX4_person_106 : decode cX4_person 106 = .ok (.aload 6, 2) := dk_25 6 (dk_at dksX4_person_4 17 rfl rfl)
theorem dX4_person_108 : decode cX4_person 108 = .ok (.iload_n 1, 1) := dk_27 (dk_at dksX4_person_4 19 rfl rfl)
theorem dX4_person_109 : decode cX4_person 109 = .ok (.putfield 176, 3) := dk_181 0 176 (dk_at dksX4_person_4 20 rfl rfl)
theorem dX4_person_112 : decode cX4_person 112 = .ok (.aload 6, 2) := dk_25 6 (dk_at dksX4_person_5 0 rfl rfl)
theorem dX4_person_114 : decode cX4_person 114 = .ok (.iload_n 2, 1) := dk_28 (dk_at dksX4_person_5 2 rfl rfl)
theorem dX4_person_115 : decode cX4_person 115 = .ok (.putfield 179, 3) := dk_181 0 179 (dk_at dksX4_person_5 3 rfl rfl)
theorem dX4_person_118 : decode cX4_person 118 = .ok (.aload 6, 2) := dk_25 6 (dk_at dksX4_person_5 6 rfl rfl)
theorem dX4_person_120 : decode cX4_person 120 = .ok (.iload_n 3, 1) := dk_29 (dk_at dksX4_person_5 8 rfl rfl)
theorem dX4_person_121 : decode cX4_person 121 = .ok (.putfield 180, 3) := dk_181 0 180 (dk_at dksX4_person_5 9 rfl rfl)
theorem dX4_person_124 : decode cX4_person 124 = .ok (.aload 6, 2) := dk_25 6 (dk_at dksX4_person_5 12 rfl rfl)
theorem dX4_person_126 : decode cX4_person 126 = .ok (.iload 4, 2) := dk_21 4 (dk_at dksX4_person_5 14 rfl rfl)
theorem dX4_person_128 : decode cX4_person 128 = .ok (.putfield 183, 3) := dk_181 0 183 (dk_at dksX4_person_5 16 rfl rfl)
theorem dX4_person_131 : decode cX4_person 131 = .ok (.aload_n 0, 1) := dk_42 (dk_at dksX4_person_5 19 rfl rfl)
theorem dX4_person_132 : decode cX4_person 132 = .ok (.getfield 16, 3) := dk_180 0 16 (dk_at dksX4_person_5 20 rfl rfl)
theorem dX4_person_135 : decode cX4_person 135 = .ok (.aload 6, 2) := dk_25 6 (dk_at dksX4_person_6 0 rfl rfl)
theorem dX4_person_137 : decode cX4_person 137 = .ok (.invokevirtual 186, 3) := dk_182 0 186 (dk_at dksX4_person_6 2 rfl rfl)
theorem dX4_person_140 : decode cX4_person 140 = .ok (.pop, 1) := dk_87 (dk_at dksX4_person_6 5 rfl rfl)
theorem dX4_person_141 : decode cX4_person 141 = .ok (.aload_n 0, 1) := dk_42 (dk_at dksX4_person_6 6 rfl rfl)
theorem dX4_person_142 : decode cX4_person 142 = .ok (.getfield 16, 3) := dk_180 0 16 (dk_at dksX4_person_6 7 rfl rfl)
theorem dX4_person_145 : decode cX4_person 145 = .ok (.invokevirtual 94, 3) := dk_182 0 94 (dk_at dksX4_person_6 10 rfl rfl)
theorem dX4_person_148 : decode cX4_person 148 = .ok (.iconst 1, 1) := dk_4 (dk_at dksX4_person_6 13 rfl rfl)
theorem dX4_person_149 : decode cX4_person 149 = .ok (.isub, 1) := dk_100 (dk_at dksX4_person_6 14 rfl rfl)
theorem dX4_person_150 : decode cX4_person 150 = .ok (.ireturn, 1) := dk_172 (dk_at dksX4_person_6 15 rfl rfl)
abbrev cX4_sick : ByteArray := prog_14_method_12_code
def yX4_sick : MethodName := ⟨RX4, "sick", "(II)I"⟩
def dkwX4_sick_4 : List UInt8 := [21, 4, 172]
abbrev dktX4_sick_4 : List UInt8 := dkwX4_sick_4 ++ []
def dkwX4_sick_3 : List UInt8 := [28, 181, 0, 117, 45, 21, 4, 154, 0, 10, 42, 180, 0, 43, 167, 0, 7, 45, 180, 0, 196, 181, 0, 196]
abbrev dktX4_sick_3 : List UInt8 := dkwX4_sick_3 ++ dktX4_sick_4
def dkwX4_sick_2 : List UInt8 := [153, 0, 15, 42, 45, 182, 0, 136, 6, 182, 0, 104, 154, 0, 5, 3, 172, 45, 180, 0, 117, 54, 4, 45]
abbrev dktX4_sick_2 : List UInt8 := dkwX4_sick_2 ++ dktX4_sick_3
def dkwX4_sick_1 : List UInt8 := [192, 0, 112, 78, 42, 28, 133, 45, 180, 0, 117, 4, 96, 133, 20, 0, 194, 184, 0, 100, 5, 182, 0, 104]
abbrev dktX4_sick_1 : List UInt8 := dkwX4_sick_1 ++ dktX4_sick_2
def dkwX4_sick_0 : List UInt8 := [42, 42, 27, 182, 0, 190, 4, 182, 0, 104, 154, 0, 5, 3, 172, 42, 180, 0, 16, 27, 182, 0, 108]
abbrev dktX4_sick_0 : List UInt8 := dkwX4_sick_0 ++ dktX4_sick_1
theorem dksX4_sick_0 : cX4_sick.data.toList.drop 0 = dktX4_sick_0 := by decide +kernel
theorem dksX4_sick_1 : cX4_sick.data.toList.drop 23 = dktX4_sick_1 := dk_seg dksX4_sick_0 23 rfl rfl
theorem dksX4_sick_2 : cX4_sick.data.toList.drop 47 = dktX4_sick_2 := dk_seg dksX4_sick_1 24 rfl rfl
theorem dksX4_sick_3 : cX4_sick.data.toList.drop 71 = dktX4_sick_3 := dk_seg dksX4_sick_2 24 rfl rfl
theorem dksX4_sick_4 : cX4_sick.data.toList.drop 95 = dktX4_sick_4 := dk_seg dksX4_sick_3 24 rfl rfl
theorem dX4_sick_0 : decode cX4_sick 0 = .ok (.aload_n 0, 1) := dk_42 (dk_at dksX4_sick_0 0 rfl rfl)
theorem dX4_sick_1 : decode cX4_sick 1 = .ok (.aload_n 0, 1) := dk_42 (dk_at dksX4_sick_0 1 rfl rfl)
theorem dX4_sick_2 : decode cX4_sick 2 = .ok (.iload_n 1, 1) := dk_27 (dk_at dksX4_sick_0 2 rfl rfl)
theorem dX4_sick_3 : decode cX4_sick 3 = .ok (.invokevirtual 190, 3) := dk_182 0 190 (dk_at dksX4_sick_0 3 rfl rfl)
theorem dX4_sick_6 : decode cX4_sick 6 = .ok (.iconst 1, 1) := dk_4 (dk_at dksX4_sick_0 6 rfl rfl)
theorem dX4_sick_7 : decode cX4_sick 7 = .ok (.invokevirtual 104, 3) := dk_182 0 104 (dk_at dksX4_sick_0 7 rfl rfl)
theorem dX4_sick_10 : decode cX4_sick 10 = .ok (.ifCond .ne 5, 3) := dk_154 0 5 (dk_at dksX4_sick_0 10 rfl rfl)
theorem dX4_sick_13 : decode cX4_sick 13 = .ok (.iconst 0, 1) := dk_3 (dk_at dksX4_sick_0 13 rfl rfl)
theorem dX4_sick_14 : decode cX4_sick 14 = .ok (.ireturn, 1) := dk_172 (dk_at dksX4_sick_0 14 rfl rfl)
theorem dX4_sick_15 : decode cX4_sick 15 = .ok (.aload_n 0, 1) := dk_42 (dk_at dksX4_sick_0 15 rfl rfl)
theorem dX4_sick_16 : decode cX4_sick 16 = .ok (.getfield 16, 3) := dk_180 0 16 (dk_at dksX4_sick_0 16 rfl rfl)
theorem dX4_sick_19 : decode cX4_sick 19 = .ok (.iload_n 1, 1) := dk_27 (dk_at dksX4_sick_0 19 rfl rfl)
theorem dX4_sick_20 : decode cX4_sick 20 = .ok (.invokevirtual 108, 3) := dk_182 0 108 (dk_at dksX4_sick_0 20 rfl rfl)
theorem dX4_sick_23 : decode cX4_sick 23 = .ok (.checkcast 112, 3) := dk_192 0 112 (dk_at dksX4_sick_1 0 rfl rfl)
theorem dX4_sick_26 : decode cX4_sick 26 = .ok (.astore_n 3, 1) := dk_78 (dk_at dksX4_sick_1 3 rfl rfl)
theorem dX4_sick_27 : decode cX4_sick 27 = .ok (.aload_n 0, 1) := dk_42 (dk_at dksX4_sick_1 4 rfl rfl)
theorem dX4_sick_28 : decode cX4_sick 28 = .ok (.iload_n 2, 1) := dk_28 (dk_at dksX4_sick_1 5 rfl rfl)
theorem dX4_sick_29 : decode cX4_sick 29 = .ok (.i2l, 1) := dk_133 (dk_at dksX4_sick_1 6 rfl rfl)
theorem dX4_sick_30 : decode cX4_sick 30 = .ok (.aload_n 3, 1) := dk_45 (dk_at dksX4_sick_1 7 rfl rfl)
theorem dX4_sick_31 : decode cX4_sick 31 = .ok (.getfield 117, 3) := dk_180 0 117 (dk_at dksX4_sick_1 8 rfl rfl)
theorem dX4_sick_34 : decode cX4_sick 34 = .ok (.iconst 1, 1) := dk_4 (dk_at dksX4_sick_1 11 rfl rfl)
theorem dX4_sick_35 : decode cX4_sick 35 = .ok (.iadd, 1) := dk_96 (dk_at dksX4_sick_1 12 rfl rfl)
theorem dX4_sick_36 : decode cX4_sick 36 = .ok (.i2l, 1) := dk_133 (dk_at dksX4_sick_1 13 rfl rfl)
theorem dX4_sick_37 : decode cX4_sick 37 = .ok (.ldc2_w 194, 3) := dk_20 0 194 (dk_at dksX4_sick_1 14 rfl rfl)
theorem dX4_sick_40 : decode cX4_sick 40 = .ok (.invokestatic 100, 3) := dk_184 0 100 (dk_at dksX4_sick_1 17 rfl rfl)
theorem dX4_sick_43 : decode cX4_sick 43 = .ok (.iconst 2, 1) := dk_5 (dk_at dksX4_sick_1 20 rfl rfl)
theorem dX4_sick_44 : decode cX4_sick 44 = .ok (.invokevirtual 104, 3) := dk_182 0 104 (dk_at dksX4_sick_1 21 rfl rfl)
theorem dX4_sick_47 : decode cX4_sick 47 = .ok (.ifCond .eq 15, 3) := dk_153 0 15 (dk_at dksX4_sick_2 0 rfl rfl)
theorem dX4_sick_50 : decode cX4_sick 50 = .ok (.aload_n 0, 1) := dk_42 (dk_at dksX4_sick_2 3 rfl rfl)
theorem dX4_sick_51 : decode cX4_sick 51 = .ok (.aload_n 3, 1) := dk_45 (dk_at dksX4_sick_2 4 rfl rfl)
theorem dX4_sick_52 : decode cX4_sick 52 = .ok (.invokevirtual 136, 3) := dk_182 0 136 (dk_at dksX4_sick_2 5 rfl rfl)
theorem dX4_sick_55 : decode cX4_sick 55 = .ok (.iconst 3, 1) := dk_6 (dk_at dksX4_sick_2 8 rfl rfl)
theorem dX4_sick_56 : decode cX4_sick 56 = .ok (.invokevirtual 104, 3) := dk_182 0 104 (dk_at dksX4_sick_2 9 rfl rfl)
theorem dX4_sick_59 : decode cX4_sick 59 = .ok (.ifCond .ne 5, 3) := dk_154 0 5 (dk_at dksX4_sick_2 12 rfl rfl)
theorem dX4_sick_62 : decode cX4_sick 62 = .ok (.iconst 0, 1) := dk_3 (dk_at dksX4_sick_2 15 rfl rfl)
theorem dX4_sick_63 : decode cX4_sick 63 = .ok (.ireturn, 1) := dk_172 (dk_at dksX4_sick_2 16 rfl rfl)
theorem dX4_sick_64 : decode cX4_sick 64 = .ok (.aload_n 3, 1) := dk_45 (dk_at dksX4_sick_2 17 rfl rfl)
theorem dX4_sick_65 : decode cX4_sick 65 = .ok (.getfield 117, 3) := dk_180 0 117 (dk_at dksX4_sick_2 18 rfl rfl)
theorem dX4_sick_68 : decode cX4_sick 68 = .ok (.istore 4, 2) := dk_54 4 (dk_at dksX4_sick_2 21 rfl rfl)
theorem dX4_sick_70 : decode cX4_sick 70 = .ok (.aload_n 3, 1) := dk_45 (dk_at dksX4_sick_2 23 rfl rfl)
theorem dX4_sick_71 : decode cX4_sick 71 = .ok (.iload_n 2, 1) := dk_28 (dk_at dksX4_sick_3 0 rfl rfl)
theorem dX4_sick_72 : decode cX4_sick 72 = .ok (.putfield 117, 3) := dk_181 0 117 (dk_at dksX4_sick_3 1 rfl rfl)
theorem dX4_sick_75 : decode cX4_sick 75 = .ok (.aload_n 3, 1) := dk_45 (dk_at dksX4_sick_3 4 rfl rfl)
theorem dX4_sick_76 : decode cX4_sick 76 = .ok (.iload 4, 2) := dk_21 4 (dk_at dksX4_sick_3 5 rfl rfl)
theorem dX4_sick_78 : decode cX4_sick 78 = .ok (.ifCond .ne 10, 3) := dk_154 0 10 (dk_at dksX4_sick_3 7 rfl rfl)
theorem dX4_sick_81 : decode cX4_sick 81 = .ok (.aload_n 0, 1) := dk_42 (dk_at dksX4_sick_3 10 rfl rfl)
theorem dX4_sick_82 : decode cX4_sick 82 = .ok (.getfield 43, 3) := dk_180 0 43 (dk_at dksX4_sick_3 11 rfl rfl)
theorem dX4_sick_85 : decode cX4_sick 85 = .ok (.goto 7, 3) := dk_167 0 7 (dk_at dksX4_sick_3 14 rfl rfl)
theorem dX4_sick_88 : decode cX4_sick 88 = .ok (.aload_n 3, 1) := dk_45 (dk_at dksX4_sick_3 17 rfl rfl)
theorem dX4_sick_89 : decode cX4_sick 89 = .ok (.getfield 196, 3) := dk_180 0 196 (dk_at dksX4_sick_3 18 rfl rfl)
theorem dX4_sick_92 : decode cX4_sick 92 = .ok (.putfield 196, 3) := dk_181 0 196 (dk_at dksX4_sick_3 21 rfl rfl)
theorem dX4_sick_95 : decode cX4_sick 95 = .ok (.iload 4, 2) := dk_21 4 (dk_at dksX4_sick_4 0 rfl rfl)
theorem dX4_sick_97 : decode cX4_sick 97 = .ok (.ireturn, 1) := dk_172 (dk_at dksX4_sick_4 2 rfl rfl)
abbrev cX4_isPerson : ByteArray := prog_14_method_10_code
def yX4_isPerson : MethodName := ⟨RX4, "isPerson", "(I)Z"⟩
def dkwX4_isPerson_0 : List UInt8 := [27, 133, 9, 42, 180, 0, 16, 182, 0, 94, 4, 100, 133, 184, 0, 100, 172]
abbrev dktX4_isPerson_0 : List UInt8 := dkwX4_isPerson_0 ++ []
theorem dksX4_isPerson_0 : cX4_isPerson.data.toList.drop 0 = dktX4_isPerson_0 := by decide +kernel
theorem dX4_isPerson_0 : decode cX4_isPerson 0 = .ok (.iload_n 1, 1) := dk_27 (dk_at dksX4_isPerson_0 0 rfl rfl)
theorem dX4_isPerson_1 : decode cX4_isPerson 1 = .ok (.i2l, 1) := dk_133 (dk_at dksX4_isPerson_0 1 rfl rfl)
theorem dX4_isPerson_2 : decode cX4_isPerson 2 = .ok (.lconst 0, 1) := dk_9 (dk_at dksX4_isPerson_0 2 rfl rfl)
theorem dX4_isPerson_3 : decode cX4_isPerson 3 = .ok (.aload_n 0, 1) := dk_42 (dk_at dksX4_isPerson_0 3 rfl rfl)
theorem dX4_isPerson_4 : decode cX4_isPerson 4 = .ok (.getfield 16, 3) := dk_180 0 16 (dk_at dksX4_isPerson_0 4 rfl rfl)
theorem dX4_isPerson_7 : decode cX4_isPerson 7 = .ok (.invokevirtual 94, 3) := dk_182 0 94 (dk_at dksX4_isPerson_0 7 rfl rfl)
theorem dX4_isPerson_10 : decode cX4_isPerson 10 = .ok (.iconst 1, 1) := dk_4 (dk_at dksX4_isPerson_0 10 rfl rfl)
theorem dX4_isPerson_11 : decode cX4_isPerson 11 = .ok (.isub, 1) := dk_100 (dk_at dksX4_isPerson_0 11 rfl rfl)
theorem dX4_isPerson_12 : decode cX4_isPerson 12 = .ok (.i2l, 1) := dk_133 (dk_at dksX4_isPerson_0 12 rfl rfl)
theorem dX4_isPerson_13 : decode cX4_isPerson 13 = .ok (.invokestatic 100, 3) := dk_184 0 100 (dk_at dksX4_isPerson_0 13 rfl rfl)
theorem dX4_isPerson_16 : decode cX4_isPerson 16 = .ok (.ireturn, 1) := dk_172 (dk_at dksX4_isPerson_0 16 rfl rfl)
abbrev cX4_die : ByteArray := prog_14_method_13_code
def yX4_die : MethodName := ⟨RX4, "die", "(II)J"⟩
def dkwX4_die_4 : List UInt8 := [182, 0, 46, 45, 22, 4, 184, 0, 206, 22, 4, 173]
abbrev dktX4_die_4 : List UInt8 := dkwX4_die_4 ++ []
def dkwX4_die_3 : List UInt8 := [181, 0, 199, 45, 180, 0, 140, 45, 184, 0, 202, 97, 55, 4, 45, 9, 181, 0, 140, 45, 180, 0, 150]
abbrev dktX4_die_3 : List UInt8 := dkwX4_die_3 ++ dktX4_die_4
def dkwX4_die_2 : List UInt8 := [182, 0, 104, 154, 0, 5, 9, 173, 42, 180, 0, 16, 27, 182, 0, 108, 192, 0, 112, 78, 45, 28]
abbrev dktX4_die_2 : List UInt8 := dkwX4_die_2 ++ dktX4_die_3
def dkwX4_die_1 : List UInt8 := [182, 0, 104, 153, 0, 25, 42, 42, 180, 0, 16, 27, 182, 0, 108, 192, 0, 112, 182, 0, 136, 6]
abbrev dktX4_die_1 : List UInt8 := dkwX4_die_1 ++ dktX4_die_2
def dkwX4_die_0 : List UInt8 := [42, 42, 27, 182, 0, 190, 4, 182, 0, 104, 153, 0, 42, 42, 28, 133, 10, 20, 0, 171, 184, 0, 100, 5]
abbrev dktX4_die_0 : List UInt8 := dkwX4_die_0 ++ dktX4_die_1
theorem dksX4_die_0 : cX4_die.data.toList.drop 0 = dktX4_die_0 := by decide +kernel
theorem dksX4_die_1 : cX4_die.data.toList.drop 24 = dktX4_die_1 := dk_seg dksX4_die_0 24 rfl rfl
theorem dksX4_die_2 : cX4_die.data.toList.drop 46 = dktX4_die_2 := dk_seg dksX4_die_1 22 rfl rfl
theorem dksX4_die_3 : cX4_die.data.toList.drop 68 = dktX4_die_3 := dk_seg dksX4_die_2 22 rfl rfl
theorem dksX4_die_4 : cX4_die.data.toList.drop 91 = dktX4_die_4 := dk_seg dksX4_die_3 23 rfl rfl
theorem dX4_die_0 : decode cX4_die 0 = .ok (.aload_n 0, 1) := dk_42 (dk_at dksX4_die_0 0 rfl rfl)
theorem dX4_die_1 : decode cX4_die 1 = .ok (.aload_n 0, 1) := dk_42 (dk_at dksX4_die_0 1 rfl rfl)
theorem dX4_die_2 : decode cX4_die 2 = .ok (.iload_n 1, 1) := dk_27 (dk_at dksX4_die_0 2 rfl rfl)
theorem dX4_die_3 : decode cX4_die 3 = .ok (.invokevirtual 190, 3) := dk_182 0 190 (dk_at dksX4_die_0 3 rfl rfl)
theorem dX4_die_6 : decode cX4_die 6 = .ok (.iconst 1, 1) := dk_4 (dk_at dksX4_die_0 6 rfl rfl)
theorem dX4_die_7 : decode cX4_die 7 = .ok (.invokevirtual 104, 3) := dk_182 0 104 (dk_at dksX4_die_0 7 rfl rfl)
theorem dX4_die_10 : decode cX4_die 10 = .ok (.ifCond .eq 42, 3) := dk_153 0 42 (dk_at dksX4_die_0 10 rfl rfl)
theorem dX4_die_13 : decode cX4_die 13 = .ok (.aload_n 0, 1) := dk_42 (dk_at dksX4_die_0 13 rfl rfl)
theorem dX4_die_14 : decode cX4_die 14 = .ok (.iload_n 2, 1) := dk_28 (dk_at dksX4_die_0 14 rfl rfl)
theorem dX4_die_15 : decode cX4_die 15 = .ok (.i2l, 1) := dk_133 (dk_at dksX4_die_0 15 rfl rfl)
theorem dX4_die_16 : decode cX4_die 16 = .ok (.lconst 1, 1) := dk_10 (dk_at dksX4_die_0 16 rfl rfl)
theorem dX4_die_17 : decode cX4_die 17 = .ok (.ldc2_w 171, 3) := dk_20 0 171 (dk_at dksX4_die_0 17 rfl rfl)
theorem dX4_die_20 : decode cX4_die 20 = .ok (.invokestatic 100, 3) := dk_184 0 100 (dk_at dksX4_die_0 20 rfl rfl)
theorem dX4_die_23 : decode cX4_die 23 = .ok (.iconst 2, 1) := dk_5 (dk_at dksX4_die_0 23 rfl rfl)
theorem dX4_die_24 : decode cX4_die 24 = .ok (.invokevirtual 104, 3) := dk_182 0 104 (dk_at dksX4_die_1 0 rfl rfl)
theorem dX4_die_27 : decode cX4_die 27 = .ok (.ifCond .eq 25, 3) := dk_153 0 25 (dk_at dksX4_die_1 3 rfl rfl)
theorem dX4_die_30 : decode cX4_die 30 = .ok (.aload_n 0, 1) := dk_42 (dk_at dksX4_die_1 6 rfl rfl)
theorem dX4_die_31 : decode cX4_die 31 = .ok (.aload_n 0, 1) := dk_42 (dk_at dksX4_die_1 7 rfl rfl)
theorem dX4_die_32 : decode cX4_die 32 = .ok (.getfield 16, 3) := dk_180 0 16 (dk_at dksX4_die_1 8 rfl rfl)
theorem dX4_die_35 : decode cX4_die 35 = .ok (.iload_n 1, 1) := dk_27 (dk_at dksX4_die_1 11 rfl rfl)
theorem dX4_die_36 : decode cX4_die 36 = .ok (.invokevirtual 108, 3) := dk_182 0 108 (dk_at dksX4_die_1 12 rfl rfl)
theorem dX4_die_39 : decode cX4_die 39 = .ok (.checkcast 112, 3) := dk_192 0 112 (dk_at dksX4_die_1 15 rfl rfl)
theorem dX4_die_42 : decode cX4_die 42 = .ok (.invokevirtual 136, 3) := dk_182 0 136 (dk_at dksX4_die_1 18 rfl rfl)
theorem dX4_die_45 : decode cX4_die 45 = .ok (.iconst 3, 1) := dk_6 (dk_at dksX4_die_1 21 rfl rfl)
theorem dX4_die_46 : decode cX4_die 46 = .ok (.invokevirtual 104, 3) := dk_182 0 104 (dk_at dksX4_die_2 0 rfl rfl)
theorem dX4_die_49 : decode cX4_die 49 = .ok (.ifCond .ne 5, 3) := dk_154 0 5 (dk_at dksX4_die_2 3 rfl rfl)
theorem dX4_die_52 : decode cX4_die 52 = .ok (.lconst 0, 1) := dk_9 (dk_at dksX4_die_2 6 rfl rfl)
theorem dX4_die_53 : decode cX4_die 53 = .ok (.lreturn, 1) := dk_173 (dk_at dksX4_die_2 7 rfl rfl)
theorem dX4_die_54 : decode cX4_die 54 = .ok (.aload_n 0, 1) := dk_42 (dk_at dksX4_die_2 8 rfl rfl)
theorem dX4_die_55 : decode cX4_die 55 = .ok (.getfield 16, 3) := dk_180 0 16 (dk_at dksX4_die_2 9 rfl rfl)
theorem dX4_die_58 : decode cX4_die 58 = .ok (.iload_n 1, 1) := dk_27 (dk_at dksX4_die_2 12 rfl rfl)
theorem dX4_die_59 : decode cX4_die 59 = .ok (.invokevirtual 108, 3) := dk_182 0 108 (dk_at dksX4_die_2 13 rfl rfl)
theorem dX4_die_62 : decode cX4_die 62 = .ok (.checkcast 112, 3) := dk_192 0 112 (dk_at dksX4_die_2 16 rfl rfl)
theorem dX4_die_65 : decode cX4_die 65 = .ok (.astore_n 3, 1) := dk_78 (dk_at dksX4_die_2 19 rfl rfl)
theorem dX4_die_66 : decode cX4_die 66 = .ok (.aload_n 3, 1) := dk_45 (dk_at dksX4_die_2 20 rfl rfl)
theorem dX4_die_67 : decode cX4_die 67 = .ok (.iload_n 2, 1) := dk_28 (dk_at dksX4_die_2 21 rfl rfl)
theorem dX4_die_68 : decode cX4_die 68 = .ok (.putfield 199, 3) := dk_181 0 199 (dk_at dksX4_die_3 0 rfl rfl)
theorem dX4_die_71 : decode cX4_die 71 = .ok (.aload_n 3, 1) := dk_45 (dk_at dksX4_die_3 3 rfl rfl)
theorem dX4_die_72 : decode cX4_die 72 = .ok (.getfield 140, 3) := dk_180 0 140 (dk_at dksX4_die_3 4 rfl rfl)
theorem dX4_die_75 : decode cX4_die 75 = .ok (.aload_n 3, 1) := dk_45 (dk_at dksX4_die_3 7 rfl rfl)
theorem dX4_die_76 : decode cX4_die 76 = .ok (.invokestatic 202, 3) := dk_184 0 202 (dk_at dksX4_die_3 8 rfl rfl)
theorem dX4_die_79 : decode cX4_die 79 = .ok (.ladd, 1) := dk_97 (dk_at dksX4_die_3 11 rfl rfl)
theorem dX4_die_80 : decode cX4_die 80 = .ok (.lstore 4, 2) := dk_55 4 (dk_at dksX4_die_3 12 rfl rfl)
theorem dX4_die_82 : decode cX4_die 82 = .ok (.aload_n 3, 1) := dk_45 (dk_at dksX4_die_3 14 rfl rfl)
theorem dX4_die_83 : decode cX4_die 83 = .ok (.lconst 0, 1) := dk_9 (dk_at dksX4_die_3 15 rfl rfl)
theorem dX4_die_84 : decode cX4_die 84 = .ok (.putfield 140, 3) := dk_181 0 140 (dk_at dksX4_die_3 16 rfl rfl)
theorem dX4_die_87 : decode cX4_die 87 = .ok (.aload_n 3, 1) := dk_45 (dk_at dksX4_die_3 19 rfl rfl)
theorem dX4_die_88 : decode cX4_die 88 = .ok (.getfield 150, 3) := dk_180 0 150 (dk_at dksX4_die_3 20 rfl rfl)
theorem dX4_die_91 : decode cX4_die 91 = .ok (.invokevirtual 46, 3) := dk_182 0 46 (dk_at dksX4_die_4 0 rfl rfl)
theorem dX4_die_94 : decode cX4_die 94 = .ok (.aload_n 3, 1) := dk_45 (dk_at dksX4_die_4 3 rfl rfl)
theorem dX4_die_95 : decode cX4_die 95 = .ok (.lload 4, 2) := dk_22 4 (dk_at dksX4_die_4 4 rfl rfl)
theorem dX4_die_97 : decode cX4_die 97 = .ok (.invokestatic 206, 3) := dk_184 0 206 (dk_at dksX4_die_4 6 rfl rfl)
theorem dX4_die_100 : decode cX4_die 100 = .ok (.lload 4, 2) := dk_22 4 (dk_at dksX4_die_4 9 rfl rfl)
theorem dX4_die_102 : decode cX4_die 102 = .ok (.lreturn, 1) := dk_173 (dk_at dksX4_die_4 11 rfl rfl)
abbrev cX4_yearly : ByteArray := prog_14_method_14_code
def yX4_yearly : MethodName := ⟨RX4, "yearly", "(LMassclaimModel$Person;)J"⟩
def dkwX4_yearly_1 : List UInt8 := [192, 0, 153, 180, 0, 164, 97, 64, 132, 3, 1, 167, 255, 225, 31, 173]
abbrev dktX4_yearly_1 : List UInt8 := dkwX4_yearly_1 ++ []
def dkwX4_yearly_0 : List UInt8 := [9, 64, 3, 62, 29, 42, 180, 0, 150, 182, 0, 94, 162, 0, 26, 31, 42, 180, 0, 150, 29, 182, 0, 108]
abbrev dktX4_yearly_0 : List UInt8 := dkwX4_yearly_0 ++ dktX4_yearly_1
theorem dksX4_yearly_0 : cX4_yearly.data.toList.drop 0 = dktX4_yearly_0 := by decide +kernel
theorem dksX4_yearly_1 : cX4_yearly.data.toList.drop 24 = dktX4_yearly_1 := dk_seg dksX4_yearly_0 24 rfl rfl
theorem dX4_yearly_0 : decode cX4_yearly 0 = .ok (.lconst 0, 1) := dk_9 (dk_at dksX4_yearly_0 0 rfl rfl)
theorem dX4_yearly_1 : decode cX4_yearly 1 = .ok (.lstore_n 1, 1) := dk_64 (dk_at dksX4_yearly_0 1 rfl rfl)
theorem dX4_yearly_2 : decode cX4_yearly 2 = .ok (.iconst 0, 1) := dk_3 (dk_at dksX4_yearly_0 2 rfl rfl)
theorem dX4_yearly_3 : decode cX4_yearly 3 = .ok (.istore_n 3, 1) := dk_62 (dk_at dksX4_yearly_0 3 rfl rfl)
theorem dX4_yearly_4 : decode cX4_yearly 4 = .ok (.iload_n 3, 1) := dk_29 (dk_at dksX4_yearly_0 4 rfl rfl)
theorem dX4_yearly_5 : decode cX4_yearly 5 = .ok (.aload_n 0, 1) := dk_42 (dk_at dksX4_yearly_0 5 rfl rfl)
theorem dX4_yearly_6 : decode cX4_yearly 6 = .ok (.getfield 150, 3) := dk_180 0 150 (dk_at dksX4_yearly_0 6 rfl rfl)
theorem dX4_yearly_9 : decode cX4_yearly 9 = .ok (.invokevirtual 94, 3) := dk_182 0 94 (dk_at dksX4_yearly_0 9 rfl rfl)
theorem dX4_yearly_12 : decode cX4_yearly 12 = .ok (.if_icmp .ge 26, 3) := dk_162 0 26 (dk_at dksX4_yearly_0 12 rfl rfl)
theorem dX4_yearly_15 : decode cX4_yearly 15 = .ok (.lload_n 1, 1) := dk_31 (dk_at dksX4_yearly_0 15 rfl rfl)
theorem dX4_yearly_16 : decode cX4_yearly 16 = .ok (.aload_n 0, 1) := dk_42 (dk_at dksX4_yearly_0 16 rfl rfl)
theorem dX4_yearly_17 : decode cX4_yearly 17 = .ok (.getfield 150, 3) := dk_180 0 150 (dk_at dksX4_yearly_0 17 rfl rfl)
theorem dX4_yearly_20 : decode cX4_yearly 20 = .ok (.iload_n 3, 1) := dk_29 (dk_at dksX4_yearly_0 20 rfl rfl)
theorem dX4_yearly_21 : decode cX4_yearly 21 = .ok (.invokevirtual 108, 3) := dk_182 0 108 (dk_at dksX4_yearly_0 21 rfl rfl)
theorem dX4_yearly_24 : decode cX4_yearly 24 = .ok (.checkcast 153, 3) := dk_192 0 153 (dk_at dksX4_yearly_1 0 rfl rfl)
theorem dX4_yearly_27 : decode cX4_yearly 27 = .ok (.getfield 164, 3) := dk_180 0 164 (dk_at dksX4_yearly_1 3 rfl rfl)
theorem dX4_yearly_30 : decode cX4_yearly 30 = .ok (.ladd, 1) := dk_97 (dk_at dksX4_yearly_1 6 rfl rfl)
theorem dX4_yearly_31 : decode cX4_yearly 31 = .ok (.lstore_n 1, 1) := dk_64 (dk_at dksX4_yearly_1 7 rfl rfl)
theorem dX4_yearly_32 : decode cX4_yearly 32 = .ok (.iinc 3 1, 3) := dk_132 3 1 (dk_at dksX4_yearly_1 8 rfl rfl)
theorem dX4_yearly_35 : decode cX4_yearly 35 = .ok (.goto (-31), 3) := dk_167 255 225 (dk_at dksX4_yearly_1 11 rfl rfl)
theorem dX4_yearly_38 : decode cX4_yearly 38 = .ok (.lload_n 1, 1) := dk_31 (dk_at dksX4_yearly_1 14 rfl rfl)
theorem dX4_yearly_39 : decode cX4_yearly 39 = .ok (.lreturn, 1) := dk_173 (dk_at dksX4_yearly_1 15 rfl rfl)
abbrev cX4_toHeirs : ByteArray := prog_14_method_15_code
def yX4_toHeirs : MethodName := ⟨RX4, "toHeirs", "(LMassclaimModel$Person;J)V"⟩
def dkwX4_toHeirs_2 : List UInt8 := [180, 0, 199, 133, 105, 101, 97, 80, 42, 89, 180, 0, 147, 31, 97, 181, 0, 147, 177]
abbrev dktX4_toHeirs_2 : List UInt8 := dkwX4_toHeirs_2 ++ []
def dkwX4_toHeirs_1 : List UInt8 := [21, 5, 92, 47, 33, 97, 80, 132, 5, 1, 167, 255, 233, 42, 180, 0, 210, 3, 92, 47, 31, 33, 42]
abbrev dktX4_toHeirs_1 : List UInt8 := dkwX4_toHeirs_1 ++ dktX4_toHeirs_2
def dkwX4_toHeirs_0 : List UInt8 := [31, 42, 180, 0, 199, 133, 109, 66, 3, 54, 5, 21, 5, 42, 180, 0, 199, 162, 0, 20, 42, 180, 0, 210]
abbrev dktX4_toHeirs_0 : List UInt8 := dkwX4_toHeirs_0 ++ dktX4_toHeirs_1
theorem dksX4_toHeirs_0 : cX4_toHeirs.data.toList.drop 0 = dktX4_toHeirs_0 := by decide +kernel
theorem dksX4_toHeirs_1 : cX4_toHeirs.data.toList.drop 24 = dktX4_toHeirs_1 := dk_seg dksX4_toHeirs_0 24 rfl rfl
theorem dksX4_toHeirs_2 : cX4_toHeirs.data.toList.drop 47 = dktX4_toHeirs_2 := dk_seg dksX4_toHeirs_1 23 rfl rfl
theorem dX4_toHeirs_0 : decode cX4_toHeirs 0 = .ok (.lload_n 1, 1) := dk_31 (dk_at dksX4_toHeirs_0 0 rfl rfl)
theorem dX4_toHeirs_1 : decode cX4_toHeirs 1 = .ok (.aload_n 0, 1) := dk_42 (dk_at dksX4_toHeirs_0 1 rfl rfl)
theorem dX4_toHeirs_2 : decode cX4_toHeirs 2 = .ok (.getfield 199, 3) := dk_180 0 199 (dk_at dksX4_toHeirs_0 2 rfl rfl)
theorem dX4_toHeirs_5 : decode cX4_toHeirs 5 = .ok (.i2l, 1) := dk_133 (dk_at dksX4_toHeirs_0 5 rfl rfl)
theorem dX4_toHeirs_6 : decode cX4_toHeirs 6 = .ok (.ldiv, 1) := dk_109 (dk_at dksX4_toHeirs_0 6 rfl rfl)
theorem dX4_toHeirs_7 : decode cX4_toHeirs 7 = .ok (.lstore_n 3, 1) := dk_66 (dk_at dksX4_toHeirs_0 7 rfl rfl)
theorem dX4_toHeirs_8 : decode cX4_toHeirs 8 = .ok (.iconst 0, 1) := dk_3 (dk_at dksX4_toHeirs_0 8 rfl rfl)
theorem dX4_toHeirs_9 : decode cX4_toHeirs 9 = .ok (.istore 5, 2) := dk_54 5 (dk_at dksX4_toHeirs_0 9 rfl rfl)
theorem dX4_toHeirs_11 : decode cX4_toHeirs 11 = .ok (.iload 5, 2) := dk_21 5 (dk_at dksX4_toHeirs_0 11 rfl rfl)
theorem dX4_toHeirs_13 : decode cX4_toHeirs 13 = .ok (.aload_n 0, 1) := dk_42 (dk_at dksX4_toHeirs_0 13 rfl rfl)
theorem dX4_toHeirs_14 : decode cX4_toHeirs 14 = .ok (.getfield 199, 3) := dk_180 0 199 (dk_at dksX4_toHeirs_0 14 rfl rfl)
theorem dX4_toHeirs_17 : decode cX4_toHeirs 17 = .ok (.if_icmp .ge 20, 3) := dk_162 0 20 (dk_at dksX4_toHeirs_0 17 rfl rfl)
theorem dX4_toHeirs_20 : decode cX4_toHeirs 20 = .ok (.aload_n 0, 1) := dk_42 (dk_at dksX4_toHeirs_0 20 rfl rfl)
theorem dX4_toHeirs_21 : decode cX4_toHeirs 21 = .ok (.getfield 210, 3) := dk_180 0 210 (dk_at dksX4_toHeirs_0 21 rfl rfl)
theorem dX4_toHeirs_24 : decode cX4_toHeirs 24 = .ok (.iload 5, 2) := dk_21 5 (dk_at dksX4_toHeirs_1 0 rfl rfl)
theorem dX4_toHeirs_26 : decode cX4_toHeirs 26 = .ok (.dup2, 1) := dk_92 (dk_at dksX4_toHeirs_1 2 rfl rfl)
theorem dX4_toHeirs_27 : decode cX4_toHeirs 27 = .ok (.laload, 1) := dk_47 (dk_at dksX4_toHeirs_1 3 rfl rfl)
theorem dX4_toHeirs_28 : decode cX4_toHeirs 28 = .ok (.lload_n 3, 1) := dk_33 (dk_at dksX4_toHeirs_1 4 rfl rfl)
theorem dX4_toHeirs_29 : decode cX4_toHeirs 29 = .ok (.ladd, 1) := dk_97 (dk_at dksX4_toHeirs_1 5 rfl rfl)
theorem dX4_toHeirs_30 : decode cX4_toHeirs 30 = .ok (.lastore, 1) := dk_80 (dk_at dksX4_toHeirs_1 6 rfl rfl)
theorem dX4_toHeirs_31 : decode cX4_toHeirs 31 = .ok (.iinc 5 1, 3) := dk_132 5 1 (dk_at dksX4_toHeirs_1 7 rfl rfl)
theorem dX4_toHeirs_34 : decode cX4_toHeirs 34 = .ok (.goto (-23), 3) := dk_167 255 233 (dk_at dksX4_toHeirs_1 10 rfl rfl)
theorem dX4_toHeirs_37 : decode cX4_toHeirs 37 = .ok (.aload_n 0, 1) := dk_42 (dk_at dksX4_toHeirs_1 13 rfl rfl)
theorem dX4_toHeirs_38 : decode cX4_toHeirs 38 = .ok (.getfield 210, 3) := dk_180 0 210 (dk_at dksX4_toHeirs_1 14 rfl rfl)
theorem dX4_toHeirs_41 : decode cX4_toHeirs 41 = .ok (.iconst 0, 1) := dk_3 (dk_at dksX4_toHeirs_1 17 rfl rfl)
theorem dX4_toHeirs_42 : decode cX4_toHeirs 42 = .ok (.dup2, 1) := dk_92 (dk_at dksX4_toHeirs_1 18 rfl rfl)
theorem dX4_toHeirs_43 : decode cX4_toHeirs 43 = .ok (.laload, 1) := dk_47 (dk_at dksX4_toHeirs_1 19 rfl rfl)
theorem dX4_toHeirs_44 : decode cX4_toHeirs 44 = .ok (.lload_n 1, 1) := dk_31 (dk_at dksX4_toHeirs_1 20 rfl rfl)
theorem dX4_toHeirs_45 : decode cX4_toHeirs 45 = .ok (.lload_n 3, 1) := dk_33 (dk_at dksX4_toHeirs_1 21 rfl rfl)
theorem dX4_toHeirs_46 : decode cX4_toHeirs 46 = .ok (.aload_n 0, 1) := dk_42 (dk_at dksX4_toHeirs_1 22 rfl rfl)
theorem dX4_toHeirs_47 : decode cX4_toHeirs 47 = .ok (.getfield 199, 3) := dk_180 0 199 (dk_at dksX4_toHeirs_2 0 rfl rfl)
theorem dX4_toHeirs_50 : decode cX4_toHeirs 50 = .ok (.i2l, 1) := dk_133 (dk_at dksX4_toHeirs_2 3 rfl rfl)
theorem dX4_toHeirs_51 : decode cX4_toHeirs 51 = .ok (.lmul, 1) := dk_105 (dk_at dksX4_toHeirs_2 4 rfl rfl)
theorem dX4_toHeirs_52 : decode cX4_toHeirs 52 = .ok (.lsub, 1) := dk_101 (dk_at dksX4_toHeirs_2 5 rfl rfl)
theorem dX4_toHeirs_53 : decode cX4_toHeirs 53 = .ok (.ladd, 1) := dk_97 (dk_at dksX4_toHeirs_2 6 rfl rfl)
theorem dX4_toHeirs_54 : decode cX4_toHeirs 54 = .ok (.lastore, 1) := dk_80 (dk_at dksX4_toHeirs_2 7 rfl rfl)
theorem dX4_toHeirs_55 : decode cX4_toHeirs 55 = .ok (.aload_n 0, 1) := dk_42 (dk_at dksX4_toHeirs_2 8 rfl rfl)
theorem dX4_toHeirs_56 : decode cX4_toHeirs 56 = .ok (.dup, 1) := dk_89 (dk_at dksX4_toHeirs_2 9 rfl rfl)
theorem dX4_toHeirs_57 : decode cX4_toHeirs 57 = .ok (.getfield 147, 3) := dk_180 0 147 (dk_at dksX4_toHeirs_2 10 rfl rfl)
theorem dX4_toHeirs_60 : decode cX4_toHeirs 60 = .ok (.lload_n 1, 1) := dk_31 (dk_at dksX4_toHeirs_2 13 rfl rfl)
theorem dX4_toHeirs_61 : decode cX4_toHeirs 61 = .ok (.ladd, 1) := dk_97 (dk_at dksX4_toHeirs_2 14 rfl rfl)
theorem dX4_toHeirs_62 : decode cX4_toHeirs 62 = .ok (.putfield 147, 3) := dk_181 0 147 (dk_at dksX4_toHeirs_2 15 rfl rfl)
theorem dX4_toHeirs_65 : decode cX4_toHeirs 65 = .ok (.return_, 1) := dk_177 (dk_at dksX4_toHeirs_2 18 rfl rfl)
abbrev cX4_define : ByteArray := prog_14_method_19_code
def yX4_define : MethodName := ⟨RX4, "define", "(III)I"⟩
def dkwX4_define_4 : List UInt8 := [181, 0, 219, 42, 182, 0, 235, 172]
abbrev dktX4_define_4 : List UInt8 := dkwX4_define_4 ++ []
def dkwX4_define_3 : List UInt8 := [154, 0, 5, 3, 172, 42, 4, 181, 0, 49, 42, 27, 181, 0, 213, 42, 28, 181, 0, 216, 42, 29]
abbrev dktX4_define_3 : List UInt8 := dkwX4_define_3 ++ dktX4_define_4
def dkwX4_define_2 : List UInt8 := [182, 0, 104, 153, 0, 23, 42, 42, 182, 0, 232, 154, 0, 7, 4, 167, 0, 4, 3, 5, 182, 0, 104]
abbrev dktX4_define_2 : List UInt8 := dkwX4_define_2 ++ dktX4_define_3
def dkwX4_define_1 : List UInt8 := [29, 133, 9, 20, 0, 173, 184, 0, 100, 153, 0, 7, 4, 167, 0, 4, 3, 54, 4, 42, 21, 4, 4]
abbrev dktX4_define_1 : List UInt8 := dkwX4_define_1 ++ dktX4_define_2
def dkwX4_define_0 : List UInt8 := [27, 133, 10, 20, 0, 228, 184, 0, 100, 153, 0, 31, 28, 133, 10, 20, 0, 230, 184, 0, 100, 153, 0, 19]
abbrev dktX4_define_0 : List UInt8 := dkwX4_define_0 ++ dktX4_define_1
theorem dksX4_define_0 : cX4_define.data.toList.drop 0 = dktX4_define_0 := by decide +kernel
theorem dksX4_define_1 : cX4_define.data.toList.drop 24 = dktX4_define_1 := dk_seg dksX4_define_0 24 rfl rfl
theorem dksX4_define_2 : cX4_define.data.toList.drop 47 = dktX4_define_2 := dk_seg dksX4_define_1 23 rfl rfl
theorem dksX4_define_3 : cX4_define.data.toList.drop 70 = dktX4_define_3 := dk_seg dksX4_define_2 23 rfl rfl
theorem dksX4_define_4 : cX4_define.data.toList.drop 92 = dktX4_define_4 := dk_seg dksX4_define_3 22 rfl rfl
theorem dX4_define_0 : decode cX4_define 0 = .ok (.iload_n 1, 1) := dk_27 (dk_at dksX4_define_0 0 rfl rfl)
theorem dX4_define_1 : decode cX4_define 1 = .ok (.i2l, 1) := dk_133 (dk_at dksX4_define_0 1 rfl rfl)
theorem dX4_define_2 : decode cX4_define 2 = .ok (.lconst 1, 1) := dk_10 (dk_at dksX4_define_0 2 rfl rfl)
theorem dX4_define_3 : decode cX4_define 3 = .ok (.ldc2_w 228, 3) := dk_20 0 228 (dk_at dksX4_define_0 3 rfl rfl)
theorem dX4_define_6 : decode cX4_define 6 = .ok (.invokestatic 100, 3) := dk_184 0 100 (dk_at dksX4_define_0 6 rfl rfl)
theorem dX4_define_9 : decode cX4_define 9 = .ok (.ifCond .eq 31, 3) := dk_153 0 31 (dk_at dksX4_define_0 9 rfl rfl)
theorem dX4_define_12 : decode cX4_define 12 = .ok (.iload_n 2, 1) := dk_28 (dk_at dksX4_define_0 12 rfl rfl)
theorem dX4_define_13 : decode cX4_define 13 = .ok (.i2l, 1) := dk_133 (dk_at dksX4_define_0 13 rfl rfl)
theorem dX4_define_14 : decode cX4_define 14 = .ok (.lconst 1, 1) := dk_10 (dk_at dksX4_define_0 14 rfl rfl)
theorem dX4_define_15 : decode cX4_define 15 = .ok (.ldc2_w 230, 3) := dk_20 0 230 (dk_at dksX4_define_0 15 rfl rfl)
theorem dX4_define_18 : decode cX4_define 18 = .ok (.invokestatic 100, 3) := dk_184 0 100 (dk_at dksX4_define_0 18 rfl rfl)
theorem dX4_define_21 : decode cX4_define 21 = .ok (.ifCond .eq 19, 3) := dk_153 0 19 (dk_at dksX4_define_0 21 rfl rfl)
theorem dX4_define_24 : decode cX4_define 24 = .ok (.iload_n 3, 1) := dk_29 (dk_at dksX4_define_1 0 rfl rfl)
theorem dX4_define_25 : decode cX4_define 25 = .ok (.i2l, 1) := dk_133 (dk_at dksX4_define_1 1 rfl rfl)
theorem dX4_define_26 : decode cX4_define 26 = .ok (.lconst 0, 1) := dk_9 (dk_at dksX4_define_1 2 rfl rfl)
theorem dX4_define_27 : decode cX4_define 27 = .ok (.ldc2_w 173, 3) := dk_20 0 173 (dk_at dksX4_define_1 3 rfl rfl)
theorem dX4_define_30 : decode cX4_define 30 = .ok (.invokestatic 100, 3) := dk_184 0 100 (dk_at dksX4_define_1 6 rfl rfl)
theorem dX4_define_33 : decode cX4_define 33 = .ok (.ifCond .eq 7, 3) := dk_153 0 7 (dk_at dksX4_define_1 9 rfl rfl)
theorem dX4_define_36 : decode cX4_define 36 = .ok (.iconst 1, 1) := dk_4 (dk_at dksX4_define_1 12 rfl rfl)
theorem dX4_define_37 : decode cX4_define 37 = .ok (.goto 4, 3) := dk_167 0 4 (dk_at dksX4_define_1 13 rfl rfl)
theorem dX4_define_40 : decode cX4_define 40 = .ok (.iconst 0, 1) := dk_3 (dk_at dksX4_define_1 16 rfl rfl)
theorem dX4_define_41 : decode cX4_define 41 = .ok (.istore 4, 2) := dk_54 4 (dk_at dksX4_define_1 17 rfl rfl)
theorem dX4_define_43 : decode cX4_define 43 = .ok (.aload_n 0, 1) := dk_42 (dk_at dksX4_define_1 19 rfl rfl)
theorem dX4_define_44 : decode cX4_define 44 = .ok (.iload 4, 2) := dk_21 4 (dk_at dksX4_define_1 20 rfl rfl)
theorem dX4_define_46 : decode cX4_define 46 = .ok (.iconst 1, 1) := dk_4 (dk_at dksX4_define_1 22 rfl rfl)
theorem dX4_define_47 : decode cX4_define 47 = .ok (.invokevirtual 104, 3) := dk_182 0 104 (dk_at dksX4_define_2 0 rfl rfl)
theorem dX4_define_50 : decode cX4_define 50 = .ok (.ifCond .eq 23, 3) := dk_153 0 23 (dk_at dksX4_define_2 3 rfl rfl)
theorem dX4_define_53 : decode cX4_define 53 = .ok (.aload_n 0, 1) := dk_42 (dk_at dksX4_define_2 6 rfl rfl)
theorem dX4_define_54 : decode cX4_define 54 = .ok (.aload_n 0, 1) := dk_42 (dk_at dksX4_define_2 7 rfl rfl)
theorem dX4_define_55 : decode cX4_define 55 = .ok (.invokevirtual 232, 3) := dk_182 0 232 (dk_at dksX4_define_2 8 rfl rfl)
theorem dX4_define_58 : decode cX4_define 58 = .ok (.ifCond .ne 7, 3) := dk_154 0 7 (dk_at dksX4_define_2 11 rfl rfl)
theorem dX4_define_61 : decode cX4_define 61 = .ok (.iconst 1, 1) := dk_4 (dk_at dksX4_define_2 14 rfl rfl)
theorem dX4_define_62 : decode cX4_define 62 = .ok (.goto 4, 3) := dk_167 0 4 (dk_at dksX4_define_2 15 rfl rfl)
theorem dX4_define_65 : decode cX4_define 65 = .ok (.iconst 0, 1) := dk_3 (dk_at dksX4_define_2 18 rfl rfl)
theorem dX4_define_66 : decode cX4_define 66 = .ok (.iconst 2, 1) := dk_5 (dk_at dksX4_define_2 19 rfl rfl)
theorem dX4_define_67 : decode cX4_define 67 = .ok (.invokevirtual 104, 3) := dk_182 0 104 (dk_at dksX4_define_2 20 rfl rfl)
theorem dX4_define_70 : decode cX4_define 70 = .ok (.ifCond .ne 5, 3) := dk_154 0 5 (dk_at dksX4_define_3 0 rfl rfl)
theorem dX4_define_73 : decode cX4_define 73 = .ok (.iconst 0, 1) := dk_3 (dk_at dksX4_define_3 3 rfl rfl)
theorem dX4_define_74 : decode cX4_define 74 = .ok (.ireturn, 1) := dk_172 (dk_at dksX4_define_3 4 rfl rfl)
theorem dX4_define_75 : decode cX4_define 75 = .ok (.aload_n 0, 1) := dk_42 (dk_at dksX4_define_3 5 rfl rfl)
theorem dX4_define_76 : decode cX4_define 76 = .ok (.iconst 1, 1) := dk_4 (dk_at dksX4_define_3 6 rfl rfl)
theorem dX4_define_77 : decode cX4_define 77 = .ok (.putfield 49, 3) := dk_181 0 49 (dk_at dksX4_define_3 7 rfl rfl)
theorem dX4_define_80 : decode cX4_define 80 = .ok (.aload_n 0, 1) := dk_42 (dk_at dksX4_define_3 10 rfl rfl)
theorem dX4_define_81 : decode cX4_define 81 = .ok (.iload_n 1, 1) := dk_27 (dk_at dksX4_define_3 11 rfl rfl)
theorem dX4_define_82 : decode cX4_define 82 = .ok (.putfield 213, 3) := dk_181 0 213 (dk_at dksX4_define_3 12 rfl rfl)
theorem dX4_define_85 : decode cX4_define 85 = .ok (.aload_n 0, 1) := dk_42 (dk_at dksX4_define_3 15 rfl rfl)
theorem dX4_define_86 : decode cX4_define 86 = .ok (.iload_n 2, 1) := dk_28 (dk_at dksX4_define_3 16 rfl rfl)
theorem dX4_define_87 : decode cX4_define 87 = .ok (.putfield 216, 3) := dk_181 0 216 (dk_at dksX4_define_3 17 rfl rfl)
theorem dX4_define_90 : decode cX4_define 90 = .ok (.aload_n 0, 1) := dk_42 (dk_at dksX4_define_3 20 rfl rfl)
theorem dX4_define_91 : decode cX4_define 91 = .ok (.iload_n 3, 1) := dk_29 (dk_at dksX4_define_3 21 rfl rfl)
theorem dX4_define_92 : decode cX4_define 92 = .ok (.putfield 219, 3) := dk_181 0 219 (dk_at dksX4_define_4 0 rfl rfl)
theorem dX4_define_95 : decode cX4_define 95 = .ok (.aload_n 0, 1) := dk_42 (dk_at dksX4_define_4 3 rfl rfl)
theorem dX4_define_96 : decode cX4_define 96 = .ok (.invokevirtual 235, 3) := dk_182 0 235 (dk_at dksX4_define_4 4 rfl rfl)
theorem dX4_define_99 : decode cX4_define 99 = .ok (.ireturn, 1) := dk_172 (dk_at dksX4_define_4 7 rfl rfl)
abbrev cX4_isOver : ByteArray := prog_14_method_7_code
def yX4_isOver : MethodName := ⟨RX4, "isOver", "()Z"⟩
def dkwX4_isOver_0 : List UInt8 := [42, 180, 0, 53, 6, 159, 0, 11, 42, 180, 0, 53, 8, 160, 0, 7, 4, 167, 0, 4, 3, 172]
abbrev dktX4_isOver_0 : List UInt8 := dkwX4_isOver_0 ++ []
theorem dksX4_isOver_0 : cX4_isOver.data.toList.drop 0 = dktX4_isOver_0 := by decide +kernel
theorem dX4_isOver_0 : decode cX4_isOver 0 = .ok (.aload_n 0, 1) := dk_42 (dk_at dksX4_isOver_0 0 rfl rfl)
theorem dX4_isOver_1 : decode cX4_isOver 1 = .ok (.getfield 53, 3) := dk_180 0 53 (dk_at dksX4_isOver_0 1 rfl rfl)
theorem dX4_isOver_4 : decode cX4_isOver 4 = .ok (.iconst 3, 1) := dk_6 (dk_at dksX4_isOver_0 4 rfl rfl)
theorem dX4_isOver_5 : decode cX4_isOver 5 = .ok (.if_icmp .eq 11, 3) := dk_159 0 11 (dk_at dksX4_isOver_0 5 rfl rfl)
theorem dX4_isOver_8 : decode cX4_isOver 8 = .ok (.aload_n 0, 1) := dk_42 (dk_at dksX4_isOver_0 8 rfl rfl)
theorem dX4_isOver_9 : decode cX4_isOver 9 = .ok (.getfield 53, 3) := dk_180 0 53 (dk_at dksX4_isOver_0 9 rfl rfl)
theorem dX4_isOver_12 : decode cX4_isOver 12 = .ok (.iconst 5, 1) := dk_8 (dk_at dksX4_isOver_0 12 rfl rfl)
theorem dX4_isOver_13 : decode cX4_isOver 13 = .ok (.if_icmp .ne 7, 3) := dk_160 0 7 (dk_at dksX4_isOver_0 13 rfl rfl)
theorem dX4_isOver_16 : decode cX4_isOver 16 = .ok (.iconst 1, 1) := dk_4 (dk_at dksX4_isOver_0 16 rfl rfl)
theorem dX4_isOver_17 : decode cX4_isOver 17 = .ok (.goto 4, 3) := dk_167 0 4 (dk_at dksX4_isOver_0 17 rfl rfl)
theorem dX4_isOver_20 : decode cX4_isOver 20 = .ok (.iconst 0, 1) := dk_3 (dk_at dksX4_isOver_0 20 rfl rfl)
theorem dX4_isOver_21 : decode cX4_isOver 21 = .ok (.ireturn, 1) := dk_172 (dk_at dksX4_isOver_0 21 rfl rfl)
abbrev cX4_allIn : ByteArray := prog_14_method_18_code
def yX4_allIn : MethodName := ⟨RX4, "allIn", "()I"⟩
def dkwX4_allIn_2 : List UInt8 := [167, 255, 216, 27, 172]
abbrev dktX4_allIn_2 : List UInt8 := dkwX4_allIn_2 ++ []
def dkwX4_allIn_1 : List UInt8 := [182, 0, 108, 192, 0, 112, 182, 0, 120, 153, 0, 7, 4, 167, 0, 4, 3, 96, 60, 132, 2, 1]
abbrev dktX4_allIn_1 : List UInt8 := dkwX4_allIn_1 ++ dktX4_allIn_2
def dkwX4_allIn_0 : List UInt8 := [3, 60, 3, 61, 28, 42, 180, 0, 16, 182, 0, 94, 162, 0, 35, 27, 42, 42, 180, 0, 16, 28]
abbrev dktX4_allIn_0 : List UInt8 := dkwX4_allIn_0 ++ dktX4_allIn_1
theorem dksX4_allIn_0 : cX4_allIn.data.toList.drop 0 = dktX4_allIn_0 := by decide +kernel
theorem dksX4_allIn_1 : cX4_allIn.data.toList.drop 22 = dktX4_allIn_1 := dk_seg dksX4_allIn_0 22 rfl rfl
theorem dksX4_allIn_2 : cX4_allIn.data.toList.drop 44 = dktX4_allIn_2 := dk_seg dksX4_allIn_1 22 rfl rfl
theorem dX4_allIn_0 : decode cX4_allIn 0 = .ok (.iconst 0, 1) := dk_3 (dk_at dksX4_allIn_0 0 rfl rfl)
theorem dX4_allIn_1 : decode cX4_allIn 1 = .ok (.istore_n 1, 1) := dk_60 (dk_at dksX4_allIn_0 1 rfl rfl)
theorem dX4_allIn_2 : decode cX4_allIn 2 = .ok (.iconst 0, 1) := dk_3 (dk_at dksX4_allIn_0 2 rfl rfl)
theorem dX4_allIn_3 : decode cX4_allIn 3 = .ok (.istore_n 2, 1) := dk_61 (dk_at dksX4_allIn_0 3 rfl rfl)
theorem dX4_allIn_4 : decode cX4_allIn 4 = .ok (.iload_n 2, 1) := dk_28 (dk_at dksX4_allIn_0 4 rfl rfl)
theorem dX4_allIn_5 : decode cX4_allIn 5 = .ok (.aload_n 0, 1) := dk_42 (dk_at dksX4_allIn_0 5 rfl rfl)
theorem dX4_allIn_6 : decode cX4_allIn 6 = .ok (.getfield 16, 3) := dk_180 0 16 (dk_at dksX4_allIn_0 6 rfl rfl)
theorem dX4_allIn_9 : decode cX4_allIn 9 = .ok (.invokevirtual 94, 3) := dk_182 0 94 (dk_at dksX4_allIn_0 9 rfl rfl)
theorem dX4_allIn_12 : decode cX4_allIn 12 = .ok (.if_icmp .ge 35, 3) := dk_162 0 35 (dk_at dksX4_allIn_0 12 rfl rfl)
theorem dX4_allIn_15 : decode cX4_allIn 15 = .ok (.iload_n 1, 1) := dk_27 (dk_at dksX4_allIn_0 15 rfl rfl)
theorem dX4_allIn_16 : decode cX4_allIn 16 = .ok (.aload_n 0, 1) := dk_42 (dk_at dksX4_allIn_0 16 rfl rfl)
theorem dX4_allIn_17 : decode cX4_allIn 17 = .ok (.aload_n 0, 1) := dk_42 (dk_at dksX4_allIn_0 17 rfl rfl)
theorem dX4_allIn_18 : decode cX4_allIn 18 = .ok (.getfield 16, 3) := dk_180 0 16 (dk_at dksX4_allIn_0 18 rfl rfl)
theorem dX4_allIn_21 : decode cX4_allIn 21 = .ok (.iload_n 2, 1) := dk_28 (dk_at dksX4_allIn_0 21 rfl rfl)
theorem dX4_allIn_22 : decode cX4_allIn 22 = .ok (.invokevirtual 108, 3) := dk_182 0 108 (dk_at dksX4_allIn_1 0 rfl rfl)
theorem dX4_allIn_25 : decode cX4_allIn 25 = .ok (.checkcast 112, 3) := dk_192 0 112 (dk_at dksX4_allIn_1 3 rfl rfl)
theorem dX4_allIn_28 : decode cX4_allIn 28 = .ok (.invokevirtual 120, 3) := dk_182 0 120 (dk_at dksX4_allIn_1 6 rfl rfl)
theorem dX4_allIn_31 : decode cX4_allIn 31 = .ok (.ifCond .eq 7, 3) := dk_153 0 7 (dk_at dksX4_allIn_1 9 rfl rfl)
theorem dX4_allIn_34 : decode cX4_allIn 34 = .ok (.iconst 1, 1) := dk_4 (dk_at dksX4_allIn_1 12 rfl rfl)
theorem dX4_allIn_35 : decode cX4_allIn 35 = .ok (.goto 4, 3) := dk_167 0 4 (dk_at dksX4_allIn_1 13 rfl rfl)
theorem dX4_allIn_38 : decode cX4_allIn 38 = .ok (.iconst 0, 1) := dk_3 (dk_at dksX4_allIn_1 16 rfl rfl)
theorem dX4_allIn_39 : decode cX4_allIn 39 = .ok (.iadd, 1) := dk_96 (dk_at dksX4_allIn_1 17 rfl rfl)
theorem dX4_allIn_40 : decode cX4_allIn 40 = .ok (.istore_n 1, 1) := dk_60 (dk_at dksX4_allIn_1 18 rfl rfl)
theorem dX4_allIn_41 : decode cX4_allIn 41 = .ok (.iinc 2 1, 3) := dk_132 2 1 (dk_at dksX4_allIn_1 19 rfl rfl)
theorem dX4_allIn_44 : decode cX4_allIn 44 = .ok (.goto (-40), 3) := dk_167 255 216 (dk_at dksX4_allIn_2 0 rfl rfl)
theorem dX4_allIn_47 : decode cX4_allIn 47 = .ok (.iload_n 1, 1) := dk_27 (dk_at dksX4_allIn_2 3 rfl rfl)
theorem dX4_allIn_48 : decode cX4_allIn 48 = .ok (.ireturn, 1) := dk_172 (dk_at dksX4_allIn_2 4 rfl rfl)
abbrev cX4_subclass : ByteArray := prog_14_method_20_code
def yX4_subclass : MethodName := ⟨RX4, "subclass", "(IIZ)I"⟩
def dkwX4_subclass_4 : List UInt8 := [42, 180, 0, 20, 182, 0, 94, 4, 100, 172]
abbrev dktX4_subclass_4 : List UInt8 := dkwX4_subclass_4 ++ []
def dkwX4_subclass_3 : List UInt8 := [89, 3, 27, 79, 89, 4, 28, 79, 89, 5, 29, 153, 0, 7, 4, 167, 0, 4, 3, 79, 182, 0, 186, 87]
abbrev dktX4_subclass_3 : List UInt8 := dkwX4_subclass_3 ++ dktX4_subclass_4
def dkwX4_subclass_2 : List UInt8 := [162, 0, 7, 4, 167, 0, 4, 3, 5, 182, 0, 104, 154, 0, 5, 3, 172, 42, 180, 0, 20, 6, 188, 10]
abbrev dktX4_subclass_2 : List UInt8 := dkwX4_subclass_2 ++ dktX4_subclass_3
def dkwX4_subclass_1 : List UInt8 := [153, 0, 7, 4, 167, 0, 4, 3, 4, 182, 0, 104, 153, 0, 27, 42, 42, 180, 0, 20, 182, 0, 94, 7]
abbrev dktX4_subclass_1 : List UInt8 := dkwX4_subclass_1 ++ dktX4_subclass_2
def dkwX4_subclass_0 : List UInt8 := [42, 27, 133, 9, 20, 0, 194, 184, 0, 100, 153, 0, 20, 28, 133, 27, 133, 20, 0, 194, 184, 0, 100]
abbrev dktX4_subclass_0 : List UInt8 := dkwX4_subclass_0 ++ dktX4_subclass_1
theorem dksX4_subclass_0 : cX4_subclass.data.toList.drop 0 = dktX4_subclass_0 := by decide +kernel
theorem dksX4_subclass_1 : cX4_subclass.data.toList.drop 23 = dktX4_subclass_1 := dk_seg dksX4_subclass_0 23 rfl rfl
theorem dksX4_subclass_2 : cX4_subclass.data.toList.drop 47 = dktX4_subclass_2 := dk_seg dksX4_subclass_1 24 rfl rfl
theorem dksX4_subclass_3 : cX4_subclass.data.toList.drop 71 = dktX4_subclass_3 := dk_seg dksX4_subclass_2 24 rfl rfl
theorem dksX4_subclass_4 : cX4_subclass.data.toList.drop 95 = dktX4_subclass_4 := dk_seg dksX4_subclass_3 24 rfl rfl
theorem dX4_subclass_0 : decode cX4_subclass 0 = .ok (.aload_n 0, 1) := dk_42 (dk_at dksX4_subclass_0 0 rfl rfl)
theorem dX4_subclass_1 : decode cX4_subclass 1 = .ok (.iload_n 1, 1) := dk_27 (dk_at dksX4_subclass_0 1 rfl rfl)
theorem dX4_subclass_2 : decode cX4_subclass 2 = .ok (.i2l, 1) := dk_133 (dk_at dksX4_subclass_0 2 rfl rfl)
theorem dX4_subclass_3 : decode cX4_subclass 3 = .ok (.lconst 0, 1) := dk_9 (dk_at dksX4_subclass_0 3 rfl rfl)
theorem dX4_subclass_4 : decode cX4_subclass 4 = .ok (.ldc2_w 194, 3) := dk_20 0 194 (dk_at dksX4_subclass_0 4 rfl rfl)
theorem dX4_subclass_7 : decode cX4_subclass 7 = .ok (.invokestatic 100, 3) := dk_184 0 100 (dk_at dksX4_subclass_0 7 rfl rfl)
theorem dX4_subclass_10 : decode cX4_subclass 10 = .ok (.ifCond .eq 20, 3) := dk_153 0 20 (dk_at dksX4_subclass_0 10 rfl rfl)
theorem dX4_subclass_13 : decode cX4_subclass 13 = .ok (.iload_n 2, 1) := dk_28 (dk_at dksX4_subclass_0 13 rfl rfl)
theorem dX4_subclass_14 : decode cX4_subclass 14 = .ok (.i2l, 1) := dk_133 (dk_at dksX4_subclass_0 14 rfl rfl)
theorem dX4_subclass_15 : decode cX4_subclass 15 = .ok (.iload_n 1, 1) := dk_27 (dk_at dksX4_subclass_0 15 rfl rfl)
theorem dX4_subclass_16 : decode cX4_subclass 16 = .ok (.i2l, 1) := dk_133 (dk_at dksX4_subclass_0 16 rfl rfl)
theorem dX4_subclass_17 : decode cX4_subclass 17 = .ok (.ldc2_w 194, 3) := dk_20 0 194 (dk_at dksX4_subclass_0 17 rfl rfl)
theorem dX4_subclass_20 : decode cX4_subclass 20 = .ok (.invokestatic 100, 3) := dk_184 0 100 (dk_at dksX4_subclass_0 20 rfl rfl)
theorem dX4_subclass_23 : decode cX4_subclass 23 = .ok (.ifCond .eq 7, 3) := dk_153 0 7 (dk_at dksX4_subclass_1 0 rfl rfl)
theorem dX4_subclass_26 : decode cX4_subclass 26 = .ok (.iconst 1, 1) := dk_4 (dk_at dksX4_subclass_1 3 rfl rfl)
theorem dX4_subclass_27 : decode cX4_subclass 27 = .ok (.goto 4, 3) := dk_167 0 4 (dk_at dksX4_subclass_1 4 rfl rfl)
theorem dX4_subclass_30 : decode cX4_subclass 30 = .ok (.iconst 0, 1) := dk_3 (dk_at dksX4_subclass_1 7 rfl rfl)
theorem dX4_subclass_31 : decode cX4_subclass 31 = .ok (.iconst 1, 1) := dk_4 (dk_at dksX4_subclass_1 8 rfl rfl)
theorem dX4_subclass_32 : decode cX4_subclass 32 = .ok (.invokevirtual 104, 3) := dk_182 0 104 (dk_at dksX4_subclass_1 9 rfl rfl)
theorem dX4_subclass_35 : decode cX4_subclass 35 = .ok (.ifCond .eq 27, 3) := dk_153 0 27 (dk_at dksX4_subclass_1 12 rfl rfl)
theorem dX4_subclass_38 : decode cX4_subclass 38 = .ok (.aload_n 0, 1) := dk_42 (dk_at dksX4_subclass_1 15 rfl rfl)
theorem dX4_subclass_39 : decode cX4_subclass 39 = .ok (.aload_n 0, 1) := dk_42 (dk_at dksX4_subclass_1 16 rfl rfl)
theorem dX4_subclass_40 : decode cX4_subclass 40 = .ok (.getfield 20, 3) := dk_180 0 20 (dk_at dksX4_subclass_1 17 rfl rfl)
theorem dX4_subclass_43 : decode cX4_subclass 43 = .ok (.invokevirtual 94, 3) := dk_182 0 94 (dk_at dksX4_subclass_1 20 rfl rfl)
theorem dX4_subclass_46 : decode cX4_subclass 46 = .ok (.iconst 4, 1) := dk_7 (dk_at dksX4_subclass_1 23 rfl rfl)
theorem dX4_subclass_47 : decode cX4_subclass 47 = .ok (.if_icmp .ge 7, 3) := dk_162 0 7 (dk_at dksX4_subclass_2 0 rfl rfl)
theorem dX4_subclass_50 : decode cX4_subclass 50 = .ok (.iconst 1, 1) := dk_4 (dk_at dksX4_subclass_2 3 rfl rfl)
theorem dX4_subclass_51 : decode cX4_subclass 51 = .ok (.goto 4, 3) := dk_167 0 4 (dk_at dksX4_subclass_2 4 rfl rfl)
theorem dX4_subclass_54 : decode cX4_subclass 54 = .ok (.iconst 0, 1) := dk_3 (dk_at dksX4_subclass_2 7 rfl rfl)
theorem dX4_subclass_55 : decode cX4_subclass 55 = .ok (.iconst 2, 1) := dk_5 (dk_at dksX4_subclass_2 8 rfl rfl)
theorem dX4_subclass_56 : decode cX4_subclass 56 = .ok (.invokevirtual 104, 3) := dk_182 0 104 (dk_at dksX4_subclass_2 9 rfl rfl)
theorem dX4_subclass_59 : decode cX4_subclass 59 = .ok (.ifCond .ne 5, 3) := dk_154 0 5 (dk_at dksX4_subclass_2 12 rfl rfl)
theorem dX4_subclass_62 : decode cX4_subclass 62 = .ok (.iconst 0, 1) := dk_3 (dk_at dksX4_subclass_2 15 rfl rfl)
theorem dX4_subclass_63 : decode cX4_subclass 63 = .ok (.ireturn, 1) := dk_172 (dk_at dksX4_subclass_2 16 rfl rfl)
theorem dX4_subclass_64 : decode cX4_subclass 64 = .ok (.aload_n 0, 1) := dk_42 (dk_at dksX4_subclass_2 17 rfl rfl)
theorem dX4_subclass_65 : decode cX4_subclass 65 = .ok (.getfield 20, 3) := dk_180 0 20 (dk_at dksX4_subclass_2 18 rfl rfl)
theorem dX4_subclass_68 : decode cX4_subclass 68 = .ok (.iconst 3, 1) := dk_6 (dk_at dksX4_subclass_2 21 rfl rfl)
theorem dX4_subclass_69 : decode cX4_subclass 69 = .ok (.newarray .int, 2) := dk_188_10 (dk_at dksX4_subclass_2 22 rfl rfl)
theorem dX4_subclass_71 : decode cX4_subclass 71 = .ok (.dup, 1) := dk_89 (dk_at dksX4_subclass_3 0 rfl rfl)
theorem dX4_subclass_72 : decode cX4_subclass 72 = .ok (.iconst 0, 1) := dk_3 (dk_at dksX4_subclass_3 1 rfl rfl)
theorem dX4_subclass_73 : decode cX4_subclass 73 = .ok (.iload_n 1, 1) := dk_27 (dk_at dksX4_subclass_3 2 rfl rfl)
theorem dX4_subclass_74 : decode cX4_subclass 74 = .ok (.iastore, 1) := dk_79 (dk_at dksX4_subclass_3 3 rfl rfl)
theorem dX4_subclass_75 : decode cX4_subclass 75 = .ok (.dup, 1) := dk_89 (dk_at dksX4_subclass_3 4 rfl rfl)
theorem dX4_subclass_76 : decode cX4_subclass 76 = .ok (.iconst 1, 1) := dk_4 (dk_at dksX4_subclass_3 5 rfl rfl)
theorem dX4_subclass_77 : decode cX4_subclass 77 = .ok (.iload_n 2, 1) := dk_28 (dk_at dksX4_subclass_3 6 rfl rfl)
theorem dX4_subclass_78 : decode cX4_subclass 78 = .ok (.iastore, 1) := dk_79 (dk_at dksX4_subclass_3 7 rfl rfl)
theorem dX4_subclass_79 : decode cX4_subclass 79 = .ok (.dup, 1) := dk_89 (dk_at dksX4_subclass_3 8 rfl rfl)
theorem dX4_subclass_80 : decode cX4_subclass 80 = .ok (.iconst 2, 1) := dk_5 (dk_at dksX4_subclass_3 9 rfl rfl)
theorem dX4_subclass_81 : decode cX4_subclass 81 = .ok (.iload_n 3, 1) := dk_29 (dk_at dksX4_subclass_3 10 rfl rfl)
theorem dX4_subclass_82 : decode cX4_subclass 82 = .ok (.ifCond .eq 7, 3) := dk_153 0 7 (dk_at dksX4_subclass_3 11 rfl rfl)
theorem dX4_subclass_85 : decode cX4_subclass 85 = .ok (.iconst 1, 1) := dk_4 (dk_at dksX4_subclass_3 14 rfl rfl)
theorem dX4_subclass_86 : decode cX4_subclass 86 = .ok (.goto 4, 3) := dk_167 0 4 (dk_at dksX4_subclass_3 15 rfl rfl)
theorem dX4_subclass_89 : decode cX4_subclass 89 = .ok (.iconst 0, 1) := dk_3 (dk_at dksX4_subclass_3 18 rfl rfl)
theorem dX4_subclass_90 : decode cX4_subclass 90 = .ok (.iastore, 1) := dk_79 (dk_at dksX4_subclass_3 19 rfl rfl)
theorem dX4_subclass_91 : decode cX4_subclass 91 = .ok (.invokevirtual 186, 3) := dk_182 0 186 (dk_at dksX4_subclass_3 20 rfl rfl)
theorem dX4_subclass_94 : decode cX4_subclass 94 = .ok (.pop, 1) := dk_87 (dk_at dksX4_subclass_3 23 rfl rfl)
theorem dX4_subclass_95 : decode cX4_subclass 95 = .ok (.aload_n 0, 1) := dk_42 (dk_at dksX4_subclass_4 0 rfl rfl)
theorem dX4_subclass_96 : decode cX4_subclass 96 = .ok (.getfield 20, 3) := dk_180 0 20 (dk_at dksX4_subclass_4 1 rfl rfl)
theorem dX4_subclass_99 : decode cX4_subclass 99 = .ok (.invokevirtual 94, 3) := dk_182 0 94 (dk_at dksX4_subclass_4 4 rfl rfl)
theorem dX4_subclass_102 : decode cX4_subclass 102 = .ok (.iconst 1, 1) := dk_4 (dk_at dksX4_subclass_4 7 rfl rfl)
theorem dX4_subclass_103 : decode cX4_subclass 103 = .ok (.isub, 1) := dk_100 (dk_at dksX4_subclass_4 8 rfl rfl)
theorem dX4_subclass_104 : decode cX4_subclass 104 = .ok (.ireturn, 1) := dk_172 (dk_at dksX4_subclass_4 9 rfl rfl)
abbrev cX4_personAt : ByteArray := prog_14_method_22_code
def yX4_personAt : MethodName := ⟨RX4, "personAt", "(II)I"⟩
def dkwX4_personAt_6 : List UInt8 := [172, 45, 180, 0, 225, 153, 0, 7, 4, 167, 0, 4, 3, 172]
abbrev dktX4_personAt_6 : List UInt8 := dkwX4_personAt_6 ++ []
def dkwX4_personAt_5 : List UInt8 := [180, 0, 245, 172, 42, 180, 0, 30, 45, 180, 0, 248, 182, 0, 252, 172, 45, 42, 180, 0, 43, 182, 0, 143]
abbrev dktX4_personAt_5 : List UInt8 := dkwX4_personAt_5 ++ dktX4_personAt_6
def dkwX4_personAt_4 : List UInt8 := [172, 45, 180, 0, 114, 172, 45, 180, 0, 114, 17, 4, 56, 161, 0, 7, 4, 167, 0, 4, 3, 172, 45]
abbrev dktX4_personAt_4 : List UInt8 := dkwX4_personAt_4 ++ dktX4_personAt_5
def dkwX4_personAt_3 : List UInt8 := [45, 180, 0, 117, 172, 42, 45, 182, 0, 120, 153, 0, 7, 4, 167, 0, 4, 3, 172, 42, 45, 182, 0, 241]
abbrev dktX4_personAt_3 : List UInt8 := dkwX4_personAt_3 ++ dktX4_personAt_4
def dkwX4_personAt_2 : List UInt8 := [170, 0, 0, 0, 0, 0, 119, 0, 0, 0, 0, 0, 0, 0, 7, 0, 0, 0, 47, 0, 0, 0, 52, 0, 0, 0, 66, 0, 0, 0, 72, 0, 0, 0, 77, 0, 0, 0, 93, 0, 0, 0, 98, 0, 0, 0, 110]
abbrev dktX4_personAt_2 : List UInt8 := dkwX4_personAt_2 ++ dktX4_personAt_3
def dkwX4_personAt_1 : List UInt8 := [182, 0, 104, 154, 0, 5, 3, 172, 42, 180, 0, 16, 27, 182, 0, 108, 192, 0, 112, 78, 28]
abbrev dktX4_personAt_1 : List UInt8 := dkwX4_personAt_1 ++ dktX4_personAt_2
def dkwX4_personAt_0 : List UInt8 := [42, 42, 27, 182, 0, 190, 4, 182, 0, 104, 153, 0, 20, 42, 28, 133, 9, 20, 0, 239, 184, 0, 100, 5]
abbrev dktX4_personAt_0 : List UInt8 := dkwX4_personAt_0 ++ dktX4_personAt_1
theorem dksX4_personAt_0 : cX4_personAt.data.toList.drop 0 = dktX4_personAt_0 := by decide +kernel
theorem dksX4_personAt_1 : cX4_personAt.data.toList.drop 24 = dktX4_personAt_1 := dk_seg dksX4_personAt_0 24 rfl rfl
theorem dksX4_personAt_2 : cX4_personAt.data.toList.drop 45 = dktX4_personAt_2 := dk_seg dksX4_personAt_1 21 rfl rfl
theorem dksX4_personAt_3 : cX4_personAt.data.toList.drop 92 = dktX4_personAt_3 := dk_seg dksX4_personAt_2 47 rfl rfl
theorem dksX4_personAt_4 : cX4_personAt.data.toList.drop 116 = dktX4_personAt_4 := dk_seg dksX4_personAt_3 24 rfl rfl
theorem dksX4_personAt_5 : cX4_personAt.data.toList.drop 139 = dktX4_personAt_5 := dk_seg dksX4_personAt_4 23 rfl rfl
theorem dksX4_personAt_6 : cX4_personAt.data.toList.drop 163 = dktX4_personAt_6 := dk_seg dksX4_personAt_5 24 rfl rfl
theorem dX4_personAt_0 : decode cX4_personAt 0 = .ok (.aload_n 0, 1) := dk_42 (dk_at dksX4_personAt_0 0 rfl rfl)
theorem dX4_personAt_1 : decode cX4_personAt 1 = .ok (.aload_n 0, 1) := dk_42 (dk_at dksX4_personAt_0 1 rfl rfl)
theorem dX4_personAt_2 : decode cX4_personAt 2 = .ok (.iload_n 1, 1) := dk_27 (dk_at dksX4_personAt_0 2 rfl rfl)
theorem dX4_personAt_3 : decode cX4_personAt 3 = .ok (.invokevirtual 190, 3) := dk_182 0 190 (dk_at dksX4_personAt_0 3 rfl rfl)
theorem dX4_personAt_6 : decode cX4_personAt 6 = .ok (.iconst 1, 1) := dk_4 (dk_at dksX4_personAt_0 6 rfl rfl)
theorem dX4_personAt_7 : decode cX4_personAt 7 = .ok (.invokevirtual 104, 3) := dk_182 0 104 (dk_at dksX4_personAt_0 7 rfl rfl)
theorem dX4_personAt_10 : decode cX4_personAt 10 = .ok (.ifCond .eq 20, 3) := dk_153 0 20 (dk_at dksX4_personAt_0 10 rfl rfl)
theorem dX4_personAt_13 : decode cX4_personAt 13 = .ok (.aload_n 0, 1) := dk_42 (dk_at dksX4_personAt_0 13 rfl rfl)
theorem dX4_personAt_14 : decode cX4_personAt 14 = .ok (.iload_n 2, 1) := dk_28 (dk_at dksX4_personAt_0 14 rfl rfl)
theorem dX4_personAt_15 : decode cX4_personAt 15 = .ok (.i2l, 1) := dk_133 (dk_at dksX4_personAt_0 15 rfl rfl)
theorem dX4_personAt_16 : decode cX4_personAt 16 = .ok (.lconst 0, 1) := dk_9 (dk_at dksX4_personAt_0 16 rfl rfl)
theorem dX4_personAt_17 : decode cX4_personAt 17 = .ok (.ldc2_w 239, 3) := dk_20 0 239 (dk_at dksX4_personAt_0 17 rfl rfl)
theorem dX4_personAt_20 : decode cX4_personAt 20 = .ok (.invokestatic 100, 3) := dk_184 0 100 (dk_at dksX4_personAt_0 20 rfl rfl)
theorem dX4_personAt_23 : decode cX4_personAt 23 = .ok (.iconst 2, 1) := dk_5 (dk_at dksX4_personAt_0 23 rfl rfl)
theorem dX4_personAt_24 : decode cX4_personAt 24 = .ok (.invokevirtual 104, 3) := dk_182 0 104 (dk_at dksX4_personAt_1 0 rfl rfl)
theorem dX4_personAt_27 : decode cX4_personAt 27 = .ok (.ifCond .ne 5, 3) := dk_154 0 5 (dk_at dksX4_personAt_1 3 rfl rfl)
theorem dX4_personAt_30 : decode cX4_personAt 30 = .ok (.iconst 0, 1) := dk_3 (dk_at dksX4_personAt_1 6 rfl rfl)
theorem dX4_personAt_31 : decode cX4_personAt 31 = .ok (.ireturn, 1) := dk_172 (dk_at dksX4_personAt_1 7 rfl rfl)
theorem dX4_personAt_32 : decode cX4_personAt 32 = .ok (.aload_n 0, 1) := dk_42 (dk_at dksX4_personAt_1 8 rfl rfl)
theorem dX4_personAt_33 : decode cX4_personAt 33 = .ok (.getfield 16, 3) := dk_180 0 16 (dk_at dksX4_personAt_1 9 rfl rfl)
theorem dX4_personAt_36 : decode cX4_personAt 36 = .ok (.iload_n 1, 1) := dk_27 (dk_at dksX4_personAt_1 12 rfl rfl)
theorem dX4_personAt_37 : decode cX4_personAt 37 = .ok (.invokevirtual 108, 3) := dk_182 0 108 (dk_at dksX4_personAt_1 13 rfl rfl)
theorem dX4_personAt_40 : decode cX4_personAt 40 = .ok (.checkcast 112, 3) := dk_192 0 112 (dk_at dksX4_personAt_1 16 rfl rfl)
theorem dX4_personAt_43 : decode cX4_personAt 43 = .ok (.astore_n 3, 1) := dk_78 (dk_at dksX4_personAt_1 19 rfl rfl)
theorem dX4_personAt_44 : decode cX4_personAt 44 = .ok (.iload_n 2, 1) := dk_28 (dk_at dksX4_personAt_1 20 rfl rfl)
theorem dX4_personAt_45 : decode cX4_personAt 45 = .ok (.tableswitch 119 0 7 #[47, 52, 66, 72, 77, 93, 98, 110], 47) := by decide +kernel
theorem dX4_personAt_92 : decode cX4_personAt 92 = .ok (.aload_n 3, 1) := dk_45 (dk_at dksX4_personAt_3 0 rfl rfl)
theorem dX4_personAt_93 : decode cX4_personAt 93 = .ok (.getfield 117, 3) := dk_180 0 117 (dk_at dksX4_personAt_3 1 rfl rfl)
theorem dX4_personAt_96 : decode cX4_personAt 96 = .ok (.ireturn, 1) := dk_172 (dk_at dksX4_personAt_3 4 rfl rfl)
theorem dX4_personAt_97 : decode cX4_personAt 97 = .ok (.aload_n 0, 1) := dk_42 (dk_at dksX4_personAt_3 5 rfl rfl)
theorem dX4_personAt_98 : decode cX4_personAt 98 = .ok (.aload_n 3, 1) := dk_45 (dk_at dksX4_personAt_3 6 rfl rfl)
theorem dX4_personAt_99 : decode cX4_personAt 99 = .ok (.invokevirtual 120, 3) := dk_182 0 120 (dk_at dksX4_personAt_3 7 rfl rfl)
theorem dX4_personAt_102 : decode cX4_personAt 102 = .ok (.ifCond .eq 7, 3) := dk_153 0 7 (dk_at dksX4_personAt_3 10 rfl rfl)
theorem dX4_personAt_105 : decode cX4_personAt 105 = .ok (.iconst 1, 1) := dk_4 (dk_at dksX4_personAt_3 13 rfl rfl)
theorem dX4_personAt_106 : decode cX4_personAt 106 = .ok (.goto 4, 3) := dk_167 0 4 (dk_at dksX4_personAt_3 14 rfl rfl)
theorem dX4_personAt_109 : decode cX4_personAt 109 = .ok (.iconst 0, 1) := dk_3 (dk_at dksX4_personAt_3 17 rfl rfl)
theorem dX4_personAt_110 : decode cX4_personAt 110 = .ok (.ireturn, 1) := dk_172 (dk_at dksX4_personAt_3 18 rfl rfl)
theorem dX4_personAt_111 : decode cX4_personAt 111 = .ok (.aload_n 0, 1) := dk_42 (dk_at dksX4_personAt_3 19 rfl rfl)
theorem dX4_personAt_112 : decode cX4_personAt 112 = .ok (.aload_n 3, 1) := dk_45 (dk_at dksX4_personAt_3 20 rfl rfl)
theorem dX4_personAt_113 : decode cX4_personAt 113 = .ok (.invokevirtual 241, 3) := dk_182 0 241 (dk_at dksX4_personAt_3 21 rfl rfl)
theorem dX4_personAt_116 : decode cX4_personAt 116 = .ok (.ireturn, 1) := dk_172 (dk_at dksX4_personAt_4 0 rfl rfl)
theorem dX4_personAt_117 : decode cX4_personAt 117 = .ok (.aload_n 3, 1) := dk_45 (dk_at dksX4_personAt_4 1 rfl rfl)
theorem dX4_personAt_118 : decode cX4_personAt 118 = .ok (.getfield 114, 3) := dk_180 0 114 (dk_at dksX4_personAt_4 2 rfl rfl)
theorem dX4_personAt_121 : decode cX4_personAt 121 = .ok (.ireturn, 1) := dk_172 (dk_at dksX4_personAt_4 5 rfl rfl)
theorem dX4_personAt_122 : decode cX4_personAt 122 = .ok (.aload_n 3, 1) := dk_45 (dk_at dksX4_personAt_4 6 rfl rfl)
theorem dX4_personAt_123 : decode cX4_personAt 123 = .ok (.getfield 114, 3) := dk_180 0 114 (dk_at dksX4_personAt_4 7 rfl rfl)
theorem dX4_personAt_126 : decode cX4_personAt 126 = .ok (.sipush 1080, 3) := dk_17 4 56 (dk_at dksX4_personAt_4 10 rfl rfl)
theorem dX4_personAt_129 : decode cX4_personAt 129 = .ok (.if_icmp .lt 7, 3) := dk_161 0 7 (dk_at dksX4_personAt_4 13 rfl rfl)
theorem dX4_personAt_132 : decode cX4_personAt 132 = .ok (.iconst 1, 1) := dk_4 (dk_at dksX4_personAt_4 16 rfl rfl)
theorem dX4_personAt_133 : decode cX4_personAt 133 = .ok (.goto 4, 3) := dk_167 0 4 (dk_at dksX4_personAt_4 17 rfl rfl)
theorem dX4_personAt_136 : decode cX4_personAt 136 = .ok (.iconst 0, 1) := dk_3 (dk_at dksX4_personAt_4 20 rfl rfl)
theorem dX4_personAt_137 : decode cX4_personAt 137 = .ok (.ireturn, 1) := dk_172 (dk_at dksX4_personAt_4 21 rfl rfl)
theorem dX4_personAt_138 : decode cX4_personAt 138 = .ok (.aload_n 3, 1) := dk_45 (dk_at dksX4_personAt_4 22 rfl rfl)
theorem dX4_personAt_139 : decode cX4_personAt 139 = .ok (.getfield 245, 3) := dk_180 0 245 (dk_at dksX4_personAt_5 0 rfl rfl)
theorem dX4_personAt_142 : decode cX4_personAt 142 = .ok (.ireturn, 1) := dk_172 (dk_at dksX4_personAt_5 3 rfl rfl)
theorem dX4_personAt_143 : decode cX4_personAt 143 = .ok (.aload_n 0, 1) := dk_42 (dk_at dksX4_personAt_5 4 rfl rfl)
theorem dX4_personAt_144 : decode cX4_personAt 144 = .ok (.getfield 30, 3) := dk_180 0 30 (dk_at dksX4_personAt_5 5 rfl rfl)
theorem dX4_personAt_147 : decode cX4_personAt 147 = .ok (.aload_n 3, 1) := dk_45 (dk_at dksX4_personAt_5 8 rfl rfl)
theorem dX4_personAt_148 : decode cX4_personAt 148 = .ok (.getfield 248, 3) := dk_180 0 248 (dk_at dksX4_personAt_5 9 rfl rfl)
theorem dX4_personAt_151 : decode cX4_personAt 151 = .ok (.invokevirtual 252, 3) := dk_182 0 252 (dk_at dksX4_personAt_5 12 rfl rfl)
theorem dX4_personAt_154 : decode cX4_personAt 154 = .ok (.ireturn, 1) := dk_172 (dk_at dksX4_personAt_5 15 rfl rfl)
theorem dX4_personAt_155 : decode cX4_personAt 155 = .ok (.aload_n 3, 1) := dk_45 (dk_at dksX4_personAt_5 16 rfl rfl)
theorem dX4_personAt_156 : decode cX4_personAt 156 = .ok (.aload_n 0, 1) := dk_42 (dk_at dksX4_personAt_5 17 rfl rfl)
theorem dX4_personAt_157 : decode cX4_personAt 157 = .ok (.getfield 43, 3) := dk_180 0 43 (dk_at dksX4_personAt_5 18 rfl rfl)
theorem dX4_personAt_160 : decode cX4_personAt 160 = .ok (.invokevirtual 143, 3) := dk_182 0 143 (dk_at dksX4_personAt_5 21 rfl rfl)
theorem dX4_personAt_163 : decode cX4_personAt 163 = .ok (.ireturn, 1) := dk_172 (dk_at dksX4_personAt_6 0 rfl rfl)
theorem dX4_personAt_164 : decode cX4_personAt 164 = .ok (.aload_n 3, 1) := dk_45 (dk_at dksX4_personAt_6 1 rfl rfl)
theorem dX4_personAt_165 : decode cX4_personAt 165 = .ok (.getfield 225, 3) := dk_180 0 225 (dk_at dksX4_personAt_6 2 rfl rfl)
theorem dX4_personAt_168 : decode cX4_personAt 168 = .ok (.ifCond .eq 7, 3) := dk_153 0 7 (dk_at dksX4_personAt_6 5 rfl rfl)
theorem dX4_personAt_171 : decode cX4_personAt 171 = .ok (.iconst 1, 1) := dk_4 (dk_at dksX4_personAt_6 8 rfl rfl)
theorem dX4_personAt_172 : decode cX4_personAt 172 = .ok (.goto 4, 3) := dk_167 0 4 (dk_at dksX4_personAt_6 9 rfl rfl)
theorem dX4_personAt_175 : decode cX4_personAt 175 = .ok (.iconst 0, 1) := dk_3 (dk_at dksX4_personAt_6 12 rfl rfl)
theorem dX4_personAt_176 : decode cX4_personAt 176 = .ok (.ireturn, 1) := dk_172 (dk_at dksX4_personAt_6 13 rfl rfl)
abbrev cX4_subclassOf : ByteArray := prog_14_method_21_code
def yX4_subclassOf : MethodName := ⟨RX4, "subclassOf", "(LMassclaimModel$Person;)I"⟩
def dkwX4_subclassOf_3 : List UInt8 := [167, 255, 196, 28, 172]
abbrev dktX4_subclassOf_3 : List UInt8 := dkwX4_subclassOf_3 ++ []
def dkwX4_subclassOf_2 : List UInt8 := [182, 0, 108, 192, 0, 238, 4, 46, 133, 184, 0, 100, 153, 0, 7, 29, 167, 0, 4, 28, 61, 132, 3, 255]
abbrev dktX4_subclassOf_2 : List UInt8 := dkwX4_subclassOf_2 ++ dktX4_subclassOf_3
def dkwX4_subclassOf_1 : List UInt8 := [43, 180, 0, 117, 133, 42, 180, 0, 20, 29, 182, 0, 108, 192, 0, 238, 3, 46, 133, 42, 180, 0, 20, 29]
abbrev dktX4_subclassOf_1 : List UInt8 := dkwX4_subclassOf_1 ++ dktX4_subclassOf_2
def dkwX4_subclassOf_0 : List UInt8 := [2, 61, 42, 180, 0, 20, 182, 0, 94, 4, 100, 62, 29, 155, 0, 62, 42, 43, 182, 0, 120, 153, 0, 54]
abbrev dktX4_subclassOf_0 : List UInt8 := dkwX4_subclassOf_0 ++ dktX4_subclassOf_1
theorem dksX4_subclassOf_0 : cX4_subclassOf.data.toList.drop 0 = dktX4_subclassOf_0 := by decide +kernel
theorem dksX4_subclassOf_1 : cX4_subclassOf.data.toList.drop 24 = dktX4_subclassOf_1 := dk_seg dksX4_subclassOf_0 24 rfl rfl
theorem dksX4_subclassOf_2 : cX4_subclassOf.data.toList.drop 48 = dktX4_subclassOf_2 := dk_seg dksX4_subclassOf_1 24 rfl rfl
theorem dksX4_subclassOf_3 : cX4_subclassOf.data.toList.drop 72 = dktX4_subclassOf_3 := dk_seg dksX4_subclassOf_2 24 rfl rfl
theorem dX4_subclassOf_0 : decode cX4_subclassOf 0 = .ok (.iconst (-1), 1) := dk_2 (dk_at dksX4_subclassOf_0 0 rfl rfl)
theorem dX4_subclassOf_1 : decode cX4_subclassOf 1 = .ok (.istore_n 2, 1) := dk_61 (dk_at dksX4_subclassOf_0 1 rfl rfl)
theorem dX4_subclassOf_2 : decode cX4_subclassOf 2 = .ok (.aload_n 0, 1) := dk_42 (dk_at dksX4_subclassOf_0 2 rfl rfl)
theorem dX4_subclassOf_3 : decode cX4_subclassOf 3 = .ok (.getfield 20, 3) := dk_180 0 20 (dk_at dksX4_subclassOf_0 3 rfl rfl)
theorem dX4_subclassOf_6 : decode cX4_subclassOf 6 = .ok (.invokevirtual 94, 3) := dk_182 0 94 (dk_at dksX4_subclassOf_0 6 rfl rfl)
theorem dX4_subclassOf_9 : decode cX4_subclassOf 9 = .ok (.iconst 1, 1) := dk_4 (dk_at dksX4_subclassOf_0 9 rfl rfl)
theorem dX4_subclassOf_10 : decode cX4_subclassOf 10 = .ok (.isub, 1) := dk_100 (dk_at dksX4_subclassOf_0 10 rfl rfl)
theorem dX4_subclassOf_11 : decode cX4_subclassOf 11 = .ok (.istore_n 3, 1) := dk_62 (dk_at dksX4_subclassOf_0 11 rfl rfl)
theorem dX4_subclassOf_12 : decode cX4_subclassOf 12 = .ok (.iload_n 3, 1) := dk_29 (dk_at dksX4_subclassOf_0 12 rfl rfl)
theorem dX4_subclassOf_13 : decode cX4_subclassOf 13 = .ok (.ifCond .lt 62, 3) := dk_155 0 62 (dk_at dksX4_subclassOf_0 13 rfl rfl)
theorem dX4_subclassOf_16 : decode cX4_subclassOf 16 = .ok (.aload_n 0, 1) := dk_42 (dk_at dksX4_subclassOf_0 16 rfl rfl)
theorem dX4_subclassOf_17 : decode cX4_subclassOf 17 = .ok (.aload_n 1, 1) := dk_43 (dk_at dksX4_subclassOf_0 17 rfl rfl)
theorem dX4_subclassOf_18 : decode cX4_subclassOf 18 = .ok (.invokevirtual 120, 3) := dk_182 0 120 (dk_at dksX4_subclassOf_0 18 rfl rfl)
theorem dX4_subclassOf_21 : decode cX4_subclassOf 21 = .ok (.ifCond .eq 54, 3) := dk_153 0 54 (dk_at dksX4_subclassOf_0 21 rfl rfl)
theorem dX4_subclassOf_24 : decode cX4_subclassOf 24 = .ok (.aload_n 1, 1) := dk_43 (dk_at dksX4_subclassOf_1 0 rfl rfl)
theorem dX4_subclassOf_25 : decode cX4_subclassOf 25 = .ok (.getfield 117, 3) := dk_180 0 117 (dk_at dksX4_subclassOf_1 1 rfl rfl)
theorem dX4_subclassOf_28 : decode cX4_subclassOf 28 = .ok (.i2l, 1) := dk_133 (dk_at dksX4_subclassOf_1 4 rfl rfl)
theorem dX4_subclassOf_29 : decode cX4_subclassOf 29 = .ok (.aload_n 0, 1) := dk_42 (dk_at dksX4_subclassOf_1 5 rfl rfl)
theorem dX4_subclassOf_30 : decode cX4_subclassOf 30 = .ok (.getfield 20, 3) := dk_180 0 20 (dk_at dksX4_subclassOf_1 6 rfl rfl)
theorem dX4_subclassOf_33 : decode cX4_subclassOf 33 = .ok (.iload_n 3, 1) := dk_29 (dk_at dksX4_subclassOf_1 9 rfl rfl)
theorem dX4_subclassOf_34 : decode cX4_subclassOf 34 = .ok (.invokevirtual 108, 3) := dk_182 0 108 (dk_at dksX4_subclassOf_1 10 rfl rfl)
theorem dX4_subclassOf_37 : decode cX4_subclassOf 37 = .ok (.checkcast 238, 3) := dk_192 0 238 (dk_at dksX4_subclassOf_1 13 rfl rfl)
theorem dX4_subclassOf_40 : decode cX4_subclassOf 40 = .ok (.iconst 0, 1) := dk_3 (dk_at dksX4_subclassOf_1 16 rfl rfl)
theorem dX4_subclassOf_41 : decode cX4_subclassOf 41 = .ok (.iaload, 1) := dk_46 (dk_at dksX4_subclassOf_1 17 rfl rfl)
theorem dX4_subclassOf_42 : decode cX4_subclassOf 42 = .ok (.i2l, 1) := dk_133 (dk_at dksX4_subclassOf_1 18 rfl rfl)
theorem dX4_subclassOf_43 : decode cX4_subclassOf 43 = .ok (.aload_n 0, 1) := dk_42 (dk_at dksX4_subclassOf_1 19 rfl rfl)
theorem dX4_subclassOf_44 : decode cX4_subclassOf 44 = .ok (.getfield 20, 3) := dk_180 0 20 (dk_at dksX4_subclassOf_1 20 rfl rfl)
theorem dX4_subclassOf_47 : decode cX4_subclassOf 47 = .ok (.iload_n 3, 1) := dk_29 (dk_at dksX4_subclassOf_1 23 rfl rfl)
theorem dX4_subclassOf_48 : decode cX4_subclassOf 48 = .ok (.invokevirtual 108, 3) := dk_182 0 108 (dk_at dksX4_subclassOf_2 0 rfl rfl)
theorem dX4_subclassOf_51 : decode cX4_subclassOf 51 = .ok (.checkcast 238, 3) := dk_192 0 238 (dk_at dksX4_subclassOf_2 3 rfl rfl)
theorem dX4_subclassOf_54 : decode cX4_subclassOf 54 = .ok (.iconst 1, 1) := dk_4 (dk_at dksX4_subclassOf_2 6 rfl rfl)
theorem dX4_subclassOf_55 : decode cX4_subclassOf 55 = .ok (.iaload, 1) := dk_46 (dk_at dksX4_subclassOf_2 7 rfl rfl)
theorem dX4_subclassOf_56 : decode cX4_subclassOf 56 = .ok (.i2l, 1) := dk_133 (dk_at dksX4_subclassOf_2 8 rfl rfl)
theorem dX4_subclassOf_57 : decode cX4_subclassOf 57 = .ok (.invokestatic 100, 3) := dk_184 0 100 (dk_at dksX4_subclassOf_2 9 rfl rfl)
theorem dX4_subclassOf_60 : decode cX4_subclassOf 60 = .ok (.ifCond .eq 7, 3) := dk_153 0 7 (dk_at dksX4_subclassOf_2 12 rfl rfl)
theorem dX4_subclassOf_63 : decode cX4_subclassOf 63 = .ok (.iload_n 3, 1) := dk_29 (dk_at dksX4_subclassOf_2 15 rfl rfl)
theorem dX4_subclassOf_64 : decode cX4_subclassOf 64 = .ok (.goto 4, 3) := dk_167 0 4 (dk_at dksX4_subclassOf_2 16 rfl rfl)
theorem dX4_subclassOf_67 : decode cX4_subclassOf 67 = .ok (.iload_n 2, 1) := dk_28 (dk_at dksX4_subclassOf_2 19 rfl rfl)
theorem dX4_subclassOf_68 : decode cX4_subclassOf 68 = .ok (.istore_n 2, 1) := dk_61 (dk_at dksX4_subclassOf_2 20 rfl rfl)
theorem dX4_subclassOf_69 : decode cX4_subclassOf 69 = .ok (.iinc 3 (-1), 3) := dk_132 3 255 (dk_at dksX4_subclassOf_2 21 rfl rfl)
theorem dX4_subclassOf_72 : decode cX4_subclassOf 72 = .ok (.goto (-60), 3) := dk_167 255 196 (dk_at dksX4_subclassOf_3 0 rfl rfl)
theorem dX4_subclassOf_75 : decode cX4_subclassOf 75 = .ok (.iload_n 2, 1) := dk_28 (dk_at dksX4_subclassOf_3 3 rfl rfl)
theorem dX4_subclassOf_76 : decode cX4_subclassOf 76 = .ok (.ireturn, 1) := dk_172 (dk_at dksX4_subclassOf_3 4 rfl rfl)
abbrev cX4_moneyOf : ByteArray := prog_14_method_24_code
def yX4_moneyOf : MethodName := ⟨RX4, "moneyOf", "(II)J"⟩
def dkwX4_moneyOf_4 : List UInt8 := [133, 173]
abbrev dktX4_moneyOf_4 : List UInt8 := dkwX4_moneyOf_4 ++ []
def dkwX4_moneyOf_3 : List UInt8 := [45, 180, 1, 11, 167, 0, 21, 28, 6, 160, 0, 10, 45, 184, 0, 202, 167, 0, 9, 42, 45, 182, 1, 14]
abbrev dktX4_moneyOf_3 : List UInt8 := dkwX4_moneyOf_3 ++ dktX4_moneyOf_4
def dkwX4_moneyOf_2 : List UInt8 := [45, 180, 0, 147, 167, 0, 45, 28, 4, 160, 0, 10, 45, 180, 0, 140, 167, 0, 33, 28, 5, 160, 0, 10]
abbrev dktX4_moneyOf_2 : List UInt8 := dkwX4_moneyOf_2 ++ dktX4_moneyOf_3
def dkwX4_moneyOf_1 : List UInt8 := [182, 0, 104, 154, 0, 5, 9, 173, 42, 180, 0, 16, 27, 182, 0, 108, 192, 0, 112, 78, 28, 154, 0, 10]
abbrev dktX4_moneyOf_1 : List UInt8 := dkwX4_moneyOf_1 ++ dktX4_moneyOf_2
def dkwX4_moneyOf_0 : List UInt8 := [42, 42, 27, 182, 0, 190, 4, 182, 0, 104, 153, 0, 20, 42, 28, 133, 9, 20, 1, 9, 184, 0, 100, 5]
abbrev dktX4_moneyOf_0 : List UInt8 := dkwX4_moneyOf_0 ++ dktX4_moneyOf_1
theorem dksX4_moneyOf_0 : cX4_moneyOf.data.toList.drop 0 = dktX4_moneyOf_0 := by decide +kernel
theorem dksX4_moneyOf_1 : cX4_moneyOf.data.toList.drop 24 = dktX4_moneyOf_1 := dk_seg dksX4_moneyOf_0 24 rfl rfl
theorem dksX4_moneyOf_2 : cX4_moneyOf.data.toList.drop 48 = dktX4_moneyOf_2 := dk_seg dksX4_moneyOf_1 24 rfl rfl
theorem dksX4_moneyOf_3 : cX4_moneyOf.data.toList.drop 72 = dktX4_moneyOf_3 := dk_seg dksX4_moneyOf_2 24 rfl rfl
theorem dksX4_moneyOf_4 : cX4_moneyOf.data.toList.drop 96 = dktX4_moneyOf_4 := dk_seg dksX4_moneyOf_3 24 rfl rfl
theorem dX4_moneyOf_0 : decode cX4_moneyOf 0 = .ok (.aload_n 0, 1) := dk_42 (dk_at dksX4_moneyOf_0 0 rfl rfl)
theorem dX4_moneyOf_1 : decode cX4_moneyOf 1 = .ok (.aload_n 0, 1) := dk_42 (dk_at dksX4_moneyOf_0 1 rfl rfl)
theorem dX4_moneyOf_2 : decode cX4_moneyOf 2 = .ok (.iload_n 1, 1) := dk_27 (dk_at dksX4_moneyOf_0 2 rfl rfl)
theorem dX4_moneyOf_3 : decode cX4_moneyOf 3 = .ok (.invokevirtual 190, 3) := dk_182 0 190 (dk_at dksX4_moneyOf_0 3 rfl rfl)
theorem dX4_moneyOf_6 : decode cX4_moneyOf 6 = .ok (.iconst 1, 1) := dk_4 (dk_at dksX4_moneyOf_0 6 rfl rfl)
theorem dX4_moneyOf_7 : decode cX4_moneyOf 7 = .ok (.invokevirtual 104, 3) := dk_182 0 104 (dk_at dksX4_moneyOf_0 7 rfl rfl)
theorem dX4_moneyOf_10 : decode cX4_moneyOf 10 = .ok (.ifCond .eq 20, 3) := dk_153 0 20 (dk_at dksX4_moneyOf_0 10 rfl rfl)
theorem dX4_moneyOf_13 : decode cX4_moneyOf 13 = .ok (.aload_n 0, 1) := dk_42 (dk_at dksX4_moneyOf_0 13 rfl rfl)
theorem dX4_moneyOf_14 : decode cX4_moneyOf 14 = .ok (.iload_n 2, 1) := dk_28 (dk_at dksX4_moneyOf_0 14 rfl rfl)
theorem dX4_moneyOf_15 : decode cX4_moneyOf 15 = .ok (.i2l, 1) := dk_133 (dk_at dksX4_moneyOf_0 15 rfl rfl)
theorem dX4_moneyOf_16 : decode cX4_moneyOf 16 = .ok (.lconst 0, 1) := dk_9 (dk_at dksX4_moneyOf_0 16 rfl rfl)
theorem dX4_moneyOf_17 : decode cX4_moneyOf 17 = .ok (.ldc2_w 265, 3) := dk_20 1 9 (dk_at dksX4_moneyOf_0 17 rfl rfl)
theorem dX4_moneyOf_20 : decode cX4_moneyOf 20 = .ok (.invokestatic 100, 3) := dk_184 0 100 (dk_at dksX4_moneyOf_0 20 rfl rfl)
theorem dX4_moneyOf_23 : decode cX4_moneyOf 23 = .ok (.iconst 2, 1) := dk_5 (dk_at dksX4_moneyOf_0 23 rfl rfl)
theorem dX4_moneyOf_24 : decode cX4_moneyOf 24 = .ok (.invokevirtual 104, 3) := dk_182 0 104 (dk_at dksX4_moneyOf_1 0 rfl rfl)
theorem dX4_moneyOf_27 : decode cX4_moneyOf 27 = .ok (.ifCond .ne 5, 3) := dk_154 0 5 (dk_at dksX4_moneyOf_1 3 rfl rfl)
theorem dX4_moneyOf_30 : decode cX4_moneyOf 30 = .ok (.lconst 0, 1) := dk_9 (dk_at dksX4_moneyOf_1 6 rfl rfl)
theorem dX4_moneyOf_31 : decode cX4_moneyOf 31 = .ok (.lreturn, 1) := dk_173 (dk_at dksX4_moneyOf_1 7 rfl rfl)
theorem dX4_moneyOf_32 : decode cX4_moneyOf 32 = .ok (.aload_n 0, 1) := dk_42 (dk_at dksX4_moneyOf_1 8 rfl rfl)
theorem dX4_moneyOf_33 : decode cX4_moneyOf 33 = .ok (.getfield 16, 3) := dk_180 0 16 (dk_at dksX4_moneyOf_1 9 rfl rfl)
theorem dX4_moneyOf_36 : decode cX4_moneyOf 36 = .ok (.iload_n 1, 1) := dk_27 (dk_at dksX4_moneyOf_1 12 rfl rfl)
theorem dX4_moneyOf_37 : decode cX4_moneyOf 37 = .ok (.invokevirtual 108, 3) := dk_182 0 108 (dk_at dksX4_moneyOf_1 13 rfl rfl)
theorem dX4_moneyOf_40 : decode cX4_moneyOf 40 = .ok (.checkcast 112, 3) := dk_192 0 112 (dk_at dksX4_moneyOf_1 16 rfl rfl)
theorem dX4_moneyOf_43 : decode cX4_moneyOf 43 = .ok (.astore_n 3, 1) := dk_78 (dk_at dksX4_moneyOf_1 19 rfl rfl)
theorem dX4_moneyOf_44 : decode cX4_moneyOf 44 = .ok (.iload_n 2, 1) := dk_28 (dk_at dksX4_moneyOf_1 20 rfl rfl)
theorem dX4_moneyOf_45 : decode cX4_moneyOf 45 = .ok (.ifCond .ne 10, 3) := dk_154 0 10 (dk_at dksX4_moneyOf_1 21 rfl rfl)
theorem dX4_moneyOf_48 : decode cX4_moneyOf 48 = .ok (.aload_n 3, 1) := dk_45 (dk_at dksX4_moneyOf_2 0 rfl rfl)
theorem dX4_moneyOf_49 : decode cX4_moneyOf 49 = .ok (.getfield 147, 3) := dk_180 0 147 (dk_at dksX4_moneyOf_2 1 rfl rfl)
theorem dX4_moneyOf_52 : decode cX4_moneyOf 52 = .ok (.goto 45, 3) := dk_167 0 45 (dk_at dksX4_moneyOf_2 4 rfl rfl)
theorem dX4_moneyOf_55 : decode cX4_moneyOf 55 = .ok (.iload_n 2, 1) := dk_28 (dk_at dksX4_moneyOf_2 7 rfl rfl)
theorem dX4_moneyOf_56 : decode cX4_moneyOf 56 = .ok (.iconst 1, 1) := dk_4 (dk_at dksX4_moneyOf_2 8 rfl rfl)
theorem dX4_moneyOf_57 : decode cX4_moneyOf 57 = .ok (.if_icmp .ne 10, 3) := dk_160 0 10 (dk_at dksX4_moneyOf_2 9 rfl rfl)
theorem dX4_moneyOf_60 : decode cX4_moneyOf 60 = .ok (.aload_n 3, 1) := dk_45 (dk_at dksX4_moneyOf_2 12 rfl rfl)
theorem dX4_moneyOf_61 : decode cX4_moneyOf 61 = .ok (.getfield 140, 3) := dk_180 0 140 (dk_at dksX4_moneyOf_2 13 rfl rfl)
theorem dX4_moneyOf_64 : decode cX4_moneyOf 64 = .ok (.goto 33, 3) := dk_167 0 33 (dk_at dksX4_moneyOf_2 16 rfl rfl)
theorem dX4_moneyOf_67 : decode cX4_moneyOf 67 = .ok (.iload_n 2, 1) := dk_28 (dk_at dksX4_moneyOf_2 19 rfl rfl)
theorem dX4_moneyOf_68 : decode cX4_moneyOf 68 = .ok (.iconst 2, 1) := dk_5 (dk_at dksX4_moneyOf_2 20 rfl rfl)
theorem dX4_moneyOf_69 : decode cX4_moneyOf 69 = .ok (.if_icmp .ne 10, 3) := dk_160 0 10 (dk_at dksX4_moneyOf_2 21 rfl rfl)
theorem dX4_moneyOf_72 : decode cX4_moneyOf 72 = .ok (.aload_n 3, 1) := dk_45 (dk_at dksX4_moneyOf_3 0 rfl rfl)
theorem dX4_moneyOf_73 : decode cX4_moneyOf 73 = .ok (.getfield 267, 3) := dk_180 1 11 (dk_at dksX4_moneyOf_3 1 rfl rfl)
theorem dX4_moneyOf_76 : decode cX4_moneyOf 76 = .ok (.goto 21, 3) := dk_167 0 21 (dk_at dksX4_moneyOf_3 4 rfl rfl)
theorem dX4_moneyOf_79 : decode cX4_moneyOf 79 = .ok (.iload_n 2, 1) := dk_28 (dk_at dksX4_moneyOf_3 7 rfl rfl)
theorem dX4_moneyOf_80 : decode cX4_moneyOf 80 = .ok (.iconst 3, 1) := dk_6 (dk_at dksX4_moneyOf_3 8 rfl rfl)
theorem dX4_moneyOf_81 : decode cX4_moneyOf 81 = .ok (.if_icmp .ne 10, 3) := dk_160 0 10 (dk_at dksX4_moneyOf_3 9 rfl rfl)
theorem dX4_moneyOf_84 : decode cX4_moneyOf 84 = .ok (.aload_n 3, 1) := dk_45 (dk_at dksX4_moneyOf_3 12 rfl rfl)
theorem dX4_moneyOf_85 : decode cX4_moneyOf 85 = .ok (.invokestatic 202, 3) := dk_184 0 202 (dk_at dksX4_moneyOf_3 13 rfl rfl)
theorem dX4_moneyOf_88 : decode cX4_moneyOf 88 = .ok (.goto 9, 3) := dk_167 0 9 (dk_at dksX4_moneyOf_3 16 rfl rfl)
theorem dX4_moneyOf_91 : decode cX4_moneyOf 91 = .ok (.aload_n 0, 1) := dk_42 (dk_at dksX4_moneyOf_3 19 rfl rfl)
theorem dX4_moneyOf_92 : decode cX4_moneyOf 92 = .ok (.aload_n 3, 1) := dk_45 (dk_at dksX4_moneyOf_3 20 rfl rfl)
theorem dX4_moneyOf_93 : decode cX4_moneyOf 93 = .ok (.invokevirtual 270, 3) := dk_182 1 14 (dk_at dksX4_moneyOf_3 21 rfl rfl)
theorem dX4_moneyOf_96 : decode cX4_moneyOf 96 = .ok (.i2l, 1) := dk_133 (dk_at dksX4_moneyOf_4 0 rfl rfl)
theorem dX4_moneyOf_97 : decode cX4_moneyOf 97 = .ok (.lreturn, 1) := dk_173 (dk_at dksX4_moneyOf_4 1 rfl rfl)
abbrev cX4_openOf : ByteArray := prog_14_method_23_code
def yX4_openOf : MethodName := ⟨RX4, "openOf", "(LMassclaimModel$Person;)I"⟩
def dkwX4_openOf_2 : List UInt8 := [167, 0, 4, 3, 96, 61, 132, 3, 1, 167, 255, 203, 28, 172]
abbrev dktX4_openOf_2 : List UInt8 := dkwX4_openOf_2 ++ []
def dkwX4_openOf_1 : List UInt8 := [192, 1, 0, 180, 1, 2, 43, 166, 0, 20, 42, 180, 0, 33, 29, 182, 0, 108, 192, 1, 0, 180, 1, 6]
abbrev dktX4_openOf_1 : List UInt8 := dkwX4_openOf_1 ++ dktX4_openOf_2
def dkwX4_openOf_0 : List UInt8 := [3, 61, 3, 62, 29, 42, 180, 0, 33, 182, 0, 94, 162, 0, 48, 28, 42, 180, 0, 33, 29, 182, 0, 108]
abbrev dktX4_openOf_0 : List UInt8 := dkwX4_openOf_0 ++ dktX4_openOf_1
theorem dksX4_openOf_0 : cX4_openOf.data.toList.drop 0 = dktX4_openOf_0 := by decide +kernel
theorem dksX4_openOf_1 : cX4_openOf.data.toList.drop 24 = dktX4_openOf_1 := dk_seg dksX4_openOf_0 24 rfl rfl
theorem dksX4_openOf_2 : cX4_openOf.data.toList.drop 48 = dktX4_openOf_2 := dk_seg dksX4_openOf_1 24 rfl rfl
theorem dX4_openOf_0 : decode cX4_openOf 0 = .ok (.iconst 0, 1) := dk_3 (dk_at dksX4_openOf_0 0 rfl rfl)
theorem dX4_openOf_1 : decode cX4_openOf 1 = .ok (.istore_n 2, 1) := dk_61 (dk_at dksX4_openOf_0 1 rfl rfl)
theorem dX4_openOf_2 : decode cX4_openOf 2 = .ok (.iconst 0, 1) := dk_3 (dk_at dksX4_openOf_0 2 rfl rfl)
theorem dX4_openOf_3 : decode cX4_openOf 3 = .ok (.istore_n 3, 1) := dk_62 (dk_at dksX4_openOf_0 3 rfl rfl)
theorem dX4_openOf_4 : decode cX4_openOf 4 = .ok (.iload_n 3, 1) := dk_29 (dk_at dksX4_openOf_0 4 rfl rfl)
theorem dX4_openOf_5 : decode cX4_openOf 5 = .ok (.aload_n 0, 1) := dk_42 (dk_at dksX4_openOf_0 5 rfl rfl)
theorem dX4_openOf_6 : decode cX4_openOf 6 = .ok (.getfield 33, 3) := dk_180 0 33 (dk_at dksX4_openOf_0 6 rfl rfl)
theorem dX4_openOf_9 : decode cX4_openOf 9 = .ok (.invokevirtual 94, 3) := dk_182 0 94 (dk_at dksX4_openOf_0 9 rfl rfl)
theorem dX4_openOf_12 : decode cX4_openOf 12 = .ok (.if_icmp .ge 48, 3) := dk_162 0 48 (dk_at dksX4_openOf_0 12 rfl rfl)
theorem dX4_openOf_15 : decode cX4_openOf 15 = .ok (.iload_n 2, 1) := dk_28 (dk_at dksX4_openOf_0 15 rfl rfl)
theorem dX4_openOf_16 : decode cX4_openOf 16 = .ok (.aload_n 0, 1) := dk_42 (dk_at dksX4_openOf_0 16 rfl rfl)
theorem dX4_openOf_17 : decode cX4_openOf 17 = .ok (.getfield 33, 3) := dk_180 0 33 (dk_at dksX4_openOf_0 17 rfl rfl)
theorem dX4_openOf_20 : decode cX4_openOf 20 = .ok (.iload_n 3, 1) := dk_29 (dk_at dksX4_openOf_0 20 rfl rfl)
theorem dX4_openOf_21 : decode cX4_openOf 21 = .ok (.invokevirtual 108, 3) := dk_182 0 108 (dk_at dksX4_openOf_0 21 rfl rfl)
theorem dX4_openOf_24 : decode cX4_openOf 24 = .ok (.checkcast 256, 3) := dk_192 1 0 (dk_at dksX4_openOf_1 0 rfl rfl)
theorem dX4_openOf_27 : decode cX4_openOf 27 = .ok (.getfield 258, 3) := dk_180 1 2 (dk_at dksX4_openOf_1 3 rfl rfl)
theorem dX4_openOf_30 : decode cX4_openOf 30 = .ok (.aload_n 1, 1) := dk_43 (dk_at dksX4_openOf_1 6 rfl rfl)
theorem dX4_openOf_31 : decode cX4_openOf 31 = .ok (.if_acmp .ne 20, 3) := dk_166 0 20 (dk_at dksX4_openOf_1 7 rfl rfl)
theorem dX4_openOf_34 : decode cX4_openOf 34 = .ok (.aload_n 0, 1) := dk_42 (dk_at dksX4_openOf_1 10 rfl rfl)
theorem dX4_openOf_35 : decode cX4_openOf 35 = .ok (.getfield 33, 3) := dk_180 0 33 (dk_at dksX4_openOf_1 11 rfl rfl)
theorem dX4_openOf_38 : decode cX4_openOf 38 = .ok (.iload_n 3, 1) := dk_29 (dk_at dksX4_openOf_1 14 rfl rfl)
theorem dX4_openOf_39 : decode cX4_openOf 39 = .ok (.invokevirtual 108, 3) := dk_182 0 108 (dk_at dksX4_openOf_1 15 rfl rfl)
theorem dX4_openOf_42 : decode cX4_openOf 42 = .ok (.checkcast 256, 3) := dk_192 1 0 (dk_at dksX4_openOf_1 18 rfl rfl)
theorem dX4_openOf_45 : decode cX4_openOf 45 = .ok (.getfield 262, 3) := dk_180 1 6 (dk_at dksX4_openOf_1 21 rfl rfl)
theorem dX4_openOf_48 : decode cX4_openOf 48 = .ok (.goto 4, 3) := dk_167 0 4 (dk_at dksX4_openOf_2 0 rfl rfl)
theorem dX4_openOf_51 : decode cX4_openOf 51 = .ok (.iconst 0, 1) := dk_3 (dk_at dksX4_openOf_2 3 rfl rfl)
theorem dX4_openOf_52 : decode cX4_openOf 52 = .ok (.iadd, 1) := dk_96 (dk_at dksX4_openOf_2 4 rfl rfl)
theorem dX4_openOf_53 : decode cX4_openOf 53 = .ok (.istore_n 2, 1) := dk_61 (dk_at dksX4_openOf_2 5 rfl rfl)
theorem dX4_openOf_54 : decode cX4_openOf 54 = .ok (.iinc 3 1, 3) := dk_132 3 1 (dk_at dksX4_openOf_2 6 rfl rfl)
theorem dX4_openOf_57 : decode cX4_openOf 57 = .ok (.goto (-53), 3) := dk_167 255 203 (dk_at dksX4_openOf_2 9 rfl rfl)
theorem dX4_openOf_60 : decode cX4_openOf 60 = .ok (.iload_n 2, 1) := dk_28 (dk_at dksX4_openOf_2 12 rfl rfl)
theorem dX4_openOf_61 : decode cX4_openOf 61 = .ok (.ireturn, 1) := dk_172 (dk_at dksX4_openOf_2 13 rfl rfl)
abbrev cX4_heirAt : ByteArray := prog_14_method_25_code
def yX4_heirAt : MethodName := ⟨RX4, "heirAt", "(II)J"⟩
def dkwX4_heirAt_4 : List UInt8 := [173]
abbrev dktX4_heirAt_4 : List UInt8 := dkwX4_heirAt_4 ++ []
def dkwX4_heirAt_3 : List UInt8 := [182, 0, 104, 154, 0, 5, 9, 173, 42, 180, 0, 16, 27, 182, 0, 108, 192, 0, 112, 180, 0, 210, 28, 47]
abbrev dktX4_heirAt_3 : List UInt8 := dkwX4_heirAt_3 ++ dktX4_heirAt_4
def dkwX4_heirAt_2 : List UInt8 := [9, 42, 180, 0, 16, 27, 182, 0, 108, 192, 0, 112, 180, 0, 199, 4, 100, 133, 184, 0, 100, 4]
abbrev dktX4_heirAt_2 : List UInt8 := dkwX4_heirAt_2 ++ dktX4_heirAt_3
def dkwX4_heirAt_1 : List UInt8 := [192, 0, 112, 182, 0, 136, 154, 0, 7, 4, 167, 0, 4, 3, 5, 182, 0, 104, 153, 0, 34, 42, 28, 133]
abbrev dktX4_heirAt_1 : List UInt8 := dkwX4_heirAt_1 ++ dktX4_heirAt_2
def dkwX4_heirAt_0 : List UInt8 := [42, 42, 27, 182, 0, 190, 4, 182, 0, 104, 153, 0, 64, 42, 42, 180, 0, 16, 27, 182, 0, 108]
abbrev dktX4_heirAt_0 : List UInt8 := dkwX4_heirAt_0 ++ dktX4_heirAt_1
theorem dksX4_heirAt_0 : cX4_heirAt.data.toList.drop 0 = dktX4_heirAt_0 := by decide +kernel
theorem dksX4_heirAt_1 : cX4_heirAt.data.toList.drop 22 = dktX4_heirAt_1 := dk_seg dksX4_heirAt_0 22 rfl rfl
theorem dksX4_heirAt_2 : cX4_heirAt.data.toList.drop 46 = dktX4_heirAt_2 := dk_seg dksX4_heirAt_1 24 rfl rfl
theorem dksX4_heirAt_3 : cX4_heirAt.data.toList.drop 68 = dktX4_heirAt_3 := dk_seg dksX4_heirAt_2 22 rfl rfl
theorem dksX4_heirAt_4 : cX4_heirAt.data.toList.drop 92 = dktX4_heirAt_4 := dk_seg dksX4_heirAt_3 24 rfl rfl
theorem dX4_heirAt_0 : decode cX4_heirAt 0 = .ok (.aload_n 0, 1) := dk_42 (dk_at dksX4_heirAt_0 0 rfl rfl)
theorem dX4_heirAt_1 : decode cX4_heirAt 1 = .ok (.aload_n 0, 1) := dk_42 (dk_at dksX4_heirAt_0 1 rfl rfl)
theorem dX4_heirAt_2 : decode cX4_heirAt 2 = .ok (.iload_n 1, 1) := dk_27 (dk_at dksX4_heirAt_0 2 rfl rfl)
theorem dX4_heirAt_3 : decode cX4_heirAt 3 = .ok (.invokevirtual 190, 3) := dk_182 0 190 (dk_at dksX4_heirAt_0 3 rfl rfl)
theorem dX4_heirAt_6 : decode cX4_heirAt 6 = .ok (.iconst 1, 1) := dk_4 (dk_at dksX4_heirAt_0 6 rfl rfl)
theorem dX4_heirAt_7 : decode cX4_heirAt 7 = .ok (.invokevirtual 104, 3) := dk_182 0 104 (dk_at dksX4_heirAt_0 7 rfl rfl)
theorem dX4_heirAt_10 : decode cX4_heirAt 10 = .ok (.ifCond .eq 64, 3) := dk_153 0 64 (dk_at dksX4_heirAt_0 10 rfl rfl)
theorem dX4_heirAt_13 : decode cX4_heirAt 13 = .ok (.aload_n 0, 1) := dk_42 (dk_at dksX4_heirAt_0 13 rfl rfl)
theorem dX4_heirAt_14 : decode cX4_heirAt 14 = .ok (.aload_n 0, 1) := dk_42 (dk_at dksX4_heirAt_0 14 rfl rfl)
theorem dX4_heirAt_15 : decode cX4_heirAt 15 = .ok (.getfield 16, 3) := dk_180 0 16 (dk_at dksX4_heirAt_0 15 rfl rfl)
theorem dX4_heirAt_18 : decode cX4_heirAt 18 = .ok (.iload_n 1, 1) := dk_27 (dk_at dksX4_heirAt_0 18 rfl rfl)
theorem dX4_heirAt_19 : decode cX4_heirAt 19 = .ok (.invokevirtual 108, 3) := dk_182 0 108 (dk_at dksX4_heirAt_0 19 rfl rfl)
theorem dX4_heirAt_22 : decode cX4_heirAt 22 = .ok (.checkcast 112, 3) := dk_192 0 112 (dk_at dksX4_heirAt_1 0 rfl rfl)
theorem dX4_heirAt_25 : decode cX4_heirAt 25 = .ok (.invokevirtual 136, 3) := dk_182 0 136 (dk_at dksX4_heirAt_1 3 rfl rfl)
theorem dX4_heirAt_28 : decode cX4_heirAt 28 = .ok (.ifCond .ne 7, 3) := dk_154 0 7 (dk_at dksX4_heirAt_1 6 rfl rfl)
theorem dX4_heirAt_31 : decode cX4_heirAt 31 = .ok (.iconst 1, 1) := dk_4 (dk_at dksX4_heirAt_1 9 rfl rfl)
theorem dX4_heirAt_32 : decode cX4_heirAt 32 = .ok (.goto 4, 3) := dk_167 0 4 (dk_at dksX4_heirAt_1 10 rfl rfl)
theorem dX4_heirAt_35 : decode cX4_heirAt 35 = .ok (.iconst 0, 1) := dk_3 (dk_at dksX4_heirAt_1 13 rfl rfl)
theorem dX4_heirAt_36 : decode cX4_heirAt 36 = .ok (.iconst 2, 1) := dk_5 (dk_at dksX4_heirAt_1 14 rfl rfl)
theorem dX4_heirAt_37 : decode cX4_heirAt 37 = .ok (.invokevirtual 104, 3) := dk_182 0 104 (dk_at dksX4_heirAt_1 15 rfl rfl)
theorem dX4_heirAt_40 : decode cX4_heirAt 40 = .ok (.ifCond .eq 34, 3) := dk_153 0 34 (dk_at dksX4_heirAt_1 18 rfl rfl)
theorem dX4_heirAt_43 : decode cX4_heirAt 43 = .ok (.aload_n 0, 1) := dk_42 (dk_at dksX4_heirAt_1 21 rfl rfl)
theorem dX4_heirAt_44 : decode cX4_heirAt 44 = .ok (.iload_n 2, 1) := dk_28 (dk_at dksX4_heirAt_1 22 rfl rfl)
theorem dX4_heirAt_45 : decode cX4_heirAt 45 = .ok (.i2l, 1) := dk_133 (dk_at dksX4_heirAt_1 23 rfl rfl)
theorem dX4_heirAt_46 : decode cX4_heirAt 46 = .ok (.lconst 0, 1) := dk_9 (dk_at dksX4_heirAt_2 0 rfl rfl)
theorem dX4_heirAt_47 : decode cX4_heirAt 47 = .ok (.aload_n 0, 1) := dk_42 (dk_at dksX4_heirAt_2 1 rfl rfl)
theorem dX4_heirAt_48 : decode cX4_heirAt 48 = .ok (.getfield 16, 3) := dk_180 0 16 (dk_at dksX4_heirAt_2 2 rfl rfl)
theorem dX4_heirAt_51 : decode cX4_heirAt 51 = .ok (.iload_n 1, 1) := dk_27 (dk_at dksX4_heirAt_2 5 rfl rfl)
theorem dX4_heirAt_52 : decode cX4_heirAt 52 = .ok (.invokevirtual 108, 3) := dk_182 0 108 (dk_at dksX4_heirAt_2 6 rfl rfl)
theorem dX4_heirAt_55 : decode cX4_heirAt 55 = .ok (.checkcast 112, 3) := dk_192 0 112 (dk_at dksX4_heirAt_2 9 rfl rfl)
theorem dX4_heirAt_58 : decode cX4_heirAt 58 = .ok (.getfield 199, 3) := dk_180 0 199 (dk_at dksX4_heirAt_2 12 rfl rfl)
theorem dX4_heirAt_61 : decode cX4_heirAt 61 = .ok (.iconst 1, 1) := dk_4 (dk_at dksX4_heirAt_2 15 rfl rfl)
theorem dX4_heirAt_62 : decode cX4_heirAt 62 = .ok (.isub, 1) := dk_100 (dk_at dksX4_heirAt_2 16 rfl rfl)
theorem dX4_heirAt_63 : decode cX4_heirAt 63 = .ok (.i2l, 1) := dk_133 (dk_at dksX4_heirAt_2 17 rfl rfl)
theorem dX4_heirAt_64 : decode cX4_heirAt 64 = .ok (.invokestatic 100, 3) := dk_184 0 100 (dk_at dksX4_heirAt_2 18 rfl rfl)
theorem dX4_heirAt_67 : decode cX4_heirAt 67 = .ok (.iconst 1, 1) := dk_4 (dk_at dksX4_heirAt_2 21 rfl rfl)
theorem dX4_heirAt_68 : decode cX4_heirAt 68 = .ok (.invokevirtual 104, 3) := dk_182 0 104 (dk_at dksX4_heirAt_3 0 rfl rfl)
theorem dX4_heirAt_71 : decode cX4_heirAt 71 = .ok (.ifCond .ne 5, 3) := dk_154 0 5 (dk_at dksX4_heirAt_3 3 rfl rfl)
theorem dX4_heirAt_74 : decode cX4_heirAt 74 = .ok (.lconst 0, 1) := dk_9 (dk_at dksX4_heirAt_3 6 rfl rfl)
theorem dX4_heirAt_75 : decode cX4_heirAt 75 = .ok (.lreturn, 1) := dk_173 (dk_at dksX4_heirAt_3 7 rfl rfl)
theorem dX4_heirAt_76 : decode cX4_heirAt 76 = .ok (.aload_n 0, 1) := dk_42 (dk_at dksX4_heirAt_3 8 rfl rfl)
theorem dX4_heirAt_77 : decode cX4_heirAt 77 = .ok (.getfield 16, 3) := dk_180 0 16 (dk_at dksX4_heirAt_3 9 rfl rfl)
theorem dX4_heirAt_80 : decode cX4_heirAt 80 = .ok (.iload_n 1, 1) := dk_27 (dk_at dksX4_heirAt_3 12 rfl rfl)
theorem dX4_heirAt_81 : decode cX4_heirAt 81 = .ok (.invokevirtual 108, 3) := dk_182 0 108 (dk_at dksX4_heirAt_3 13 rfl rfl)
theorem dX4_heirAt_84 : decode cX4_heirAt 84 = .ok (.checkcast 112, 3) := dk_192 0 112 (dk_at dksX4_heirAt_3 16 rfl rfl)
theorem dX4_heirAt_87 : decode cX4_heirAt 87 = .ok (.getfield 210, 3) := dk_180 0 210 (dk_at dksX4_heirAt_3 19 rfl rfl)
theorem dX4_heirAt_90 : decode cX4_heirAt 90 = .ok (.iload_n 2, 1) := dk_28 (dk_at dksX4_heirAt_3 22 rfl rfl)
theorem dX4_heirAt_91 : decode cX4_heirAt 91 = .ok (.laload, 1) := dk_47 (dk_at dksX4_heirAt_3 23 rfl rfl)
theorem dX4_heirAt_92 : decode cX4_heirAt 92 = .ok (.lreturn, 1) := dk_173 (dk_at dksX4_heirAt_4 0 rfl rfl)
abbrev cX4_notice : ByteArray := prog_14_method_26_code
def yX4_notice : MethodName := ⟨RX4, "notice", "(II)I"⟩
def dkwX4_notice_8 : List UInt8 := [172]
abbrev dktX4_notice_8 : List UInt8 := dkwX4_notice_8 ++ []
def dkwX4_notice_7 : List UInt8 := [21, 6, 153, 0, 15, 25, 5, 42, 180, 0, 43, 181, 0, 245, 132, 3, 1, 132, 4, 1, 167, 255, 133, 29]
abbrev dktX4_notice_7 : List UInt8 := dkwX4_notice_7 ++ dktX4_notice_8
def dkwX4_notice_6 : List UInt8 := [167, 0, 4, 3, 54, 6, 42, 25, 5, 182, 0, 120, 153, 0, 29, 25, 5, 180, 0, 245, 2, 160, 0, 20]
abbrev dktX4_notice_6 : List UInt8 := dkwX4_notice_6 ++ dktX4_notice_7
def dkwX4_notice_5 : List UInt8 := [167, 0, 26, 3, 167, 0, 22, 25, 5, 42, 180, 0, 43, 182, 0, 143, 16, 50, 162, 0, 7, 4]
abbrev dktX4_notice_5 : List UInt8 := dkwX4_notice_5 ++ dktX4_notice_6
def dkwX4_notice_4 : List UInt8 := [167, 0, 48, 27, 4, 160, 0, 24, 28, 25, 5, 180, 0, 179, 122, 4, 126, 4, 160, 0, 7, 4]
abbrev dktX4_notice_4 : List UInt8 := dkwX4_notice_4 ++ dktX4_notice_5
def dkwX4_notice_3 : List UInt8 := [180, 0, 16, 21, 4, 182, 0, 108, 192, 0, 112, 58, 5, 27, 154, 0, 11, 25, 5, 180, 1, 19]
abbrev dktX4_notice_3 : List UInt8 := dkwX4_notice_3 ++ dktX4_notice_4
def dkwX4_notice_2 : List UInt8 := [154, 0, 5, 3, 172, 3, 62, 3, 54, 4, 21, 4, 42, 180, 0, 16, 182, 0, 94, 162, 0, 117, 42]
abbrev dktX4_notice_2 : List UInt8 := dkwX4_notice_2 ++ dktX4_notice_3
def dkwX4_notice_1 : List UInt8 := [153, 0, 7, 4, 167, 0, 4, 3, 4, 182, 0, 104, 153, 0, 15, 42, 42, 180, 0, 49, 5, 182, 0, 104]
abbrev dktX4_notice_1 : List UInt8 := dkwX4_notice_1 ++ dktX4_notice_2
def dkwX4_notice_0 : List UInt8 := [42, 27, 133, 9, 20, 1, 17, 184, 0, 100, 153, 0, 19, 28, 133, 10, 20, 0, 230, 184, 0, 100]
abbrev dktX4_notice_0 : List UInt8 := dkwX4_notice_0 ++ dktX4_notice_1
theorem dksX4_notice_0 : cX4_notice.data.toList.drop 0 = dktX4_notice_0 := by decide +kernel
theorem dksX4_notice_1 : cX4_notice.data.toList.drop 22 = dktX4_notice_1 := dk_seg dksX4_notice_0 22 rfl rfl
theorem dksX4_notice_2 : cX4_notice.data.toList.drop 46 = dktX4_notice_2 := dk_seg dksX4_notice_1 24 rfl rfl
theorem dksX4_notice_3 : cX4_notice.data.toList.drop 69 = dktX4_notice_3 := dk_seg dksX4_notice_2 23 rfl rfl
theorem dksX4_notice_4 : cX4_notice.data.toList.drop 91 = dktX4_notice_4 := dk_seg dksX4_notice_3 22 rfl rfl
theorem dksX4_notice_5 : cX4_notice.data.toList.drop 113 = dktX4_notice_5 := dk_seg dksX4_notice_4 22 rfl rfl
theorem dksX4_notice_6 : cX4_notice.data.toList.drop 135 = dktX4_notice_6 := dk_seg dksX4_notice_5 22 rfl rfl
theorem dksX4_notice_7 : cX4_notice.data.toList.drop 159 = dktX4_notice_7 := dk_seg dksX4_notice_6 24 rfl rfl
theorem dksX4_notice_8 : cX4_notice.data.toList.drop 183 = dktX4_notice_8 := dk_seg dksX4_notice_7 24 rfl rfl
theorem dX4_notice_0 : decode cX4_notice 0 = .ok (.aload_n 0, 1) := dk_42 (dk_at dksX4_notice_0 0 rfl rfl)
theorem dX4_notice_1 : decode cX4_notice 1 = .ok (.iload_n 1, 1) := dk_27 (dk_at dksX4_notice_0 1 rfl rfl)
theorem dX4_notice_2 : decode cX4_notice 2 = .ok (.i2l, 1) := dk_133 (dk_at dksX4_notice_0 2 rfl rfl)
theorem dX4_notice_3 : decode cX4_notice 3 = .ok (.lconst 0, 1) := dk_9 (dk_at dksX4_notice_0 3 rfl rfl)
theorem dX4_notice_4 : decode cX4_notice 4 = .ok (.ldc2_w 273, 3) := dk_20 1 17 (dk_at dksX4_notice_0 4 rfl rfl)
theorem dX4_notice_7 : decode cX4_notice 7 = .ok (.invokestatic 100, 3) := dk_184 0 100 (dk_at dksX4_notice_0 7 rfl rfl)
theorem dX4_notice_10 : decode cX4_notice 10 = .ok (.ifCond .eq 19, 3) := dk_153 0 19 (dk_at dksX4_notice_0 10 rfl rfl)
theorem dX4_notice_13 : decode cX4_notice 13 = .ok (.iload_n 2, 1) := dk_28 (dk_at dksX4_notice_0 13 rfl rfl)
theorem dX4_notice_14 : decode cX4_notice 14 = .ok (.i2l, 1) := dk_133 (dk_at dksX4_notice_0 14 rfl rfl)
theorem dX4_notice_15 : decode cX4_notice 15 = .ok (.lconst 1, 1) := dk_10 (dk_at dksX4_notice_0 15 rfl rfl)
theorem dX4_notice_16 : decode cX4_notice 16 = .ok (.ldc2_w 230, 3) := dk_20 0 230 (dk_at dksX4_notice_0 16 rfl rfl)
theorem dX4_notice_19 : decode cX4_notice 19 = .ok (.invokestatic 100, 3) := dk_184 0 100 (dk_at dksX4_notice_0 19 rfl rfl)
theorem dX4_notice_22 : decode cX4_notice 22 = .ok (.ifCond .eq 7, 3) := dk_153 0 7 (dk_at dksX4_notice_1 0 rfl rfl)
theorem dX4_notice_25 : decode cX4_notice 25 = .ok (.iconst 1, 1) := dk_4 (dk_at dksX4_notice_1 3 rfl rfl)
theorem dX4_notice_26 : decode cX4_notice 26 = .ok (.goto 4, 3) := dk_167 0 4 (dk_at dksX4_notice_1 4 rfl rfl)
theorem dX4_notice_29 : decode cX4_notice 29 = .ok (.iconst 0, 1) := dk_3 (dk_at dksX4_notice_1 7 rfl rfl)
theorem dX4_notice_30 : decode cX4_notice 30 = .ok (.iconst 1, 1) := dk_4 (dk_at dksX4_notice_1 8 rfl rfl)
theorem dX4_notice_31 : decode cX4_notice 31 = .ok (.invokevirtual 104, 3) := dk_182 0 104 (dk_at dksX4_notice_1 9 rfl rfl)
theorem dX4_notice_34 : decode cX4_notice 34 = .ok (.ifCond .eq 15, 3) := dk_153 0 15 (dk_at dksX4_notice_1 12 rfl rfl)
theorem dX4_notice_37 : decode cX4_notice 37 = .ok (.aload_n 0, 1) := dk_42 (dk_at dksX4_notice_1 15 rfl rfl)
theorem dX4_notice_38 : decode cX4_notice 38 = .ok (.aload_n 0, 1) := dk_42 (dk_at dksX4_notice_1 16 rfl rfl)
theorem dX4_notice_39 : decode cX4_notice 39 = .ok (.getfield 49, 3) := dk_180 0 49 (dk_at dksX4_notice_1 17 rfl rfl)
theorem dX4_notice_42 : decode cX4_notice 42 = .ok (.iconst 2, 1) := dk_5 (dk_at dksX4_notice_1 20 rfl rfl)
theorem dX4_notice_43 : decode cX4_notice 43 = .ok (.invokevirtual 104, 3) := dk_182 0 104 (dk_at dksX4_notice_1 21 rfl rfl)
theorem dX4_notice_46 : decode cX4_notice 46 = .ok (.ifCond .ne 5, 3) := dk_154 0 5 (dk_at dksX4_notice_2 0 rfl rfl)
theorem dX4_notice_49 : decode cX4_notice 49 = .ok (.iconst 0, 1) := dk_3 (dk_at dksX4_notice_2 3 rfl rfl)
theorem dX4_notice_50 : decode cX4_notice 50 = .ok (.ireturn, 1) := dk_172 (dk_at dksX4_notice_2 4 rfl rfl)
theorem dX4_notice_51 : decode cX4_notice 51 = .ok (.iconst 0, 1) := dk_3 (dk_at dksX4_notice_2 5 rfl rfl)
theorem dX4_notice_52 : decode cX4_notice 52 = .ok (.istore_n 3, 1) := dk_62 (dk_at dksX4_notice_2 6 rfl rfl)
theorem dX4_notice_53 : decode cX4_notice 53 = .ok (.iconst 0, 1) := dk_3 (dk_at dksX4_notice_2 7 rfl rfl)
theorem dX4_notice_54 : decode cX4_notice 54 = .ok (.istore 4, 2) := dk_54 4 (dk_at dksX4_notice_2 8 rfl rfl)
theorem dX4_notice_56 : decode cX4_notice 56 = .ok (.iload 4, 2) := dk_21 4 (dk_at dksX4_notice_2 10 rfl rfl)
theorem dX4_notice_58 : decode cX4_notice 58 = .ok (.aload_n 0, 1) := dk_42 (dk_at dksX4_notice_2 12 rfl rfl)
theorem dX4_notice_59 : decode cX4_notice 59 = .ok (.getfield 16, 3) := dk_180 0 16 (dk_at dksX4_notice_2 13 rfl rfl)
theorem dX4_notice_62 : decode cX4_notice 62 = .ok (.invokevirtual 94, 3) := dk_182 0 94 (dk_at dksX4_notice_2 16 rfl rfl)
theorem dX4_notice_65 : decode cX4_notice 65 = .ok (.if_icmp .ge 117, 3) := dk_162 0 117 (dk_at dksX4_notice_2 19 rfl rfl)
theorem dX4_notice_68 : decode cX4_notice 68 = .ok (.aload_n 0, 1) := dk_42 (dk_at dksX4_notice_2 22 rfl rfl)
theorem dX4_notice_69 : decode cX4_notice 69 = .ok (.getfield 16, 3) := dk_180 0 16 (dk_at dksX4_notice_3 0 rfl rfl)
theorem dX4_notice_72 : decode cX4_notice 72 = .ok (.iload 4, 2) := dk_21 4 (dk_at dksX4_notice_3 3 rfl rfl)
theorem dX4_notice_74 : decode cX4_notice 74 = .ok (.invokevirtual 108, 3) := dk_182 0 108 (dk_at dksX4_notice_3 5 rfl rfl)
theorem dX4_notice_77 : decode cX4_notice 77 = .ok (.checkcast 112, 3) := dk_192 0 112 (dk_at dksX4_notice_3 8 rfl rfl)
theorem dX4_notice_80 : decode cX4_notice 80 = .ok (.astore 5, 2) := dk_58 5 (dk_at dksX4_notice_3 11 rfl rfl)
theorem dX4_notice_82 : decode cX4_notice 82 = .ok (.iload_n 1, 1) := dk_27 (dk_at dksX4_notice_3 13 rfl rfl)
theorem dX4_notice_83 : decode cX4_notice 83 = .ok (.ifCond .ne 11, 3) := dk_154 0 11 (dk_at dksX4_notice_3 14 rfl rfl)
theorem dX4_notice_86 : decode cX4_notice 86 = .ok (.aload 5, 2) := dk_25 5 (dk_at dksX4_notice_3 17 rfl rfl)
theorem dX4_notice_88 : decode cX4_notice 88 = .ok (.getfield 275, 3) := dk_180 1 19 (dk_at dksX4_notice_3 19 rfl rfl)
theorem dX4_notice_91 : decode cX4_notice 91 = .ok (.goto 48, 3) := dk_167 0 48 (dk_at dksX4_notice_4 0 rfl rfl)
theorem dX4_notice_94 : decode cX4_notice 94 = .ok (.iload_n 1, 1) := dk_27 (dk_at dksX4_notice_4 3 rfl rfl)
theorem dX4_notice_95 : decode cX4_notice 95 = .ok (.iconst 1, 1) := dk_4 (dk_at dksX4_notice_4 4 rfl rfl)
theorem dX4_notice_96 : decode cX4_notice 96 = .ok (.if_icmp .ne 24, 3) := dk_160 0 24 (dk_at dksX4_notice_4 5 rfl rfl)
theorem dX4_notice_99 : decode cX4_notice 99 = .ok (.iload_n 2, 1) := dk_28 (dk_at dksX4_notice_4 8 rfl rfl)
theorem dX4_notice_100 : decode cX4_notice 100 = .ok (.aload 5, 2) := dk_25 5 (dk_at dksX4_notice_4 9 rfl rfl)
theorem dX4_notice_102 : decode cX4_notice 102 = .ok (.getfield 179, 3) := dk_180 0 179 (dk_at dksX4_notice_4 11 rfl rfl)
theorem dX4_notice_105 : decode cX4_notice 105 = .ok (.ishr, 1) := dk_122 (dk_at dksX4_notice_4 14 rfl rfl)
theorem dX4_notice_106 : decode cX4_notice 106 = .ok (.iconst 1, 1) := dk_4 (dk_at dksX4_notice_4 15 rfl rfl)
theorem dX4_notice_107 : decode cX4_notice 107 = .ok (.iand, 1) := dk_126 (dk_at dksX4_notice_4 16 rfl rfl)
theorem dX4_notice_108 : decode cX4_notice 108 = .ok (.iconst 1, 1) := dk_4 (dk_at dksX4_notice_4 17 rfl rfl)
theorem dX4_notice_109 : decode cX4_notice 109 = .ok (.if_icmp .ne 7, 3) := dk_160 0 7 (dk_at dksX4_notice_4 18 rfl rfl)
theorem dX4_notice_112 : decode cX4_notice 112 = .ok (.iconst 1, 1) := dk_4 (dk_at dksX4_notice_4 21 rfl rfl)
theorem dX4_notice_113 : decode cX4_notice 113 = .ok (.goto 26, 3) := dk_167 0 26 (dk_at dksX4_notice_5 0 rfl rfl)
theorem dX4_notice_116 : decode cX4_notice 116 = .ok (.iconst 0, 1) := dk_3 (dk_at dksX4_notice_5 3 rfl rfl)
theorem dX4_notice_117 : decode cX4_notice 117 = .ok (.goto 22, 3) := dk_167 0 22 (dk_at dksX4_notice_5 4 rfl rfl)
theorem dX4_notice_120 : decode cX4_notice 120 = .ok (.aload 5, 2) := dk_25 5 (dk_at dksX4_notice_5 7 rfl rfl)
theorem dX4_notice_122 : decode cX4_notice 122 = .ok (.aload_n 0, 1) := dk_42 (dk_at dksX4_notice_5 9 rfl rfl)
theorem dX4_notice_123 : decode cX4_notice 123 = .ok (.getfield 43, 3) := dk_180 0 43 (dk_at dksX4_notice_5 10 rfl rfl)
theorem dX4_notice_126 : decode cX4_notice 126 = .ok (.invokevirtual 143, 3) := dk_182 0 143 (dk_at dksX4_notice_5 13 rfl rfl)
theorem dX4_notice_129 : decode cX4_notice 129 = .ok (.bipush 50, 2) := dk_16 50 (dk_at dksX4_notice_5 16 rfl rfl)
theorem dX4_notice_131 : decode cX4_notice 131 = .ok (.if_icmp .ge 7, 3) := dk_162 0 7 (dk_at dksX4_notice_5 18 rfl rfl)
theorem dX4_notice_134 : decode cX4_notice 134 = .ok (.iconst 1, 1) := dk_4 (dk_at dksX4_notice_5 21 rfl rfl)
theorem dX4_notice_135 : decode cX4_notice 135 = .ok (.goto 4, 3) := dk_167 0 4 (dk_at dksX4_notice_6 0 rfl rfl)
theorem dX4_notice_138 : decode cX4_notice 138 = .ok (.iconst 0, 1) := dk_3 (dk_at dksX4_notice_6 3 rfl rfl)
theorem dX4_notice_139 : decode cX4_notice 139 = .ok (.istore 6, 2) := dk_54 6 (dk_at dksX4_notice_6 4 rfl rfl)
theorem dX4_notice_141 : decode cX4_notice 141 = .ok (.aload_n 0, 1) := dk_42 (dk_at dksX4_notice_6 6 rfl rfl)
theorem dX4_notice_142 : decode cX4_notice 142 = .ok (.aload 5, 2) := dk_25 5 (dk_at dksX4_notice_6 7 rfl rfl)
theorem dX4_notice_144 : decode cX4_notice 144 = .ok (.invokevirtual 120, 3) := dk_182 0 120 (dk_at dksX4_notice_6 9 rfl rfl)
theorem dX4_notice_147 : decode cX4_notice 147 = .ok (.ifCond .eq 29, 3) := dk_153 0 29 (dk_at dksX4_notice_6 12 rfl rfl)
theorem dX4_notice_150 : decode cX4_notice 150 = .ok (.aload 5, 2) := dk_25 5 (dk_at dksX4_notice_6 15 rfl rfl)
theorem dX4_notice_152 : decode cX4_notice 152 = .ok (.getfield 245, 3) := dk_180 0 245 (dk_at dksX4_notice_6 17 rfl rfl)
theorem dX4_notice_155 : decode cX4_notice 155 = .ok (.iconst (-1), 1) := dk_2 (dk_at dksX4_notice_6 20 rfl rfl)
theorem dX4_notice_156 : decode cX4_notice 156 = .ok (.if_icmp .ne 20, 3) := dk_160 0 20 (dk_at dksX4_notice_6 21 rfl rfl)
theorem dX4_notice_159 : decode cX4_notice 159 = .ok (.iload 6, 2) := dk_21 6 (dk_at dksX4_notice_7 0 rfl rfl)
theorem dX4_notice_161 : decode cX4_notice 161 = .ok (.ifCond .eq 15, 3) := dk_153 0 15 (dk_at dksX4_notice_7 2 rfl rfl)
theorem dX4_notice_164 : decode cX4_notice 164 = .ok (.aload 5, 2) := dk_25 5 (dk_at dksX4_notice_7 5 rfl rfl)
theorem dX4_notice_166 : decode cX4_notice 166 = .ok (.aload_n 0, 1) := dk_42 (dk_at dksX4_notice_7 7 rfl rfl)
theorem dX4_notice_167 : decode cX4_notice 167 = .ok (.getfield 43, 3) := dk_180 0 43 (dk_at dksX4_notice_7 8 rfl rfl)
theorem dX4_notice_170 : decode cX4_notice 170 = .ok (.putfield 245, 3) := dk_181 0 245 (dk_at dksX4_notice_7 11 rfl rfl)
theorem dX4_notice_173 : decode cX4_notice 173 = .ok (.iinc 3 1, 3) := dk_132 3 1 (dk_at dksX4_notice_7 14 rfl rfl)
theorem dX4_notice_176 : decode cX4_notice 176 = .ok (.iinc 4 1, 3) := dk_132 4 1 (dk_at dksX4_notice_7 17 rfl rfl)
theorem dX4_notice_179 : decode cX4_notice 179 = .ok (.goto (-123), 3) := dk_167 255 133 (dk_at dksX4_notice_7 20 rfl rfl)
theorem dX4_notice_182 : decode cX4_notice 182 = .ok (.iload_n 3, 1) := dk_29 (dk_at dksX4_notice_7 23 rfl rfl)
theorem dX4_notice_183 : decode cX4_notice 183 = .ok (.ireturn, 1) := dk_172 (dk_at dksX4_notice_8 0 rfl rfl)
abbrev cX4_address : ByteArray := prog_14_method_28_code
def yX4_address : MethodName := ⟨RX4, "address", "(IZ)Z"⟩
def dkwX4_address_1 : List UInt8 := [192, 0, 112, 180, 1, 19, 62, 42, 180, 0, 16, 27, 182, 0, 108, 192, 0, 112, 28, 181, 1, 19, 29, 172]
abbrev dktX4_address_1 : List UInt8 := dkwX4_address_1 ++ []
def dkwX4_address_0 : List UInt8 := [42, 42, 27, 182, 0, 190, 4, 182, 0, 104, 154, 0, 5, 3, 172, 42, 180, 0, 16, 27, 182, 0, 108]
abbrev dktX4_address_0 : List UInt8 := dkwX4_address_0 ++ dktX4_address_1
theorem dksX4_address_0 : cX4_address.data.toList.drop 0 = dktX4_address_0 := by decide +kernel
theorem dksX4_address_1 : cX4_address.data.toList.drop 23 = dktX4_address_1 := dk_seg dksX4_address_0 23 rfl rfl
theorem dX4_address_0 : decode cX4_address 0 = .ok (.aload_n 0, 1) := dk_42 (dk_at dksX4_address_0 0 rfl rfl)
theorem dX4_address_1 : decode cX4_address 1 = .ok (.aload_n 0, 1) := dk_42 (dk_at dksX4_address_0 1 rfl rfl)
theorem dX4_address_2 : decode cX4_address 2 = .ok (.iload_n 1, 1) := dk_27 (dk_at dksX4_address_0 2 rfl rfl)
theorem dX4_address_3 : decode cX4_address 3 = .ok (.invokevirtual 190, 3) := dk_182 0 190 (dk_at dksX4_address_0 3 rfl rfl)
theorem dX4_address_6 : decode cX4_address 6 = .ok (.iconst 1, 1) := dk_4 (dk_at dksX4_address_0 6 rfl rfl)
theorem dX4_address_7 : decode cX4_address 7 = .ok (.invokevirtual 104, 3) := dk_182 0 104 (dk_at dksX4_address_0 7 rfl rfl)
theorem dX4_address_10 : decode cX4_address 10 = .ok (.ifCond .ne 5, 3) := dk_154 0 5 (dk_at dksX4_address_0 10 rfl rfl)
theorem dX4_address_13 : decode cX4_address 13 = .ok (.iconst 0, 1) := dk_3 (dk_at dksX4_address_0 13 rfl rfl)
theorem dX4_address_14 : decode cX4_address 14 = .ok (.ireturn, 1) := dk_172 (dk_at dksX4_address_0 14 rfl rfl)
theorem dX4_address_15 : decode cX4_address 15 = .ok (.aload_n 0, 1) := dk_42 (dk_at dksX4_address_0 15 rfl rfl)
theorem dX4_address_16 : decode cX4_address 16 = .ok (.getfield 16, 3) := dk_180 0 16 (dk_at dksX4_address_0 16 rfl rfl)
theorem dX4_address_19 : decode cX4_address 19 = .ok (.iload_n 1, 1) := dk_27 (dk_at dksX4_address_0 19 rfl rfl)
theorem dX4_address_20 : decode cX4_address 20 = .ok (.invokevirtual 108, 3) := dk_182 0 108 (dk_at dksX4_address_0 20 rfl rfl)
theorem dX4_address_23 : decode cX4_address 23 = .ok (.checkcast 112, 3) := dk_192 0 112 (dk_at dksX4_address_1 0 rfl rfl)
theorem dX4_address_26 : decode cX4_address 26 = .ok (.getfield 275, 3) := dk_180 1 19 (dk_at dksX4_address_1 3 rfl rfl)
theorem dX4_address_29 : decode cX4_address 29 = .ok (.istore_n 3, 1) := dk_62 (dk_at dksX4_address_1 6 rfl rfl)
theorem dX4_address_30 : decode cX4_address 30 = .ok (.aload_n 0, 1) := dk_42 (dk_at dksX4_address_1 7 rfl rfl)
theorem dX4_address_31 : decode cX4_address 31 = .ok (.getfield 16, 3) := dk_180 0 16 (dk_at dksX4_address_1 8 rfl rfl)
theorem dX4_address_34 : decode cX4_address 34 = .ok (.iload_n 1, 1) := dk_27 (dk_at dksX4_address_1 11 rfl rfl)
theorem dX4_address_35 : decode cX4_address 35 = .ok (.invokevirtual 108, 3) := dk_182 0 108 (dk_at dksX4_address_1 12 rfl rfl)
theorem dX4_address_38 : decode cX4_address 38 = .ok (.checkcast 112, 3) := dk_192 0 112 (dk_at dksX4_address_1 15 rfl rfl)
theorem dX4_address_41 : decode cX4_address 41 = .ok (.iload_n 2, 1) := dk_28 (dk_at dksX4_address_1 18 rfl rfl)
theorem dX4_address_42 : decode cX4_address 42 = .ok (.putfield 275, 3) := dk_181 1 19 (dk_at dksX4_address_1 19 rfl rfl)
theorem dX4_address_45 : decode cX4_address 45 = .ok (.iload_n 3, 1) := dk_29 (dk_at dksX4_address_1 22 rfl rfl)
theorem dX4_address_46 : decode cX4_address 46 = .ok (.ireturn, 1) := dk_172 (dk_at dksX4_address_1 23 rfl rfl)
abbrev cX4_optOut : ByteArray := prog_14_method_29_code
def yX4_optOut : MethodName := ⟨RX4, "optOut", "(IZ)Z"⟩
def dkwX4_optOut_3 : List UInt8 := [163, 0, 7, 4, 167, 0, 4, 3, 54, 4, 45, 89, 180, 0, 225, 21, 4, 128, 181, 0, 225, 21, 4, 172]
abbrev dktX4_optOut_3 : List UInt8 := dkwX4_optOut_3 ++ []
def dkwX4_optOut_2 : List UInt8 := [159, 0, 30, 42, 180, 0, 43, 45, 180, 0, 245, 100, 28, 153, 0, 8, 16, 90, 167, 0, 5, 16, 60]
abbrev dktX4_optOut_2 : List UInt8 := dkwX4_optOut_2 ++ dktX4_optOut_3
def dkwX4_optOut_1 : List UInt8 := [192, 0, 112, 78, 42, 182, 0, 232, 154, 0, 46, 42, 45, 182, 0, 120, 153, 0, 38, 45, 180, 0, 245, 2]
abbrev dktX4_optOut_1 : List UInt8 := dkwX4_optOut_1 ++ dktX4_optOut_2
def dkwX4_optOut_0 : List UInt8 := [42, 42, 27, 182, 0, 190, 4, 182, 0, 104, 154, 0, 5, 3, 172, 42, 180, 0, 16, 27, 182, 0, 108]
abbrev dktX4_optOut_0 : List UInt8 := dkwX4_optOut_0 ++ dktX4_optOut_1
theorem dksX4_optOut_0 : cX4_optOut.data.toList.drop 0 = dktX4_optOut_0 := by decide +kernel
theorem dksX4_optOut_1 : cX4_optOut.data.toList.drop 23 = dktX4_optOut_1 := dk_seg dksX4_optOut_0 23 rfl rfl
theorem dksX4_optOut_2 : cX4_optOut.data.toList.drop 47 = dktX4_optOut_2 := dk_seg dksX4_optOut_1 24 rfl rfl
theorem dksX4_optOut_3 : cX4_optOut.data.toList.drop 70 = dktX4_optOut_3 := dk_seg dksX4_optOut_2 23 rfl rfl
theorem dX4_optOut_0 : decode cX4_optOut 0 = .ok (.aload_n 0, 1) := dk_42 (dk_at dksX4_optOut_0 0 rfl rfl)
theorem dX4_optOut_1 : decode cX4_optOut 1 = .ok (.aload_n 0, 1) := dk_42 (dk_at dksX4_optOut_0 1 rfl rfl)
theorem dX4_optOut_2 : decode cX4_optOut 2 = .ok (.iload_n 1, 1) := dk_27 (dk_at dksX4_optOut_0 2 rfl rfl)
theorem dX4_optOut_3 : decode cX4_optOut 3 = .ok (.invokevirtual 190, 3) := dk_182 0 190 (dk_at dksX4_optOut_0 3 rfl rfl)
theorem dX4_optOut_6 : decode cX4_optOut 6 = .ok (.iconst 1, 1) := dk_4 (dk_at dksX4_optOut_0 6 rfl rfl)
theorem dX4_optOut_7 : decode cX4_optOut 7 = .ok (.invokevirtual 104, 3) := dk_182 0 104 (dk_at dksX4_optOut_0 7 rfl rfl)
theorem dX4_optOut_10 : decode cX4_optOut 10 = .ok (.ifCond .ne 5, 3) := dk_154 0 5 (dk_at dksX4_optOut_0 10 rfl rfl)
theorem dX4_optOut_13 : decode cX4_optOut 13 = .ok (.iconst 0, 1) := dk_3 (dk_at dksX4_optOut_0 13 rfl rfl)
theorem dX4_optOut_14 : decode cX4_optOut 14 = .ok (.ireturn, 1) := dk_172 (dk_at dksX4_optOut_0 14 rfl rfl)
theorem dX4_optOut_15 : decode cX4_optOut 15 = .ok (.aload_n 0, 1) := dk_42 (dk_at dksX4_optOut_0 15 rfl rfl)
theorem dX4_optOut_16 : decode cX4_optOut 16 = .ok (.getfield 16, 3) := dk_180 0 16 (dk_at dksX4_optOut_0 16 rfl rfl)
theorem dX4_optOut_19 : decode cX4_optOut 19 = .ok (.iload_n 1, 1) := dk_27 (dk_at dksX4_optOut_0 19 rfl rfl)
theorem dX4_optOut_20 : decode cX4_optOut 20 = .ok (.invokevirtual 108, 3) := dk_182 0 108 (dk_at dksX4_optOut_0 20 rfl rfl)
theorem dX4_optOut_23 : decode cX4_optOut 23 = .ok (.checkcast 112, 3) := dk_192 0 112 (dk_at dksX4_optOut_1 0 rfl rfl)
theorem dX4_optOut_26 : decode cX4_optOut 26 = .ok (.astore_n 3, 1) := dk_78 (dk_at dksX4_optOut_1 3 rfl rfl)
theorem dX4_optOut_27 : decode cX4_optOut 27 = .ok (.aload_n 0, 1) := dk_42 (dk_at dksX4_optOut_1 4 rfl rfl)
theorem dX4_optOut_28 : decode cX4_optOut 28 = .ok (.invokevirtual 232, 3) := dk_182 0 232 (dk_at dksX4_optOut_1 5 rfl rfl)
theorem dX4_optOut_31 : decode cX4_optOut 31 = .ok (.ifCond .ne 46, 3) := dk_154 0 46 (dk_at dksX4_optOut_1 8 rfl rfl)
theorem dX4_optOut_34 : decode cX4_optOut 34 = .ok (.aload_n 0, 1) := dk_42 (dk_at dksX4_optOut_1 11 rfl rfl)
theorem dX4_optOut_35 : decode cX4_optOut 35 = .ok (.aload_n 3, 1) := dk_45 (dk_at dksX4_optOut_1 12 rfl rfl)
theorem dX4_optOut_36 : decode cX4_optOut 36 = .ok (.invokevirtual 120, 3) := dk_182 0 120 (dk_at dksX4_optOut_1 13 rfl rfl)
theorem dX4_optOut_39 : decode cX4_optOut 39 = .ok (.ifCond .eq 38, 3) := dk_153 0 38 (dk_at dksX4_optOut_1 16 rfl rfl)
theorem dX4_optOut_42 : decode cX4_optOut 42 = .ok (.aload_n 3, 1) := dk_45 (dk_at dksX4_optOut_1 19 rfl rfl)
theorem dX4_optOut_43 : decode cX4_optOut 43 = .ok (.getfield 245, 3) := dk_180 0 245 (dk_at dksX4_optOut_1 20 rfl rfl)
theorem dX4_optOut_46 : decode cX4_optOut 46 = .ok (.iconst (-1), 1) := dk_2 (dk_at dksX4_optOut_1 23 rfl rfl)
theorem dX4_optOut_47 : decode cX4_optOut 47 = .ok (.if_icmp .eq 30, 3) := dk_159 0 30 (dk_at dksX4_optOut_2 0 rfl rfl)
theorem dX4_optOut_50 : decode cX4_optOut 50 = .ok (.aload_n 0, 1) := dk_42 (dk_at dksX4_optOut_2 3 rfl rfl)
theorem dX4_optOut_51 : decode cX4_optOut 51 = .ok (.getfield 43, 3) := dk_180 0 43 (dk_at dksX4_optOut_2 4 rfl rfl)
theorem dX4_optOut_54 : decode cX4_optOut 54 = .ok (.aload_n 3, 1) := dk_45 (dk_at dksX4_optOut_2 7 rfl rfl)
theorem dX4_optOut_55 : decode cX4_optOut 55 = .ok (.getfield 245, 3) := dk_180 0 245 (dk_at dksX4_optOut_2 8 rfl rfl)
theorem dX4_optOut_58 : decode cX4_optOut 58 = .ok (.isub, 1) := dk_100 (dk_at dksX4_optOut_2 11 rfl rfl)
theorem dX4_optOut_59 : decode cX4_optOut 59 = .ok (.iload_n 2, 1) := dk_28 (dk_at dksX4_optOut_2 12 rfl rfl)
theorem dX4_optOut_60 : decode cX4_optOut 60 = .ok (.ifCond .eq 8, 3) := dk_153 0 8 (dk_at dksX4_optOut_2 13 rfl rfl)
theorem dX4_optOut_63 : decode cX4_optOut 63 = .ok (.bipush 90, 2) := dk_16 90 (dk_at dksX4_optOut_2 16 rfl rfl)
theorem dX4_optOut_65 : decode cX4_optOut 65 = .ok (.goto 5, 3) := dk_167 0 5 (dk_at dksX4_optOut_2 18 rfl rfl)
theorem dX4_optOut_68 : decode cX4_optOut 68 = .ok (.bipush 60, 2) := dk_16 60 (dk_at dksX4_optOut_2 21 rfl rfl)
theorem dX4_optOut_70 : decode cX4_optOut 70 = .ok (.if_icmp .gt 7, 3) := dk_163 0 7 (dk_at dksX4_optOut_3 0 rfl rfl)
theorem dX4_optOut_73 : decode cX4_optOut 73 = .ok (.iconst 1, 1) := dk_4 (dk_at dksX4_optOut_3 3 rfl rfl)
theorem dX4_optOut_74 : decode cX4_optOut 74 = .ok (.goto 4, 3) := dk_167 0 4 (dk_at dksX4_optOut_3 4 rfl rfl)
theorem dX4_optOut_77 : decode cX4_optOut 77 = .ok (.iconst 0, 1) := dk_3 (dk_at dksX4_optOut_3 7 rfl rfl)
theorem dX4_optOut_78 : decode cX4_optOut 78 = .ok (.istore 4, 2) := dk_54 4 (dk_at dksX4_optOut_3 8 rfl rfl)
theorem dX4_optOut_80 : decode cX4_optOut 80 = .ok (.aload_n 3, 1) := dk_45 (dk_at dksX4_optOut_3 10 rfl rfl)
theorem dX4_optOut_81 : decode cX4_optOut 81 = .ok (.dup, 1) := dk_89 (dk_at dksX4_optOut_3 11 rfl rfl)
theorem dX4_optOut_82 : decode cX4_optOut 82 = .ok (.getfield 225, 3) := dk_180 0 225 (dk_at dksX4_optOut_3 12 rfl rfl)
theorem dX4_optOut_85 : decode cX4_optOut 85 = .ok (.iload 4, 2) := dk_21 4 (dk_at dksX4_optOut_3 15 rfl rfl)
theorem dX4_optOut_87 : decode cX4_optOut 87 = .ok (.ior, 1) := dk_128 (dk_at dksX4_optOut_3 17 rfl rfl)
theorem dX4_optOut_88 : decode cX4_optOut 88 = .ok (.putfield 225, 3) := dk_181 0 225 (dk_at dksX4_optOut_3 18 rfl rfl)
theorem dX4_optOut_91 : decode cX4_optOut 91 = .ok (.iload 4, 2) := dk_21 4 (dk_at dksX4_optOut_3 21 rfl rfl)
theorem dX4_optOut_93 : decode cX4_optOut 93 = .ok (.ireturn, 1) := dk_172 (dk_at dksX4_optOut_3 23 rfl rfl)
abbrev cX4_optIn : ByteArray := prog_14_method_30_code
def yX4_optIn : MethodName := ⟨RX4, "optIn", "(I)Z"⟩
def dkwX4_optIn_2 : List UInt8 := [44, 89, 180, 0, 225, 29, 154, 0, 7, 4, 167, 0, 4, 3, 126, 181, 0, 225, 29, 172]
abbrev dktX4_optIn_2 : List UInt8 := dkwX4_optIn_2 ++ []
def dkwX4_optIn_1 : List UInt8 := [192, 0, 112, 77, 42, 182, 0, 232, 154, 0, 14, 44, 180, 0, 225, 153, 0, 7, 4, 167, 0, 4, 3, 62]
abbrev dktX4_optIn_1 : List UInt8 := dkwX4_optIn_1 ++ dktX4_optIn_2
def dkwX4_optIn_0 : List UInt8 := [42, 42, 27, 182, 0, 190, 4, 182, 0, 104, 154, 0, 5, 3, 172, 42, 180, 0, 16, 27, 182, 0, 108]
abbrev dktX4_optIn_0 : List UInt8 := dkwX4_optIn_0 ++ dktX4_optIn_1
theorem dksX4_optIn_0 : cX4_optIn.data.toList.drop 0 = dktX4_optIn_0 := by decide +kernel
theorem dksX4_optIn_1 : cX4_optIn.data.toList.drop 23 = dktX4_optIn_1 := dk_seg dksX4_optIn_0 23 rfl rfl
theorem dksX4_optIn_2 : cX4_optIn.data.toList.drop 47 = dktX4_optIn_2 := dk_seg dksX4_optIn_1 24 rfl rfl
theorem dX4_optIn_0 : decode cX4_optIn 0 = .ok (.aload_n 0, 1) := dk_42 (dk_at dksX4_optIn_0 0 rfl rfl)
theorem dX4_optIn_1 : decode cX4_optIn 1 = .ok (.aload_n 0, 1) := dk_42 (dk_at dksX4_optIn_0 1 rfl rfl)
theorem dX4_optIn_2 : decode cX4_optIn 2 = .ok (.iload_n 1, 1) := dk_27 (dk_at dksX4_optIn_0 2 rfl rfl)
theorem dX4_optIn_3 : decode cX4_optIn 3 = .ok (.invokevirtual 190, 3) := dk_182 0 190 (dk_at dksX4_optIn_0 3 rfl rfl)
theorem dX4_optIn_6 : decode cX4_optIn 6 = .ok (.iconst 1, 1) := dk_4 (dk_at dksX4_optIn_0 6 rfl rfl)
theorem dX4_optIn_7 : decode cX4_optIn 7 = .ok (.invokevirtual 104, 3) := dk_182 0 104 (dk_at dksX4_optIn_0 7 rfl rfl)
theorem dX4_optIn_10 : decode cX4_optIn 10 = .ok (.ifCond .ne 5, 3) := dk_154 0 5 (dk_at dksX4_optIn_0 10 rfl rfl)
theorem dX4_optIn_13 : decode cX4_optIn 13 = .ok (.iconst 0, 1) := dk_3 (dk_at dksX4_optIn_0 13 rfl rfl)
theorem dX4_optIn_14 : decode cX4_optIn 14 = .ok (.ireturn, 1) := dk_172 (dk_at dksX4_optIn_0 14 rfl rfl)
theorem dX4_optIn_15 : decode cX4_optIn 15 = .ok (.aload_n 0, 1) := dk_42 (dk_at dksX4_optIn_0 15 rfl rfl)
theorem dX4_optIn_16 : decode cX4_optIn 16 = .ok (.getfield 16, 3) := dk_180 0 16 (dk_at dksX4_optIn_0 16 rfl rfl)
theorem dX4_optIn_19 : decode cX4_optIn 19 = .ok (.iload_n 1, 1) := dk_27 (dk_at dksX4_optIn_0 19 rfl rfl)
theorem dX4_optIn_20 : decode cX4_optIn 20 = .ok (.invokevirtual 108, 3) := dk_182 0 108 (dk_at dksX4_optIn_0 20 rfl rfl)
theorem dX4_optIn_23 : decode cX4_optIn 23 = .ok (.checkcast 112, 3) := dk_192 0 112 (dk_at dksX4_optIn_1 0 rfl rfl)
theorem dX4_optIn_26 : decode cX4_optIn 26 = .ok (.astore_n 2, 1) := dk_77 (dk_at dksX4_optIn_1 3 rfl rfl)
theorem dX4_optIn_27 : decode cX4_optIn 27 = .ok (.aload_n 0, 1) := dk_42 (dk_at dksX4_optIn_1 4 rfl rfl)
theorem dX4_optIn_28 : decode cX4_optIn 28 = .ok (.invokevirtual 232, 3) := dk_182 0 232 (dk_at dksX4_optIn_1 5 rfl rfl)
theorem dX4_optIn_31 : decode cX4_optIn 31 = .ok (.ifCond .ne 14, 3) := dk_154 0 14 (dk_at dksX4_optIn_1 8 rfl rfl)
theorem dX4_optIn_34 : decode cX4_optIn 34 = .ok (.aload_n 2, 1) := dk_44 (dk_at dksX4_optIn_1 11 rfl rfl)
theorem dX4_optIn_35 : decode cX4_optIn 35 = .ok (.getfield 225, 3) := dk_180 0 225 (dk_at dksX4_optIn_1 12 rfl rfl)
theorem dX4_optIn_38 : decode cX4_optIn 38 = .ok (.ifCond .eq 7, 3) := dk_153 0 7 (dk_at dksX4_optIn_1 15 rfl rfl)
theorem dX4_optIn_41 : decode cX4_optIn 41 = .ok (.iconst 1, 1) := dk_4 (dk_at dksX4_optIn_1 18 rfl rfl)
theorem dX4_optIn_42 : decode cX4_optIn 42 = .ok (.goto 4, 3) := dk_167 0 4 (dk_at dksX4_optIn_1 19 rfl rfl)
theorem dX4_optIn_45 : decode cX4_optIn 45 = .ok (.iconst 0, 1) := dk_3 (dk_at dksX4_optIn_1 22 rfl rfl)
theorem dX4_optIn_46 : decode cX4_optIn 46 = .ok (.istore_n 3, 1) := dk_62 (dk_at dksX4_optIn_1 23 rfl rfl)
theorem dX4_optIn_47 : decode cX4_optIn 47 = .ok (.aload_n 2, 1) := dk_44 (dk_at dksX4_optIn_2 0 rfl rfl)
theorem dX4_optIn_48 : decode cX4_optIn 48 = .ok (.dup, 1) := dk_89 (dk_at dksX4_optIn_2 1 rfl rfl)
theorem dX4_optIn_49 : decode cX4_optIn 49 = .ok (.getfield 225, 3) := dk_180 0 225 (dk_at dksX4_optIn_2 2 rfl rfl)
theorem dX4_optIn_52 : decode cX4_optIn 52 = .ok (.iload_n 3, 1) := dk_29 (dk_at dksX4_optIn_2 5 rfl rfl)
theorem dX4_optIn_53 : decode cX4_optIn 53 = .ok (.ifCond .ne 7, 3) := dk_154 0 7 (dk_at dksX4_optIn_2 6 rfl rfl)
theorem dX4_optIn_56 : decode cX4_optIn 56 = .ok (.iconst 1, 1) := dk_4 (dk_at dksX4_optIn_2 9 rfl rfl)
theorem dX4_optIn_57 : decode cX4_optIn 57 = .ok (.goto 4, 3) := dk_167 0 4 (dk_at dksX4_optIn_2 10 rfl rfl)
theorem dX4_optIn_60 : decode cX4_optIn 60 = .ok (.iconst 0, 1) := dk_3 (dk_at dksX4_optIn_2 13 rfl rfl)
theorem dX4_optIn_61 : decode cX4_optIn 61 = .ok (.iand, 1) := dk_126 (dk_at dksX4_optIn_2 14 rfl rfl)
theorem dX4_optIn_62 : decode cX4_optIn 62 = .ok (.putfield 225, 3) := dk_181 0 225 (dk_at dksX4_optIn_2 15 rfl rfl)
theorem dX4_optIn_65 : decode cX4_optIn 65 = .ok (.iload_n 3, 1) := dk_29 (dk_at dksX4_optIn_2 18 rfl rfl)
theorem dX4_optIn_66 : decode cX4_optIn 66 = .ok (.ireturn, 1) := dk_172 (dk_at dksX4_optIn_2 19 rfl rfl)
abbrev cX4_draw : ByteArray := prog_14_method_31_code
def yX4_draw : MethodName := ⟨RX4, "draw", "(I)I"⟩
def dkwX4_draw_6 : List UInt8 := [45, 4, 181, 1, 22, 42, 180, 0, 16, 45, 182, 0, 252, 172]
abbrev dktX4_draw_6 : List UInt8 := dkwX4_draw_6 ++ []
def dkwX4_draw_5 : List UInt8 := [182, 1, 25, 153, 0, 5, 2, 172, 44, 44, 182, 0, 94, 4, 100, 5, 108, 182, 0, 108, 192, 0, 112, 78]
abbrev dktX4_draw_5 : List UInt8 := dkwX4_draw_5 ++ dktX4_draw_6
def dkwX4_draw_4 : List UInt8 := [160, 0, 10, 44, 25, 5, 182, 0, 186, 87, 132, 4, 1, 167, 255, 193, 132, 3, 1, 167, 255, 177, 44]
abbrev dktX4_draw_4 : List UInt8 := dkwX4_draw_4 ++ dktX4_draw_5
def dkwX4_draw_3 : List UInt8 := [25, 5, 180, 0, 183, 29, 160, 0, 28, 25, 5, 180, 1, 22, 154, 0, 20, 42, 25, 5, 182, 0, 241, 27]
abbrev dktX4_draw_3 : List UInt8 := dkwX4_draw_3 ++ dktX4_draw_4
def dkwX4_draw_2 : List UInt8 := [42, 180, 0, 16, 182, 0, 94, 162, 0, 57, 42, 180, 0, 16, 21, 4, 182, 0, 108, 192, 0, 112, 58, 5]
abbrev dktX4_draw_2 : List UInt8 := dkwX4_draw_2 ++ dktX4_draw_3
def dkwX4_draw_1 : List UInt8 := [3, 172, 187, 0, 13, 89, 183, 0, 15, 77, 3, 62, 29, 17, 2, 88, 163, 0, 78, 3, 54, 4, 21, 4]
abbrev dktX4_draw_1 : List UInt8 := dkwX4_draw_1 ++ dktX4_draw_2
def dkwX4_draw_0 : List UInt8 := [42, 27, 133, 9, 42, 180, 0, 20, 182, 0, 94, 4, 100, 133, 184, 0, 100, 4, 182, 0, 104, 154, 0, 5]
abbrev dktX4_draw_0 : List UInt8 := dkwX4_draw_0 ++ dktX4_draw_1
theorem dksX4_draw_0 : cX4_draw.data.toList.drop 0 = dktX4_draw_0 := by decide +kernel
theorem dksX4_draw_1 : cX4_draw.data.toList.drop 24 = dktX4_draw_1 := dk_seg dksX4_draw_0 24 rfl rfl
theorem dksX4_draw_2 : cX4_draw.data.toList.drop 48 = dktX4_draw_2 := dk_seg dksX4_draw_1 24 rfl rfl
theorem dksX4_draw_3 : cX4_draw.data.toList.drop 72 = dktX4_draw_3 := dk_seg dksX4_draw_2 24 rfl rfl
theorem dksX4_draw_4 : cX4_draw.data.toList.drop 96 = dktX4_draw_4 := dk_seg dksX4_draw_3 24 rfl rfl
theorem dksX4_draw_5 : cX4_draw.data.toList.drop 119 = dktX4_draw_5 := dk_seg dksX4_draw_4 23 rfl rfl
theorem dksX4_draw_6 : cX4_draw.data.toList.drop 143 = dktX4_draw_6 := dk_seg dksX4_draw_5 24 rfl rfl
theorem dX4_draw_0 : decode cX4_draw 0 = .ok (.aload_n 0, 1) := dk_42 (dk_at dksX4_draw_0 0 rfl rfl)
theorem dX4_draw_1 : decode cX4_draw 1 = .ok (.iload_n 1, 1) := dk_27 (dk_at dksX4_draw_0 1 rfl rfl)
theorem dX4_draw_2 : decode cX4_draw 2 = .ok (.i2l, 1) := dk_133 (dk_at dksX4_draw_0 2 rfl rfl)
theorem dX4_draw_3 : decode cX4_draw 3 = .ok (.lconst 0, 1) := dk_9 (dk_at dksX4_draw_0 3 rfl rfl)
theorem dX4_draw_4 : decode cX4_draw 4 = .ok (.aload_n 0, 1) := dk_42 (dk_at dksX4_draw_0 4 rfl rfl)
theorem dX4_draw_5 : decode cX4_draw 5 = .ok (.getfield 20, 3) := dk_180 0 20 (dk_at dksX4_draw_0 5 rfl rfl)
theorem dX4_draw_8 : decode cX4_draw 8 = .ok (.invokevirtual 94, 3) := dk_182 0 94 (dk_at dksX4_draw_0 8 rfl rfl)
theorem dX4_draw_11 : decode cX4_draw 11 = .ok (.iconst 1, 1) := dk_4 (dk_at dksX4_draw_0 11 rfl rfl)
theorem dX4_draw_12 : decode cX4_draw 12 = .ok (.isub, 1) := dk_100 (dk_at dksX4_draw_0 12 rfl rfl)
theorem dX4_draw_13 : decode cX4_draw 13 = .ok (.i2l, 1) := dk_133 (dk_at dksX4_draw_0 13 rfl rfl)
theorem dX4_draw_14 : decode cX4_draw 14 = .ok (.invokestatic 100, 3) := dk_184 0 100 (dk_at dksX4_draw_0 14 rfl rfl)
theorem dX4_draw_17 : decode cX4_draw 17 = .ok (.iconst 1, 1) := dk_4 (dk_at dksX4_draw_0 17 rfl rfl)
theorem dX4_draw_18 : decode cX4_draw 18 = .ok (.invokevirtual 104, 3) := dk_182 0 104 (dk_at dksX4_draw_0 18 rfl rfl)
theorem dX4_draw_21 : decode cX4_draw 21 = .ok (.ifCond .ne 5, 3) := dk_154 0 5 (dk_at dksX4_draw_0 21 rfl rfl)
theorem dX4_draw_24 : decode cX4_draw 24 = .ok (.iconst 0, 1) := dk_3 (dk_at dksX4_draw_1 0 rfl rfl)
theorem dX4_draw_25 : decode cX4_draw 25 = .ok (.ireturn, 1) := dk_172 (dk_at dksX4_draw_1 1 rfl rfl)
theorem dX4_draw_26 : decode cX4_draw 26 = .ok (.new 13, 3) := dk_187 0 13 (dk_at dksX4_draw_1 2 rfl rfl)
theorem dX4_draw_29 : decode cX4_draw 29 = .ok (.dup, 1) := dk_89 (dk_at dksX4_draw_1 5 rfl rfl)
theorem dX4_draw_30 : decode cX4_draw 30 = .ok (.invokespecial 15, 3) := dk_183 0 15 (dk_at dksX4_draw_1 6 rfl rfl)
theorem dX4_draw_33 : decode cX4_draw 33 = .ok (.astore_n 2, 1) := dk_77 (dk_at dksX4_draw_1 9 rfl rfl)
theorem dX4_draw_34 : decode cX4_draw 34 = .ok (.iconst 0, 1) := dk_3 (dk_at dksX4_draw_1 10 rfl rfl)
theorem dX4_draw_35 : decode cX4_draw 35 = .ok (.istore_n 3, 1) := dk_62 (dk_at dksX4_draw_1 11 rfl rfl)
theorem dX4_draw_36 : decode cX4_draw 36 = .ok (.iload_n 3, 1) := dk_29 (dk_at dksX4_draw_1 12 rfl rfl)
theorem dX4_draw_37 : decode cX4_draw 37 = .ok (.sipush 600, 3) := dk_17 2 88 (dk_at dksX4_draw_1 13 rfl rfl)
theorem dX4_draw_40 : decode cX4_draw 40 = .ok (.if_icmp .gt 78, 3) := dk_163 0 78 (dk_at dksX4_draw_1 16 rfl rfl)
theorem dX4_draw_43 : decode cX4_draw 43 = .ok (.iconst 0, 1) := dk_3 (dk_at dksX4_draw_1 19 rfl rfl)
theorem dX4_draw_44 : decode cX4_draw 44 = .ok (.istore 4, 2) := dk_54 4 (dk_at dksX4_draw_1 20 rfl rfl)
theorem dX4_draw_46 : decode cX4_draw 46 = .ok (.iload 4, 2) := dk_21 4 (dk_at dksX4_draw_1 22 rfl rfl)
theorem dX4_draw_48 : decode cX4_draw 48 = .ok (.aload_n 0, 1) := dk_42 (dk_at dksX4_draw_2 0 rfl rfl)
theorem dX4_draw_49 : decode cX4_draw 49 = .ok (.getfield 16, 3) := dk_180 0 16 (dk_at dksX4_draw_2 1 rfl rfl)
theorem dX4_draw_52 : decode cX4_draw 52 = .ok (.invokevirtual 94, 3) := dk_182 0 94 (dk_at dksX4_draw_2 4 rfl rfl)
theorem dX4_draw_55 : decode cX4_draw 55 = .ok (.if_icmp .ge 57, 3) := dk_162 0 57 (dk_at dksX4_draw_2 7 rfl rfl)
theorem dX4_draw_58 : decode cX4_draw 58 = .ok (.aload_n 0, 1) := dk_42 (dk_at dksX4_draw_2 10 rfl rfl)
theorem dX4_draw_59 : decode cX4_draw 59 = .ok (.getfield 16, 3) := dk_180 0 16 (dk_at dksX4_draw_2 11 rfl rfl)
theorem dX4_draw_62 : decode cX4_draw 62 = .ok (.iload 4, 2) := dk_21 4 (dk_at dksX4_draw_2 14 rfl rfl)
theorem dX4_draw_64 : decode cX4_draw 64 = .ok (.invokevirtual 108, 3) := dk_182 0 108 (dk_at dksX4_draw_2 16 rfl rfl)
theorem dX4_draw_67 : decode cX4_draw 67 = .ok (.checkcast 112, 3) := dk_192 0 112 (dk_at dksX4_draw_2 19 rfl rfl)
theorem dX4_draw_70 : decode cX4_draw 70 = .ok (.astore 5, 2) := dk_58 5 (dk_at dksX4_draw_2 22 rfl rfl)
theorem dX4_draw_72 : decode cX4_draw 72 = .ok (.aload 5, 2) := dk_25 5 (dk_at dksX4_draw_3 0 rfl rfl)
theorem dX4_draw_74 : decode cX4_draw 74 = .ok (.getfield 183, 3) := dk_180 0 183 (dk_at dksX4_draw_3 2 rfl rfl)
theorem dX4_draw_77 : decode cX4_draw 77 = .ok (.iload_n 3, 1) := dk_29 (dk_at dksX4_draw_3 5 rfl rfl)
theorem dX4_draw_78 : decode cX4_draw 78 = .ok (.if_icmp .ne 28, 3) := dk_160 0 28 (dk_at dksX4_draw_3 6 rfl rfl)
theorem dX4_draw_81 : decode cX4_draw 81 = .ok (.aload 5, 2) := dk_25 5 (dk_at dksX4_draw_3 9 rfl rfl)
theorem dX4_draw_83 : decode cX4_draw 83 = .ok (.getfield 278, 3) := dk_180 1 22 (dk_at dksX4_draw_3 11 rfl rfl)
theorem dX4_draw_86 : decode cX4_draw 86 = .ok (.ifCond .ne 20, 3) := dk_154 0 20 (dk_at dksX4_draw_3 14 rfl rfl)
theorem dX4_draw_89 : decode cX4_draw 89 = .ok (.aload_n 0, 1) := dk_42 (dk_at dksX4_draw_3 17 rfl rfl)
theorem dX4_draw_90 : decode cX4_draw 90 = .ok (.aload 5, 2) := dk_25 5 (dk_at dksX4_draw_3 18 rfl rfl)
theorem dX4_draw_92 : decode cX4_draw 92 = .ok (.invokevirtual 241, 3) := dk_182 0 241 (dk_at dksX4_draw_3 20 rfl rfl)
theorem dX4_draw_95 : decode cX4_draw 95 = .ok (.iload_n 1, 1) := dk_27 (dk_at dksX4_draw_3 23 rfl rfl)
theorem dX4_draw_96 : decode cX4_draw 96 = .ok (.if_icmp .ne 10, 3) := dk_160 0 10 (dk_at dksX4_draw_4 0 rfl rfl)
theorem dX4_draw_99 : decode cX4_draw 99 = .ok (.aload_n 2, 1) := dk_44 (dk_at dksX4_draw_4 3 rfl rfl)
theorem dX4_draw_100 : decode cX4_draw 100 = .ok (.aload 5, 2) := dk_25 5 (dk_at dksX4_draw_4 4 rfl rfl)
theorem dX4_draw_102 : decode cX4_draw 102 = .ok (.invokevirtual 186, 3) := dk_182 0 186 (dk_at dksX4_draw_4 6 rfl rfl)
theorem dX4_draw_105 : decode cX4_draw 105 = .ok (.pop, 1) := dk_87 (dk_at dksX4_draw_4 9 rfl rfl)
theorem dX4_draw_106 : decode cX4_draw 106 = .ok (.iinc 4 1, 3) := dk_132 4 1 (dk_at dksX4_draw_4 10 rfl rfl)
theorem dX4_draw_109 : decode cX4_draw 109 = .ok (.goto (-63), 3) := dk_167 255 193 (dk_at dksX4_draw_4 13 rfl rfl)
theorem dX4_draw_112 : decode cX4_draw 112 = .ok (.iinc 3 1, 3) := dk_132 3 1 (dk_at dksX4_draw_4 16 rfl rfl)
theorem dX4_draw_115 : decode cX4_draw 115 = .ok (.goto (-79), 3) := dk_167 255 177 (dk_at dksX4_draw_4 19 rfl rfl)
theorem dX4_draw_118 : decode cX4_draw 118 = .ok (.aload_n 2, 1) := dk_44 (dk_at dksX4_draw_4 22 rfl rfl)
theorem dX4_draw_119 : decode cX4_draw 119 = .ok (.invokevirtual 281, 3) := dk_182 1 25 (dk_at dksX4_draw_5 0 rfl rfl)
theorem dX4_draw_122 : decode cX4_draw 122 = .ok (.ifCond .eq 5, 3) := dk_153 0 5 (dk_at dksX4_draw_5 3 rfl rfl)
theorem dX4_draw_125 : decode cX4_draw 125 = .ok (.iconst (-1), 1) := dk_2 (dk_at dksX4_draw_5 6 rfl rfl)
theorem dX4_draw_126 : decode cX4_draw 126 = .ok (.ireturn, 1) := dk_172 (dk_at dksX4_draw_5 7 rfl rfl)
theorem dX4_draw_127 : decode cX4_draw 127 = .ok (.aload_n 2, 1) := dk_44 (dk_at dksX4_draw_5 8 rfl rfl)
theorem dX4_draw_128 : decode cX4_draw 128 = .ok (.aload_n 2, 1) := dk_44 (dk_at dksX4_draw_5 9 rfl rfl)
theorem dX4_draw_129 : decode cX4_draw 129 = .ok (.invokevirtual 94, 3) := dk_182 0 94 (dk_at dksX4_draw_5 10 rfl rfl)
theorem dX4_draw_132 : decode cX4_draw 132 = .ok (.iconst 1, 1) := dk_4 (dk_at dksX4_draw_5 13 rfl rfl)
theorem dX4_draw_133 : decode cX4_draw 133 = .ok (.isub, 1) := dk_100 (dk_at dksX4_draw_5 14 rfl rfl)
theorem dX4_draw_134 : decode cX4_draw 134 = .ok (.iconst 2, 1) := dk_5 (dk_at dksX4_draw_5 15 rfl rfl)
theorem dX4_draw_135 : decode cX4_draw 135 = .ok (.idiv, 1) := dk_108 (dk_at dksX4_draw_5 16 rfl rfl)
theorem dX4_draw_136 : decode cX4_draw 136 = .ok (.invokevirtual 108, 3) := dk_182 0 108 (dk_at dksX4_draw_5 17 rfl rfl)
theorem dX4_draw_139 : decode cX4_draw 139 = .ok (.checkcast 112, 3) := dk_192 0 112 (dk_at dksX4_draw_5 20 rfl rfl)
theorem dX4_draw_142 : decode cX4_draw 142 = .ok (.astore_n 3, 1) := dk_78 (dk_at dksX4_draw_5 23 rfl rfl)
theorem dX4_draw_143 : decode cX4_draw 143 = .ok (.aload_n 3, 1) := dk_45 (dk_at dksX4_draw_6 0 rfl rfl)
theorem dX4_draw_144 : decode cX4_draw 144 = .ok (.iconst 1, 1) := dk_4 (dk_at dksX4_draw_6 1 rfl rfl)
theorem dX4_draw_145 : decode cX4_draw 145 = .ok (.putfield 278, 3) := dk_181 1 22 (dk_at dksX4_draw_6 2 rfl rfl)
theorem dX4_draw_148 : decode cX4_draw 148 = .ok (.aload_n 0, 1) := dk_42 (dk_at dksX4_draw_6 5 rfl rfl)
theorem dX4_draw_149 : decode cX4_draw 149 = .ok (.getfield 16, 3) := dk_180 0 16 (dk_at dksX4_draw_6 6 rfl rfl)
theorem dX4_draw_152 : decode cX4_draw 152 = .ok (.aload_n 3, 1) := dk_45 (dk_at dksX4_draw_6 9 rfl rfl)
theorem dX4_draw_153 : decode cX4_draw 153 = .ok (.invokevirtual 252, 3) := dk_182 0 252 (dk_at dksX4_draw_6 10 rfl rfl)
theorem dX4_draw_156 : decode cX4_draw 156 = .ok (.ireturn, 1) := dk_172 (dk_at dksX4_draw_6 13 rfl rfl)
abbrev cX4_verdict : ByteArray := prog_14_method_33_code
def yX4_verdict : MethodName := ⟨RX4, "verdict", "(II)I"⟩
def dkwX4_verdict_4 : List UInt8 := [181, 1, 31, 42, 45, 180, 0, 117, 182, 1, 36, 172]
abbrev dktX4_verdict_4 : List UInt8 := dkwX4_verdict_4 ++ []
def dkwX4_verdict_3 : List UInt8 := [167, 0, 4, 3, 6, 182, 0, 104, 154, 0, 5, 3, 172, 45, 28, 181, 1, 28, 45, 45, 180, 0, 117]
abbrev dktX4_verdict_3 : List UInt8 := dkwX4_verdict_3 ++ dktX4_verdict_4
def dkwX4_verdict_2 : List UInt8 := [180, 1, 22, 153, 0, 22, 45, 180, 1, 28, 2, 160, 0, 14, 45, 180, 0, 117, 158, 0, 7, 4]
abbrev dktX4_verdict_2 : List UInt8 := dkwX4_verdict_2 ++ dktX4_verdict_3
def dkwX4_verdict_1 : List UInt8 := [182, 0, 104, 154, 0, 5, 3, 172, 42, 180, 0, 16, 27, 182, 0, 108, 192, 0, 112, 78, 42, 45]
abbrev dktX4_verdict_1 : List UInt8 := dkwX4_verdict_1 ++ dktX4_verdict_2
def dkwX4_verdict_0 : List UInt8 := [42, 42, 27, 182, 0, 190, 4, 182, 0, 104, 153, 0, 20, 42, 28, 133, 9, 20, 1, 34, 184, 0, 100, 5]
abbrev dktX4_verdict_0 : List UInt8 := dkwX4_verdict_0 ++ dktX4_verdict_1
theorem dksX4_verdict_0 : cX4_verdict.data.toList.drop 0 = dktX4_verdict_0 := by decide +kernel
theorem dksX4_verdict_1 : cX4_verdict.data.toList.drop 24 = dktX4_verdict_1 := dk_seg dksX4_verdict_0 24 rfl rfl
theorem dksX4_verdict_2 : cX4_verdict.data.toList.drop 46 = dktX4_verdict_2 := dk_seg dksX4_verdict_1 22 rfl rfl
theorem dksX4_verdict_3 : cX4_verdict.data.toList.drop 68 = dktX4_verdict_3 := dk_seg dksX4_verdict_2 22 rfl rfl
theorem dksX4_verdict_4 : cX4_verdict.data.toList.drop 91 = dktX4_verdict_4 := dk_seg dksX4_verdict_3 23 rfl rfl
theorem dX4_verdict_0 : decode cX4_verdict 0 = .ok (.aload_n 0, 1) := dk_42 (dk_at dksX4_verdict_0 0 rfl rfl)
theorem dX4_verdict_1 : decode cX4_verdict 1 = .ok (.aload_n 0, 1) := dk_42 (dk_at dksX4_verdict_0 1 rfl rfl)
theorem dX4_verdict_2 : decode cX4_verdict 2 = .ok (.iload_n 1, 1) := dk_27 (dk_at dksX4_verdict_0 2 rfl rfl)
theorem dX4_verdict_3 : decode cX4_verdict 3 = .ok (.invokevirtual 190, 3) := dk_182 0 190 (dk_at dksX4_verdict_0 3 rfl rfl)
theorem dX4_verdict_6 : decode cX4_verdict 6 = .ok (.iconst 1, 1) := dk_4 (dk_at dksX4_verdict_0 6 rfl rfl)
theorem dX4_verdict_7 : decode cX4_verdict 7 = .ok (.invokevirtual 104, 3) := dk_182 0 104 (dk_at dksX4_verdict_0 7 rfl rfl)
theorem dX4_verdict_10 : decode cX4_verdict 10 = .ok (.ifCond .eq 20, 3) := dk_153 0 20 (dk_at dksX4_verdict_0 10 rfl rfl)
theorem dX4_verdict_13 : decode cX4_verdict 13 = .ok (.aload_n 0, 1) := dk_42 (dk_at dksX4_verdict_0 13 rfl rfl)
theorem dX4_verdict_14 : decode cX4_verdict 14 = .ok (.iload_n 2, 1) := dk_28 (dk_at dksX4_verdict_0 14 rfl rfl)
theorem dX4_verdict_15 : decode cX4_verdict 15 = .ok (.i2l, 1) := dk_133 (dk_at dksX4_verdict_0 15 rfl rfl)
theorem dX4_verdict_16 : decode cX4_verdict 16 = .ok (.lconst 0, 1) := dk_9 (dk_at dksX4_verdict_0 16 rfl rfl)
theorem dX4_verdict_17 : decode cX4_verdict 17 = .ok (.ldc2_w 290, 3) := dk_20 1 34 (dk_at dksX4_verdict_0 17 rfl rfl)
theorem dX4_verdict_20 : decode cX4_verdict 20 = .ok (.invokestatic 100, 3) := dk_184 0 100 (dk_at dksX4_verdict_0 20 rfl rfl)
theorem dX4_verdict_23 : decode cX4_verdict 23 = .ok (.iconst 2, 1) := dk_5 (dk_at dksX4_verdict_0 23 rfl rfl)
theorem dX4_verdict_24 : decode cX4_verdict 24 = .ok (.invokevirtual 104, 3) := dk_182 0 104 (dk_at dksX4_verdict_1 0 rfl rfl)
theorem dX4_verdict_27 : decode cX4_verdict 27 = .ok (.ifCond .ne 5, 3) := dk_154 0 5 (dk_at dksX4_verdict_1 3 rfl rfl)
theorem dX4_verdict_30 : decode cX4_verdict 30 = .ok (.iconst 0, 1) := dk_3 (dk_at dksX4_verdict_1 6 rfl rfl)
theorem dX4_verdict_31 : decode cX4_verdict 31 = .ok (.ireturn, 1) := dk_172 (dk_at dksX4_verdict_1 7 rfl rfl)
theorem dX4_verdict_32 : decode cX4_verdict 32 = .ok (.aload_n 0, 1) := dk_42 (dk_at dksX4_verdict_1 8 rfl rfl)
theorem dX4_verdict_33 : decode cX4_verdict 33 = .ok (.getfield 16, 3) := dk_180 0 16 (dk_at dksX4_verdict_1 9 rfl rfl)
theorem dX4_verdict_36 : decode cX4_verdict 36 = .ok (.iload_n 1, 1) := dk_27 (dk_at dksX4_verdict_1 12 rfl rfl)
theorem dX4_verdict_37 : decode cX4_verdict 37 = .ok (.invokevirtual 108, 3) := dk_182 0 108 (dk_at dksX4_verdict_1 13 rfl rfl)
theorem dX4_verdict_40 : decode cX4_verdict 40 = .ok (.checkcast 112, 3) := dk_192 0 112 (dk_at dksX4_verdict_1 16 rfl rfl)
theorem dX4_verdict_43 : decode cX4_verdict 43 = .ok (.astore_n 3, 1) := dk_78 (dk_at dksX4_verdict_1 19 rfl rfl)
theorem dX4_verdict_44 : decode cX4_verdict 44 = .ok (.aload_n 0, 1) := dk_42 (dk_at dksX4_verdict_1 20 rfl rfl)
theorem dX4_verdict_45 : decode cX4_verdict 45 = .ok (.aload_n 3, 1) := dk_45 (dk_at dksX4_verdict_1 21 rfl rfl)
theorem dX4_verdict_46 : decode cX4_verdict 46 = .ok (.getfield 278, 3) := dk_180 1 22 (dk_at dksX4_verdict_2 0 rfl rfl)
theorem dX4_verdict_49 : decode cX4_verdict 49 = .ok (.ifCond .eq 22, 3) := dk_153 0 22 (dk_at dksX4_verdict_2 3 rfl rfl)
theorem dX4_verdict_52 : decode cX4_verdict 52 = .ok (.aload_n 3, 1) := dk_45 (dk_at dksX4_verdict_2 6 rfl rfl)
theorem dX4_verdict_53 : decode cX4_verdict 53 = .ok (.getfield 284, 3) := dk_180 1 28 (dk_at dksX4_verdict_2 7 rfl rfl)
theorem dX4_verdict_56 : decode cX4_verdict 56 = .ok (.iconst (-1), 1) := dk_2 (dk_at dksX4_verdict_2 10 rfl rfl)
theorem dX4_verdict_57 : decode cX4_verdict 57 = .ok (.if_icmp .ne 14, 3) := dk_160 0 14 (dk_at dksX4_verdict_2 11 rfl rfl)
theorem dX4_verdict_60 : decode cX4_verdict 60 = .ok (.aload_n 3, 1) := dk_45 (dk_at dksX4_verdict_2 14 rfl rfl)
theorem dX4_verdict_61 : decode cX4_verdict 61 = .ok (.getfield 117, 3) := dk_180 0 117 (dk_at dksX4_verdict_2 15 rfl rfl)
theorem dX4_verdict_64 : decode cX4_verdict 64 = .ok (.ifCond .le 7, 3) := dk_158 0 7 (dk_at dksX4_verdict_2 18 rfl rfl)
theorem dX4_verdict_67 : decode cX4_verdict 67 = .ok (.iconst 1, 1) := dk_4 (dk_at dksX4_verdict_2 21 rfl rfl)
theorem dX4_verdict_68 : decode cX4_verdict 68 = .ok (.goto 4, 3) := dk_167 0 4 (dk_at dksX4_verdict_3 0 rfl rfl)
theorem dX4_verdict_71 : decode cX4_verdict 71 = .ok (.iconst 0, 1) := dk_3 (dk_at dksX4_verdict_3 3 rfl rfl)
theorem dX4_verdict_72 : decode cX4_verdict 72 = .ok (.iconst 3, 1) := dk_6 (dk_at dksX4_verdict_3 4 rfl rfl)
theorem dX4_verdict_73 : decode cX4_verdict 73 = .ok (.invokevirtual 104, 3) := dk_182 0 104 (dk_at dksX4_verdict_3 5 rfl rfl)
theorem dX4_verdict_76 : decode cX4_verdict 76 = .ok (.ifCond .ne 5, 3) := dk_154 0 5 (dk_at dksX4_verdict_3 8 rfl rfl)
theorem dX4_verdict_79 : decode cX4_verdict 79 = .ok (.iconst 0, 1) := dk_3 (dk_at dksX4_verdict_3 11 rfl rfl)
theorem dX4_verdict_80 : decode cX4_verdict 80 = .ok (.ireturn, 1) := dk_172 (dk_at dksX4_verdict_3 12 rfl rfl)
theorem dX4_verdict_81 : decode cX4_verdict 81 = .ok (.aload_n 3, 1) := dk_45 (dk_at dksX4_verdict_3 13 rfl rfl)
theorem dX4_verdict_82 : decode cX4_verdict 82 = .ok (.iload_n 2, 1) := dk_28 (dk_at dksX4_verdict_3 14 rfl rfl)
theorem dX4_verdict_83 : decode cX4_verdict 83 = .ok (.putfield 284, 3) := dk_181 1 28 (dk_at dksX4_verdict_3 15 rfl rfl)
theorem dX4_verdict_86 : decode cX4_verdict 86 = .ok (.aload_n 3, 1) := dk_45 (dk_at dksX4_verdict_3 18 rfl rfl)
theorem dX4_verdict_87 : decode cX4_verdict 87 = .ok (.aload_n 3, 1) := dk_45 (dk_at dksX4_verdict_3 19 rfl rfl)
theorem dX4_verdict_88 : decode cX4_verdict 88 = .ok (.getfield 117, 3) := dk_180 0 117 (dk_at dksX4_verdict_3 20 rfl rfl)
theorem dX4_verdict_91 : decode cX4_verdict 91 = .ok (.putfield 287, 3) := dk_181 1 31 (dk_at dksX4_verdict_4 0 rfl rfl)
theorem dX4_verdict_94 : decode cX4_verdict 94 = .ok (.aload_n 0, 1) := dk_42 (dk_at dksX4_verdict_4 3 rfl rfl)
theorem dX4_verdict_95 : decode cX4_verdict 95 = .ok (.aload_n 3, 1) := dk_45 (dk_at dksX4_verdict_4 4 rfl rfl)
theorem dX4_verdict_96 : decode cX4_verdict 96 = .ok (.getfield 117, 3) := dk_180 0 117 (dk_at dksX4_verdict_4 5 rfl rfl)
theorem dX4_verdict_99 : decode cX4_verdict 99 = .ok (.invokevirtual 292, 3) := dk_182 1 36 (dk_at dksX4_verdict_4 8 rfl rfl)
theorem dX4_verdict_102 : decode cX4_verdict 102 = .ok (.ireturn, 1) := dk_172 (dk_at dksX4_verdict_4 11 rfl rfl)
abbrev cX4_offerOf : ByteArray := prog_14_method_32_code
def yX4_offerOf : MethodName := ⟨RX4, "offerOf", "(I)I"⟩
def dkwX4_offerOf_5 : List UInt8 := [21, 4, 133, 109, 136, 172]
abbrev dktX4_offerOf_5 : List UInt8 := dkwX4_offerOf_5 ++ []
def dkwX4_offerOf_4 : List UInt8 := [167, 255, 169, 21, 4, 154, 0, 18, 42, 180, 0, 26, 7, 27, 4, 100, 104, 4, 96, 46, 167, 0, 9, 32]
abbrev dktX4_offerOf_4 : List UInt8 := dkwX4_offerOf_4 ++ dktX4_offerOf_5
def dkwX4_offerOf_3 : List UInt8 := [167, 0, 4, 9, 97, 65, 21, 4, 21, 7, 153, 0, 7, 4, 167, 0, 4, 3, 96, 54, 4, 132, 5, 1]
abbrev dktX4_offerOf_3 : List UInt8 := dkwX4_offerOf_3 ++ dktX4_offerOf_4
def dkwX4_offerOf_2 : List UInt8 := [27, 160, 0, 7, 4, 167, 0, 4, 3, 54, 7, 32, 21, 7, 153, 0, 12, 25, 6, 180, 1, 28, 133]
abbrev dktX4_offerOf_2 : List UInt8 := dkwX4_offerOf_2 ++ dktX4_offerOf_3
def dkwX4_offerOf_1 : List UInt8 := [21, 5, 182, 0, 108, 192, 0, 112, 58, 6, 25, 6, 180, 1, 28, 2, 159, 0, 16, 25, 6, 180, 1, 31]
abbrev dktX4_offerOf_1 : List UInt8 := dkwX4_offerOf_1 ++ dktX4_offerOf_2
def dkwX4_offerOf_0 : List UInt8 := [9, 65, 3, 54, 4, 3, 54, 5, 21, 5, 42, 180, 0, 16, 182, 0, 94, 162, 0, 81, 42, 180, 0, 16]
abbrev dktX4_offerOf_0 : List UInt8 := dkwX4_offerOf_0 ++ dktX4_offerOf_1
theorem dksX4_offerOf_0 : cX4_offerOf.data.toList.drop 0 = dktX4_offerOf_0 := by decide +kernel
theorem dksX4_offerOf_1 : cX4_offerOf.data.toList.drop 24 = dktX4_offerOf_1 := dk_seg dksX4_offerOf_0 24 rfl rfl
theorem dksX4_offerOf_2 : cX4_offerOf.data.toList.drop 48 = dktX4_offerOf_2 := dk_seg dksX4_offerOf_1 24 rfl rfl
theorem dksX4_offerOf_3 : cX4_offerOf.data.toList.drop 71 = dktX4_offerOf_3 := dk_seg dksX4_offerOf_2 23 rfl rfl
theorem dksX4_offerOf_4 : cX4_offerOf.data.toList.drop 95 = dktX4_offerOf_4 := dk_seg dksX4_offerOf_3 24 rfl rfl
theorem dksX4_offerOf_5 : cX4_offerOf.data.toList.drop 119 = dktX4_offerOf_5 := dk_seg dksX4_offerOf_4 24 rfl rfl
theorem dX4_offerOf_0 : decode cX4_offerOf 0 = .ok (.lconst 0, 1) := dk_9 (dk_at dksX4_offerOf_0 0 rfl rfl)
theorem dX4_offerOf_1 : decode cX4_offerOf 1 = .ok (.lstore_n 2, 1) := dk_65 (dk_at dksX4_offerOf_0 1 rfl rfl)
theorem dX4_offerOf_2 : decode cX4_offerOf 2 = .ok (.iconst 0, 1) := dk_3 (dk_at dksX4_offerOf_0 2 rfl rfl)
theorem dX4_offerOf_3 : decode cX4_offerOf 3 = .ok (.istore 4, 2) := dk_54 4 (dk_at dksX4_offerOf_0 3 rfl rfl)
theorem dX4_offerOf_5 : decode cX4_offerOf 5 = .ok (.iconst 0, 1) := dk_3 (dk_at dksX4_offerOf_0 5 rfl rfl)
theorem dX4_offerOf_6 : decode cX4_offerOf 6 = .ok (.istore 5, 2) := dk_54 5 (dk_at dksX4_offerOf_0 6 rfl rfl)
theorem dX4_offerOf_8 : decode cX4_offerOf 8 = .ok (.iload 5, 2) := dk_21 5 (dk_at dksX4_offerOf_0 8 rfl rfl)
theorem dX4_offerOf_10 : decode cX4_offerOf 10 = .ok (.aload_n 0, 1) := dk_42 (dk_at dksX4_offerOf_0 10 rfl rfl)
theorem dX4_offerOf_11 : decode cX4_offerOf 11 = .ok (.getfield 16, 3) := dk_180 0 16 (dk_at dksX4_offerOf_0 11 rfl rfl)
theorem dX4_offerOf_14 : decode cX4_offerOf 14 = .ok (.invokevirtual 94, 3) := dk_182 0 94 (dk_at dksX4_offerOf_0 14 rfl rfl)
theorem dX4_offerOf_17 : decode cX4_offerOf 17 = .ok (.if_icmp .ge 81, 3) := dk_162 0 81 (dk_at dksX4_offerOf_0 17 rfl rfl)
theorem dX4_offerOf_20 : decode cX4_offerOf 20 = .ok (.aload_n 0, 1) := dk_42 (dk_at dksX4_offerOf_0 20 rfl rfl)
theorem dX4_offerOf_21 : decode cX4_offerOf 21 = .ok (.getfield 16, 3) := dk_180 0 16 (dk_at dksX4_offerOf_0 21 rfl rfl)
theorem dX4_offerOf_24 : decode cX4_offerOf 24 = .ok (.iload 5, 2) := dk_21 5 (dk_at dksX4_offerOf_1 0 rfl rfl)
theorem dX4_offerOf_26 : decode cX4_offerOf 26 = .ok (.invokevirtual 108, 3) := dk_182 0 108 (dk_at dksX4_offerOf_1 2 rfl rfl)
theorem dX4_offerOf_29 : decode cX4_offerOf 29 = .ok (.checkcast 112, 3) := dk_192 0 112 (dk_at dksX4_offerOf_1 5 rfl rfl)
theorem dX4_offerOf_32 : decode cX4_offerOf 32 = .ok (.astore 6, 2) := dk_58 6 (dk_at dksX4_offerOf_1 8 rfl rfl)
theorem dX4_offerOf_34 : decode cX4_offerOf 34 = .ok (.aload 6, 2) := dk_25 6 (dk_at dksX4_offerOf_1 10 rfl rfl)
theorem dX4_offerOf_36 : decode cX4_offerOf 36 = .ok (.getfield 284, 3) := dk_180 1 28 (dk_at dksX4_offerOf_1 12 rfl rfl)
theorem dX4_offerOf_39 : decode cX4_offerOf 39 = .ok (.iconst (-1), 1) := dk_2 (dk_at dksX4_offerOf_1 15 rfl rfl)
theorem dX4_offerOf_40 : decode cX4_offerOf 40 = .ok (.if_icmp .eq 16, 3) := dk_159 0 16 (dk_at dksX4_offerOf_1 16 rfl rfl)
theorem dX4_offerOf_43 : decode cX4_offerOf 43 = .ok (.aload 6, 2) := dk_25 6 (dk_at dksX4_offerOf_1 19 rfl rfl)
theorem dX4_offerOf_45 : decode cX4_offerOf 45 = .ok (.getfield 287, 3) := dk_180 1 31 (dk_at dksX4_offerOf_1 21 rfl rfl)
theorem dX4_offerOf_48 : decode cX4_offerOf 48 = .ok (.iload_n 1, 1) := dk_27 (dk_at dksX4_offerOf_2 0 rfl rfl)
theorem dX4_offerOf_49 : decode cX4_offerOf 49 = .ok (.if_icmp .ne 7, 3) := dk_160 0 7 (dk_at dksX4_offerOf_2 1 rfl rfl)
theorem dX4_offerOf_52 : decode cX4_offerOf 52 = .ok (.iconst 1, 1) := dk_4 (dk_at dksX4_offerOf_2 4 rfl rfl)
theorem dX4_offerOf_53 : decode cX4_offerOf 53 = .ok (.goto 4, 3) := dk_167 0 4 (dk_at dksX4_offerOf_2 5 rfl rfl)
theorem dX4_offerOf_56 : decode cX4_offerOf 56 = .ok (.iconst 0, 1) := dk_3 (dk_at dksX4_offerOf_2 8 rfl rfl)
theorem dX4_offerOf_57 : decode cX4_offerOf 57 = .ok (.istore 7, 2) := dk_54 7 (dk_at dksX4_offerOf_2 9 rfl rfl)
theorem dX4_offerOf_59 : decode cX4_offerOf 59 = .ok (.lload_n 2, 1) := dk_32 (dk_at dksX4_offerOf_2 11 rfl rfl)
theorem dX4_offerOf_60 : decode cX4_offerOf 60 = .ok (.iload 7, 2) := dk_21 7 (dk_at dksX4_offerOf_2 12 rfl rfl)
theorem dX4_offerOf_62 : decode cX4_offerOf 62 = .ok (.ifCond .eq 12, 3) := dk_153 0 12 (dk_at dksX4_offerOf_2 14 rfl rfl)
theorem dX4_offerOf_65 : decode cX4_offerOf 65 = .ok (.aload 6, 2) := dk_25 6 (dk_at dksX4_offerOf_2 17 rfl rfl)
theorem dX4_offerOf_67 : decode cX4_offerOf 67 = .ok (.getfield 284, 3) := dk_180 1 28 (dk_at dksX4_offerOf_2 19 rfl rfl)
theorem dX4_offerOf_70 : decode cX4_offerOf 70 = .ok (.i2l, 1) := dk_133 (dk_at dksX4_offerOf_2 22 rfl rfl)
theorem dX4_offerOf_71 : decode cX4_offerOf 71 = .ok (.goto 4, 3) := dk_167 0 4 (dk_at dksX4_offerOf_3 0 rfl rfl)
theorem dX4_offerOf_74 : decode cX4_offerOf 74 = .ok (.lconst 0, 1) := dk_9 (dk_at dksX4_offerOf_3 3 rfl rfl)
theorem dX4_offerOf_75 : decode cX4_offerOf 75 = .ok (.ladd, 1) := dk_97 (dk_at dksX4_offerOf_3 4 rfl rfl)
theorem dX4_offerOf_76 : decode cX4_offerOf 76 = .ok (.lstore_n 2, 1) := dk_65 (dk_at dksX4_offerOf_3 5 rfl rfl)
theorem dX4_offerOf_77 : decode cX4_offerOf 77 = .ok (.iload 4, 2) := dk_21 4 (dk_at dksX4_offerOf_3 6 rfl rfl)
theorem dX4_offerOf_79 : decode cX4_offerOf 79 = .ok (.iload 7, 2) := dk_21 7 (dk_at dksX4_offerOf_3 8 rfl rfl)
theorem dX4_offerOf_81 : decode cX4_offerOf 81 = .ok (.ifCond .eq 7, 3) := dk_153 0 7 (dk_at dksX4_offerOf_3 10 rfl rfl)
theorem dX4_offerOf_84 : decode cX4_offerOf 84 = .ok (.iconst 1, 1) := dk_4 (dk_at dksX4_offerOf_3 13 rfl rfl)
theorem dX4_offerOf_85 : decode cX4_offerOf 85 = .ok (.goto 4, 3) := dk_167 0 4 (dk_at dksX4_offerOf_3 14 rfl rfl)
theorem dX4_offerOf_88 : decode cX4_offerOf 88 = .ok (.iconst 0, 1) := dk_3 (dk_at dksX4_offerOf_3 17 rfl rfl)
theorem dX4_offerOf_89 : decode cX4_offerOf 89 = .ok (.iadd, 1) := dk_96 (dk_at dksX4_offerOf_3 18 rfl rfl)
theorem dX4_offerOf_90 : decode cX4_offerOf 90 = .ok (.istore 4, 2) := dk_54 4 (dk_at dksX4_offerOf_3 19 rfl rfl)
theorem dX4_offerOf_92 : decode cX4_offerOf 92 = .ok (.iinc 5 1, 3) := dk_132 5 1 (dk_at dksX4_offerOf_3 21 rfl rfl)
theorem dX4_offerOf_95 : decode cX4_offerOf 95 = .ok (.goto (-87), 3) := dk_167 255 169 (dk_at dksX4_offerOf_4 0 rfl rfl)
theorem dX4_offerOf_98 : decode cX4_offerOf 98 = .ok (.iload 4, 2) := dk_21 4 (dk_at dksX4_offerOf_4 3 rfl rfl)
theorem dX4_offerOf_100 : decode cX4_offerOf 100 = .ok (.ifCond .ne 18, 3) := dk_154 0 18 (dk_at dksX4_offerOf_4 5 rfl rfl)
theorem dX4_offerOf_103 : decode cX4_offerOf 103 = .ok (.aload_n 0, 1) := dk_42 (dk_at dksX4_offerOf_4 8 rfl rfl)
theorem dX4_offerOf_104 : decode cX4_offerOf 104 = .ok (.getfield 26, 3) := dk_180 0 26 (dk_at dksX4_offerOf_4 9 rfl rfl)
theorem dX4_offerOf_107 : decode cX4_offerOf 107 = .ok (.iconst 4, 1) := dk_7 (dk_at dksX4_offerOf_4 12 rfl rfl)
theorem dX4_offerOf_108 : decode cX4_offerOf 108 = .ok (.iload_n 1, 1) := dk_27 (dk_at dksX4_offerOf_4 13 rfl rfl)
theorem dX4_offerOf_109 : decode cX4_offerOf 109 = .ok (.iconst 1, 1) := dk_4 (dk_at dksX4_offerOf_4 14 rfl rfl)
theorem dX4_offerOf_110 : decode cX4_offerOf 110 = .ok (.isub, 1) := dk_100 (dk_at dksX4_offerOf_4 15 rfl rfl)
theorem dX4_offerOf_111 : decode cX4_offerOf 111 = .ok (.imul, 1) := dk_104 (dk_at dksX4_offerOf_4 16 rfl rfl)
theorem dX4_offerOf_112 : decode cX4_offerOf 112 = .ok (.iconst 1, 1) := dk_4 (dk_at dksX4_offerOf_4 17 rfl rfl)
theorem dX4_offerOf_113 : decode cX4_offerOf 113 = .ok (.iadd, 1) := dk_96 (dk_at dksX4_offerOf_4 18 rfl rfl)
theorem dX4_offerOf_114 : decode cX4_offerOf 114 = .ok (.iaload, 1) := dk_46 (dk_at dksX4_offerOf_4 19 rfl rfl)
theorem dX4_offerOf_115 : decode cX4_offerOf 115 = .ok (.goto 9, 3) := dk_167 0 9 (dk_at dksX4_offerOf_4 20 rfl rfl)
theorem dX4_offerOf_118 : decode cX4_offerOf 118 = .ok (.lload_n 2, 1) := dk_32 (dk_at dksX4_offerOf_4 23 rfl rfl)
theorem dX4_offerOf_119 : decode cX4_offerOf 119 = .ok (.iload 4, 2) := dk_21 4 (dk_at dksX4_offerOf_5 0 rfl rfl)
theorem dX4_offerOf_121 : decode cX4_offerOf 121 = .ok (.i2l, 1) := dk_133 (dk_at dksX4_offerOf_5 2 rfl rfl)
theorem dX4_offerOf_122 : decode cX4_offerOf 122 = .ok (.ldiv, 1) := dk_109 (dk_at dksX4_offerOf_5 3 rfl rfl)
theorem dX4_offerOf_123 : decode cX4_offerOf 123 = .ok (.l2i, 1) := dk_136 (dk_at dksX4_offerOf_5 4 rfl rfl)
theorem dX4_offerOf_124 : decode cX4_offerOf 124 = .ok (.ireturn, 1) := dk_172 (dk_at dksX4_offerOf_5 5 rfl rfl)
abbrev cX4_offer : ByteArray := prog_14_method_34_code
def yX4_offer : MethodName := ⟨RX4, "offer", "(I)I"⟩
def dkwX4_offer_1 : List UInt8 := [167, 0, 4, 3, 172]
abbrev dktX4_offer_1 : List UInt8 := dkwX4_offer_1 ++ []
def dkwX4_offer_0 : List UInt8 := [42, 27, 133, 10, 20, 0, 194, 184, 0, 100, 4, 182, 0, 104, 153, 0, 11, 42, 27, 182, 1, 36]
abbrev dktX4_offer_0 : List UInt8 := dkwX4_offer_0 ++ dktX4_offer_1
theorem dksX4_offer_0 : cX4_offer.data.toList.drop 0 = dktX4_offer_0 := by decide +kernel
theorem dksX4_offer_1 : cX4_offer.data.toList.drop 22 = dktX4_offer_1 := dk_seg dksX4_offer_0 22 rfl rfl
theorem dX4_offer_0 : decode cX4_offer 0 = .ok (.aload_n 0, 1) := dk_42 (dk_at dksX4_offer_0 0 rfl rfl)
theorem dX4_offer_1 : decode cX4_offer 1 = .ok (.iload_n 1, 1) := dk_27 (dk_at dksX4_offer_0 1 rfl rfl)
theorem dX4_offer_2 : decode cX4_offer 2 = .ok (.i2l, 1) := dk_133 (dk_at dksX4_offer_0 2 rfl rfl)
theorem dX4_offer_3 : decode cX4_offer 3 = .ok (.lconst 1, 1) := dk_10 (dk_at dksX4_offer_0 3 rfl rfl)
theorem dX4_offer_4 : decode cX4_offer 4 = .ok (.ldc2_w 194, 3) := dk_20 0 194 (dk_at dksX4_offer_0 4 rfl rfl)
theorem dX4_offer_7 : decode cX4_offer 7 = .ok (.invokestatic 100, 3) := dk_184 0 100 (dk_at dksX4_offer_0 7 rfl rfl)
theorem dX4_offer_10 : decode cX4_offer 10 = .ok (.iconst 1, 1) := dk_4 (dk_at dksX4_offer_0 10 rfl rfl)
theorem dX4_offer_11 : decode cX4_offer 11 = .ok (.invokevirtual 104, 3) := dk_182 0 104 (dk_at dksX4_offer_0 11 rfl rfl)
theorem dX4_offer_14 : decode cX4_offer 14 = .ok (.ifCond .eq 11, 3) := dk_153 0 11 (dk_at dksX4_offer_0 14 rfl rfl)
theorem dX4_offer_17 : decode cX4_offer 17 = .ok (.aload_n 0, 1) := dk_42 (dk_at dksX4_offer_0 17 rfl rfl)
theorem dX4_offer_18 : decode cX4_offer 18 = .ok (.iload_n 1, 1) := dk_27 (dk_at dksX4_offer_0 18 rfl rfl)
theorem dX4_offer_19 : decode cX4_offer 19 = .ok (.invokevirtual 292, 3) := dk_182 1 36 (dk_at dksX4_offer_0 19 rfl rfl)
theorem dX4_offer_22 : decode cX4_offer 22 = .ok (.goto 4, 3) := dk_167 0 4 (dk_at dksX4_offer_1 0 rfl rfl)
theorem dX4_offer_25 : decode cX4_offer 25 = .ok (.iconst 0, 1) := dk_3 (dk_at dksX4_offer_1 3 rfl rfl)
theorem dX4_offer_26 : decode cX4_offer 26 = .ok (.ireturn, 1) := dk_172 (dk_at dksX4_offer_1 4 rfl rfl)
abbrev cX4_defendant : ByteArray := prog_14_method_36_code
def yX4_defendant : MethodName := ⟨RX4, "defendant", "(II)I"⟩
def dkwX4_defendant_5 : List UInt8 := [180, 0, 23, 182, 0, 94, 4, 100, 172]
abbrev dktX4_defendant_5 : List UInt8 := dkwX4_defendant_5 ++ []
def dkwX4_defendant_4 : List UInt8 := [27, 181, 1, 41, 25, 4, 28, 133, 181, 1, 52, 42, 180, 0, 23, 25, 4, 182, 0, 186, 87, 42]
abbrev dktX4_defendant_4 : List UInt8 := dkwX4_defendant_4 ++ dktX4_defendant_5
def dkwX4_defendant_3 : List UInt8 := [167, 0, 4, 3, 5, 182, 0, 104, 154, 0, 5, 3, 172, 187, 1, 39, 89, 183, 1, 51, 58, 4, 25, 4]
abbrev dktX4_defendant_3 : List UInt8 := dkwX4_defendant_3 ++ dktX4_defendant_4
def dkwX4_defendant_2 : List UInt8 := [153, 0, 34, 42, 42, 180, 0, 23, 182, 0, 94, 7, 162, 0, 14, 42, 182, 0, 232, 154, 0, 7, 4]
abbrev dktX4_defendant_2 : List UInt8 := dkwX4_defendant_2 ++ dktX4_defendant_3
def dkwX4_defendant_1 : List UInt8 := [42, 182, 1, 48, 27, 96, 16, 100, 163, 0, 7, 4, 167, 0, 4, 3, 62, 42, 29, 4, 182, 0, 104]
abbrev dktX4_defendant_1 : List UInt8 := dkwX4_defendant_1 ++ dktX4_defendant_2
def dkwX4_defendant_0 : List UInt8 := [27, 133, 10, 20, 1, 44, 184, 0, 100, 153, 0, 30, 28, 133, 9, 20, 1, 46, 184, 0, 100, 153, 0, 18]
abbrev dktX4_defendant_0 : List UInt8 := dkwX4_defendant_0 ++ dktX4_defendant_1
theorem dksX4_defendant_0 : cX4_defendant.data.toList.drop 0 = dktX4_defendant_0 := by decide +kernel
theorem dksX4_defendant_1 : cX4_defendant.data.toList.drop 24 = dktX4_defendant_1 := dk_seg dksX4_defendant_0 24 rfl rfl
theorem dksX4_defendant_2 : cX4_defendant.data.toList.drop 47 = dktX4_defendant_2 := dk_seg dksX4_defendant_1 23 rfl rfl
theorem dksX4_defendant_3 : cX4_defendant.data.toList.drop 70 = dktX4_defendant_3 := dk_seg dksX4_defendant_2 23 rfl rfl
theorem dksX4_defendant_4 : cX4_defendant.data.toList.drop 94 = dktX4_defendant_4 := dk_seg dksX4_defendant_3 24 rfl rfl
theorem dksX4_defendant_5 : cX4_defendant.data.toList.drop 116 = dktX4_defendant_5 := dk_seg dksX4_defendant_4 22 rfl rfl
theorem dX4_defendant_0 : decode cX4_defendant 0 = .ok (.iload_n 1, 1) := dk_27 (dk_at dksX4_defendant_0 0 rfl rfl)
theorem dX4_defendant_1 : decode cX4_defendant 1 = .ok (.i2l, 1) := dk_133 (dk_at dksX4_defendant_0 1 rfl rfl)
theorem dX4_defendant_2 : decode cX4_defendant 2 = .ok (.lconst 1, 1) := dk_10 (dk_at dksX4_defendant_0 2 rfl rfl)
theorem dX4_defendant_3 : decode cX4_defendant 3 = .ok (.ldc2_w 300, 3) := dk_20 1 44 (dk_at dksX4_defendant_0 3 rfl rfl)
theorem dX4_defendant_6 : decode cX4_defendant 6 = .ok (.invokestatic 100, 3) := dk_184 0 100 (dk_at dksX4_defendant_0 6 rfl rfl)
theorem dX4_defendant_9 : decode cX4_defendant 9 = .ok (.ifCond .eq 30, 3) := dk_153 0 30 (dk_at dksX4_defendant_0 9 rfl rfl)
theorem dX4_defendant_12 : decode cX4_defendant 12 = .ok (.iload_n 2, 1) := dk_28 (dk_at dksX4_defendant_0 12 rfl rfl)
theorem dX4_defendant_13 : decode cX4_defendant 13 = .ok (.i2l, 1) := dk_133 (dk_at dksX4_defendant_0 13 rfl rfl)
theorem dX4_defendant_14 : decode cX4_defendant 14 = .ok (.lconst 0, 1) := dk_9 (dk_at dksX4_defendant_0 14 rfl rfl)
theorem dX4_defendant_15 : decode cX4_defendant 15 = .ok (.ldc2_w 302, 3) := dk_20 1 46 (dk_at dksX4_defendant_0 15 rfl rfl)
theorem dX4_defendant_18 : decode cX4_defendant 18 = .ok (.invokestatic 100, 3) := dk_184 0 100 (dk_at dksX4_defendant_0 18 rfl rfl)
theorem dX4_defendant_21 : decode cX4_defendant 21 = .ok (.ifCond .eq 18, 3) := dk_153 0 18 (dk_at dksX4_defendant_0 21 rfl rfl)
theorem dX4_defendant_24 : decode cX4_defendant 24 = .ok (.aload_n 0, 1) := dk_42 (dk_at dksX4_defendant_1 0 rfl rfl)
theorem dX4_defendant_25 : decode cX4_defendant 25 = .ok (.invokevirtual 304, 3) := dk_182 1 48 (dk_at dksX4_defendant_1 1 rfl rfl)
theorem dX4_defendant_28 : decode cX4_defendant 28 = .ok (.iload_n 1, 1) := dk_27 (dk_at dksX4_defendant_1 4 rfl rfl)
theorem dX4_defendant_29 : decode cX4_defendant 29 = .ok (.iadd, 1) := dk_96 (dk_at dksX4_defendant_1 5 rfl rfl)
theorem dX4_defendant_30 : decode cX4_defendant 30 = .ok (.bipush 100, 2) := dk_16 100 (dk_at dksX4_defendant_1 6 rfl rfl)
theorem dX4_defendant_32 : decode cX4_defendant 32 = .ok (.if_icmp .gt 7, 3) := dk_163 0 7 (dk_at dksX4_defendant_1 8 rfl rfl)
theorem dX4_defendant_35 : decode cX4_defendant 35 = .ok (.iconst 1, 1) := dk_4 (dk_at dksX4_defendant_1 11 rfl rfl)
theorem dX4_defendant_36 : decode cX4_defendant 36 = .ok (.goto 4, 3) := dk_167 0 4 (dk_at dksX4_defendant_1 12 rfl rfl)
theorem dX4_defendant_39 : decode cX4_defendant 39 = .ok (.iconst 0, 1) := dk_3 (dk_at dksX4_defendant_1 15 rfl rfl)
theorem dX4_defendant_40 : decode cX4_defendant 40 = .ok (.istore_n 3, 1) := dk_62 (dk_at dksX4_defendant_1 16 rfl rfl)
theorem dX4_defendant_41 : decode cX4_defendant 41 = .ok (.aload_n 0, 1) := dk_42 (dk_at dksX4_defendant_1 17 rfl rfl)
theorem dX4_defendant_42 : decode cX4_defendant 42 = .ok (.iload_n 3, 1) := dk_29 (dk_at dksX4_defendant_1 18 rfl rfl)
theorem dX4_defendant_43 : decode cX4_defendant 43 = .ok (.iconst 1, 1) := dk_4 (dk_at dksX4_defendant_1 19 rfl rfl)
theorem dX4_defendant_44 : decode cX4_defendant 44 = .ok (.invokevirtual 104, 3) := dk_182 0 104 (dk_at dksX4_defendant_1 20 rfl rfl)
theorem dX4_defendant_47 : decode cX4_defendant 47 = .ok (.ifCond .eq 34, 3) := dk_153 0 34 (dk_at dksX4_defendant_2 0 rfl rfl)
theorem dX4_defendant_50 : decode cX4_defendant 50 = .ok (.aload_n 0, 1) := dk_42 (dk_at dksX4_defendant_2 3 rfl rfl)
theorem dX4_defendant_51 : decode cX4_defendant 51 = .ok (.aload_n 0, 1) := dk_42 (dk_at dksX4_defendant_2 4 rfl rfl)
theorem dX4_defendant_52 : decode cX4_defendant 52 = .ok (.getfield 23, 3) := dk_180 0 23 (dk_at dksX4_defendant_2 5 rfl rfl)
theorem dX4_defendant_55 : decode cX4_defendant 55 = .ok (.invokevirtual 94, 3) := dk_182 0 94 (dk_at dksX4_defendant_2 8 rfl rfl)
theorem dX4_defendant_58 : decode cX4_defendant 58 = .ok (.iconst 4, 1) := dk_7 (dk_at dksX4_defendant_2 11 rfl rfl)
theorem dX4_defendant_59 : decode cX4_defendant 59 = .ok (.if_icmp .ge 14, 3) := dk_162 0 14 (dk_at dksX4_defendant_2 12 rfl rfl)
theorem dX4_defendant_62 : decode cX4_defendant 62 = .ok (.aload_n 0, 1) := dk_42 (dk_at dksX4_defendant_2 15 rfl rfl)
theorem dX4_defendant_63 : decode cX4_defendant 63 = .ok (.invokevirtual 232, 3) := dk_182 0 232 (dk_at dksX4_defendant_2 16 rfl rfl)
theorem dX4_defendant_66 : decode cX4_defendant 66 = .ok (.ifCond .ne 7, 3) := dk_154 0 7 (dk_at dksX4_defendant_2 19 rfl rfl)
theorem dX4_defendant_69 : decode cX4_defendant 69 = .ok (.iconst 1, 1) := dk_4 (dk_at dksX4_defendant_2 22 rfl rfl)
theorem dX4_defendant_70 : decode cX4_defendant 70 = .ok (.goto 4, 3) := dk_167 0 4 (dk_at dksX4_defendant_3 0 rfl rfl)
theorem dX4_defendant_73 : decode cX4_defendant 73 = .ok (.iconst 0, 1) := dk_3 (dk_at dksX4_defendant_3 3 rfl rfl)
theorem dX4_defendant_74 : decode cX4_defendant 74 = .ok (.iconst 2, 1) := dk_5 (dk_at dksX4_defendant_3 4 rfl rfl)
theorem dX4_defendant_75 : decode cX4_defendant 75 = .ok (.invokevirtual 104, 3) := dk_182 0 104 (dk_at dksX4_defendant_3 5 rfl rfl)
theorem dX4_defendant_78 : decode cX4_defendant 78 = .ok (.ifCond .ne 5, 3) := dk_154 0 5 (dk_at dksX4_defendant_3 8 rfl rfl)
theorem dX4_defendant_81 : decode cX4_defendant 81 = .ok (.iconst 0, 1) := dk_3 (dk_at dksX4_defendant_3 11 rfl rfl)
theorem dX4_defendant_82 : decode cX4_defendant 82 = .ok (.ireturn, 1) := dk_172 (dk_at dksX4_defendant_3 12 rfl rfl)
theorem dX4_defendant_83 : decode cX4_defendant 83 = .ok (.new 295, 3) := dk_187 1 39 (dk_at dksX4_defendant_3 13 rfl rfl)
theorem dX4_defendant_86 : decode cX4_defendant 86 = .ok (.dup, 1) := dk_89 (dk_at dksX4_defendant_3 16 rfl rfl)
theorem dX4_defendant_87 : decode cX4_defendant 87 = .ok (.invokespecial 307, 3) := dk_183 1 51 (dk_at dksX4_defendant_3 17 rfl rfl)
theorem dX4_defendant_90 : decode cX4_defendant 90 = .ok (.astore 4, 2) := dk_58 4 (dk_at dksX4_defendant_3 20 rfl rfl)
theorem dX4_defendant_92 : decode cX4_defendant 92 = .ok (.aload 4, 2) := dk_25 4 (dk_at dksX4_defendant_3 22 rfl rfl)
theorem dX4_defendant_94 : decode cX4_defendant 94 = .ok (.iload_n 1, 1) := dk_27 (dk_at dksX4_defendant_4 0 rfl rfl)
theorem dX4_defendant_95 : decode cX4_defendant 95 = .ok (.putfield 297, 3) := dk_181 1 41 (dk_at dksX4_defendant_4 1 rfl rfl)
theorem dX4_defendant_98 : decode cX4_defendant 98 = .ok (.aload 4, 2) := dk_25 4 (dk_at dksX4_defendant_4 4 rfl rfl)
theorem dX4_defendant_100 : decode cX4_defendant 100 = .ok (.iload_n 2, 1) := dk_28 (dk_at dksX4_defendant_4 6 rfl rfl)
theorem dX4_defendant_101 : decode cX4_defendant 101 = .ok (.i2l, 1) := dk_133 (dk_at dksX4_defendant_4 7 rfl rfl)
theorem dX4_defendant_102 : decode cX4_defendant 102 = .ok (.putfield 308, 3) := dk_181 1 52 (dk_at dksX4_defendant_4 8 rfl rfl)
theorem dX4_defendant_105 : decode cX4_defendant 105 = .ok (.aload_n 0, 1) := dk_42 (dk_at dksX4_defendant_4 11 rfl rfl)
theorem dX4_defendant_106 : decode cX4_defendant 106 = .ok (.getfield 23, 3) := dk_180 0 23 (dk_at dksX4_defendant_4 12 rfl rfl)
theorem dX4_defendant_109 : decode cX4_defendant 109 = .ok (.aload 4, 2) := dk_25 4 (dk_at dksX4_defendant_4 15 rfl rfl)
theorem dX4_defendant_111 : decode cX4_defendant 111 = .ok (.invokevirtual 186, 3) := dk_182 0 186 (dk_at dksX4_defendant_4 17 rfl rfl)
theorem dX4_defendant_114 : decode cX4_defendant 114 = .ok (.pop, 1) := dk_87 (dk_at dksX4_defendant_4 20 rfl rfl)
theorem dX4_defendant_115 : decode cX4_defendant 115 = .ok (.aload_n 0, 1) := dk_42 (dk_at dksX4_defendant_4 21 rfl rfl)
theorem dX4_defendant_116 : decode cX4_defendant 116 = .ok (.getfield 23, 3) := dk_180 0 23 (dk_at dksX4_defendant_5 0 rfl rfl)
theorem dX4_defendant_119 : decode cX4_defendant 119 = .ok (.invokevirtual 94, 3) := dk_182 0 94 (dk_at dksX4_defendant_5 3 rfl rfl)
theorem dX4_defendant_122 : decode cX4_defendant 122 = .ok (.iconst 1, 1) := dk_4 (dk_at dksX4_defendant_5 6 rfl rfl)
theorem dX4_defendant_123 : decode cX4_defendant 123 = .ok (.isub, 1) := dk_100 (dk_at dksX4_defendant_5 7 rfl rfl)
theorem dX4_defendant_124 : decode cX4_defendant 124 = .ok (.ireturn, 1) := dk_172 (dk_at dksX4_defendant_5 8 rfl rfl)
abbrev cX4_shares : ByteArray := prog_14_method_35_code
def yX4_shares : MethodName := ⟨RX4, "shares", "()I"⟩
def dkwX4_shares_1 : List UInt8 := [192, 1, 39, 180, 1, 41, 96, 60, 132, 2, 1, 167, 255, 225, 27, 172]
abbrev dktX4_shares_1 : List UInt8 := dkwX4_shares_1 ++ []
def dkwX4_shares_0 : List UInt8 := [3, 60, 3, 61, 28, 42, 180, 0, 23, 182, 0, 94, 162, 0, 26, 27, 42, 180, 0, 23, 28, 182, 0, 108]
abbrev dktX4_shares_0 : List UInt8 := dkwX4_shares_0 ++ dktX4_shares_1
theorem dksX4_shares_0 : cX4_shares.data.toList.drop 0 = dktX4_shares_0 := by decide +kernel
theorem dksX4_shares_1 : cX4_shares.data.toList.drop 24 = dktX4_shares_1 := dk_seg dksX4_shares_0 24 rfl rfl
theorem dX4_shares_0 : decode cX4_shares 0 = .ok (.iconst 0, 1) := dk_3 (dk_at dksX4_shares_0 0 rfl rfl)
theorem dX4_shares_1 : decode cX4_shares 1 = .ok (.istore_n 1, 1) := dk_60 (dk_at dksX4_shares_0 1 rfl rfl)
theorem dX4_shares_2 : decode cX4_shares 2 = .ok (.iconst 0, 1) := dk_3 (dk_at dksX4_shares_0 2 rfl rfl)
theorem dX4_shares_3 : decode cX4_shares 3 = .ok (.istore_n 2, 1) := dk_61 (dk_at dksX4_shares_0 3 rfl rfl)
theorem dX4_shares_4 : decode cX4_shares 4 = .ok (.iload_n 2, 1) := dk_28 (dk_at dksX4_shares_0 4 rfl rfl)
theorem dX4_shares_5 : decode cX4_shares 5 = .ok (.aload_n 0, 1) := dk_42 (dk_at dksX4_shares_0 5 rfl rfl)
theorem dX4_shares_6 : decode cX4_shares 6 = .ok (.getfield 23, 3) := dk_180 0 23 (dk_at dksX4_shares_0 6 rfl rfl)
theorem dX4_shares_9 : decode cX4_shares 9 = .ok (.invokevirtual 94, 3) := dk_182 0 94 (dk_at dksX4_shares_0 9 rfl rfl)
theorem dX4_shares_12 : decode cX4_shares 12 = .ok (.if_icmp .ge 26, 3) := dk_162 0 26 (dk_at dksX4_shares_0 12 rfl rfl)
theorem dX4_shares_15 : decode cX4_shares 15 = .ok (.iload_n 1, 1) := dk_27 (dk_at dksX4_shares_0 15 rfl rfl)
theorem dX4_shares_16 : decode cX4_shares 16 = .ok (.aload_n 0, 1) := dk_42 (dk_at dksX4_shares_0 16 rfl rfl)
theorem dX4_shares_17 : decode cX4_shares 17 = .ok (.getfield 23, 3) := dk_180 0 23 (dk_at dksX4_shares_0 17 rfl rfl)
theorem dX4_shares_20 : decode cX4_shares 20 = .ok (.iload_n 2, 1) := dk_28 (dk_at dksX4_shares_0 20 rfl rfl)
theorem dX4_shares_21 : decode cX4_shares 21 = .ok (.invokevirtual 108, 3) := dk_182 0 108 (dk_at dksX4_shares_0 21 rfl rfl)
theorem dX4_shares_24 : decode cX4_shares 24 = .ok (.checkcast 295, 3) := dk_192 1 39 (dk_at dksX4_shares_1 0 rfl rfl)
theorem dX4_shares_27 : decode cX4_shares 27 = .ok (.getfield 297, 3) := dk_180 1 41 (dk_at dksX4_shares_1 3 rfl rfl)
theorem dX4_shares_30 : decode cX4_shares 30 = .ok (.iadd, 1) := dk_96 (dk_at dksX4_shares_1 6 rfl rfl)
theorem dX4_shares_31 : decode cX4_shares 31 = .ok (.istore_n 1, 1) := dk_60 (dk_at dksX4_shares_1 7 rfl rfl)
theorem dX4_shares_32 : decode cX4_shares 32 = .ok (.iinc 2 1, 3) := dk_132 2 1 (dk_at dksX4_shares_1 8 rfl rfl)
theorem dX4_shares_35 : decode cX4_shares 35 = .ok (.goto (-31), 3) := dk_167 255 225 (dk_at dksX4_shares_1 11 rfl rfl)
theorem dX4_shares_38 : decode cX4_shares 38 = .ok (.iload_n 1, 1) := dk_27 (dk_at dksX4_shares_1 14 rfl rfl)
theorem dX4_shares_39 : decode cX4_shares 39 = .ok (.ireturn, 1) := dk_172 (dk_at dksX4_shares_1 15 rfl rfl)
abbrev cX4_payIn : ByteArray := prog_14_method_38_code
def yX4_payIn : MethodName := ⟨RX4, "payIn", "(II)J"⟩
def dkwX4_payIn_6 : List UInt8 := [180, 0, 79, 22, 4, 97, 181, 0, 79, 22, 4, 173]
abbrev dktX4_payIn_6 : List UInt8 := dkwX4_payIn_6 ++ []
def dkwX4_payIn_5 : List UInt8 := [180, 1, 70, 22, 4, 97, 181, 1, 70, 42, 89, 180, 0, 76, 22, 4, 97, 181, 0, 76, 42, 89]
abbrev dktX4_payIn_5 : List UInt8 := dkwX4_payIn_5 ++ dktX4_payIn_6
def dkwX4_payIn_4 : List UInt8 := [180, 1, 61, 22, 4, 101, 181, 1, 61, 45, 89, 180, 1, 52, 22, 4, 101, 181, 1, 52, 45, 89]
abbrev dktX4_payIn_4 : List UInt8 := dkwX4_payIn_4 ++ dktX4_payIn_5
def dkwX4_payIn_3 : List UInt8 := [192, 1, 39, 78, 28, 133, 45, 180, 1, 61, 45, 180, 1, 52, 184, 1, 64, 184, 1, 64, 55, 4, 45, 89]
abbrev dktX4_payIn_3 : List UInt8 := dkwX4_payIn_3 ++ dktX4_payIn_4
def dkwX4_payIn_2 : List UInt8 := [4, 167, 0, 4, 3, 6, 182, 0, 104, 154, 0, 5, 9, 173, 42, 180, 0, 23, 27, 182, 0, 108]
abbrev dktX4_payIn_2 : List UInt8 := dkwX4_payIn_2 ++ dktX4_payIn_3
def dkwX4_payIn_1 : List UInt8 := [182, 0, 104, 153, 0, 33, 42, 42, 180, 0, 23, 27, 182, 0, 108, 192, 1, 39, 180, 1, 58, 154, 0, 7]
abbrev dktX4_payIn_1 : List UInt8 := dkwX4_payIn_1 ++ dktX4_payIn_2
def dkwX4_payIn_0 : List UInt8 := [42, 42, 27, 182, 1, 55, 4, 182, 0, 104, 153, 0, 50, 42, 28, 133, 10, 20, 1, 46, 184, 0, 100, 5]
abbrev dktX4_payIn_0 : List UInt8 := dkwX4_payIn_0 ++ dktX4_payIn_1
theorem dksX4_payIn_0 : cX4_payIn.data.toList.drop 0 = dktX4_payIn_0 := by decide +kernel
theorem dksX4_payIn_1 : cX4_payIn.data.toList.drop 24 = dktX4_payIn_1 := dk_seg dksX4_payIn_0 24 rfl rfl
theorem dksX4_payIn_2 : cX4_payIn.data.toList.drop 48 = dktX4_payIn_2 := dk_seg dksX4_payIn_1 24 rfl rfl
theorem dksX4_payIn_3 : cX4_payIn.data.toList.drop 70 = dktX4_payIn_3 := dk_seg dksX4_payIn_2 22 rfl rfl
theorem dksX4_payIn_4 : cX4_payIn.data.toList.drop 94 = dktX4_payIn_4 := dk_seg dksX4_payIn_3 24 rfl rfl
theorem dksX4_payIn_5 : cX4_payIn.data.toList.drop 116 = dktX4_payIn_5 := dk_seg dksX4_payIn_4 22 rfl rfl
theorem dksX4_payIn_6 : cX4_payIn.data.toList.drop 138 = dktX4_payIn_6 := dk_seg dksX4_payIn_5 22 rfl rfl
theorem dX4_payIn_0 : decode cX4_payIn 0 = .ok (.aload_n 0, 1) := dk_42 (dk_at dksX4_payIn_0 0 rfl rfl)
theorem dX4_payIn_1 : decode cX4_payIn 1 = .ok (.aload_n 0, 1) := dk_42 (dk_at dksX4_payIn_0 1 rfl rfl)
theorem dX4_payIn_2 : decode cX4_payIn 2 = .ok (.iload_n 1, 1) := dk_27 (dk_at dksX4_payIn_0 2 rfl rfl)
theorem dX4_payIn_3 : decode cX4_payIn 3 = .ok (.invokevirtual 311, 3) := dk_182 1 55 (dk_at dksX4_payIn_0 3 rfl rfl)
theorem dX4_payIn_6 : decode cX4_payIn 6 = .ok (.iconst 1, 1) := dk_4 (dk_at dksX4_payIn_0 6 rfl rfl)
theorem dX4_payIn_7 : decode cX4_payIn 7 = .ok (.invokevirtual 104, 3) := dk_182 0 104 (dk_at dksX4_payIn_0 7 rfl rfl)
theorem dX4_payIn_10 : decode cX4_payIn 10 = .ok (.ifCond .eq 50, 3) := dk_153 0 50 (dk_at dksX4_payIn_0 10 rfl rfl)
theorem dX4_payIn_13 : decode cX4_payIn 13 = .ok (.aload_n 0, 1) := dk_42 (dk_at dksX4_payIn_0 13 rfl rfl)
theorem dX4_payIn_14 : decode cX4_payIn 14 = .ok (.iload_n 2, 1) := dk_28 (dk_at dksX4_payIn_0 14 rfl rfl)
theorem dX4_payIn_15 : decode cX4_payIn 15 = .ok (.i2l, 1) := dk_133 (dk_at dksX4_payIn_0 15 rfl rfl)
theorem dX4_payIn_16 : decode cX4_payIn 16 = .ok (.lconst 1, 1) := dk_10 (dk_at dksX4_payIn_0 16 rfl rfl)
theorem dX4_payIn_17 : decode cX4_payIn 17 = .ok (.ldc2_w 302, 3) := dk_20 1 46 (dk_at dksX4_payIn_0 17 rfl rfl)
theorem dX4_payIn_20 : decode cX4_payIn 20 = .ok (.invokestatic 100, 3) := dk_184 0 100 (dk_at dksX4_payIn_0 20 rfl rfl)
theorem dX4_payIn_23 : decode cX4_payIn 23 = .ok (.iconst 2, 1) := dk_5 (dk_at dksX4_payIn_0 23 rfl rfl)
theorem dX4_payIn_24 : decode cX4_payIn 24 = .ok (.invokevirtual 104, 3) := dk_182 0 104 (dk_at dksX4_payIn_1 0 rfl rfl)
theorem dX4_payIn_27 : decode cX4_payIn 27 = .ok (.ifCond .eq 33, 3) := dk_153 0 33 (dk_at dksX4_payIn_1 3 rfl rfl)
theorem dX4_payIn_30 : decode cX4_payIn 30 = .ok (.aload_n 0, 1) := dk_42 (dk_at dksX4_payIn_1 6 rfl rfl)
theorem dX4_payIn_31 : decode cX4_payIn 31 = .ok (.aload_n 0, 1) := dk_42 (dk_at dksX4_payIn_1 7 rfl rfl)
theorem dX4_payIn_32 : decode cX4_payIn 32 = .ok (.getfield 23, 3) := dk_180 0 23 (dk_at dksX4_payIn_1 8 rfl rfl)
theorem dX4_payIn_35 : decode cX4_payIn 35 = .ok (.iload_n 1, 1) := dk_27 (dk_at dksX4_payIn_1 11 rfl rfl)
theorem dX4_payIn_36 : decode cX4_payIn 36 = .ok (.invokevirtual 108, 3) := dk_182 0 108 (dk_at dksX4_payIn_1 12 rfl rfl)
theorem dX4_payIn_39 : decode cX4_payIn 39 = .ok (.checkcast 295, 3) := dk_192 1 39 (dk_at dksX4_payIn_1 15 rfl rfl)
theorem dX4_payIn_42 : decode cX4_payIn 42 = .ok (.getfield 314, 3) := dk_180 1 58 (dk_at dksX4_payIn_1 18 rfl rfl)
theorem dX4_payIn_45 : decode cX4_payIn 45 = .ok (.ifCond .ne 7, 3) := dk_154 0 7 (dk_at dksX4_payIn_1 21 rfl rfl)
theorem dX4_payIn_48 : decode cX4_payIn 48 = .ok (.iconst 1, 1) := dk_4 (dk_at dksX4_payIn_2 0 rfl rfl)
theorem dX4_payIn_49 : decode cX4_payIn 49 = .ok (.goto 4, 3) := dk_167 0 4 (dk_at dksX4_payIn_2 1 rfl rfl)
theorem dX4_payIn_52 : decode cX4_payIn 52 = .ok (.iconst 0, 1) := dk_3 (dk_at dksX4_payIn_2 4 rfl rfl)
theorem dX4_payIn_53 : decode cX4_payIn 53 = .ok (.iconst 3, 1) := dk_6 (dk_at dksX4_payIn_2 5 rfl rfl)
theorem dX4_payIn_54 : decode cX4_payIn 54 = .ok (.invokevirtual 104, 3) := dk_182 0 104 (dk_at dksX4_payIn_2 6 rfl rfl)
theorem dX4_payIn_57 : decode cX4_payIn 57 = .ok (.ifCond .ne 5, 3) := dk_154 0 5 (dk_at dksX4_payIn_2 9 rfl rfl)
theorem dX4_payIn_60 : decode cX4_payIn 60 = .ok (.lconst 0, 1) := dk_9 (dk_at dksX4_payIn_2 12 rfl rfl)
theorem dX4_payIn_61 : decode cX4_payIn 61 = .ok (.lreturn, 1) := dk_173 (dk_at dksX4_payIn_2 13 rfl rfl)
theorem dX4_payIn_62 : decode cX4_payIn 62 = .ok (.aload_n 0, 1) := dk_42 (dk_at dksX4_payIn_2 14 rfl rfl)
theorem dX4_payIn_63 : decode cX4_payIn 63 = .ok (.getfield 23, 3) := dk_180 0 23 (dk_at dksX4_payIn_2 15 rfl rfl)
theorem dX4_payIn_66 : decode cX4_payIn 66 = .ok (.iload_n 1, 1) := dk_27 (dk_at dksX4_payIn_2 18 rfl rfl)
theorem dX4_payIn_67 : decode cX4_payIn 67 = .ok (.invokevirtual 108, 3) := dk_182 0 108 (dk_at dksX4_payIn_2 19 rfl rfl)
theorem dX4_payIn_70 : decode cX4_payIn 70 = .ok (.checkcast 295, 3) := dk_192 1 39 (dk_at dksX4_payIn_3 0 rfl rfl)
theorem dX4_payIn_73 : decode cX4_payIn 73 = .ok (.astore_n 3, 1) := dk_78 (dk_at dksX4_payIn_3 3 rfl rfl)
theorem dX4_payIn_74 : decode cX4_payIn 74 = .ok (.iload_n 2, 1) := dk_28 (dk_at dksX4_payIn_3 4 rfl rfl)
theorem dX4_payIn_75 : decode cX4_payIn 75 = .ok (.i2l, 1) := dk_133 (dk_at dksX4_payIn_3 5 rfl rfl)
theorem dX4_payIn_76 : decode cX4_payIn 76 = .ok (.aload_n 3, 1) := dk_45 (dk_at dksX4_payIn_3 6 rfl rfl)
theorem dX4_payIn_77 : decode cX4_payIn 77 = .ok (.getfield 317, 3) := dk_180 1 61 (dk_at dksX4_payIn_3 7 rfl rfl)
theorem dX4_payIn_80 : decode cX4_payIn 80 = .ok (.aload_n 3, 1) := dk_45 (dk_at dksX4_payIn_3 10 rfl rfl)
theorem dX4_payIn_81 : decode cX4_payIn 81 = .ok (.getfield 308, 3) := dk_180 1 52 (dk_at dksX4_payIn_3 11 rfl rfl)
theorem dX4_payIn_84 : decode cX4_payIn 84 = .ok (.invokestatic 320, 3) := dk_184 1 64 (dk_at dksX4_payIn_3 14 rfl rfl)
theorem dX4_payIn_87 : decode cX4_payIn 87 = .ok (.invokestatic 320, 3) := dk_184 1 64 (dk_at dksX4_payIn_3 17 rfl rfl)
theorem dX4_payIn_90 : decode cX4_payIn 90 = .ok (.lstore 4, 2) := dk_55 4 (dk_at dksX4_payIn_3 20 rfl rfl)
theorem dX4_payIn_92 : decode cX4_payIn 92 = .ok (.aload_n 3, 1) := dk_45 (dk_at dksX4_payIn_3 22 rfl rfl)
theorem dX4_payIn_93 : decode cX4_payIn 93 = .ok (.dup, 1) := dk_89 (dk_at dksX4_payIn_3 23 rfl rfl)
theorem dX4_payIn_94 : decode cX4_payIn 94 = .ok (.getfield 317, 3) := dk_180 1 61 (dk_at dksX4_payIn_4 0 rfl rfl)
theorem dX4_payIn_97 : decode cX4_payIn 97 = .ok (.lload 4, 2) := dk_22 4 (dk_at dksX4_payIn_4 3 rfl rfl)
theorem dX4_payIn_99 : decode cX4_payIn 99 = .ok (.lsub, 1) := dk_101 (dk_at dksX4_payIn_4 5 rfl rfl)
theorem dX4_payIn_100 : decode cX4_payIn 100 = .ok (.putfield 317, 3) := dk_181 1 61 (dk_at dksX4_payIn_4 6 rfl rfl)
theorem dX4_payIn_103 : decode cX4_payIn 103 = .ok (.aload_n 3, 1) := dk_45 (dk_at dksX4_payIn_4 9 rfl rfl)
theorem dX4_payIn_104 : decode cX4_payIn 104 = .ok (.dup, 1) := dk_89 (dk_at dksX4_payIn_4 10 rfl rfl)
theorem dX4_payIn_105 : decode cX4_payIn 105 = .ok (.getfield 308, 3) := dk_180 1 52 (dk_at dksX4_payIn_4 11 rfl rfl)
theorem dX4_payIn_108 : decode cX4_payIn 108 = .ok (.lload 4, 2) := dk_22 4 (dk_at dksX4_payIn_4 14 rfl rfl)
theorem dX4_payIn_110 : decode cX4_payIn 110 = .ok (.lsub, 1) := dk_101 (dk_at dksX4_payIn_4 16 rfl rfl)
theorem dX4_payIn_111 : decode cX4_payIn 111 = .ok (.putfield 308, 3) := dk_181 1 52 (dk_at dksX4_payIn_4 17 rfl rfl)
theorem dX4_payIn_114 : decode cX4_payIn 114 = .ok (.aload_n 3, 1) := dk_45 (dk_at dksX4_payIn_4 20 rfl rfl)
theorem dX4_payIn_115 : decode cX4_payIn 115 = .ok (.dup, 1) := dk_89 (dk_at dksX4_payIn_4 21 rfl rfl)
theorem dX4_payIn_116 : decode cX4_payIn 116 = .ok (.getfield 326, 3) := dk_180 1 70 (dk_at dksX4_payIn_5 0 rfl rfl)
theorem dX4_payIn_119 : decode cX4_payIn 119 = .ok (.lload 4, 2) := dk_22 4 (dk_at dksX4_payIn_5 3 rfl rfl)
theorem dX4_payIn_121 : decode cX4_payIn 121 = .ok (.ladd, 1) := dk_97 (dk_at dksX4_payIn_5 5 rfl rfl)
theorem dX4_payIn_122 : decode cX4_payIn 122 = .ok (.putfield 326, 3) := dk_181 1 70 (dk_at dksX4_payIn_5 6 rfl rfl)
theorem dX4_payIn_125 : decode cX4_payIn 125 = .ok (.aload_n 0, 1) := dk_42 (dk_at dksX4_payIn_5 9 rfl rfl)
theorem dX4_payIn_126 : decode cX4_payIn 126 = .ok (.dup, 1) := dk_89 (dk_at dksX4_payIn_5 10 rfl rfl)
theorem dX4_payIn_127 : decode cX4_payIn 127 = .ok (.getfield 76, 3) := dk_180 0 76 (dk_at dksX4_payIn_5 11 rfl rfl)
theorem dX4_payIn_130 : decode cX4_payIn 130 = .ok (.lload 4, 2) := dk_22 4 (dk_at dksX4_payIn_5 14 rfl rfl)
theorem dX4_payIn_132 : decode cX4_payIn 132 = .ok (.ladd, 1) := dk_97 (dk_at dksX4_payIn_5 16 rfl rfl)
theorem dX4_payIn_133 : decode cX4_payIn 133 = .ok (.putfield 76, 3) := dk_181 0 76 (dk_at dksX4_payIn_5 17 rfl rfl)
theorem dX4_payIn_136 : decode cX4_payIn 136 = .ok (.aload_n 0, 1) := dk_42 (dk_at dksX4_payIn_5 20 rfl rfl)
theorem dX4_payIn_137 : decode cX4_payIn 137 = .ok (.dup, 1) := dk_89 (dk_at dksX4_payIn_5 21 rfl rfl)
theorem dX4_payIn_138 : decode cX4_payIn 138 = .ok (.getfield 79, 3) := dk_180 0 79 (dk_at dksX4_payIn_6 0 rfl rfl)
theorem dX4_payIn_141 : decode cX4_payIn 141 = .ok (.lload 4, 2) := dk_22 4 (dk_at dksX4_payIn_6 3 rfl rfl)
theorem dX4_payIn_143 : decode cX4_payIn 143 = .ok (.ladd, 1) := dk_97 (dk_at dksX4_payIn_6 5 rfl rfl)
theorem dX4_payIn_144 : decode cX4_payIn 144 = .ok (.putfield 79, 3) := dk_181 0 79 (dk_at dksX4_payIn_6 6 rfl rfl)
theorem dX4_payIn_147 : decode cX4_payIn 147 = .ok (.lload 4, 2) := dk_22 4 (dk_at dksX4_payIn_6 9 rfl rfl)
theorem dX4_payIn_149 : decode cX4_payIn 149 = .ok (.lreturn, 1) := dk_173 (dk_at dksX4_payIn_6 11 rfl rfl)
abbrev cX4_isDefendant : ByteArray := prog_14_method_37_code
def yX4_isDefendant : MethodName := ⟨RX4, "isDefendant", "(I)Z"⟩
def dkwX4_isDefendant_0 : List UInt8 := [27, 133, 9, 42, 180, 0, 23, 182, 0, 94, 4, 100, 133, 184, 0, 100, 172]
abbrev dktX4_isDefendant_0 : List UInt8 := dkwX4_isDefendant_0 ++ []
theorem dksX4_isDefendant_0 : cX4_isDefendant.data.toList.drop 0 = dktX4_isDefendant_0 := by decide +kernel
theorem dX4_isDefendant_0 : decode cX4_isDefendant 0 = .ok (.iload_n 1, 1) := dk_27 (dk_at dksX4_isDefendant_0 0 rfl rfl)
theorem dX4_isDefendant_1 : decode cX4_isDefendant 1 = .ok (.i2l, 1) := dk_133 (dk_at dksX4_isDefendant_0 1 rfl rfl)
theorem dX4_isDefendant_2 : decode cX4_isDefendant 2 = .ok (.lconst 0, 1) := dk_9 (dk_at dksX4_isDefendant_0 2 rfl rfl)
theorem dX4_isDefendant_3 : decode cX4_isDefendant 3 = .ok (.aload_n 0, 1) := dk_42 (dk_at dksX4_isDefendant_0 3 rfl rfl)
theorem dX4_isDefendant_4 : decode cX4_isDefendant 4 = .ok (.getfield 23, 3) := dk_180 0 23 (dk_at dksX4_isDefendant_0 4 rfl rfl)
theorem dX4_isDefendant_7 : decode cX4_isDefendant 7 = .ok (.invokevirtual 94, 3) := dk_182 0 94 (dk_at dksX4_isDefendant_0 7 rfl rfl)
theorem dX4_isDefendant_10 : decode cX4_isDefendant 10 = .ok (.iconst 1, 1) := dk_4 (dk_at dksX4_isDefendant_0 10 rfl rfl)
theorem dX4_isDefendant_11 : decode cX4_isDefendant 11 = .ok (.isub, 1) := dk_100 (dk_at dksX4_isDefendant_0 11 rfl rfl)
theorem dX4_isDefendant_12 : decode cX4_isDefendant 12 = .ok (.i2l, 1) := dk_133 (dk_at dksX4_isDefendant_0 12 rfl rfl)
theorem dX4_isDefendant_13 : decode cX4_isDefendant 13 = .ok (.invokestatic 100, 3) := dk_184 0 100 (dk_at dksX4_isDefendant_0 13 rfl rfl)
theorem dX4_isDefendant_16 : decode cX4_isDefendant 16 = .ok (.ireturn, 1) := dk_172 (dk_at dksX4_isDefendant_0 16 rfl rfl)
abbrev cX4_fail : ByteArray := prog_14_method_40_code
def yX4_fail : MethodName := ⟨RX4, "fail", "(I)J"⟩
def dkwX4_fail_3 : List UInt8 := [181, 1, 61, 33, 9, 148, 158, 0, 9, 42, 33, 182, 1, 73, 87, 33, 173]
abbrev dktX4_fail_3 : List UInt8 := dkwX4_fail_3 ++ []
def dkwX4_fail_2 : List UInt8 := [180, 0, 23, 27, 182, 0, 108, 192, 1, 39, 77, 44, 180, 1, 61, 66, 44, 4, 181, 1, 58, 44, 9]
abbrev dktX4_fail_2 : List UInt8 := dkwX4_fail_2 ++ dktX4_fail_3
def dkwX4_fail_1 : List UInt8 := [192, 1, 39, 180, 1, 58, 154, 0, 7, 4, 167, 0, 4, 3, 5, 182, 0, 104, 154, 0, 5, 9, 173, 42]
abbrev dktX4_fail_1 : List UInt8 := dkwX4_fail_1 ++ dktX4_fail_2
def dkwX4_fail_0 : List UInt8 := [42, 42, 27, 182, 1, 55, 4, 182, 0, 104, 153, 0, 33, 42, 42, 180, 0, 23, 27, 182, 0, 108]
abbrev dktX4_fail_0 : List UInt8 := dkwX4_fail_0 ++ dktX4_fail_1
theorem dksX4_fail_0 : cX4_fail.data.toList.drop 0 = dktX4_fail_0 := by decide +kernel
theorem dksX4_fail_1 : cX4_fail.data.toList.drop 22 = dktX4_fail_1 := dk_seg dksX4_fail_0 22 rfl rfl
theorem dksX4_fail_2 : cX4_fail.data.toList.drop 46 = dktX4_fail_2 := dk_seg dksX4_fail_1 24 rfl rfl
theorem dksX4_fail_3 : cX4_fail.data.toList.drop 69 = dktX4_fail_3 := dk_seg dksX4_fail_2 23 rfl rfl
theorem dX4_fail_0 : decode cX4_fail 0 = .ok (.aload_n 0, 1) := dk_42 (dk_at dksX4_fail_0 0 rfl rfl)
theorem dX4_fail_1 : decode cX4_fail 1 = .ok (.aload_n 0, 1) := dk_42 (dk_at dksX4_fail_0 1 rfl rfl)
theorem dX4_fail_2 : decode cX4_fail 2 = .ok (.iload_n 1, 1) := dk_27 (dk_at dksX4_fail_0 2 rfl rfl)
theorem dX4_fail_3 : decode cX4_fail 3 = .ok (.invokevirtual 311, 3) := dk_182 1 55 (dk_at dksX4_fail_0 3 rfl rfl)
theorem dX4_fail_6 : decode cX4_fail 6 = .ok (.iconst 1, 1) := dk_4 (dk_at dksX4_fail_0 6 rfl rfl)
theorem dX4_fail_7 : decode cX4_fail 7 = .ok (.invokevirtual 104, 3) := dk_182 0 104 (dk_at dksX4_fail_0 7 rfl rfl)
theorem dX4_fail_10 : decode cX4_fail 10 = .ok (.ifCond .eq 33, 3) := dk_153 0 33 (dk_at dksX4_fail_0 10 rfl rfl)
theorem dX4_fail_13 : decode cX4_fail 13 = .ok (.aload_n 0, 1) := dk_42 (dk_at dksX4_fail_0 13 rfl rfl)
theorem dX4_fail_14 : decode cX4_fail 14 = .ok (.aload_n 0, 1) := dk_42 (dk_at dksX4_fail_0 14 rfl rfl)
theorem dX4_fail_15 : decode cX4_fail 15 = .ok (.getfield 23, 3) := dk_180 0 23 (dk_at dksX4_fail_0 15 rfl rfl)
theorem dX4_fail_18 : decode cX4_fail 18 = .ok (.iload_n 1, 1) := dk_27 (dk_at dksX4_fail_0 18 rfl rfl)
theorem dX4_fail_19 : decode cX4_fail 19 = .ok (.invokevirtual 108, 3) := dk_182 0 108 (dk_at dksX4_fail_0 19 rfl rfl)
theorem dX4_fail_22 : decode cX4_fail 22 = .ok (.checkcast 295, 3) := dk_192 1 39 (dk_at dksX4_fail_1 0 rfl rfl)
theorem dX4_fail_25 : decode cX4_fail 25 = .ok (.getfield 314, 3) := dk_180 1 58 (dk_at dksX4_fail_1 3 rfl rfl)
theorem dX4_fail_28 : decode cX4_fail 28 = .ok (.ifCond .ne 7, 3) := dk_154 0 7 (dk_at dksX4_fail_1 6 rfl rfl)
theorem dX4_fail_31 : decode cX4_fail 31 = .ok (.iconst 1, 1) := dk_4 (dk_at dksX4_fail_1 9 rfl rfl)
theorem dX4_fail_32 : decode cX4_fail 32 = .ok (.goto 4, 3) := dk_167 0 4 (dk_at dksX4_fail_1 10 rfl rfl)
theorem dX4_fail_35 : decode cX4_fail 35 = .ok (.iconst 0, 1) := dk_3 (dk_at dksX4_fail_1 13 rfl rfl)
theorem dX4_fail_36 : decode cX4_fail 36 = .ok (.iconst 2, 1) := dk_5 (dk_at dksX4_fail_1 14 rfl rfl)
theorem dX4_fail_37 : decode cX4_fail 37 = .ok (.invokevirtual 104, 3) := dk_182 0 104 (dk_at dksX4_fail_1 15 rfl rfl)
theorem dX4_fail_40 : decode cX4_fail 40 = .ok (.ifCond .ne 5, 3) := dk_154 0 5 (dk_at dksX4_fail_1 18 rfl rfl)
theorem dX4_fail_43 : decode cX4_fail 43 = .ok (.lconst 0, 1) := dk_9 (dk_at dksX4_fail_1 21 rfl rfl)
theorem dX4_fail_44 : decode cX4_fail 44 = .ok (.lreturn, 1) := dk_173 (dk_at dksX4_fail_1 22 rfl rfl)
theorem dX4_fail_45 : decode cX4_fail 45 = .ok (.aload_n 0, 1) := dk_42 (dk_at dksX4_fail_1 23 rfl rfl)
theorem dX4_fail_46 : decode cX4_fail 46 = .ok (.getfield 23, 3) := dk_180 0 23 (dk_at dksX4_fail_2 0 rfl rfl)
theorem dX4_fail_49 : decode cX4_fail 49 = .ok (.iload_n 1, 1) := dk_27 (dk_at dksX4_fail_2 3 rfl rfl)
theorem dX4_fail_50 : decode cX4_fail 50 = .ok (.invokevirtual 108, 3) := dk_182 0 108 (dk_at dksX4_fail_2 4 rfl rfl)
theorem dX4_fail_53 : decode cX4_fail 53 = .ok (.checkcast 295, 3) := dk_192 1 39 (dk_at dksX4_fail_2 7 rfl rfl)
theorem dX4_fail_56 : decode cX4_fail 56 = .ok (.astore_n 2, 1) := dk_77 (dk_at dksX4_fail_2 10 rfl rfl)
theorem dX4_fail_57 : decode cX4_fail 57 = .ok (.aload_n 2, 1) := dk_44 (dk_at dksX4_fail_2 11 rfl rfl)
theorem dX4_fail_58 : decode cX4_fail 58 = .ok (.getfield 317, 3) := dk_180 1 61 (dk_at dksX4_fail_2 12 rfl rfl)
theorem dX4_fail_61 : decode cX4_fail 61 = .ok (.lstore_n 3, 1) := dk_66 (dk_at dksX4_fail_2 15 rfl rfl)
theorem dX4_fail_62 : decode cX4_fail 62 = .ok (.aload_n 2, 1) := dk_44 (dk_at dksX4_fail_2 16 rfl rfl)
theorem dX4_fail_63 : decode cX4_fail 63 = .ok (.iconst 1, 1) := dk_4 (dk_at dksX4_fail_2 17 rfl rfl)
theorem dX4_fail_64 : decode cX4_fail 64 = .ok (.putfield 314, 3) := dk_181 1 58 (dk_at dksX4_fail_2 18 rfl rfl)
theorem dX4_fail_67 : decode cX4_fail 67 = .ok (.aload_n 2, 1) := dk_44 (dk_at dksX4_fail_2 21 rfl rfl)
theorem dX4_fail_68 : decode cX4_fail 68 = .ok (.lconst 0, 1) := dk_9 (dk_at dksX4_fail_2 22 rfl rfl)
theorem dX4_fail_69 : decode cX4_fail 69 = .ok (.putfield 317, 3) := dk_181 1 61 (dk_at dksX4_fail_3 0 rfl rfl)
theorem dX4_fail_72 : decode cX4_fail 72 = .ok (.lload_n 3, 1) := dk_33 (dk_at dksX4_fail_3 3 rfl rfl)
theorem dX4_fail_73 : decode cX4_fail 73 = .ok (.lconst 0, 1) := dk_9 (dk_at dksX4_fail_3 4 rfl rfl)
theorem dX4_fail_74 : decode cX4_fail 74 = .ok (.lcmp, 1) := dk_148 (dk_at dksX4_fail_3 5 rfl rfl)
theorem dX4_fail_75 : decode cX4_fail 75 = .ok (.ifCond .le 9, 3) := dk_158 0 9 (dk_at dksX4_fail_3 6 rfl rfl)
theorem dX4_fail_78 : decode cX4_fail 78 = .ok (.aload_n 0, 1) := dk_42 (dk_at dksX4_fail_3 9 rfl rfl)
theorem dX4_fail_79 : decode cX4_fail 79 = .ok (.lload_n 3, 1) := dk_33 (dk_at dksX4_fail_3 10 rfl rfl)
theorem dX4_fail_80 : decode cX4_fail 80 = .ok (.invokevirtual 329, 3) := dk_182 1 73 (dk_at dksX4_fail_3 11 rfl rfl)
theorem dX4_fail_83 : decode cX4_fail 83 = .ok (.pop, 1) := dk_87 (dk_at dksX4_fail_3 14 rfl rfl)
theorem dX4_fail_84 : decode cX4_fail 84 = .ok (.lload_n 3, 1) := dk_33 (dk_at dksX4_fail_3 15 rfl rfl)
theorem dX4_fail_85 : decode cX4_fail 85 = .ok (.lreturn, 1) := dk_173 (dk_at dksX4_fail_3 16 rfl rfl)
abbrev cX4_spread : ByteArray := prog_14_method_39_code
def yX4_spread : MethodName := ⟨RX4, "spread", "(J)Z"⟩
def dkwX4_spread_7 : List UInt8 := [132, 7, 1, 167, 255, 177, 25, 4, 89, 180, 1, 61, 22, 5, 97, 181, 1, 61, 4, 172]
abbrev dktX4_spread_7 : List UInt8 := dkwX4_spread_7 ++ []
def dkwX4_spread_6 : List UInt8 := [29, 133, 109, 55, 9, 25, 8, 89, 180, 1, 61, 22, 9, 97, 181, 1, 61, 22, 5, 22, 9, 101, 55, 5]
abbrev dktX4_spread_6 : List UInt8 := dkwX4_spread_6 ++ dktX4_spread_7
def dkwX4_spread_5 : List UInt8 := [180, 1, 58, 154, 0, 45, 25, 8, 180, 1, 61, 9, 148, 158, 0, 35, 31, 25, 8, 180, 1, 41, 133, 105]
abbrev dktX4_spread_5 : List UInt8 := dkwX4_spread_5 ++ dktX4_spread_6
def dkwX4_spread_4 : List UInt8 := [182, 0, 94, 162, 0, 73, 42, 180, 0, 23, 21, 7, 182, 0, 108, 192, 1, 39, 58, 8, 25, 8]
abbrev dktX4_spread_4 : List UInt8 := dkwX4_spread_4 ++ dktX4_spread_5
def dkwX4_spread_3 : List UInt8 := [167, 255, 204, 25, 4, 199, 0, 5, 3, 172, 31, 55, 5, 3, 54, 7, 21, 7, 42, 180, 0, 23]
abbrev dktX4_spread_3 : List UInt8 := dkwX4_spread_3 ++ dktX4_spread_4
def dkwX4_spread_2 : List UInt8 := [180, 1, 61, 9, 148, 158, 0, 15, 29, 25, 6, 180, 1, 41, 96, 62, 25, 6, 58, 4, 132, 5, 255]
abbrev dktX4_spread_2 : List UInt8 := dkwX4_spread_2 ++ dktX4_spread_3
def dkwX4_spread_1 : List UInt8 := [180, 0, 23, 21, 5, 182, 0, 108, 192, 1, 39, 58, 6, 25, 6, 180, 1, 58, 154, 0, 25, 25, 6]
abbrev dktX4_spread_1 : List UInt8 := dkwX4_spread_1 ++ dktX4_spread_2
def dkwX4_spread_0 : List UInt8 := [3, 62, 1, 58, 4, 42, 180, 0, 23, 182, 0, 94, 4, 100, 54, 5, 21, 5, 155, 0, 53, 42]
abbrev dktX4_spread_0 : List UInt8 := dkwX4_spread_0 ++ dktX4_spread_1
theorem dksX4_spread_0 : cX4_spread.data.toList.drop 0 = dktX4_spread_0 := by decide +kernel
theorem dksX4_spread_1 : cX4_spread.data.toList.drop 22 = dktX4_spread_1 := dk_seg dksX4_spread_0 22 rfl rfl
theorem dksX4_spread_2 : cX4_spread.data.toList.drop 45 = dktX4_spread_2 := dk_seg dksX4_spread_1 23 rfl rfl
theorem dksX4_spread_3 : cX4_spread.data.toList.drop 68 = dktX4_spread_3 := dk_seg dksX4_spread_2 23 rfl rfl
theorem dksX4_spread_4 : cX4_spread.data.toList.drop 90 = dktX4_spread_4 := dk_seg dksX4_spread_3 22 rfl rfl
theorem dksX4_spread_5 : cX4_spread.data.toList.drop 112 = dktX4_spread_5 := dk_seg dksX4_spread_4 22 rfl rfl
theorem dksX4_spread_6 : cX4_spread.data.toList.drop 136 = dktX4_spread_6 := dk_seg dksX4_spread_5 24 rfl rfl
theorem dksX4_spread_7 : cX4_spread.data.toList.drop 160 = dktX4_spread_7 := dk_seg dksX4_spread_6 24 rfl rfl
theorem dX4_spread_0 : decode cX4_spread 0 = .ok (.iconst 0, 1) := dk_3 (dk_at dksX4_spread_0 0 rfl rfl)
theorem dX4_spread_1 : decode cX4_spread 1 = .ok (.istore_n 3, 1) := dk_62 (dk_at dksX4_spread_0 1 rfl rfl)
theorem dX4_spread_2 : decode cX4_spread 2 = .ok (.aconst_null, 1) := dk_1 (dk_at dksX4_spread_0 2 rfl rfl)
theorem dX4_spread_3 : decode cX4_spread 3 = .ok (.astore 4, 2) := dk_58 4 (dk_at dksX4_spread_0 3 rfl rfl)
theorem dX4_spread_5 : decode cX4_spread 5 = .ok (.aload_n 0, 1) := dk_42 (dk_at dksX4_spread_0 5 rfl rfl)
theorem dX4_spread_6 : decode cX4_spread 6 = .ok (.getfield 23, 3) := dk_180 0 23 (dk_at dksX4_spread_0 6 rfl rfl)
theorem dX4_spread_9 : decode cX4_spread 9 = .ok (.invokevirtual 94, 3) := dk_182 0 94 (dk_at dksX4_spread_0 9 rfl rfl)
theorem dX4_spread_12 : decode cX4_spread 12 = .ok (.iconst 1, 1) := dk_4 (dk_at dksX4_spread_0 12 rfl rfl)
theorem dX4_spread_13 : decode cX4_spread 13 = .ok (.isub, 1) := dk_100 (dk_at dksX4_spread_0 13 rfl rfl)
theorem dX4_spread_14 : decode cX4_spread 14 = .ok (.istore 5, 2) := dk_54 5 (dk_at dksX4_spread_0 14 rfl rfl)
theorem dX4_spread_16 : decode cX4_spread 16 = .ok (.iload 5, 2) := dk_21 5 (dk_at dksX4_spread_0 16 rfl rfl)
theorem dX4_spread_18 : decode cX4_spread 18 = .ok (.ifCond .lt 53, 3) := dk_155 0 53 (dk_at dksX4_spread_0 18 rfl rfl)
theorem dX4_spread_21 : decode cX4_spread 21 = .ok (.aload_n 0, 1) := dk_42 (dk_at dksX4_spread_0 21 rfl rfl)
theorem dX4_spread_22 : decode cX4_spread 22 = .ok (.getfield 23, 3) := dk_180 0 23 (dk_at dksX4_spread_1 0 rfl rfl)
theorem dX4_spread_25 : decode cX4_spread 25 = .ok (.iload 5, 2) := dk_21 5 (dk_at dksX4_spread_1 3 rfl rfl)
theorem dX4_spread_27 : decode cX4_spread 27 = .ok (.invokevirtual 108, 3) := dk_182 0 108 (dk_at dksX4_spread_1 5 rfl rfl)
theorem dX4_spread_30 : decode cX4_spread 30 = .ok (.checkcast 295, 3) := dk_192 1 39 (dk_at dksX4_spread_1 8 rfl rfl)
theorem dX4_spread_33 : decode cX4_spread 33 = .ok (.astore 6, 2) := dk_58 6 (dk_at dksX4_spread_1 11 rfl rfl)
theorem dX4_spread_35 : decode cX4_spread 35 = .ok (.aload 6, 2) := dk_25 6 (dk_at dksX4_spread_1 13 rfl rfl)
theorem dX4_spread_37 : decode cX4_spread 37 = .ok (.getfield 314, 3) := dk_180 1 58 (dk_at dksX4_spread_1 15 rfl rfl)
theorem dX4_spread_40 : decode cX4_spread 40 = .ok (.ifCond .ne 25, 3) := dk_154 0 25 (dk_at dksX4_spread_1 18 rfl rfl)
theorem dX4_spread_43 : decode cX4_spread 43 = .ok (.aload 6, 2) := dk_25 6 (dk_at dksX4_spread_1 21 rfl rfl)
theorem dX4_spread_45 : decode cX4_spread 45 = .ok (.getfield 317, 3) := dk_180 1 61 (dk_at dksX4_spread_2 0 rfl rfl)
theorem dX4_spread_48 : decode cX4_spread 48 = .ok (.lconst 0, 1) := dk_9 (dk_at dksX4_spread_2 3 rfl rfl)
theorem dX4_spread_49 : decode cX4_spread 49 = .ok (.lcmp, 1) := dk_148 (dk_at dksX4_spread_2 4 rfl rfl)
theorem dX4_spread_50 : decode cX4_spread 50 = .ok (.ifCond .le 15, 3) := dk_158 0 15 (dk_at dksX4_spread_2 5 rfl rfl)
theorem dX4_spread_53 : decode cX4_spread 53 = .ok (.iload_n 3, 1) := dk_29 (dk_at dksX4_spread_2 8 rfl rfl)
theorem dX4_spread_54 : decode cX4_spread 54 = .ok (.aload 6, 2) := dk_25 6 (dk_at dksX4_spread_2 9 rfl rfl)
theorem dX4_spread_56 : decode cX4_spread 56 = .ok (.getfield 297, 3) := dk_180 1 41 (dk_at dksX4_spread_2 11 rfl rfl)
theorem dX4_spread_59 : decode cX4_spread 59 = .ok (.iadd, 1) := dk_96 (dk_at dksX4_spread_2 14 rfl rfl)
theorem dX4_spread_60 : decode cX4_spread 60 = .ok (.istore_n 3, 1) := dk_62 (dk_at dksX4_spread_2 15 rfl rfl)
theorem dX4_spread_61 : decode cX4_spread 61 = .ok (.aload 6, 2) := dk_25 6 (dk_at dksX4_spread_2 16 rfl rfl)
theorem dX4_spread_63 : decode cX4_spread 63 = .ok (.astore 4, 2) := dk_58 4 (dk_at dksX4_spread_2 18 rfl rfl)
theorem dX4_spread_65 : decode cX4_spread 65 = .ok (.iinc 5 (-1), 3) := dk_132 5 255 (dk_at dksX4_spread_2 20 rfl rfl)
theorem dX4_spread_68 : decode cX4_spread 68 = .ok (.goto (-52), 3) := dk_167 255 204 (dk_at dksX4_spread_3 0 rfl rfl)
theorem dX4_spread_71 : decode cX4_spread 71 = .ok (.aload 4, 2) := dk_25 4 (dk_at dksX4_spread_3 3 rfl rfl)
theorem dX4_spread_73 : decode cX4_spread 73 = .ok (.ifnonnull 5, 3) := dk_199 0 5 (dk_at dksX4_spread_3 5 rfl rfl)
theorem dX4_spread_76 : decode cX4_spread 76 = .ok (.iconst 0, 1) := dk_3 (dk_at dksX4_spread_3 8 rfl rfl)
theorem dX4_spread_77 : decode cX4_spread 77 = .ok (.ireturn, 1) := dk_172 (dk_at dksX4_spread_3 9 rfl rfl)
theorem dX4_spread_78 : decode cX4_spread 78 = .ok (.lload_n 1, 1) := dk_31 (dk_at dksX4_spread_3 10 rfl rfl)
theorem dX4_spread_79 : decode cX4_spread 79 = .ok (.lstore 5, 2) := dk_55 5 (dk_at dksX4_spread_3 11 rfl rfl)
theorem dX4_spread_81 : decode cX4_spread 81 = .ok (.iconst 0, 1) := dk_3 (dk_at dksX4_spread_3 13 rfl rfl)
theorem dX4_spread_82 : decode cX4_spread 82 = .ok (.istore 7, 2) := dk_54 7 (dk_at dksX4_spread_3 14 rfl rfl)
theorem dX4_spread_84 : decode cX4_spread 84 = .ok (.iload 7, 2) := dk_21 7 (dk_at dksX4_spread_3 16 rfl rfl)
theorem dX4_spread_86 : decode cX4_spread 86 = .ok (.aload_n 0, 1) := dk_42 (dk_at dksX4_spread_3 18 rfl rfl)
theorem dX4_spread_87 : decode cX4_spread 87 = .ok (.getfield 23, 3) := dk_180 0 23 (dk_at dksX4_spread_3 19 rfl rfl)
theorem dX4_spread_90 : decode cX4_spread 90 = .ok (.invokevirtual 94, 3) := dk_182 0 94 (dk_at dksX4_spread_4 0 rfl rfl)
theorem dX4_spread_93 : decode cX4_spread 93 = .ok (.if_icmp .ge 73, 3) := dk_162 0 73 (dk_at dksX4_spread_4 3 rfl rfl)
theorem dX4_spread_96 : decode cX4_spread 96 = .ok (.aload_n 0, 1) := dk_42 (dk_at dksX4_spread_4 6 rfl rfl)
theorem dX4_spread_97 : decode cX4_spread 97 = .ok (.getfield 23, 3) := dk_180 0 23 (dk_at dksX4_spread_4 7 rfl rfl)
theorem dX4_spread_100 : decode cX4_spread 100 = .ok (.iload 7, 2) := dk_21 7 (dk_at dksX4_spread_4 10 rfl rfl)
theorem dX4_spread_102 : decode cX4_spread 102 = .ok (.invokevirtual 108, 3) := dk_182 0 108 (dk_at dksX4_spread_4 12 rfl rfl)
theorem dX4_spread_105 : decode cX4_spread 105 = .ok (.checkcast 295, 3) := dk_192 1 39 (dk_at dksX4_spread_4 15 rfl rfl)
theorem dX4_spread_108 : decode cX4_spread 108 = .ok (.astore 8, 2) := dk_58 8 (dk_at dksX4_spread_4 18 rfl rfl)
theorem dX4_spread_110 : decode cX4_spread 110 = .ok (.aload 8, 2) := dk_25 8 (dk_at dksX4_spread_4 20 rfl rfl)
theorem dX4_spread_112 : decode cX4_spread 112 = .ok (.getfield 314, 3) := dk_180 1 58 (dk_at dksX4_spread_5 0 rfl rfl)
theorem dX4_spread_115 : decode cX4_spread 115 = .ok (.ifCond .ne 45, 3) := dk_154 0 45 (dk_at dksX4_spread_5 3 rfl rfl)
theorem dX4_spread_118 : decode cX4_spread 118 = .ok (.aload 8, 2) := dk_25 8 (dk_at dksX4_spread_5 6 rfl rfl)
theorem dX4_spread_120 : decode cX4_spread 120 = .ok (.getfield 317, 3) := dk_180 1 61 (dk_at dksX4_spread_5 8 rfl rfl)
theorem dX4_spread_123 : decode cX4_spread 123 = .ok (.lconst 0, 1) := dk_9 (dk_at dksX4_spread_5 11 rfl rfl)
theorem dX4_spread_124 : decode cX4_spread 124 = .ok (.lcmp, 1) := dk_148 (dk_at dksX4_spread_5 12 rfl rfl)
theorem dX4_spread_125 : decode cX4_spread 125 = .ok (.ifCond .le 35, 3) := dk_158 0 35 (dk_at dksX4_spread_5 13 rfl rfl)
theorem dX4_spread_128 : decode cX4_spread 128 = .ok (.lload_n 1, 1) := dk_31 (dk_at dksX4_spread_5 16 rfl rfl)
theorem dX4_spread_129 : decode cX4_spread 129 = .ok (.aload 8, 2) := dk_25 8 (dk_at dksX4_spread_5 17 rfl rfl)
theorem dX4_spread_131 : decode cX4_spread 131 = .ok (.getfield 297, 3) := dk_180 1 41 (dk_at dksX4_spread_5 19 rfl rfl)
theorem dX4_spread_134 : decode cX4_spread 134 = .ok (.i2l, 1) := dk_133 (dk_at dksX4_spread_5 22 rfl rfl)
theorem dX4_spread_135 : decode cX4_spread 135 = .ok (.lmul, 1) := dk_105 (dk_at dksX4_spread_5 23 rfl rfl)
theorem dX4_spread_136 : decode cX4_spread 136 = .ok (.iload_n 3, 1) := dk_29 (dk_at dksX4_spread_6 0 rfl rfl)
theorem dX4_spread_137 : decode cX4_spread 137 = .ok (.i2l, 1) := dk_133 (dk_at dksX4_spread_6 1 rfl rfl)
theorem dX4_spread_138 : decode cX4_spread 138 = .ok (.ldiv, 1) := dk_109 (dk_at dksX4_spread_6 2 rfl rfl)
theorem dX4_spread_139 : decode cX4_spread 139 = .ok (.lstore 9, 2) := dk_55 9 (dk_at dksX4_spread_6 3 rfl rfl)
theorem dX4_spread_141 : decode cX4_spread 141 = .ok (.aload 8, 2) := dk_25 8 (dk_at dksX4_spread_6 5 rfl rfl)
theorem dX4_spread_143 : decode cX4_spread 143 = .ok (.dup, 1) := dk_89 (dk_at dksX4_spread_6 7 rfl rfl)
theorem dX4_spread_144 : decode cX4_spread 144 = .ok (.getfield 317, 3) := dk_180 1 61 (dk_at dksX4_spread_6 8 rfl rfl)
theorem dX4_spread_147 : decode cX4_spread 147 = .ok (.lload 9, 2) := dk_22 9 (dk_at dksX4_spread_6 11 rfl rfl)
theorem dX4_spread_149 : decode cX4_spread 149 = .ok (.ladd, 1) := dk_97 (dk_at dksX4_spread_6 13 rfl rfl)
theorem dX4_spread_150 : decode cX4_spread 150 = .ok (.putfield 317, 3) := dk_181 1 61 (dk_at dksX4_spread_6 14 rfl rfl)
theorem dX4_spread_153 : decode cX4_spread 153 = .ok (.lload 5, 2) := dk_22 5 (dk_at dksX4_spread_6 17 rfl rfl)
theorem dX4_spread_155 : decode cX4_spread 155 = .ok (.lload 9, 2) := dk_22 9 (dk_at dksX4_spread_6 19 rfl rfl)
theorem dX4_spread_157 : decode cX4_spread 157 = .ok (.lsub, 1) := dk_101 (dk_at dksX4_spread_6 21 rfl rfl)
theorem dX4_spread_158 : decode cX4_spread 158 = .ok (.lstore 5, 2) := dk_55 5 (dk_at dksX4_spread_6 22 rfl rfl)
theorem dX4_spread_160 : decode cX4_spread 160 = .ok (.iinc 7 1, 3) := dk_132 7 1 (dk_at dksX4_spread_7 0 rfl rfl)
theorem dX4_spread_163 : decode cX4_spread 163 = .ok (.goto (-79), 3) := dk_167 255 177 (dk_at dksX4_spread_7 3 rfl rfl)
theorem dX4_spread_166 : decode cX4_spread 166 = .ok (.aload 4, 2) := dk_25 4 (dk_at dksX4_spread_7 6 rfl rfl)
theorem dX4_spread_168 : decode cX4_spread 168 = .ok (.dup, 1) := dk_89 (dk_at dksX4_spread_7 8 rfl rfl)
theorem dX4_spread_169 : decode cX4_spread 169 = .ok (.getfield 317, 3) := dk_180 1 61 (dk_at dksX4_spread_7 9 rfl rfl)
theorem dX4_spread_172 : decode cX4_spread 172 = .ok (.lload 5, 2) := dk_22 5 (dk_at dksX4_spread_7 12 rfl rfl)
theorem dX4_spread_174 : decode cX4_spread 174 = .ok (.ladd, 1) := dk_97 (dk_at dksX4_spread_7 14 rfl rfl)
theorem dX4_spread_175 : decode cX4_spread 175 = .ok (.putfield 317, 3) := dk_181 1 61 (dk_at dksX4_spread_7 15 rfl rfl)
theorem dX4_spread_178 : decode cX4_spread 178 = .ok (.iconst 1, 1) := dk_4 (dk_at dksX4_spread_7 18 rfl rfl)
theorem dX4_spread_179 : decode cX4_spread 179 = .ok (.ireturn, 1) := dk_172 (dk_at dksX4_spread_7 19 rfl rfl)
abbrev cX4_defendantAt : ByteArray := prog_14_method_41_code
def yX4_defendantAt : MethodName := ⟨RX4, "defendantAt", "(II)J"⟩
def dkwX4_defendantAt_3 : List UInt8 := [45, 180, 1, 52, 167, 0, 15, 45, 180, 1, 58, 153, 0, 7, 10, 167, 0, 4, 9, 173]
abbrev dktX4_defendantAt_3 : List UInt8 := dkwX4_defendantAt_3 ++ []
def dkwX4_defendantAt_2 : List UInt8 := [45, 180, 1, 61, 167, 0, 39, 28, 4, 160, 0, 10, 45, 180, 1, 70, 167, 0, 27, 28, 5, 160, 0, 10]
abbrev dktX4_defendantAt_2 : List UInt8 := dkwX4_defendantAt_2 ++ dktX4_defendantAt_3
def dkwX4_defendantAt_1 : List UInt8 := [182, 0, 104, 154, 0, 5, 9, 173, 42, 180, 0, 23, 27, 182, 0, 108, 192, 1, 39, 78, 28, 154, 0, 10]
abbrev dktX4_defendantAt_1 : List UInt8 := dkwX4_defendantAt_1 ++ dktX4_defendantAt_2
def dkwX4_defendantAt_0 : List UInt8 := [42, 42, 27, 182, 1, 55, 4, 182, 0, 104, 153, 0, 20, 42, 28, 133, 9, 20, 0, 171, 184, 0, 100, 5]
abbrev dktX4_defendantAt_0 : List UInt8 := dkwX4_defendantAt_0 ++ dktX4_defendantAt_1
theorem dksX4_defendantAt_0 : cX4_defendantAt.data.toList.drop 0 = dktX4_defendantAt_0 := by decide +kernel
theorem dksX4_defendantAt_1 : cX4_defendantAt.data.toList.drop 24 = dktX4_defendantAt_1 := dk_seg dksX4_defendantAt_0 24 rfl rfl
theorem dksX4_defendantAt_2 : cX4_defendantAt.data.toList.drop 48 = dktX4_defendantAt_2 := dk_seg dksX4_defendantAt_1 24 rfl rfl
theorem dksX4_defendantAt_3 : cX4_defendantAt.data.toList.drop 72 = dktX4_defendantAt_3 := dk_seg dksX4_defendantAt_2 24 rfl rfl
theorem dX4_defendantAt_0 : decode cX4_defendantAt 0 = .ok (.aload_n 0, 1) := dk_42 (dk_at dksX4_defendantAt_0 0 rfl rfl)
theorem dX4_defendantAt_1 : decode cX4_defendantAt 1 = .ok (.aload_n 0, 1) := dk_42 (dk_at dksX4_defendantAt_0 1 rfl rfl)
theorem dX4_defendantAt_2 : decode cX4_defendantAt 2 = .ok (.iload_n 1, 1) := dk_27 (dk_at dksX4_defendantAt_0 2 rfl rfl)
theorem dX4_defendantAt_3 : decode cX4_defendantAt 3 = .ok (.invokevirtual 311, 3) := dk_182 1 55 (dk_at dksX4_defendantAt_0 3 rfl rfl)
theorem dX4_defendantAt_6 : decode cX4_defendantAt 6 = .ok (.iconst 1, 1) := dk_4 (dk_at dksX4_defendantAt_0 6 rfl rfl)
theorem dX4_defendantAt_7 : decode cX4_defendantAt 7 = .ok (.invokevirtual 104, 3) := dk_182 0 104 (dk_at dksX4_defendantAt_0 7 rfl rfl)
theorem dX4_defendantAt_10 : decode cX4_defendantAt 10 = .ok (.ifCond .eq 20, 3) := dk_153 0 20 (dk_at dksX4_defendantAt_0 10 rfl rfl)
theorem dX4_defendantAt_13 : decode cX4_defendantAt 13 = .ok (.aload_n 0, 1) := dk_42 (dk_at dksX4_defendantAt_0 13 rfl rfl)
theorem dX4_defendantAt_14 : decode cX4_defendantAt 14 = .ok (.iload_n 2, 1) := dk_28 (dk_at dksX4_defendantAt_0 14 rfl rfl)
theorem dX4_defendantAt_15 : decode cX4_defendantAt 15 = .ok (.i2l, 1) := dk_133 (dk_at dksX4_defendantAt_0 15 rfl rfl)
theorem dX4_defendantAt_16 : decode cX4_defendantAt 16 = .ok (.lconst 0, 1) := dk_9 (dk_at dksX4_defendantAt_0 16 rfl rfl)
theorem dX4_defendantAt_17 : decode cX4_defendantAt 17 = .ok (.ldc2_w 171, 3) := dk_20 0 171 (dk_at dksX4_defendantAt_0 17 rfl rfl)
theorem dX4_defendantAt_20 : decode cX4_defendantAt 20 = .ok (.invokestatic 100, 3) := dk_184 0 100 (dk_at dksX4_defendantAt_0 20 rfl rfl)
theorem dX4_defendantAt_23 : decode cX4_defendantAt 23 = .ok (.iconst 2, 1) := dk_5 (dk_at dksX4_defendantAt_0 23 rfl rfl)
theorem dX4_defendantAt_24 : decode cX4_defendantAt 24 = .ok (.invokevirtual 104, 3) := dk_182 0 104 (dk_at dksX4_defendantAt_1 0 rfl rfl)
theorem dX4_defendantAt_27 : decode cX4_defendantAt 27 = .ok (.ifCond .ne 5, 3) := dk_154 0 5 (dk_at dksX4_defendantAt_1 3 rfl rfl)
theorem dX4_defendantAt_30 : decode cX4_defendantAt 30 = .ok (.lconst 0, 1) := dk_9 (dk_at dksX4_defendantAt_1 6 rfl rfl)
theorem dX4_defendantAt_31 : decode cX4_defendantAt 31 = .ok (.lreturn, 1) := dk_173 (dk_at dksX4_defendantAt_1 7 rfl rfl)
theorem dX4_defendantAt_32 : decode cX4_defendantAt 32 = .ok (.aload_n 0, 1) := dk_42 (dk_at dksX4_defendantAt_1 8 rfl rfl)
theorem dX4_defendantAt_33 : decode cX4_defendantAt 33 = .ok (.getfield 23, 3) := dk_180 0 23 (dk_at dksX4_defendantAt_1 9 rfl rfl)
theorem dX4_defendantAt_36 : decode cX4_defendantAt 36 = .ok (.iload_n 1, 1) := dk_27 (dk_at dksX4_defendantAt_1 12 rfl rfl)
theorem dX4_defendantAt_37 : decode cX4_defendantAt 37 = .ok (.invokevirtual 108, 3) := dk_182 0 108 (dk_at dksX4_defendantAt_1 13 rfl rfl)
theorem dX4_defendantAt_40 : decode cX4_defendantAt 40 = .ok (.checkcast 295, 3) := dk_192 1 39 (dk_at dksX4_defendantAt_1 16 rfl rfl)
theorem dX4_defendantAt_43 : decode cX4_defendantAt 43 = .ok (.astore_n 3, 1) := dk_78 (dk_at dksX4_defendantAt_1 19 rfl rfl)
theorem dX4_defendantAt_44 : decode cX4_defendantAt 44 = .ok (.iload_n 2, 1) := dk_28 (dk_at dksX4_defendantAt_1 20 rfl rfl)
theorem dX4_defendantAt_45 : decode cX4_defendantAt 45 = .ok (.ifCond .ne 10, 3) := dk_154 0 10 (dk_at dksX4_defendantAt_1 21 rfl rfl)
theorem dX4_defendantAt_48 : decode cX4_defendantAt 48 = .ok (.aload_n 3, 1) := dk_45 (dk_at dksX4_defendantAt_2 0 rfl rfl)
theorem dX4_defendantAt_49 : decode cX4_defendantAt 49 = .ok (.getfield 317, 3) := dk_180 1 61 (dk_at dksX4_defendantAt_2 1 rfl rfl)
theorem dX4_defendantAt_52 : decode cX4_defendantAt 52 = .ok (.goto 39, 3) := dk_167 0 39 (dk_at dksX4_defendantAt_2 4 rfl rfl)
theorem dX4_defendantAt_55 : decode cX4_defendantAt 55 = .ok (.iload_n 2, 1) := dk_28 (dk_at dksX4_defendantAt_2 7 rfl rfl)
theorem dX4_defendantAt_56 : decode cX4_defendantAt 56 = .ok (.iconst 1, 1) := dk_4 (dk_at dksX4_defendantAt_2 8 rfl rfl)
theorem dX4_defendantAt_57 : decode cX4_defendantAt 57 = .ok (.if_icmp .ne 10, 3) := dk_160 0 10 (dk_at dksX4_defendantAt_2 9 rfl rfl)
theorem dX4_defendantAt_60 : decode cX4_defendantAt 60 = .ok (.aload_n 3, 1) := dk_45 (dk_at dksX4_defendantAt_2 12 rfl rfl)
theorem dX4_defendantAt_61 : decode cX4_defendantAt 61 = .ok (.getfield 326, 3) := dk_180 1 70 (dk_at dksX4_defendantAt_2 13 rfl rfl)
theorem dX4_defendantAt_64 : decode cX4_defendantAt 64 = .ok (.goto 27, 3) := dk_167 0 27 (dk_at dksX4_defendantAt_2 16 rfl rfl)
theorem dX4_defendantAt_67 : decode cX4_defendantAt 67 = .ok (.iload_n 2, 1) := dk_28 (dk_at dksX4_defendantAt_2 19 rfl rfl)
theorem dX4_defendantAt_68 : decode cX4_defendantAt 68 = .ok (.iconst 2, 1) := dk_5 (dk_at dksX4_defendantAt_2 20 rfl rfl)
theorem dX4_defendantAt_69 : decode cX4_defendantAt 69 = .ok (.if_icmp .ne 10, 3) := dk_160 0 10 (dk_at dksX4_defendantAt_2 21 rfl rfl)
theorem dX4_defendantAt_72 : decode cX4_defendantAt 72 = .ok (.aload_n 3, 1) := dk_45 (dk_at dksX4_defendantAt_3 0 rfl rfl)
theorem dX4_defendantAt_73 : decode cX4_defendantAt 73 = .ok (.getfield 308, 3) := dk_180 1 52 (dk_at dksX4_defendantAt_3 1 rfl rfl)
theorem dX4_defendantAt_76 : decode cX4_defendantAt 76 = .ok (.goto 15, 3) := dk_167 0 15 (dk_at dksX4_defendantAt_3 4 rfl rfl)
theorem dX4_defendantAt_79 : decode cX4_defendantAt 79 = .ok (.aload_n 3, 1) := dk_45 (dk_at dksX4_defendantAt_3 7 rfl rfl)
theorem dX4_defendantAt_80 : decode cX4_defendantAt 80 = .ok (.getfield 314, 3) := dk_180 1 58 (dk_at dksX4_defendantAt_3 8 rfl rfl)
theorem dX4_defendantAt_83 : decode cX4_defendantAt 83 = .ok (.ifCond .eq 7, 3) := dk_153 0 7 (dk_at dksX4_defendantAt_3 11 rfl rfl)
theorem dX4_defendantAt_86 : decode cX4_defendantAt 86 = .ok (.lconst 1, 1) := dk_10 (dk_at dksX4_defendantAt_3 14 rfl rfl)
theorem dX4_defendantAt_87 : decode cX4_defendantAt 87 = .ok (.goto 4, 3) := dk_167 0 4 (dk_at dksX4_defendantAt_3 15 rfl rfl)
theorem dX4_defendantAt_90 : decode cX4_defendantAt 90 = .ok (.lconst 0, 1) := dk_9 (dk_at dksX4_defendantAt_3 18 rfl rfl)
theorem dX4_defendantAt_91 : decode cX4_defendantAt 91 = .ok (.lreturn, 1) := dk_173 (dk_at dksX4_defendantAt_3 19 rfl rfl)
abbrev cX4_propose : ByteArray := prog_14_method_43_code
def yX4_propose : MethodName := ⟨RX4, "propose", "(III)I"⟩
def dkwX4_propose_7 : List UInt8 := [132, 5, 1, 167, 255, 209, 42, 180, 0, 53, 172]
abbrev dktX4_propose_7 : List UInt8 := dkwX4_propose_7 ++ []
def dkwX4_propose_6 : List UInt8 := [192, 0, 112, 3, 181, 1, 85, 42, 180, 0, 16, 21, 5, 182, 0, 108, 192, 0, 112, 3, 181, 1, 88]
abbrev dktX4_propose_6 : List UInt8 := dkwX4_propose_6 ++ dktX4_propose_7
def dkwX4_propose_5 : List UInt8 := [3, 54, 5, 21, 5, 42, 180, 0, 16, 182, 0, 94, 162, 0, 41, 42, 180, 0, 16, 21, 5, 182, 0, 108]
abbrev dktX4_propose_5 : List UInt8 := dkwX4_propose_5 ++ dktX4_propose_6
def dkwX4_propose_4 : List UInt8 := [181, 0, 53, 42, 27, 133, 181, 0, 56, 42, 28, 181, 1, 79, 42, 29, 181, 1, 82, 42, 3, 181, 0, 60]
abbrev dktX4_propose_4 : List UInt8 := dkwX4_propose_4 ++ dktX4_propose_5
def dkwX4_propose_3 : List UInt8 := [180, 0, 49, 153, 0, 7, 4, 167, 0, 4, 3, 5, 182, 0, 104, 154, 0, 5, 3, 172, 42, 4]
abbrev dktX4_propose_3 : List UInt8 := dkwX4_propose_3 ++ dktX4_propose_4
def dkwX4_propose_2 : List UInt8 := [182, 0, 104, 153, 0, 38, 42, 42, 180, 0, 53, 153, 0, 11, 42, 180, 0, 53, 7, 160, 0, 14, 42]
abbrev dktX4_propose_2 : List UInt8 := dkwX4_propose_2 ++ dktX4_propose_3
def dkwX4_propose_1 : List UInt8 := [29, 133, 9, 20, 1, 44, 184, 0, 100, 153, 0, 7, 4, 167, 0, 4, 3, 54, 4, 42, 21, 4, 4]
abbrev dktX4_propose_1 : List UInt8 := dkwX4_propose_1 ++ dktX4_propose_2
def dkwX4_propose_0 : List UInt8 := [27, 133, 10, 20, 1, 46, 184, 0, 100, 153, 0, 31, 28, 133, 9, 20, 1, 77, 184, 0, 100, 153, 0, 19]
abbrev dktX4_propose_0 : List UInt8 := dkwX4_propose_0 ++ dktX4_propose_1
theorem dksX4_propose_0 : cX4_propose.data.toList.drop 0 = dktX4_propose_0 := by decide +kernel
theorem dksX4_propose_1 : cX4_propose.data.toList.drop 24 = dktX4_propose_1 := dk_seg dksX4_propose_0 24 rfl rfl
theorem dksX4_propose_2 : cX4_propose.data.toList.drop 47 = dktX4_propose_2 := dk_seg dksX4_propose_1 23 rfl rfl
theorem dksX4_propose_3 : cX4_propose.data.toList.drop 70 = dktX4_propose_3 := dk_seg dksX4_propose_2 23 rfl rfl
theorem dksX4_propose_4 : cX4_propose.data.toList.drop 92 = dktX4_propose_4 := dk_seg dksX4_propose_3 22 rfl rfl
theorem dksX4_propose_5 : cX4_propose.data.toList.drop 116 = dktX4_propose_5 := dk_seg dksX4_propose_4 24 rfl rfl
theorem dksX4_propose_6 : cX4_propose.data.toList.drop 140 = dktX4_propose_6 := dk_seg dksX4_propose_5 24 rfl rfl
theorem dksX4_propose_7 : cX4_propose.data.toList.drop 163 = dktX4_propose_7 := dk_seg dksX4_propose_6 23 rfl rfl
theorem dX4_propose_0 : decode cX4_propose 0 = .ok (.iload_n 1, 1) := dk_27 (dk_at dksX4_propose_0 0 rfl rfl)
theorem dX4_propose_1 : decode cX4_propose 1 = .ok (.i2l, 1) := dk_133 (dk_at dksX4_propose_0 1 rfl rfl)
theorem dX4_propose_2 : decode cX4_propose 2 = .ok (.lconst 1, 1) := dk_10 (dk_at dksX4_propose_0 2 rfl rfl)
theorem dX4_propose_3 : decode cX4_propose 3 = .ok (.ldc2_w 302, 3) := dk_20 1 46 (dk_at dksX4_propose_0 3 rfl rfl)
theorem dX4_propose_6 : decode cX4_propose 6 = .ok (.invokestatic 100, 3) := dk_184 0 100 (dk_at dksX4_propose_0 6 rfl rfl)
theorem dX4_propose_9 : decode cX4_propose 9 = .ok (.ifCond .eq 31, 3) := dk_153 0 31 (dk_at dksX4_propose_0 9 rfl rfl)
theorem dX4_propose_12 : decode cX4_propose 12 = .ok (.iload_n 2, 1) := dk_28 (dk_at dksX4_propose_0 12 rfl rfl)
theorem dX4_propose_13 : decode cX4_propose 13 = .ok (.i2l, 1) := dk_133 (dk_at dksX4_propose_0 13 rfl rfl)
theorem dX4_propose_14 : decode cX4_propose 14 = .ok (.lconst 0, 1) := dk_9 (dk_at dksX4_propose_0 14 rfl rfl)
theorem dX4_propose_15 : decode cX4_propose 15 = .ok (.ldc2_w 333, 3) := dk_20 1 77 (dk_at dksX4_propose_0 15 rfl rfl)
theorem dX4_propose_18 : decode cX4_propose 18 = .ok (.invokestatic 100, 3) := dk_184 0 100 (dk_at dksX4_propose_0 18 rfl rfl)
theorem dX4_propose_21 : decode cX4_propose 21 = .ok (.ifCond .eq 19, 3) := dk_153 0 19 (dk_at dksX4_propose_0 21 rfl rfl)
theorem dX4_propose_24 : decode cX4_propose 24 = .ok (.iload_n 3, 1) := dk_29 (dk_at dksX4_propose_1 0 rfl rfl)
theorem dX4_propose_25 : decode cX4_propose 25 = .ok (.i2l, 1) := dk_133 (dk_at dksX4_propose_1 1 rfl rfl)
theorem dX4_propose_26 : decode cX4_propose 26 = .ok (.lconst 0, 1) := dk_9 (dk_at dksX4_propose_1 2 rfl rfl)
theorem dX4_propose_27 : decode cX4_propose 27 = .ok (.ldc2_w 300, 3) := dk_20 1 44 (dk_at dksX4_propose_1 3 rfl rfl)
theorem dX4_propose_30 : decode cX4_propose 30 = .ok (.invokestatic 100, 3) := dk_184 0 100 (dk_at dksX4_propose_1 6 rfl rfl)
theorem dX4_propose_33 : decode cX4_propose 33 = .ok (.ifCond .eq 7, 3) := dk_153 0 7 (dk_at dksX4_propose_1 9 rfl rfl)
theorem dX4_propose_36 : decode cX4_propose 36 = .ok (.iconst 1, 1) := dk_4 (dk_at dksX4_propose_1 12 rfl rfl)
theorem dX4_propose_37 : decode cX4_propose 37 = .ok (.goto 4, 3) := dk_167 0 4 (dk_at dksX4_propose_1 13 rfl rfl)
theorem dX4_propose_40 : decode cX4_propose 40 = .ok (.iconst 0, 1) := dk_3 (dk_at dksX4_propose_1 16 rfl rfl)
theorem dX4_propose_41 : decode cX4_propose 41 = .ok (.istore 4, 2) := dk_54 4 (dk_at dksX4_propose_1 17 rfl rfl)
theorem dX4_propose_43 : decode cX4_propose 43 = .ok (.aload_n 0, 1) := dk_42 (dk_at dksX4_propose_1 19 rfl rfl)
theorem dX4_propose_44 : decode cX4_propose 44 = .ok (.iload 4, 2) := dk_21 4 (dk_at dksX4_propose_1 20 rfl rfl)
theorem dX4_propose_46 : decode cX4_propose 46 = .ok (.iconst 1, 1) := dk_4 (dk_at dksX4_propose_1 22 rfl rfl)
theorem dX4_propose_47 : decode cX4_propose 47 = .ok (.invokevirtual 104, 3) := dk_182 0 104 (dk_at dksX4_propose_2 0 rfl rfl)
theorem dX4_propose_50 : decode cX4_propose 50 = .ok (.ifCond .eq 38, 3) := dk_153 0 38 (dk_at dksX4_propose_2 3 rfl rfl)
theorem dX4_propose_53 : decode cX4_propose 53 = .ok (.aload_n 0, 1) := dk_42 (dk_at dksX4_propose_2 6 rfl rfl)
theorem dX4_propose_54 : decode cX4_propose 54 = .ok (.aload_n 0, 1) := dk_42 (dk_at dksX4_propose_2 7 rfl rfl)
theorem dX4_propose_55 : decode cX4_propose 55 = .ok (.getfield 53, 3) := dk_180 0 53 (dk_at dksX4_propose_2 8 rfl rfl)
theorem dX4_propose_58 : decode cX4_propose 58 = .ok (.ifCond .eq 11, 3) := dk_153 0 11 (dk_at dksX4_propose_2 11 rfl rfl)
theorem dX4_propose_61 : decode cX4_propose 61 = .ok (.aload_n 0, 1) := dk_42 (dk_at dksX4_propose_2 14 rfl rfl)
theorem dX4_propose_62 : decode cX4_propose 62 = .ok (.getfield 53, 3) := dk_180 0 53 (dk_at dksX4_propose_2 15 rfl rfl)
theorem dX4_propose_65 : decode cX4_propose 65 = .ok (.iconst 4, 1) := dk_7 (dk_at dksX4_propose_2 18 rfl rfl)
theorem dX4_propose_66 : decode cX4_propose 66 = .ok (.if_icmp .ne 14, 3) := dk_160 0 14 (dk_at dksX4_propose_2 19 rfl rfl)
theorem dX4_propose_69 : decode cX4_propose 69 = .ok (.aload_n 0, 1) := dk_42 (dk_at dksX4_propose_2 22 rfl rfl)
theorem dX4_propose_70 : decode cX4_propose 70 = .ok (.getfield 49, 3) := dk_180 0 49 (dk_at dksX4_propose_3 0 rfl rfl)
theorem dX4_propose_73 : decode cX4_propose 73 = .ok (.ifCond .eq 7, 3) := dk_153 0 7 (dk_at dksX4_propose_3 3 rfl rfl)
theorem dX4_propose_76 : decode cX4_propose 76 = .ok (.iconst 1, 1) := dk_4 (dk_at dksX4_propose_3 6 rfl rfl)
theorem dX4_propose_77 : decode cX4_propose 77 = .ok (.goto 4, 3) := dk_167 0 4 (dk_at dksX4_propose_3 7 rfl rfl)
theorem dX4_propose_80 : decode cX4_propose 80 = .ok (.iconst 0, 1) := dk_3 (dk_at dksX4_propose_3 10 rfl rfl)
theorem dX4_propose_81 : decode cX4_propose 81 = .ok (.iconst 2, 1) := dk_5 (dk_at dksX4_propose_3 11 rfl rfl)
theorem dX4_propose_82 : decode cX4_propose 82 = .ok (.invokevirtual 104, 3) := dk_182 0 104 (dk_at dksX4_propose_3 12 rfl rfl)
theorem dX4_propose_85 : decode cX4_propose 85 = .ok (.ifCond .ne 5, 3) := dk_154 0 5 (dk_at dksX4_propose_3 15 rfl rfl)
theorem dX4_propose_88 : decode cX4_propose 88 = .ok (.iconst 0, 1) := dk_3 (dk_at dksX4_propose_3 18 rfl rfl)
theorem dX4_propose_89 : decode cX4_propose 89 = .ok (.ireturn, 1) := dk_172 (dk_at dksX4_propose_3 19 rfl rfl)
theorem dX4_propose_90 : decode cX4_propose 90 = .ok (.aload_n 0, 1) := dk_42 (dk_at dksX4_propose_3 20 rfl rfl)
theorem dX4_propose_91 : decode cX4_propose 91 = .ok (.iconst 1, 1) := dk_4 (dk_at dksX4_propose_3 21 rfl rfl)
theorem dX4_propose_92 : decode cX4_propose 92 = .ok (.putfield 53, 3) := dk_181 0 53 (dk_at dksX4_propose_4 0 rfl rfl)
theorem dX4_propose_95 : decode cX4_propose 95 = .ok (.aload_n 0, 1) := dk_42 (dk_at dksX4_propose_4 3 rfl rfl)
theorem dX4_propose_96 : decode cX4_propose 96 = .ok (.iload_n 1, 1) := dk_27 (dk_at dksX4_propose_4 4 rfl rfl)
theorem dX4_propose_97 : decode cX4_propose 97 = .ok (.i2l, 1) := dk_133 (dk_at dksX4_propose_4 5 rfl rfl)
theorem dX4_propose_98 : decode cX4_propose 98 = .ok (.putfield 56, 3) := dk_181 0 56 (dk_at dksX4_propose_4 6 rfl rfl)
theorem dX4_propose_101 : decode cX4_propose 101 = .ok (.aload_n 0, 1) := dk_42 (dk_at dksX4_propose_4 9 rfl rfl)
theorem dX4_propose_102 : decode cX4_propose 102 = .ok (.iload_n 2, 1) := dk_28 (dk_at dksX4_propose_4 10 rfl rfl)
theorem dX4_propose_103 : decode cX4_propose 103 = .ok (.putfield 335, 3) := dk_181 1 79 (dk_at dksX4_propose_4 11 rfl rfl)
theorem dX4_propose_106 : decode cX4_propose 106 = .ok (.aload_n 0, 1) := dk_42 (dk_at dksX4_propose_4 14 rfl rfl)
theorem dX4_propose_107 : decode cX4_propose 107 = .ok (.iload_n 3, 1) := dk_29 (dk_at dksX4_propose_4 15 rfl rfl)
theorem dX4_propose_108 : decode cX4_propose 108 = .ok (.putfield 338, 3) := dk_181 1 82 (dk_at dksX4_propose_4 16 rfl rfl)
theorem dX4_propose_111 : decode cX4_propose 111 = .ok (.aload_n 0, 1) := dk_42 (dk_at dksX4_propose_4 19 rfl rfl)
theorem dX4_propose_112 : decode cX4_propose 112 = .ok (.iconst 0, 1) := dk_3 (dk_at dksX4_propose_4 20 rfl rfl)
theorem dX4_propose_113 : decode cX4_propose 113 = .ok (.putfield 60, 3) := dk_181 0 60 (dk_at dksX4_propose_4 21 rfl rfl)
theorem dX4_propose_116 : decode cX4_propose 116 = .ok (.iconst 0, 1) := dk_3 (dk_at dksX4_propose_5 0 rfl rfl)
theorem dX4_propose_117 : decode cX4_propose 117 = .ok (.istore 5, 2) := dk_54 5 (dk_at dksX4_propose_5 1 rfl rfl)
theorem dX4_propose_119 : decode cX4_propose 119 = .ok (.iload 5, 2) := dk_21 5 (dk_at dksX4_propose_5 3 rfl rfl)
theorem dX4_propose_121 : decode cX4_propose 121 = .ok (.aload_n 0, 1) := dk_42 (dk_at dksX4_propose_5 5 rfl rfl)
theorem dX4_propose_122 : decode cX4_propose 122 = .ok (.getfield 16, 3) := dk_180 0 16 (dk_at dksX4_propose_5 6 rfl rfl)
theorem dX4_propose_125 : decode cX4_propose 125 = .ok (.invokevirtual 94, 3) := dk_182 0 94 (dk_at dksX4_propose_5 9 rfl rfl)
theorem dX4_propose_128 : decode cX4_propose 128 = .ok (.if_icmp .ge 41, 3) := dk_162 0 41 (dk_at dksX4_propose_5 12 rfl rfl)
theorem dX4_propose_131 : decode cX4_propose 131 = .ok (.aload_n 0, 1) := dk_42 (dk_at dksX4_propose_5 15 rfl rfl)
theorem dX4_propose_132 : decode cX4_propose 132 = .ok (.getfield 16, 3) := dk_180 0 16 (dk_at dksX4_propose_5 16 rfl rfl)
theorem dX4_propose_135 : decode cX4_propose 135 = .ok (.iload 5, 2) := dk_21 5 (dk_at dksX4_propose_5 19 rfl rfl)
theorem dX4_propose_137 : decode cX4_propose 137 = .ok (.invokevirtual 108, 3) := dk_182 0 108 (dk_at dksX4_propose_5 21 rfl rfl)
theorem dX4_propose_140 : decode cX4_propose 140 = .ok (.checkcast 112, 3) := dk_192 0 112 (dk_at dksX4_propose_6 0 rfl rfl)
theorem dX4_propose_143 : decode cX4_propose 143 = .ok (.iconst 0, 1) := dk_3 (dk_at dksX4_propose_6 3 rfl rfl)
theorem dX4_propose_144 : decode cX4_propose 144 = .ok (.putfield 341, 3) := dk_181 1 85 (dk_at dksX4_propose_6 4 rfl rfl)
theorem dX4_propose_147 : decode cX4_propose 147 = .ok (.aload_n 0, 1) := dk_42 (dk_at dksX4_propose_6 7 rfl rfl)
theorem dX4_propose_148 : decode cX4_propose 148 = .ok (.getfield 16, 3) := dk_180 0 16 (dk_at dksX4_propose_6 8 rfl rfl)
theorem dX4_propose_151 : decode cX4_propose 151 = .ok (.iload 5, 2) := dk_21 5 (dk_at dksX4_propose_6 11 rfl rfl)
theorem dX4_propose_153 : decode cX4_propose 153 = .ok (.invokevirtual 108, 3) := dk_182 0 108 (dk_at dksX4_propose_6 13 rfl rfl)
theorem dX4_propose_156 : decode cX4_propose 156 = .ok (.checkcast 112, 3) := dk_192 0 112 (dk_at dksX4_propose_6 16 rfl rfl)
theorem dX4_propose_159 : decode cX4_propose 159 = .ok (.iconst 0, 1) := dk_3 (dk_at dksX4_propose_6 19 rfl rfl)
theorem dX4_propose_160 : decode cX4_propose 160 = .ok (.putfield 344, 3) := dk_181 1 88 (dk_at dksX4_propose_6 20 rfl rfl)
theorem dX4_propose_163 : decode cX4_propose 163 = .ok (.iinc 5 1, 3) := dk_132 5 1 (dk_at dksX4_propose_7 0 rfl rfl)
theorem dX4_propose_166 : decode cX4_propose 166 = .ok (.goto (-47), 3) := dk_167 255 209 (dk_at dksX4_propose_7 3 rfl rfl)
theorem dX4_propose_169 : decode cX4_propose 169 = .ok (.aload_n 0, 1) := dk_42 (dk_at dksX4_propose_7 6 rfl rfl)
theorem dX4_propose_170 : decode cX4_propose 170 = .ok (.getfield 53, 3) := dk_180 0 53 (dk_at dksX4_propose_7 7 rfl rfl)
theorem dX4_propose_173 : decode cX4_propose 173 = .ok (.ireturn, 1) := dk_172 (dk_at dksX4_propose_7 10 rfl rfl)
abbrev cX4_approve : ByteArray := prog_14_method_44_code
def yX4_approve : MethodName := ⟨RX4, "approve", "()I"⟩
def dkwX4_approve_5 : List UInt8 := [181, 0, 53, 42, 182, 1, 100, 42, 180, 0, 53, 172]
abbrev dktX4_approve_5 : List UInt8 := dkwX4_approve_5 ++ []
def dkwX4_approve_4 : List UInt8 := [42, 182, 1, 97, 60, 27, 16, 253, 160, 0, 8, 42, 7, 181, 0, 53, 27, 153, 0, 5, 27, 172, 42, 6]
abbrev dktX4_approve_4 : List UInt8 := dkwX4_approve_4 ++ dktX4_approve_5
def dkwX4_approve_3 : List UInt8 := [167, 0, 5, 16, 249, 172, 42, 42, 180, 0, 43, 181, 1, 94, 42, 5, 181, 0, 53, 42, 180, 0, 53, 172]
abbrev dktX4_approve_3 : List UInt8 := dkwX4_approve_3 ++ dktX4_approve_4
def dkwX4_approve_2 : List UInt8 := [161, 0, 12, 42, 182, 1, 48, 16, 100, 159, 0, 20, 42, 182, 1, 91, 16, 70, 162, 0, 8, 16, 254]
abbrev dktX4_approve_2 : List UInt8 := dkwX4_approve_2 ++ dktX4_approve_3
def dkwX4_approve_1 : List UInt8 := [182, 0, 104, 154, 0, 5, 3, 172, 42, 180, 0, 53, 4, 160, 0, 56, 42, 182, 1, 91, 16, 70]
abbrev dktX4_approve_1 : List UInt8 := dkwX4_approve_1 ++ dktX4_approve_2
def dkwX4_approve_0 : List UInt8 := [42, 42, 180, 0, 53, 4, 159, 0, 11, 42, 180, 0, 53, 5, 160, 0, 7, 4, 167, 0, 4, 3, 4]
abbrev dktX4_approve_0 : List UInt8 := dkwX4_approve_0 ++ dktX4_approve_1
theorem dksX4_approve_0 : cX4_approve.data.toList.drop 0 = dktX4_approve_0 := by decide +kernel
theorem dksX4_approve_1 : cX4_approve.data.toList.drop 23 = dktX4_approve_1 := dk_seg dksX4_approve_0 23 rfl rfl
theorem dksX4_approve_2 : cX4_approve.data.toList.drop 45 = dktX4_approve_2 := dk_seg dksX4_approve_1 22 rfl rfl
theorem dksX4_approve_3 : cX4_approve.data.toList.drop 68 = dktX4_approve_3 := dk_seg dksX4_approve_2 23 rfl rfl
theorem dksX4_approve_4 : cX4_approve.data.toList.drop 92 = dktX4_approve_4 := dk_seg dksX4_approve_3 24 rfl rfl
theorem dksX4_approve_5 : cX4_approve.data.toList.drop 116 = dktX4_approve_5 := dk_seg dksX4_approve_4 24 rfl rfl
theorem dX4_approve_0 : decode cX4_approve 0 = .ok (.aload_n 0, 1) := dk_42 (dk_at dksX4_approve_0 0 rfl rfl)
theorem dX4_approve_1 : decode cX4_approve 1 = .ok (.aload_n 0, 1) := dk_42 (dk_at dksX4_approve_0 1 rfl rfl)
theorem dX4_approve_2 : decode cX4_approve 2 = .ok (.getfield 53, 3) := dk_180 0 53 (dk_at dksX4_approve_0 2 rfl rfl)
theorem dX4_approve_5 : decode cX4_approve 5 = .ok (.iconst 1, 1) := dk_4 (dk_at dksX4_approve_0 5 rfl rfl)
theorem dX4_approve_6 : decode cX4_approve 6 = .ok (.if_icmp .eq 11, 3) := dk_159 0 11 (dk_at dksX4_approve_0 6 rfl rfl)
theorem dX4_approve_9 : decode cX4_approve 9 = .ok (.aload_n 0, 1) := dk_42 (dk_at dksX4_approve_0 9 rfl rfl)
theorem dX4_approve_10 : decode cX4_approve 10 = .ok (.getfield 53, 3) := dk_180 0 53 (dk_at dksX4_approve_0 10 rfl rfl)
theorem dX4_approve_13 : decode cX4_approve 13 = .ok (.iconst 2, 1) := dk_5 (dk_at dksX4_approve_0 13 rfl rfl)
theorem dX4_approve_14 : decode cX4_approve 14 = .ok (.if_icmp .ne 7, 3) := dk_160 0 7 (dk_at dksX4_approve_0 14 rfl rfl)
theorem dX4_approve_17 : decode cX4_approve 17 = .ok (.iconst 1, 1) := dk_4 (dk_at dksX4_approve_0 17 rfl rfl)
theorem dX4_approve_18 : decode cX4_approve 18 = .ok (.goto 4, 3) := dk_167 0 4 (dk_at dksX4_approve_0 18 rfl rfl)
theorem dX4_approve_21 : decode cX4_approve 21 = .ok (.iconst 0, 1) := dk_3 (dk_at dksX4_approve_0 21 rfl rfl)
theorem dX4_approve_22 : decode cX4_approve 22 = .ok (.iconst 1, 1) := dk_4 (dk_at dksX4_approve_0 22 rfl rfl)
theorem dX4_approve_23 : decode cX4_approve 23 = .ok (.invokevirtual 104, 3) := dk_182 0 104 (dk_at dksX4_approve_1 0 rfl rfl)
theorem dX4_approve_26 : decode cX4_approve 26 = .ok (.ifCond .ne 5, 3) := dk_154 0 5 (dk_at dksX4_approve_1 3 rfl rfl)
theorem dX4_approve_29 : decode cX4_approve 29 = .ok (.iconst 0, 1) := dk_3 (dk_at dksX4_approve_1 6 rfl rfl)
theorem dX4_approve_30 : decode cX4_approve 30 = .ok (.ireturn, 1) := dk_172 (dk_at dksX4_approve_1 7 rfl rfl)
theorem dX4_approve_31 : decode cX4_approve 31 = .ok (.aload_n 0, 1) := dk_42 (dk_at dksX4_approve_1 8 rfl rfl)
theorem dX4_approve_32 : decode cX4_approve 32 = .ok (.getfield 53, 3) := dk_180 0 53 (dk_at dksX4_approve_1 9 rfl rfl)
theorem dX4_approve_35 : decode cX4_approve 35 = .ok (.iconst 1, 1) := dk_4 (dk_at dksX4_approve_1 12 rfl rfl)
theorem dX4_approve_36 : decode cX4_approve 36 = .ok (.if_icmp .ne 56, 3) := dk_160 0 56 (dk_at dksX4_approve_1 13 rfl rfl)
theorem dX4_approve_39 : decode cX4_approve 39 = .ok (.aload_n 0, 1) := dk_42 (dk_at dksX4_approve_1 16 rfl rfl)
theorem dX4_approve_40 : decode cX4_approve 40 = .ok (.invokevirtual 347, 3) := dk_182 1 91 (dk_at dksX4_approve_1 17 rfl rfl)
theorem dX4_approve_43 : decode cX4_approve 43 = .ok (.bipush 70, 2) := dk_16 70 (dk_at dksX4_approve_1 20 rfl rfl)
theorem dX4_approve_45 : decode cX4_approve 45 = .ok (.if_icmp .lt 12, 3) := dk_161 0 12 (dk_at dksX4_approve_2 0 rfl rfl)
theorem dX4_approve_48 : decode cX4_approve 48 = .ok (.aload_n 0, 1) := dk_42 (dk_at dksX4_approve_2 3 rfl rfl)
theorem dX4_approve_49 : decode cX4_approve 49 = .ok (.invokevirtual 304, 3) := dk_182 1 48 (dk_at dksX4_approve_2 4 rfl rfl)
theorem dX4_approve_52 : decode cX4_approve 52 = .ok (.bipush 100, 2) := dk_16 100 (dk_at dksX4_approve_2 7 rfl rfl)
theorem dX4_approve_54 : decode cX4_approve 54 = .ok (.if_icmp .eq 20, 3) := dk_159 0 20 (dk_at dksX4_approve_2 9 rfl rfl)
theorem dX4_approve_57 : decode cX4_approve 57 = .ok (.aload_n 0, 1) := dk_42 (dk_at dksX4_approve_2 12 rfl rfl)
theorem dX4_approve_58 : decode cX4_approve 58 = .ok (.invokevirtual 347, 3) := dk_182 1 91 (dk_at dksX4_approve_2 13 rfl rfl)
theorem dX4_approve_61 : decode cX4_approve 61 = .ok (.bipush 70, 2) := dk_16 70 (dk_at dksX4_approve_2 16 rfl rfl)
theorem dX4_approve_63 : decode cX4_approve 63 = .ok (.if_icmp .ge 8, 3) := dk_162 0 8 (dk_at dksX4_approve_2 18 rfl rfl)
theorem dX4_approve_66 : decode cX4_approve 66 = .ok (.bipush (-2), 2) := dk_16 254 (dk_at dksX4_approve_2 21 rfl rfl)
theorem dX4_approve_68 : decode cX4_approve 68 = .ok (.goto 5, 3) := dk_167 0 5 (dk_at dksX4_approve_3 0 rfl rfl)
theorem dX4_approve_71 : decode cX4_approve 71 = .ok (.bipush (-7), 2) := dk_16 249 (dk_at dksX4_approve_3 3 rfl rfl)
theorem dX4_approve_73 : decode cX4_approve 73 = .ok (.ireturn, 1) := dk_172 (dk_at dksX4_approve_3 5 rfl rfl)
theorem dX4_approve_74 : decode cX4_approve 74 = .ok (.aload_n 0, 1) := dk_42 (dk_at dksX4_approve_3 6 rfl rfl)
theorem dX4_approve_75 : decode cX4_approve 75 = .ok (.aload_n 0, 1) := dk_42 (dk_at dksX4_approve_3 7 rfl rfl)
theorem dX4_approve_76 : decode cX4_approve 76 = .ok (.getfield 43, 3) := dk_180 0 43 (dk_at dksX4_approve_3 8 rfl rfl)
theorem dX4_approve_79 : decode cX4_approve 79 = .ok (.putfield 350, 3) := dk_181 1 94 (dk_at dksX4_approve_3 11 rfl rfl)
theorem dX4_approve_82 : decode cX4_approve 82 = .ok (.aload_n 0, 1) := dk_42 (dk_at dksX4_approve_3 14 rfl rfl)
theorem dX4_approve_83 : decode cX4_approve 83 = .ok (.iconst 2, 1) := dk_5 (dk_at dksX4_approve_3 15 rfl rfl)
theorem dX4_approve_84 : decode cX4_approve 84 = .ok (.putfield 53, 3) := dk_181 0 53 (dk_at dksX4_approve_3 16 rfl rfl)
theorem dX4_approve_87 : decode cX4_approve 87 = .ok (.aload_n 0, 1) := dk_42 (dk_at dksX4_approve_3 19 rfl rfl)
theorem dX4_approve_88 : decode cX4_approve 88 = .ok (.getfield 53, 3) := dk_180 0 53 (dk_at dksX4_approve_3 20 rfl rfl)
theorem dX4_approve_91 : decode cX4_approve 91 = .ok (.ireturn, 1) := dk_172 (dk_at dksX4_approve_3 23 rfl rfl)
theorem dX4_approve_92 : decode cX4_approve 92 = .ok (.aload_n 0, 1) := dk_42 (dk_at dksX4_approve_4 0 rfl rfl)
theorem dX4_approve_93 : decode cX4_approve 93 = .ok (.invokevirtual 353, 3) := dk_182 1 97 (dk_at dksX4_approve_4 1 rfl rfl)
theorem dX4_approve_96 : decode cX4_approve 96 = .ok (.istore_n 1, 1) := dk_60 (dk_at dksX4_approve_4 4 rfl rfl)
theorem dX4_approve_97 : decode cX4_approve 97 = .ok (.iload_n 1, 1) := dk_27 (dk_at dksX4_approve_4 5 rfl rfl)
theorem dX4_approve_98 : decode cX4_approve 98 = .ok (.bipush (-3), 2) := dk_16 253 (dk_at dksX4_approve_4 6 rfl rfl)
theorem dX4_approve_100 : decode cX4_approve 100 = .ok (.if_icmp .ne 8, 3) := dk_160 0 8 (dk_at dksX4_approve_4 8 rfl rfl)
theorem dX4_approve_103 : decode cX4_approve 103 = .ok (.aload_n 0, 1) := dk_42 (dk_at dksX4_approve_4 11 rfl rfl)
theorem dX4_approve_104 : decode cX4_approve 104 = .ok (.iconst 4, 1) := dk_7 (dk_at dksX4_approve_4 12 rfl rfl)
theorem dX4_approve_105 : decode cX4_approve 105 = .ok (.putfield 53, 3) := dk_181 0 53 (dk_at dksX4_approve_4 13 rfl rfl)
theorem dX4_approve_108 : decode cX4_approve 108 = .ok (.iload_n 1, 1) := dk_27 (dk_at dksX4_approve_4 16 rfl rfl)
theorem dX4_approve_109 : decode cX4_approve 109 = .ok (.ifCond .eq 5, 3) := dk_153 0 5 (dk_at dksX4_approve_4 17 rfl rfl)
theorem dX4_approve_112 : decode cX4_approve 112 = .ok (.iload_n 1, 1) := dk_27 (dk_at dksX4_approve_4 20 rfl rfl)
theorem dX4_approve_113 : decode cX4_approve 113 = .ok (.ireturn, 1) := dk_172 (dk_at dksX4_approve_4 21 rfl rfl)
theorem dX4_approve_114 : decode cX4_approve 114 = .ok (.aload_n 0, 1) := dk_42 (dk_at dksX4_approve_4 22 rfl rfl)
theorem dX4_approve_115 : decode cX4_approve 115 = .ok (.iconst 3, 1) := dk_6 (dk_at dksX4_approve_4 23 rfl rfl)
theorem dX4_approve_116 : decode cX4_approve 116 = .ok (.putfield 53, 3) := dk_181 0 53 (dk_at dksX4_approve_5 0 rfl rfl)
theorem dX4_approve_119 : decode cX4_approve 119 = .ok (.aload_n 0, 1) := dk_42 (dk_at dksX4_approve_5 3 rfl rfl)
theorem dX4_approve_120 : decode cX4_approve 120 = .ok (.invokevirtual 356, 3) := dk_182 1 100 (dk_at dksX4_approve_5 4 rfl rfl)
theorem dX4_approve_123 : decode cX4_approve 123 = .ok (.aload_n 0, 1) := dk_42 (dk_at dksX4_approve_5 7 rfl rfl)
theorem dX4_approve_124 : decode cX4_approve 124 = .ok (.getfield 53, 3) := dk_180 0 53 (dk_at dksX4_approve_5 8 rfl rfl)
theorem dX4_approve_127 : decode cX4_approve 127 = .ok (.ireturn, 1) := dk_172 (dk_at dksX4_approve_5 11 rfl rfl)
abbrev cX4_reach : ByteArray := prog_14_method_27_code
def yX4_reach : MethodName := ⟨RX4, "reach", "()I"⟩
def dkwX4_reach_3 : List UInt8 := [3, 167, 0, 12, 16, 100, 27, 104, 42, 182, 0, 235, 108, 172]
abbrev dktX4_reach_3 : List UInt8 := dkwX4_reach_3 ++ []
def dkwX4_reach_2 : List UInt8 := [180, 0, 245, 2, 159, 0, 7, 4, 167, 0, 4, 3, 96, 60, 132, 2, 1, 167, 255, 198, 27, 154, 0, 7]
abbrev dktX4_reach_2 : List UInt8 := dkwX4_reach_2 ++ dktX4_reach_3
def dkwX4_reach_1 : List UInt8 := [182, 0, 108, 192, 0, 112, 182, 0, 120, 153, 0, 25, 42, 180, 0, 16, 28, 182, 0, 108, 192, 0, 112]
abbrev dktX4_reach_1 : List UInt8 := dkwX4_reach_1 ++ dktX4_reach_2
def dkwX4_reach_0 : List UInt8 := [3, 60, 3, 61, 28, 42, 180, 0, 16, 182, 0, 94, 162, 0, 53, 27, 42, 42, 180, 0, 16, 28]
abbrev dktX4_reach_0 : List UInt8 := dkwX4_reach_0 ++ dktX4_reach_1
theorem dksX4_reach_0 : cX4_reach.data.toList.drop 0 = dktX4_reach_0 := by decide +kernel
theorem dksX4_reach_1 : cX4_reach.data.toList.drop 22 = dktX4_reach_1 := dk_seg dksX4_reach_0 22 rfl rfl
theorem dksX4_reach_2 : cX4_reach.data.toList.drop 45 = dktX4_reach_2 := dk_seg dksX4_reach_1 23 rfl rfl
theorem dksX4_reach_3 : cX4_reach.data.toList.drop 69 = dktX4_reach_3 := dk_seg dksX4_reach_2 24 rfl rfl
theorem dX4_reach_0 : decode cX4_reach 0 = .ok (.iconst 0, 1) := dk_3 (dk_at dksX4_reach_0 0 rfl rfl)
theorem dX4_reach_1 : decode cX4_reach 1 = .ok (.istore_n 1, 1) := dk_60 (dk_at dksX4_reach_0 1 rfl rfl)
theorem dX4_reach_2 : decode cX4_reach 2 = .ok (.iconst 0, 1) := dk_3 (dk_at dksX4_reach_0 2 rfl rfl)
theorem dX4_reach_3 : decode cX4_reach 3 = .ok (.istore_n 2, 1) := dk_61 (dk_at dksX4_reach_0 3 rfl rfl)
theorem dX4_reach_4 : decode cX4_reach 4 = .ok (.iload_n 2, 1) := dk_28 (dk_at dksX4_reach_0 4 rfl rfl)
theorem dX4_reach_5 : decode cX4_reach 5 = .ok (.aload_n 0, 1) := dk_42 (dk_at dksX4_reach_0 5 rfl rfl)
theorem dX4_reach_6 : decode cX4_reach 6 = .ok (.getfield 16, 3) := dk_180 0 16 (dk_at dksX4_reach_0 6 rfl rfl)
theorem dX4_reach_9 : decode cX4_reach 9 = .ok (.invokevirtual 94, 3) := dk_182 0 94 (dk_at dksX4_reach_0 9 rfl rfl)
theorem dX4_reach_12 : decode cX4_reach 12 = .ok (.if_icmp .ge 53, 3) := dk_162 0 53 (dk_at dksX4_reach_0 12 rfl rfl)
theorem dX4_reach_15 : decode cX4_reach 15 = .ok (.iload_n 1, 1) := dk_27 (dk_at dksX4_reach_0 15 rfl rfl)
theorem dX4_reach_16 : decode cX4_reach 16 = .ok (.aload_n 0, 1) := dk_42 (dk_at dksX4_reach_0 16 rfl rfl)
theorem dX4_reach_17 : decode cX4_reach 17 = .ok (.aload_n 0, 1) := dk_42 (dk_at dksX4_reach_0 17 rfl rfl)
theorem dX4_reach_18 : decode cX4_reach 18 = .ok (.getfield 16, 3) := dk_180 0 16 (dk_at dksX4_reach_0 18 rfl rfl)
theorem dX4_reach_21 : decode cX4_reach 21 = .ok (.iload_n 2, 1) := dk_28 (dk_at dksX4_reach_0 21 rfl rfl)
theorem dX4_reach_22 : decode cX4_reach 22 = .ok (.invokevirtual 108, 3) := dk_182 0 108 (dk_at dksX4_reach_1 0 rfl rfl)
theorem dX4_reach_25 : decode cX4_reach 25 = .ok (.checkcast 112, 3) := dk_192 0 112 (dk_at dksX4_reach_1 3 rfl rfl)
theorem dX4_reach_28 : decode cX4_reach 28 = .ok (.invokevirtual 120, 3) := dk_182 0 120 (dk_at dksX4_reach_1 6 rfl rfl)
theorem dX4_reach_31 : decode cX4_reach 31 = .ok (.ifCond .eq 25, 3) := dk_153 0 25 (dk_at dksX4_reach_1 9 rfl rfl)
theorem dX4_reach_34 : decode cX4_reach 34 = .ok (.aload_n 0, 1) := dk_42 (dk_at dksX4_reach_1 12 rfl rfl)
theorem dX4_reach_35 : decode cX4_reach 35 = .ok (.getfield 16, 3) := dk_180 0 16 (dk_at dksX4_reach_1 13 rfl rfl)
theorem dX4_reach_38 : decode cX4_reach 38 = .ok (.iload_n 2, 1) := dk_28 (dk_at dksX4_reach_1 16 rfl rfl)
theorem dX4_reach_39 : decode cX4_reach 39 = .ok (.invokevirtual 108, 3) := dk_182 0 108 (dk_at dksX4_reach_1 17 rfl rfl)
theorem dX4_reach_42 : decode cX4_reach 42 = .ok (.checkcast 112, 3) := dk_192 0 112 (dk_at dksX4_reach_1 20 rfl rfl)
theorem dX4_reach_45 : decode cX4_reach 45 = .ok (.getfield 245, 3) := dk_180 0 245 (dk_at dksX4_reach_2 0 rfl rfl)
theorem dX4_reach_48 : decode cX4_reach 48 = .ok (.iconst (-1), 1) := dk_2 (dk_at dksX4_reach_2 3 rfl rfl)
theorem dX4_reach_49 : decode cX4_reach 49 = .ok (.if_icmp .eq 7, 3) := dk_159 0 7 (dk_at dksX4_reach_2 4 rfl rfl)
theorem dX4_reach_52 : decode cX4_reach 52 = .ok (.iconst 1, 1) := dk_4 (dk_at dksX4_reach_2 7 rfl rfl)
theorem dX4_reach_53 : decode cX4_reach 53 = .ok (.goto 4, 3) := dk_167 0 4 (dk_at dksX4_reach_2 8 rfl rfl)
theorem dX4_reach_56 : decode cX4_reach 56 = .ok (.iconst 0, 1) := dk_3 (dk_at dksX4_reach_2 11 rfl rfl)
theorem dX4_reach_57 : decode cX4_reach 57 = .ok (.iadd, 1) := dk_96 (dk_at dksX4_reach_2 12 rfl rfl)
theorem dX4_reach_58 : decode cX4_reach 58 = .ok (.istore_n 1, 1) := dk_60 (dk_at dksX4_reach_2 13 rfl rfl)
theorem dX4_reach_59 : decode cX4_reach 59 = .ok (.iinc 2 1, 3) := dk_132 2 1 (dk_at dksX4_reach_2 14 rfl rfl)
theorem dX4_reach_62 : decode cX4_reach 62 = .ok (.goto (-58), 3) := dk_167 255 198 (dk_at dksX4_reach_2 17 rfl rfl)
theorem dX4_reach_65 : decode cX4_reach 65 = .ok (.iload_n 1, 1) := dk_27 (dk_at dksX4_reach_2 20 rfl rfl)
theorem dX4_reach_66 : decode cX4_reach 66 = .ok (.ifCond .ne 7, 3) := dk_154 0 7 (dk_at dksX4_reach_2 21 rfl rfl)
theorem dX4_reach_69 : decode cX4_reach 69 = .ok (.iconst 0, 1) := dk_3 (dk_at dksX4_reach_3 0 rfl rfl)
theorem dX4_reach_70 : decode cX4_reach 70 = .ok (.goto 12, 3) := dk_167 0 12 (dk_at dksX4_reach_3 1 rfl rfl)
theorem dX4_reach_73 : decode cX4_reach 73 = .ok (.bipush 100, 2) := dk_16 100 (dk_at dksX4_reach_3 4 rfl rfl)
theorem dX4_reach_75 : decode cX4_reach 75 = .ok (.iload_n 1, 1) := dk_27 (dk_at dksX4_reach_3 6 rfl rfl)
theorem dX4_reach_76 : decode cX4_reach 76 = .ok (.imul, 1) := dk_104 (dk_at dksX4_reach_3 7 rfl rfl)
theorem dX4_reach_77 : decode cX4_reach 77 = .ok (.aload_n 0, 1) := dk_42 (dk_at dksX4_reach_3 8 rfl rfl)
theorem dX4_reach_78 : decode cX4_reach 78 = .ok (.invokevirtual 235, 3) := dk_182 0 235 (dk_at dksX4_reach_3 9 rfl rfl)
theorem dX4_reach_81 : decode cX4_reach 81 = .ok (.idiv, 1) := dk_108 (dk_at dksX4_reach_3 12 rfl rfl)
theorem dX4_reach_82 : decode cX4_reach 82 = .ok (.ireturn, 1) := dk_172 (dk_at dksX4_reach_3 13 rfl rfl)
abbrev cX4_wayOf : ByteArray := prog_14_method_45_code
def yX4_wayOf : MethodName := ⟨RX4, "wayOf", "()I"⟩
def dkwX4_wayOf_9 : List UInt8 := [3, 172]
abbrev dktX4_wayOf_9 : List UInt8 := dkwX4_wayOf_9 ++ []
def dkwX4_wayOf_8 : List UInt8 := [42, 182, 0, 235, 164, 0, 8, 16, 251, 167, 0, 16, 42, 180, 0, 60, 153, 0, 8, 16, 250, 167, 0, 4]
abbrev dktX4_wayOf_8 : List UInt8 := dkwX4_wayOf_8 ++ dktX4_wayOf_9
def dkwX4_wayOf_7 : List UInt8 := [160, 0, 14, 42, 29, 182, 1, 103, 154, 0, 6, 16, 252, 172, 132, 3, 1, 167, 255, 214, 16, 10, 28, 104]
abbrev dktX4_wayOf_7 : List UInt8 := dkwX4_wayOf_7 ++ dktX4_wayOf_8
def dkwX4_wayOf_6 : List UInt8 := [180, 0, 20, 182, 0, 94, 162, 0, 37, 42, 180, 0, 20, 29, 182, 0, 108, 192, 0, 238, 5, 46, 4]
abbrev dktX4_wayOf_6 : List UInt8 := dkwX4_wayOf_6 ++ dktX4_wayOf_7
def dkwX4_wayOf_5 : List UInt8 := [100, 16, 60, 162, 0, 6, 16, 248, 172, 27, 42, 180, 1, 79, 164, 0, 6, 16, 253, 172, 3, 62, 29, 42]
abbrev dktX4_wayOf_5 : List UInt8 := dkwX4_wayOf_5 ++ dktX4_wayOf_6
def dkwX4_wayOf_4 : List UInt8 := [153, 0, 7, 4, 167, 0, 4, 3, 96, 61, 132, 3, 1, 167, 255, 156, 42, 180, 0, 43, 42, 180, 1, 94]
abbrev dktX4_wayOf_4 : List UInt8 := dkwX4_wayOf_4 ++ dktX4_wayOf_5
def dkwX4_wayOf_3 : List UInt8 := [192, 0, 112, 182, 0, 120, 153, 0, 24, 42, 180, 0, 16, 29, 182, 0, 108, 192, 0, 112, 180, 1, 88]
abbrev dktX4_wayOf_3 : List UInt8 := dkwX4_wayOf_3 ++ dktX4_wayOf_4
def dkwX4_wayOf_2 : List UInt8 := [180, 0, 225, 153, 0, 7, 4, 167, 0, 4, 3, 96, 60, 28, 42, 42, 180, 0, 16, 29, 182, 0, 108]
abbrev dktX4_wayOf_2 : List UInt8 := dkwX4_wayOf_2 ++ dktX4_wayOf_3
def dkwX4_wayOf_1 : List UInt8 := [182, 0, 108, 192, 0, 112, 182, 0, 222, 153, 0, 24, 42, 180, 0, 16, 29, 182, 0, 108, 192, 0, 112]
abbrev dktX4_wayOf_1 : List UInt8 := dkwX4_wayOf_1 ++ dktX4_wayOf_2
def dkwX4_wayOf_0 : List UInt8 := [3, 60, 3, 61, 3, 62, 29, 42, 180, 0, 16, 182, 0, 94, 162, 0, 95, 27, 42, 42, 180, 0, 16, 29]
abbrev dktX4_wayOf_0 : List UInt8 := dkwX4_wayOf_0 ++ dktX4_wayOf_1
theorem dksX4_wayOf_0 : cX4_wayOf.data.toList.drop 0 = dktX4_wayOf_0 := by decide +kernel
theorem dksX4_wayOf_1 : cX4_wayOf.data.toList.drop 24 = dktX4_wayOf_1 := dk_seg dksX4_wayOf_0 24 rfl rfl
theorem dksX4_wayOf_2 : cX4_wayOf.data.toList.drop 47 = dktX4_wayOf_2 := dk_seg dksX4_wayOf_1 23 rfl rfl
theorem dksX4_wayOf_3 : cX4_wayOf.data.toList.drop 70 = dktX4_wayOf_3 := dk_seg dksX4_wayOf_2 23 rfl rfl
theorem dksX4_wayOf_4 : cX4_wayOf.data.toList.drop 93 = dktX4_wayOf_4 := dk_seg dksX4_wayOf_3 23 rfl rfl
theorem dksX4_wayOf_5 : cX4_wayOf.data.toList.drop 117 = dktX4_wayOf_5 := dk_seg dksX4_wayOf_4 24 rfl rfl
theorem dksX4_wayOf_6 : cX4_wayOf.data.toList.drop 141 = dktX4_wayOf_6 := dk_seg dksX4_wayOf_5 24 rfl rfl
theorem dksX4_wayOf_7 : cX4_wayOf.data.toList.drop 164 = dktX4_wayOf_7 := dk_seg dksX4_wayOf_6 23 rfl rfl
theorem dksX4_wayOf_8 : cX4_wayOf.data.toList.drop 188 = dktX4_wayOf_8 := dk_seg dksX4_wayOf_7 24 rfl rfl
theorem dksX4_wayOf_9 : cX4_wayOf.data.toList.drop 212 = dktX4_wayOf_9 := dk_seg dksX4_wayOf_8 24 rfl rfl
theorem dX4_wayOf_0 : decode cX4_wayOf 0 = .ok (.iconst 0, 1) := dk_3 (dk_at dksX4_wayOf_0 0 rfl rfl)
theorem dX4_wayOf_1 : decode cX4_wayOf 1 = .ok (.istore_n 1, 1) := dk_60 (dk_at dksX4_wayOf_0 1 rfl rfl)
theorem dX4_wayOf_2 : decode cX4_wayOf 2 = .ok (.iconst 0, 1) := dk_3 (dk_at dksX4_wayOf_0 2 rfl rfl)
theorem dX4_wayOf_3 : decode cX4_wayOf 3 = .ok (.istore_n 2, 1) := dk_61 (dk_at dksX4_wayOf_0 3 rfl rfl)
theorem dX4_wayOf_4 : decode cX4_wayOf 4 = .ok (.iconst 0, 1) := dk_3 (dk_at dksX4_wayOf_0 4 rfl rfl)
theorem dX4_wayOf_5 : decode cX4_wayOf 5 = .ok (.istore_n 3, 1) := dk_62 (dk_at dksX4_wayOf_0 5 rfl rfl)
theorem dX4_wayOf_6 : decode cX4_wayOf 6 = .ok (.iload_n 3, 1) := dk_29 (dk_at dksX4_wayOf_0 6 rfl rfl)
theorem dX4_wayOf_7 : decode cX4_wayOf 7 = .ok (.aload_n 0, 1) := dk_42 (dk_at dksX4_wayOf_0 7 rfl rfl)
theorem dX4_wayOf_8 : decode cX4_wayOf 8 = .ok (.getfield 16, 3) := dk_180 0 16 (dk_at dksX4_wayOf_0 8 rfl rfl)
theorem dX4_wayOf_11 : decode cX4_wayOf 11 = .ok (.invokevirtual 94, 3) := dk_182 0 94 (dk_at dksX4_wayOf_0 11 rfl rfl)
theorem dX4_wayOf_14 : decode cX4_wayOf 14 = .ok (.if_icmp .ge 95, 3) := dk_162 0 95 (dk_at dksX4_wayOf_0 14 rfl rfl)
theorem dX4_wayOf_17 : decode cX4_wayOf 17 = .ok (.iload_n 1, 1) := dk_27 (dk_at dksX4_wayOf_0 17 rfl rfl)
theorem dX4_wayOf_18 : decode cX4_wayOf 18 = .ok (.aload_n 0, 1) := dk_42 (dk_at dksX4_wayOf_0 18 rfl rfl)
theorem dX4_wayOf_19 : decode cX4_wayOf 19 = .ok (.aload_n 0, 1) := dk_42 (dk_at dksX4_wayOf_0 19 rfl rfl)
theorem dX4_wayOf_20 : decode cX4_wayOf 20 = .ok (.getfield 16, 3) := dk_180 0 16 (dk_at dksX4_wayOf_0 20 rfl rfl)
theorem dX4_wayOf_23 : decode cX4_wayOf 23 = .ok (.iload_n 3, 1) := dk_29 (dk_at dksX4_wayOf_0 23 rfl rfl)
theorem dX4_wayOf_24 : decode cX4_wayOf 24 = .ok (.invokevirtual 108, 3) := dk_182 0 108 (dk_at dksX4_wayOf_1 0 rfl rfl)
theorem dX4_wayOf_27 : decode cX4_wayOf 27 = .ok (.checkcast 112, 3) := dk_192 0 112 (dk_at dksX4_wayOf_1 3 rfl rfl)
theorem dX4_wayOf_30 : decode cX4_wayOf 30 = .ok (.invokevirtual 222, 3) := dk_182 0 222 (dk_at dksX4_wayOf_1 6 rfl rfl)
theorem dX4_wayOf_33 : decode cX4_wayOf 33 = .ok (.ifCond .eq 24, 3) := dk_153 0 24 (dk_at dksX4_wayOf_1 9 rfl rfl)
theorem dX4_wayOf_36 : decode cX4_wayOf 36 = .ok (.aload_n 0, 1) := dk_42 (dk_at dksX4_wayOf_1 12 rfl rfl)
theorem dX4_wayOf_37 : decode cX4_wayOf 37 = .ok (.getfield 16, 3) := dk_180 0 16 (dk_at dksX4_wayOf_1 13 rfl rfl)
theorem dX4_wayOf_40 : decode cX4_wayOf 40 = .ok (.iload_n 3, 1) := dk_29 (dk_at dksX4_wayOf_1 16 rfl rfl)
theorem dX4_wayOf_41 : decode cX4_wayOf 41 = .ok (.invokevirtual 108, 3) := dk_182 0 108 (dk_at dksX4_wayOf_1 17 rfl rfl)
theorem dX4_wayOf_44 : decode cX4_wayOf 44 = .ok (.checkcast 112, 3) := dk_192 0 112 (dk_at dksX4_wayOf_1 20 rfl rfl)
theorem dX4_wayOf_47 : decode cX4_wayOf 47 = .ok (.getfield 225, 3) := dk_180 0 225 (dk_at dksX4_wayOf_2 0 rfl rfl)
theorem dX4_wayOf_50 : decode cX4_wayOf 50 = .ok (.ifCond .eq 7, 3) := dk_153 0 7 (dk_at dksX4_wayOf_2 3 rfl rfl)
theorem dX4_wayOf_53 : decode cX4_wayOf 53 = .ok (.iconst 1, 1) := dk_4 (dk_at dksX4_wayOf_2 6 rfl rfl)
theorem dX4_wayOf_54 : decode cX4_wayOf 54 = .ok (.goto 4, 3) := dk_167 0 4 (dk_at dksX4_wayOf_2 7 rfl rfl)
theorem dX4_wayOf_57 : decode cX4_wayOf 57 = .ok (.iconst 0, 1) := dk_3 (dk_at dksX4_wayOf_2 10 rfl rfl)
theorem dX4_wayOf_58 : decode cX4_wayOf 58 = .ok (.iadd, 1) := dk_96 (dk_at dksX4_wayOf_2 11 rfl rfl)
theorem dX4_wayOf_59 : decode cX4_wayOf 59 = .ok (.istore_n 1, 1) := dk_60 (dk_at dksX4_wayOf_2 12 rfl rfl)
theorem dX4_wayOf_60 : decode cX4_wayOf 60 = .ok (.iload_n 2, 1) := dk_28 (dk_at dksX4_wayOf_2 13 rfl rfl)
theorem dX4_wayOf_61 : decode cX4_wayOf 61 = .ok (.aload_n 0, 1) := dk_42 (dk_at dksX4_wayOf_2 14 rfl rfl)
theorem dX4_wayOf_62 : decode cX4_wayOf 62 = .ok (.aload_n 0, 1) := dk_42 (dk_at dksX4_wayOf_2 15 rfl rfl)
theorem dX4_wayOf_63 : decode cX4_wayOf 63 = .ok (.getfield 16, 3) := dk_180 0 16 (dk_at dksX4_wayOf_2 16 rfl rfl)
theorem dX4_wayOf_66 : decode cX4_wayOf 66 = .ok (.iload_n 3, 1) := dk_29 (dk_at dksX4_wayOf_2 19 rfl rfl)
theorem dX4_wayOf_67 : decode cX4_wayOf 67 = .ok (.invokevirtual 108, 3) := dk_182 0 108 (dk_at dksX4_wayOf_2 20 rfl rfl)
theorem dX4_wayOf_70 : decode cX4_wayOf 70 = .ok (.checkcast 112, 3) := dk_192 0 112 (dk_at dksX4_wayOf_3 0 rfl rfl)
theorem dX4_wayOf_73 : decode cX4_wayOf 73 = .ok (.invokevirtual 120, 3) := dk_182 0 120 (dk_at dksX4_wayOf_3 3 rfl rfl)
theorem dX4_wayOf_76 : decode cX4_wayOf 76 = .ok (.ifCond .eq 24, 3) := dk_153 0 24 (dk_at dksX4_wayOf_3 6 rfl rfl)
theorem dX4_wayOf_79 : decode cX4_wayOf 79 = .ok (.aload_n 0, 1) := dk_42 (dk_at dksX4_wayOf_3 9 rfl rfl)
theorem dX4_wayOf_80 : decode cX4_wayOf 80 = .ok (.getfield 16, 3) := dk_180 0 16 (dk_at dksX4_wayOf_3 10 rfl rfl)
theorem dX4_wayOf_83 : decode cX4_wayOf 83 = .ok (.iload_n 3, 1) := dk_29 (dk_at dksX4_wayOf_3 13 rfl rfl)
theorem dX4_wayOf_84 : decode cX4_wayOf 84 = .ok (.invokevirtual 108, 3) := dk_182 0 108 (dk_at dksX4_wayOf_3 14 rfl rfl)
theorem dX4_wayOf_87 : decode cX4_wayOf 87 = .ok (.checkcast 112, 3) := dk_192 0 112 (dk_at dksX4_wayOf_3 17 rfl rfl)
theorem dX4_wayOf_90 : decode cX4_wayOf 90 = .ok (.getfield 344, 3) := dk_180 1 88 (dk_at dksX4_wayOf_3 20 rfl rfl)
theorem dX4_wayOf_93 : decode cX4_wayOf 93 = .ok (.ifCond .eq 7, 3) := dk_153 0 7 (dk_at dksX4_wayOf_4 0 rfl rfl)
theorem dX4_wayOf_96 : decode cX4_wayOf 96 = .ok (.iconst 1, 1) := dk_4 (dk_at dksX4_wayOf_4 3 rfl rfl)
theorem dX4_wayOf_97 : decode cX4_wayOf 97 = .ok (.goto 4, 3) := dk_167 0 4 (dk_at dksX4_wayOf_4 4 rfl rfl)
theorem dX4_wayOf_100 : decode cX4_wayOf 100 = .ok (.iconst 0, 1) := dk_3 (dk_at dksX4_wayOf_4 7 rfl rfl)
theorem dX4_wayOf_101 : decode cX4_wayOf 101 = .ok (.iadd, 1) := dk_96 (dk_at dksX4_wayOf_4 8 rfl rfl)
theorem dX4_wayOf_102 : decode cX4_wayOf 102 = .ok (.istore_n 2, 1) := dk_61 (dk_at dksX4_wayOf_4 9 rfl rfl)
theorem dX4_wayOf_103 : decode cX4_wayOf 103 = .ok (.iinc 3 1, 3) := dk_132 3 1 (dk_at dksX4_wayOf_4 10 rfl rfl)
theorem dX4_wayOf_106 : decode cX4_wayOf 106 = .ok (.goto (-100), 3) := dk_167 255 156 (dk_at dksX4_wayOf_4 13 rfl rfl)
theorem dX4_wayOf_109 : decode cX4_wayOf 109 = .ok (.aload_n 0, 1) := dk_42 (dk_at dksX4_wayOf_4 16 rfl rfl)
theorem dX4_wayOf_110 : decode cX4_wayOf 110 = .ok (.getfield 43, 3) := dk_180 0 43 (dk_at dksX4_wayOf_4 17 rfl rfl)
theorem dX4_wayOf_113 : decode cX4_wayOf 113 = .ok (.aload_n 0, 1) := dk_42 (dk_at dksX4_wayOf_4 20 rfl rfl)
theorem dX4_wayOf_114 : decode cX4_wayOf 114 = .ok (.getfield 350, 3) := dk_180 1 94 (dk_at dksX4_wayOf_4 21 rfl rfl)
theorem dX4_wayOf_117 : decode cX4_wayOf 117 = .ok (.isub, 1) := dk_100 (dk_at dksX4_wayOf_5 0 rfl rfl)
theorem dX4_wayOf_118 : decode cX4_wayOf 118 = .ok (.bipush 60, 2) := dk_16 60 (dk_at dksX4_wayOf_5 1 rfl rfl)
theorem dX4_wayOf_120 : decode cX4_wayOf 120 = .ok (.if_icmp .ge 6, 3) := dk_162 0 6 (dk_at dksX4_wayOf_5 3 rfl rfl)
theorem dX4_wayOf_123 : decode cX4_wayOf 123 = .ok (.bipush (-8), 2) := dk_16 248 (dk_at dksX4_wayOf_5 6 rfl rfl)
theorem dX4_wayOf_125 : decode cX4_wayOf 125 = .ok (.ireturn, 1) := dk_172 (dk_at dksX4_wayOf_5 8 rfl rfl)
theorem dX4_wayOf_126 : decode cX4_wayOf 126 = .ok (.iload_n 1, 1) := dk_27 (dk_at dksX4_wayOf_5 9 rfl rfl)
theorem dX4_wayOf_127 : decode cX4_wayOf 127 = .ok (.aload_n 0, 1) := dk_42 (dk_at dksX4_wayOf_5 10 rfl rfl)
theorem dX4_wayOf_128 : decode cX4_wayOf 128 = .ok (.getfield 335, 3) := dk_180 1 79 (dk_at dksX4_wayOf_5 11 rfl rfl)
theorem dX4_wayOf_131 : decode cX4_wayOf 131 = .ok (.if_icmp .le 6, 3) := dk_164 0 6 (dk_at dksX4_wayOf_5 14 rfl rfl)
theorem dX4_wayOf_134 : decode cX4_wayOf 134 = .ok (.bipush (-3), 2) := dk_16 253 (dk_at dksX4_wayOf_5 17 rfl rfl)
theorem dX4_wayOf_136 : decode cX4_wayOf 136 = .ok (.ireturn, 1) := dk_172 (dk_at dksX4_wayOf_5 19 rfl rfl)
theorem dX4_wayOf_137 : decode cX4_wayOf 137 = .ok (.iconst 0, 1) := dk_3 (dk_at dksX4_wayOf_5 20 rfl rfl)
theorem dX4_wayOf_138 : decode cX4_wayOf 138 = .ok (.istore_n 3, 1) := dk_62 (dk_at dksX4_wayOf_5 21 rfl rfl)
theorem dX4_wayOf_139 : decode cX4_wayOf 139 = .ok (.iload_n 3, 1) := dk_29 (dk_at dksX4_wayOf_5 22 rfl rfl)
theorem dX4_wayOf_140 : decode cX4_wayOf 140 = .ok (.aload_n 0, 1) := dk_42 (dk_at dksX4_wayOf_5 23 rfl rfl)
theorem dX4_wayOf_141 : decode cX4_wayOf 141 = .ok (.getfield 20, 3) := dk_180 0 20 (dk_at dksX4_wayOf_6 0 rfl rfl)
theorem dX4_wayOf_144 : decode cX4_wayOf 144 = .ok (.invokevirtual 94, 3) := dk_182 0 94 (dk_at dksX4_wayOf_6 3 rfl rfl)
theorem dX4_wayOf_147 : decode cX4_wayOf 147 = .ok (.if_icmp .ge 37, 3) := dk_162 0 37 (dk_at dksX4_wayOf_6 6 rfl rfl)
theorem dX4_wayOf_150 : decode cX4_wayOf 150 = .ok (.aload_n 0, 1) := dk_42 (dk_at dksX4_wayOf_6 9 rfl rfl)
theorem dX4_wayOf_151 : decode cX4_wayOf 151 = .ok (.getfield 20, 3) := dk_180 0 20 (dk_at dksX4_wayOf_6 10 rfl rfl)
theorem dX4_wayOf_154 : decode cX4_wayOf 154 = .ok (.iload_n 3, 1) := dk_29 (dk_at dksX4_wayOf_6 13 rfl rfl)
theorem dX4_wayOf_155 : decode cX4_wayOf 155 = .ok (.invokevirtual 108, 3) := dk_182 0 108 (dk_at dksX4_wayOf_6 14 rfl rfl)
theorem dX4_wayOf_158 : decode cX4_wayOf 158 = .ok (.checkcast 238, 3) := dk_192 0 238 (dk_at dksX4_wayOf_6 17 rfl rfl)
theorem dX4_wayOf_161 : decode cX4_wayOf 161 = .ok (.iconst 2, 1) := dk_5 (dk_at dksX4_wayOf_6 20 rfl rfl)
theorem dX4_wayOf_162 : decode cX4_wayOf 162 = .ok (.iaload, 1) := dk_46 (dk_at dksX4_wayOf_6 21 rfl rfl)
theorem dX4_wayOf_163 : decode cX4_wayOf 163 = .ok (.iconst 1, 1) := dk_4 (dk_at dksX4_wayOf_6 22 rfl rfl)
theorem dX4_wayOf_164 : decode cX4_wayOf 164 = .ok (.if_icmp .ne 14, 3) := dk_160 0 14 (dk_at dksX4_wayOf_7 0 rfl rfl)
theorem dX4_wayOf_167 : decode cX4_wayOf 167 = .ok (.aload_n 0, 1) := dk_42 (dk_at dksX4_wayOf_7 3 rfl rfl)
theorem dX4_wayOf_168 : decode cX4_wayOf 168 = .ok (.iload_n 3, 1) := dk_29 (dk_at dksX4_wayOf_7 4 rfl rfl)
theorem dX4_wayOf_169 : decode cX4_wayOf 169 = .ok (.invokevirtual 359, 3) := dk_182 1 103 (dk_at dksX4_wayOf_7 5 rfl rfl)
theorem dX4_wayOf_172 : decode cX4_wayOf 172 = .ok (.ifCond .ne 6, 3) := dk_154 0 6 (dk_at dksX4_wayOf_7 8 rfl rfl)
theorem dX4_wayOf_175 : decode cX4_wayOf 175 = .ok (.bipush (-4), 2) := dk_16 252 (dk_at dksX4_wayOf_7 11 rfl rfl)
theorem dX4_wayOf_177 : decode cX4_wayOf 177 = .ok (.ireturn, 1) := dk_172 (dk_at dksX4_wayOf_7 13 rfl rfl)
theorem dX4_wayOf_178 : decode cX4_wayOf 178 = .ok (.iinc 3 1, 3) := dk_132 3 1 (dk_at dksX4_wayOf_7 14 rfl rfl)
theorem dX4_wayOf_181 : decode cX4_wayOf 181 = .ok (.goto (-42), 3) := dk_167 255 214 (dk_at dksX4_wayOf_7 17 rfl rfl)
theorem dX4_wayOf_184 : decode cX4_wayOf 184 = .ok (.bipush 10, 2) := dk_16 10 (dk_at dksX4_wayOf_7 20 rfl rfl)
theorem dX4_wayOf_186 : decode cX4_wayOf 186 = .ok (.iload_n 2, 1) := dk_28 (dk_at dksX4_wayOf_7 22 rfl rfl)
theorem dX4_wayOf_187 : decode cX4_wayOf 187 = .ok (.imul, 1) := dk_104 (dk_at dksX4_wayOf_7 23 rfl rfl)
theorem dX4_wayOf_188 : decode cX4_wayOf 188 = .ok (.aload_n 0, 1) := dk_42 (dk_at dksX4_wayOf_8 0 rfl rfl)
theorem dX4_wayOf_189 : decode cX4_wayOf 189 = .ok (.invokevirtual 235, 3) := dk_182 0 235 (dk_at dksX4_wayOf_8 1 rfl rfl)
theorem dX4_wayOf_192 : decode cX4_wayOf 192 = .ok (.if_icmp .le 8, 3) := dk_164 0 8 (dk_at dksX4_wayOf_8 4 rfl rfl)
theorem dX4_wayOf_195 : decode cX4_wayOf 195 = .ok (.bipush (-5), 2) := dk_16 251 (dk_at dksX4_wayOf_8 7 rfl rfl)
theorem dX4_wayOf_197 : decode cX4_wayOf 197 = .ok (.goto 16, 3) := dk_167 0 16 (dk_at dksX4_wayOf_8 9 rfl rfl)
theorem dX4_wayOf_200 : decode cX4_wayOf 200 = .ok (.aload_n 0, 1) := dk_42 (dk_at dksX4_wayOf_8 12 rfl rfl)
theorem dX4_wayOf_201 : decode cX4_wayOf 201 = .ok (.getfield 60, 3) := dk_180 0 60 (dk_at dksX4_wayOf_8 13 rfl rfl)
theorem dX4_wayOf_204 : decode cX4_wayOf 204 = .ok (.ifCond .eq 8, 3) := dk_153 0 8 (dk_at dksX4_wayOf_8 16 rfl rfl)
theorem dX4_wayOf_207 : decode cX4_wayOf 207 = .ok (.bipush (-6), 2) := dk_16 250 (dk_at dksX4_wayOf_8 19 rfl rfl)
theorem dX4_wayOf_209 : decode cX4_wayOf 209 = .ok (.goto 4, 3) := dk_167 0 4 (dk_at dksX4_wayOf_8 21 rfl rfl)
theorem dX4_wayOf_212 : decode cX4_wayOf 212 = .ok (.iconst 0, 1) := dk_3 (dk_at dksX4_wayOf_9 0 rfl rfl)
theorem dX4_wayOf_213 : decode cX4_wayOf 213 = .ok (.ireturn, 1) := dk_172 (dk_at dksX4_wayOf_9 1 rfl rfl)
abbrev cX4_isCarried : ByteArray := prog_14_method_46_code
def yX4_isCarried : MethodName := ⟨RX4, "isCarried", "(I)Z"⟩
def dkwX4_isCarried_4 : List UInt8 := [3, 172]
abbrev dktX4_isCarried_4 : List UInt8 := dkwX4_isCarried_4 ++ []
def dkwX4_isCarried_3 : List UInt8 := [167, 0, 4, 3, 96, 62, 132, 4, 1, 167, 255, 184, 28, 153, 0, 7, 29, 158, 0, 7, 4, 167, 0, 4]
abbrev dktX4_isCarried_3 : List UInt8 := dkwX4_isCarried_3 ++ dktX4_isCarried_4
def dkwX4_isCarried_2 : List UInt8 := [25, 5, 180, 1, 85, 4, 160, 0, 7, 4, 167, 0, 17, 25, 5, 180, 1, 85, 5, 160, 0, 7, 2]
abbrev dktX4_isCarried_2 : List UInt8 := dkwX4_isCarried_2 ++ dktX4_isCarried_3
def dkwX4_isCarried_1 : List UInt8 := [21, 4, 182, 0, 108, 192, 0, 112, 58, 5, 42, 25, 5, 182, 0, 241, 27, 160, 0, 36, 132, 2, 1, 29]
abbrev dktX4_isCarried_1 : List UInt8 := dkwX4_isCarried_1 ++ dktX4_isCarried_2
def dkwX4_isCarried_0 : List UInt8 := [3, 61, 3, 62, 3, 54, 4, 21, 4, 42, 180, 0, 16, 182, 0, 94, 162, 0, 66, 42, 180, 0, 16]
abbrev dktX4_isCarried_0 : List UInt8 := dkwX4_isCarried_0 ++ dktX4_isCarried_1
theorem dksX4_isCarried_0 : cX4_isCarried.data.toList.drop 0 = dktX4_isCarried_0 := by decide +kernel
theorem dksX4_isCarried_1 : cX4_isCarried.data.toList.drop 23 = dktX4_isCarried_1 := dk_seg dksX4_isCarried_0 23 rfl rfl
theorem dksX4_isCarried_2 : cX4_isCarried.data.toList.drop 47 = dktX4_isCarried_2 := dk_seg dksX4_isCarried_1 24 rfl rfl
theorem dksX4_isCarried_3 : cX4_isCarried.data.toList.drop 70 = dktX4_isCarried_3 := dk_seg dksX4_isCarried_2 23 rfl rfl
theorem dksX4_isCarried_4 : cX4_isCarried.data.toList.drop 94 = dktX4_isCarried_4 := dk_seg dksX4_isCarried_3 24 rfl rfl
theorem dX4_isCarried_0 : decode cX4_isCarried 0 = .ok (.iconst 0, 1) := dk_3 (dk_at dksX4_isCarried_0 0 rfl rfl)
theorem dX4_isCarried_1 : decode cX4_isCarried 1 = .ok (.istore_n 2, 1) := dk_61 (dk_at dksX4_isCarried_0 1 rfl rfl)
theorem dX4_isCarried_2 : decode cX4_isCarried 2 = .ok (.iconst 0, 1) := dk_3 (dk_at dksX4_isCarried_0 2 rfl rfl)
theorem dX4_isCarried_3 : decode cX4_isCarried 3 = .ok (.istore_n 3, 1) := dk_62 (dk_at dksX4_isCarried_0 3 rfl rfl)
theorem dX4_isCarried_4 : decode cX4_isCarried 4 = .ok (.iconst 0, 1) := dk_3 (dk_at dksX4_isCarried_0 4 rfl rfl)
theorem dX4_isCarried_5 : decode cX4_isCarried 5 = .ok (.istore 4, 2) := dk_54 4 (dk_at dksX4_isCarried_0 5 rfl rfl)
theorem dX4_isCarried_7 : decode cX4_isCarried 7 = .ok (.iload 4, 2) := dk_21 4 (dk_at dksX4_isCarried_0 7 rfl rfl)
theorem dX4_isCarried_9 : decode cX4_isCarried 9 = .ok (.aload_n 0, 1) := dk_42 (dk_at dksX4_isCarried_0 9 rfl rfl)
theorem dX4_isCarried_10 : decode cX4_isCarried 10 = .ok (.getfield 16, 3) := dk_180 0 16 (dk_at dksX4_isCarried_0 10 rfl rfl)
theorem dX4_isCarried_13 : decode cX4_isCarried 13 = .ok (.invokevirtual 94, 3) := dk_182 0 94 (dk_at dksX4_isCarried_0 13 rfl rfl)
theorem dX4_isCarried_16 : decode cX4_isCarried 16 = .ok (.if_icmp .ge 66, 3) := dk_162 0 66 (dk_at dksX4_isCarried_0 16 rfl rfl)
theorem dX4_isCarried_19 : decode cX4_isCarried 19 = .ok (.aload_n 0, 1) := dk_42 (dk_at dksX4_isCarried_0 19 rfl rfl)
theorem dX4_isCarried_20 : decode cX4_isCarried 20 = .ok (.getfield 16, 3) := dk_180 0 16 (dk_at dksX4_isCarried_0 20 rfl rfl)
theorem dX4_isCarried_23 : decode cX4_isCarried 23 = .ok (.iload 4, 2) := dk_21 4 (dk_at dksX4_isCarried_1 0 rfl rfl)
theorem dX4_isCarried_25 : decode cX4_isCarried 25 = .ok (.invokevirtual 108, 3) := dk_182 0 108 (dk_at dksX4_isCarried_1 2 rfl rfl)
theorem dX4_isCarried_28 : decode cX4_isCarried 28 = .ok (.checkcast 112, 3) := dk_192 0 112 (dk_at dksX4_isCarried_1 5 rfl rfl)
theorem dX4_isCarried_31 : decode cX4_isCarried 31 = .ok (.astore 5, 2) := dk_58 5 (dk_at dksX4_isCarried_1 8 rfl rfl)
theorem dX4_isCarried_33 : decode cX4_isCarried 33 = .ok (.aload_n 0, 1) := dk_42 (dk_at dksX4_isCarried_1 10 rfl rfl)
theorem dX4_isCarried_34 : decode cX4_isCarried 34 = .ok (.aload 5, 2) := dk_25 5 (dk_at dksX4_isCarried_1 11 rfl rfl)
theorem dX4_isCarried_36 : decode cX4_isCarried 36 = .ok (.invokevirtual 241, 3) := dk_182 0 241 (dk_at dksX4_isCarried_1 13 rfl rfl)
theorem dX4_isCarried_39 : decode cX4_isCarried 39 = .ok (.iload_n 1, 1) := dk_27 (dk_at dksX4_isCarried_1 16 rfl rfl)
theorem dX4_isCarried_40 : decode cX4_isCarried 40 = .ok (.if_icmp .ne 36, 3) := dk_160 0 36 (dk_at dksX4_isCarried_1 17 rfl rfl)
theorem dX4_isCarried_43 : decode cX4_isCarried 43 = .ok (.iinc 2 1, 3) := dk_132 2 1 (dk_at dksX4_isCarried_1 20 rfl rfl)
theorem dX4_isCarried_46 : decode cX4_isCarried 46 = .ok (.iload_n 3, 1) := dk_29 (dk_at dksX4_isCarried_1 23 rfl rfl)
theorem dX4_isCarried_47 : decode cX4_isCarried 47 = .ok (.aload 5, 2) := dk_25 5 (dk_at dksX4_isCarried_2 0 rfl rfl)
theorem dX4_isCarried_49 : decode cX4_isCarried 49 = .ok (.getfield 341, 3) := dk_180 1 85 (dk_at dksX4_isCarried_2 2 rfl rfl)
theorem dX4_isCarried_52 : decode cX4_isCarried 52 = .ok (.iconst 1, 1) := dk_4 (dk_at dksX4_isCarried_2 5 rfl rfl)
theorem dX4_isCarried_53 : decode cX4_isCarried 53 = .ok (.if_icmp .ne 7, 3) := dk_160 0 7 (dk_at dksX4_isCarried_2 6 rfl rfl)
theorem dX4_isCarried_56 : decode cX4_isCarried 56 = .ok (.iconst 1, 1) := dk_4 (dk_at dksX4_isCarried_2 9 rfl rfl)
theorem dX4_isCarried_57 : decode cX4_isCarried 57 = .ok (.goto 17, 3) := dk_167 0 17 (dk_at dksX4_isCarried_2 10 rfl rfl)
theorem dX4_isCarried_60 : decode cX4_isCarried 60 = .ok (.aload 5, 2) := dk_25 5 (dk_at dksX4_isCarried_2 13 rfl rfl)
theorem dX4_isCarried_62 : decode cX4_isCarried 62 = .ok (.getfield 341, 3) := dk_180 1 85 (dk_at dksX4_isCarried_2 15 rfl rfl)
theorem dX4_isCarried_65 : decode cX4_isCarried 65 = .ok (.iconst 2, 1) := dk_5 (dk_at dksX4_isCarried_2 18 rfl rfl)
theorem dX4_isCarried_66 : decode cX4_isCarried 66 = .ok (.if_icmp .ne 7, 3) := dk_160 0 7 (dk_at dksX4_isCarried_2 19 rfl rfl)
theorem dX4_isCarried_69 : decode cX4_isCarried 69 = .ok (.iconst (-1), 1) := dk_2 (dk_at dksX4_isCarried_2 22 rfl rfl)
theorem dX4_isCarried_70 : decode cX4_isCarried 70 = .ok (.goto 4, 3) := dk_167 0 4 (dk_at dksX4_isCarried_3 0 rfl rfl)
theorem dX4_isCarried_73 : decode cX4_isCarried 73 = .ok (.iconst 0, 1) := dk_3 (dk_at dksX4_isCarried_3 3 rfl rfl)
theorem dX4_isCarried_74 : decode cX4_isCarried 74 = .ok (.iadd, 1) := dk_96 (dk_at dksX4_isCarried_3 4 rfl rfl)
theorem dX4_isCarried_75 : decode cX4_isCarried 75 = .ok (.istore_n 3, 1) := dk_62 (dk_at dksX4_isCarried_3 5 rfl rfl)
theorem dX4_isCarried_76 : decode cX4_isCarried 76 = .ok (.iinc 4 1, 3) := dk_132 4 1 (dk_at dksX4_isCarried_3 6 rfl rfl)
theorem dX4_isCarried_79 : decode cX4_isCarried 79 = .ok (.goto (-72), 3) := dk_167 255 184 (dk_at dksX4_isCarried_3 9 rfl rfl)
theorem dX4_isCarried_82 : decode cX4_isCarried 82 = .ok (.iload_n 2, 1) := dk_28 (dk_at dksX4_isCarried_3 12 rfl rfl)
theorem dX4_isCarried_83 : decode cX4_isCarried 83 = .ok (.ifCond .eq 7, 3) := dk_153 0 7 (dk_at dksX4_isCarried_3 13 rfl rfl)
theorem dX4_isCarried_86 : decode cX4_isCarried 86 = .ok (.iload_n 3, 1) := dk_29 (dk_at dksX4_isCarried_3 16 rfl rfl)
theorem dX4_isCarried_87 : decode cX4_isCarried 87 = .ok (.ifCond .le 7, 3) := dk_158 0 7 (dk_at dksX4_isCarried_3 17 rfl rfl)
theorem dX4_isCarried_90 : decode cX4_isCarried 90 = .ok (.iconst 1, 1) := dk_4 (dk_at dksX4_isCarried_3 20 rfl rfl)
theorem dX4_isCarried_91 : decode cX4_isCarried 91 = .ok (.goto 4, 3) := dk_167 0 4 (dk_at dksX4_isCarried_3 21 rfl rfl)
theorem dX4_isCarried_94 : decode cX4_isCarried 94 = .ok (.iconst 0, 1) := dk_3 (dk_at dksX4_isCarried_4 0 rfl rfl)
theorem dX4_isCarried_95 : decode cX4_isCarried 95 = .ok (.ireturn, 1) := dk_172 (dk_at dksX4_isCarried_4 1 rfl rfl)
abbrev cX4_bind : ByteArray := prog_14_method_47_code
def yX4_bind : MethodName := ⟨RX4, "bind", "()V"⟩
def dkwX4_bind_8 : List UInt8 := [182, 1, 73, 87, 132, 4, 1, 167, 255, 210, 177]
abbrev dktX4_bind_8 : List UInt8 := dkwX4_bind_8 ++ []
def dkwX4_bind_7 : List UInt8 := [192, 1, 39, 180, 1, 58, 153, 0, 21, 45, 21, 4, 47, 9, 148, 158, 0, 12, 42, 45, 21, 4, 47]
abbrev dktX4_bind_7 : List UInt8 := dkwX4_bind_7 ++ dktX4_bind_8
def dkwX4_bind_6 : List UInt8 := [167, 255, 181, 3, 54, 4, 21, 4, 45, 190, 162, 0, 45, 42, 180, 0, 23, 21, 4, 182, 0, 108]
abbrev dktX4_bind_6 : List UInt8 := dkwX4_bind_6 ++ dktX4_bind_7
def dkwX4_bind_5 : List UInt8 := [25, 5, 180, 1, 58, 153, 0, 7, 9, 167, 0, 7, 45, 21, 4, 47, 181, 1, 61, 132, 4, 1]
abbrev dktX4_bind_5 : List UInt8 := dkwX4_bind_5 ++ dktX4_bind_6
def dkwX4_bind_4 : List UInt8 := [180, 1, 41, 133, 105, 20, 1, 44, 109, 21, 4, 154, 0, 7, 31, 167, 0, 4, 9, 97, 80, 25, 5]
abbrev dktX4_bind_4 : List UInt8 := dkwX4_bind_4 ++ dktX4_bind_5
def dkwX4_bind_3 : List UInt8 := [180, 0, 23, 21, 4, 182, 0, 108, 192, 1, 39, 58, 5, 45, 21, 4, 42, 180, 0, 56, 25, 5]
abbrev dktX4_bind_3 : List UInt8 := dkwX4_bind_3 ++ dktX4_bind_4
def dkwX4_bind_2 : List UInt8 := [105, 20, 1, 44, 109, 101, 64, 132, 4, 1, 167, 255, 218, 3, 54, 4, 21, 4, 45, 190, 162, 0, 74, 42]
abbrev dktX4_bind_2 : List UInt8 := dkwX4_bind_2 ++ dktX4_bind_3
def dkwX4_bind_1 : List UInt8 := [162, 0, 37, 31, 42, 180, 0, 56, 42, 180, 0, 23, 21, 4, 182, 0, 108, 192, 1, 39, 180, 1, 41, 133]
abbrev dktX4_bind_1 : List UInt8 := dkwX4_bind_1 ++ dktX4_bind_2
def dkwX4_bind_0 : List UInt8 := [42, 180, 0, 56, 64, 42, 180, 0, 23, 182, 0, 94, 188, 11, 78, 3, 54, 4, 21, 4, 45, 190]
abbrev dktX4_bind_0 : List UInt8 := dkwX4_bind_0 ++ dktX4_bind_1
theorem dksX4_bind_0 : cX4_bind.data.toList.drop 0 = dktX4_bind_0 := by decide +kernel
theorem dksX4_bind_1 : cX4_bind.data.toList.drop 22 = dktX4_bind_1 := dk_seg dksX4_bind_0 22 rfl rfl
theorem dksX4_bind_2 : cX4_bind.data.toList.drop 46 = dktX4_bind_2 := dk_seg dksX4_bind_1 24 rfl rfl
theorem dksX4_bind_3 : cX4_bind.data.toList.drop 70 = dktX4_bind_3 := dk_seg dksX4_bind_2 24 rfl rfl
theorem dksX4_bind_4 : cX4_bind.data.toList.drop 92 = dktX4_bind_4 := dk_seg dksX4_bind_3 22 rfl rfl
theorem dksX4_bind_5 : cX4_bind.data.toList.drop 115 = dktX4_bind_5 := dk_seg dksX4_bind_4 23 rfl rfl
theorem dksX4_bind_6 : cX4_bind.data.toList.drop 137 = dktX4_bind_6 := dk_seg dksX4_bind_5 22 rfl rfl
theorem dksX4_bind_7 : cX4_bind.data.toList.drop 159 = dktX4_bind_7 := dk_seg dksX4_bind_6 22 rfl rfl
theorem dksX4_bind_8 : cX4_bind.data.toList.drop 182 = dktX4_bind_8 := dk_seg dksX4_bind_7 23 rfl rfl
theorem dX4_bind_0 : decode cX4_bind 0 = .ok (.aload_n 0, 1) := dk_42 (dk_at dksX4_bind_0 0 rfl rfl)
theorem dX4_bind_1 : decode cX4_bind 1 = .ok (.getfield 56, 3) := dk_180 0 56 (dk_at dksX4_bind_0 1 rfl rfl)
theorem dX4_bind_4 : decode cX4_bind 4 = .ok (.lstore_n 1, 1) := dk_64 (dk_at dksX4_bind_0 4 rfl rfl)
theorem dX4_bind_5 : decode cX4_bind 5 = .ok (.aload_n 0, 1) := dk_42 (dk_at dksX4_bind_0 5 rfl rfl)
theorem dX4_bind_6 : decode cX4_bind 6 = .ok (.getfield 23, 3) := dk_180 0 23 (dk_at dksX4_bind_0 6 rfl rfl)
theorem dX4_bind_9 : decode cX4_bind 9 = .ok (.invokevirtual 94, 3) := dk_182 0 94 (dk_at dksX4_bind_0 9 rfl rfl)
theorem dX4_bind_12 : decode cX4_bind 12 = .ok (.newarray .long, 2) := dk_188_11 (dk_at dksX4_bind_0 12 rfl rfl)
theorem dX4_bind_14 : decode cX4_bind 14 = .ok (.astore_n 3, 1) := dk_78 (dk_at dksX4_bind_0 14 rfl rfl)
theorem dX4_bind_15 : decode cX4_bind 15 = .ok (.iconst 0, 1) := dk_3 (dk_at dksX4_bind_0 15 rfl rfl)
theorem dX4_bind_16 : decode cX4_bind 16 = .ok (.istore 4, 2) := dk_54 4 (dk_at dksX4_bind_0 16 rfl rfl)
theorem dX4_bind_18 : decode cX4_bind 18 = .ok (.iload 4, 2) := dk_21 4 (dk_at dksX4_bind_0 18 rfl rfl)
theorem dX4_bind_20 : decode cX4_bind 20 = .ok (.aload_n 3, 1) := dk_45 (dk_at dksX4_bind_0 20 rfl rfl)
theorem dX4_bind_21 : decode cX4_bind 21 = .ok (.arraylength, 1) := dk_190 (dk_at dksX4_bind_0 21 rfl rfl)
theorem dX4_bind_22 : decode cX4_bind 22 = .ok (.if_icmp .ge 37, 3) := dk_162 0 37 (dk_at dksX4_bind_1 0 rfl rfl)
theorem dX4_bind_25 : decode cX4_bind 25 = .ok (.lload_n 1, 1) := dk_31 (dk_at dksX4_bind_1 3 rfl rfl)
theorem dX4_bind_26 : decode cX4_bind 26 = .ok (.aload_n 0, 1) := dk_42 (dk_at dksX4_bind_1 4 rfl rfl)
theorem dX4_bind_27 : decode cX4_bind 27 = .ok (.getfield 56, 3) := dk_180 0 56 (dk_at dksX4_bind_1 5 rfl rfl)
theorem dX4_bind_30 : decode cX4_bind 30 = .ok (.aload_n 0, 1) := dk_42 (dk_at dksX4_bind_1 8 rfl rfl)
theorem dX4_bind_31 : decode cX4_bind 31 = .ok (.getfield 23, 3) := dk_180 0 23 (dk_at dksX4_bind_1 9 rfl rfl)
theorem dX4_bind_34 : decode cX4_bind 34 = .ok (.iload 4, 2) := dk_21 4 (dk_at dksX4_bind_1 12 rfl rfl)
theorem dX4_bind_36 : decode cX4_bind 36 = .ok (.invokevirtual 108, 3) := dk_182 0 108 (dk_at dksX4_bind_1 14 rfl rfl)
theorem dX4_bind_39 : decode cX4_bind 39 = .ok (.checkcast 295, 3) := dk_192 1 39 (dk_at dksX4_bind_1 17 rfl rfl)
theorem dX4_bind_42 : decode cX4_bind 42 = .ok (.getfield 297, 3) := dk_180 1 41 (dk_at dksX4_bind_1 20 rfl rfl)
theorem dX4_bind_45 : decode cX4_bind 45 = .ok (.i2l, 1) := dk_133 (dk_at dksX4_bind_1 23 rfl rfl)
theorem dX4_bind_46 : decode cX4_bind 46 = .ok (.lmul, 1) := dk_105 (dk_at dksX4_bind_2 0 rfl rfl)
theorem dX4_bind_47 : decode cX4_bind 47 = .ok (.ldc2_w 300, 3) := dk_20 1 44 (dk_at dksX4_bind_2 1 rfl rfl)
theorem dX4_bind_50 : decode cX4_bind 50 = .ok (.ldiv, 1) := dk_109 (dk_at dksX4_bind_2 4 rfl rfl)
theorem dX4_bind_51 : decode cX4_bind 51 = .ok (.lsub, 1) := dk_101 (dk_at dksX4_bind_2 5 rfl rfl)
theorem dX4_bind_52 : decode cX4_bind 52 = .ok (.lstore_n 1, 1) := dk_64 (dk_at dksX4_bind_2 6 rfl rfl)
theorem dX4_bind_53 : decode cX4_bind 53 = .ok (.iinc 4 1, 3) := dk_132 4 1 (dk_at dksX4_bind_2 7 rfl rfl)
theorem dX4_bind_56 : decode cX4_bind 56 = .ok (.goto (-38), 3) := dk_167 255 218 (dk_at dksX4_bind_2 10 rfl rfl)
theorem dX4_bind_59 : decode cX4_bind 59 = .ok (.iconst 0, 1) := dk_3 (dk_at dksX4_bind_2 13 rfl rfl)
theorem dX4_bind_60 : decode cX4_bind 60 = .ok (.istore 4, 2) := dk_54 4 (dk_at dksX4_bind_2 14 rfl rfl)
theorem dX4_bind_62 : decode cX4_bind 62 = .ok (.iload 4, 2) := dk_21 4 (dk_at dksX4_bind_2 16 rfl rfl)
theorem dX4_bind_64 : decode cX4_bind 64 = .ok (.aload_n 3, 1) := dk_45 (dk_at dksX4_bind_2 18 rfl rfl)
theorem dX4_bind_65 : decode cX4_bind 65 = .ok (.arraylength, 1) := dk_190 (dk_at dksX4_bind_2 19 rfl rfl)
theorem dX4_bind_66 : decode cX4_bind 66 = .ok (.if_icmp .ge 74, 3) := dk_162 0 74 (dk_at dksX4_bind_2 20 rfl rfl)
theorem dX4_bind_69 : decode cX4_bind 69 = .ok (.aload_n 0, 1) := dk_42 (dk_at dksX4_bind_2 23 rfl rfl)
theorem dX4_bind_70 : decode cX4_bind 70 = .ok (.getfield 23, 3) := dk_180 0 23 (dk_at dksX4_bind_3 0 rfl rfl)
theorem dX4_bind_73 : decode cX4_bind 73 = .ok (.iload 4, 2) := dk_21 4 (dk_at dksX4_bind_3 3 rfl rfl)
theorem dX4_bind_75 : decode cX4_bind 75 = .ok (.invokevirtual 108, 3) := dk_182 0 108 (dk_at dksX4_bind_3 5 rfl rfl)
theorem dX4_bind_78 : decode cX4_bind 78 = .ok (.checkcast 295, 3) := dk_192 1 39 (dk_at dksX4_bind_3 8 rfl rfl)
theorem dX4_bind_81 : decode cX4_bind 81 = .ok (.astore 5, 2) := dk_58 5 (dk_at dksX4_bind_3 11 rfl rfl)
theorem dX4_bind_83 : decode cX4_bind 83 = .ok (.aload_n 3, 1) := dk_45 (dk_at dksX4_bind_3 13 rfl rfl)
theorem dX4_bind_84 : decode cX4_bind 84 = .ok (.iload 4, 2) := dk_21 4 (dk_at dksX4_bind_3 14 rfl rfl)
theorem dX4_bind_86 : decode cX4_bind 86 = .ok (.aload_n 0, 1) := dk_42 (dk_at dksX4_bind_3 16 rfl rfl)
theorem dX4_bind_87 : decode cX4_bind 87 = .ok (.getfield 56, 3) := dk_180 0 56 (dk_at dksX4_bind_3 17 rfl rfl)
theorem dX4_bind_90 : decode cX4_bind 90 = .ok (.aload 5, 2) := dk_25 5 (dk_at dksX4_bind_3 20 rfl rfl)
theorem dX4_bind_92 : decode cX4_bind 92 = .ok (.getfield 297, 3) := dk_180 1 41 (dk_at dksX4_bind_4 0 rfl rfl)
theorem dX4_bind_95 : decode cX4_bind 95 = .ok (.i2l, 1) := dk_133 (dk_at dksX4_bind_4 3 rfl rfl)
theorem dX4_bind_96 : decode cX4_bind 96 = .ok (.lmul, 1) := dk_105 (dk_at dksX4_bind_4 4 rfl rfl)
theorem dX4_bind_97 : decode cX4_bind 97 = .ok (.ldc2_w 300, 3) := dk_20 1 44 (dk_at dksX4_bind_4 5 rfl rfl)
theorem dX4_bind_100 : decode cX4_bind 100 = .ok (.ldiv, 1) := dk_109 (dk_at dksX4_bind_4 8 rfl rfl)
theorem dX4_bind_101 : decode cX4_bind 101 = .ok (.iload 4, 2) := dk_21 4 (dk_at dksX4_bind_4 9 rfl rfl)
theorem dX4_bind_103 : decode cX4_bind 103 = .ok (.ifCond .ne 7, 3) := dk_154 0 7 (dk_at dksX4_bind_4 11 rfl rfl)
theorem dX4_bind_106 : decode cX4_bind 106 = .ok (.lload_n 1, 1) := dk_31 (dk_at dksX4_bind_4 14 rfl rfl)
theorem dX4_bind_107 : decode cX4_bind 107 = .ok (.goto 4, 3) := dk_167 0 4 (dk_at dksX4_bind_4 15 rfl rfl)
theorem dX4_bind_110 : decode cX4_bind 110 = .ok (.lconst 0, 1) := dk_9 (dk_at dksX4_bind_4 18 rfl rfl)
theorem dX4_bind_111 : decode cX4_bind 111 = .ok (.ladd, 1) := dk_97 (dk_at dksX4_bind_4 19 rfl rfl)
theorem dX4_bind_112 : decode cX4_bind 112 = .ok (.lastore, 1) := dk_80 (dk_at dksX4_bind_4 20 rfl rfl)
theorem dX4_bind_113 : decode cX4_bind 113 = .ok (.aload 5, 2) := dk_25 5 (dk_at dksX4_bind_4 21 rfl rfl)
theorem dX4_bind_115 : decode cX4_bind 115 = .ok (.aload 5, 2) := dk_25 5 (dk_at dksX4_bind_5 0 rfl rfl)
theorem dX4_bind_117 : decode cX4_bind 117 = .ok (.getfield 314, 3) := dk_180 1 58 (dk_at dksX4_bind_5 2 rfl rfl)
theorem dX4_bind_120 : decode cX4_bind 120 = .ok (.ifCond .eq 7, 3) := dk_153 0 7 (dk_at dksX4_bind_5 5 rfl rfl)
theorem dX4_bind_123 : decode cX4_bind 123 = .ok (.lconst 0, 1) := dk_9 (dk_at dksX4_bind_5 8 rfl rfl)
theorem dX4_bind_124 : decode cX4_bind 124 = .ok (.goto 7, 3) := dk_167 0 7 (dk_at dksX4_bind_5 9 rfl rfl)
theorem dX4_bind_127 : decode cX4_bind 127 = .ok (.aload_n 3, 1) := dk_45 (dk_at dksX4_bind_5 12 rfl rfl)
theorem dX4_bind_128 : decode cX4_bind 128 = .ok (.iload 4, 2) := dk_21 4 (dk_at dksX4_bind_5 13 rfl rfl)
theorem dX4_bind_130 : decode cX4_bind 130 = .ok (.laload, 1) := dk_47 (dk_at dksX4_bind_5 15 rfl rfl)
theorem dX4_bind_131 : decode cX4_bind 131 = .ok (.putfield 317, 3) := dk_181 1 61 (dk_at dksX4_bind_5 16 rfl rfl)
theorem dX4_bind_134 : decode cX4_bind 134 = .ok (.iinc 4 1, 3) := dk_132 4 1 (dk_at dksX4_bind_5 19 rfl rfl)
theorem dX4_bind_137 : decode cX4_bind 137 = .ok (.goto (-75), 3) := dk_167 255 181 (dk_at dksX4_bind_6 0 rfl rfl)
theorem dX4_bind_140 : decode cX4_bind 140 = .ok (.iconst 0, 1) := dk_3 (dk_at dksX4_bind_6 3 rfl rfl)
theorem dX4_bind_141 : decode cX4_bind 141 = .ok (.istore 4, 2) := dk_54 4 (dk_at dksX4_bind_6 4 rfl rfl)
theorem dX4_bind_143 : decode cX4_bind 143 = .ok (.iload 4, 2) := dk_21 4 (dk_at dksX4_bind_6 6 rfl rfl)
theorem dX4_bind_145 : decode cX4_bind 145 = .ok (.aload_n 3, 1) := dk_45 (dk_at dksX4_bind_6 8 rfl rfl)
theorem dX4_bind_146 : decode cX4_bind 146 = .ok (.arraylength, 1) := dk_190 (dk_at dksX4_bind_6 9 rfl rfl)
theorem dX4_bind_147 : decode cX4_bind 147 = .ok (.if_icmp .ge 45, 3) := dk_162 0 45 (dk_at dksX4_bind_6 10 rfl rfl)
theorem dX4_bind_150 : decode cX4_bind 150 = .ok (.aload_n 0, 1) := dk_42 (dk_at dksX4_bind_6 13 rfl rfl)
theorem dX4_bind_151 : decode cX4_bind 151 = .ok (.getfield 23, 3) := dk_180 0 23 (dk_at dksX4_bind_6 14 rfl rfl)
theorem dX4_bind_154 : decode cX4_bind 154 = .ok (.iload 4, 2) := dk_21 4 (dk_at dksX4_bind_6 17 rfl rfl)
theorem dX4_bind_156 : decode cX4_bind 156 = .ok (.invokevirtual 108, 3) := dk_182 0 108 (dk_at dksX4_bind_6 19 rfl rfl)
theorem dX4_bind_159 : decode cX4_bind 159 = .ok (.checkcast 295, 3) := dk_192 1 39 (dk_at dksX4_bind_7 0 rfl rfl)
theorem dX4_bind_162 : decode cX4_bind 162 = .ok (.getfield 314, 3) := dk_180 1 58 (dk_at dksX4_bind_7 3 rfl rfl)
theorem dX4_bind_165 : decode cX4_bind 165 = .ok (.ifCond .eq 21, 3) := dk_153 0 21 (dk_at dksX4_bind_7 6 rfl rfl)
theorem dX4_bind_168 : decode cX4_bind 168 = .ok (.aload_n 3, 1) := dk_45 (dk_at dksX4_bind_7 9 rfl rfl)
theorem dX4_bind_169 : decode cX4_bind 169 = .ok (.iload 4, 2) := dk_21 4 (dk_at dksX4_bind_7 10 rfl rfl)
theorem dX4_bind_171 : decode cX4_bind 171 = .ok (.laload, 1) := dk_47 (dk_at dksX4_bind_7 12 rfl rfl)
theorem dX4_bind_172 : decode cX4_bind 172 = .ok (.lconst 0, 1) := dk_9 (dk_at dksX4_bind_7 13 rfl rfl)
theorem dX4_bind_173 : decode cX4_bind 173 = .ok (.lcmp, 1) := dk_148 (dk_at dksX4_bind_7 14 rfl rfl)
theorem dX4_bind_174 : decode cX4_bind 174 = .ok (.ifCond .le 12, 3) := dk_158 0 12 (dk_at dksX4_bind_7 15 rfl rfl)
theorem dX4_bind_177 : decode cX4_bind 177 = .ok (.aload_n 0, 1) := dk_42 (dk_at dksX4_bind_7 18 rfl rfl)
theorem dX4_bind_178 : decode cX4_bind 178 = .ok (.aload_n 3, 1) := dk_45 (dk_at dksX4_bind_7 19 rfl rfl)
theorem dX4_bind_179 : decode cX4_bind 179 = .ok (.iload 4, 2) := dk_21 4 (dk_at dksX4_bind_7 20 rfl rfl)
theorem dX4_bind_181 : decode cX4_bind 181 = .ok (.laload, 1) := dk_47 (dk_at dksX4_bind_7 22 rfl rfl)
theorem dX4_bind_182 : decode cX4_bind 182 = .ok (.invokevirtual 329, 3) := dk_182 1 73 (dk_at dksX4_bind_8 0 rfl rfl)
theorem dX4_bind_185 : decode cX4_bind 185 = .ok (.pop, 1) := dk_87 (dk_at dksX4_bind_8 3 rfl rfl)
theorem dX4_bind_186 : decode cX4_bind 186 = .ok (.iinc 4 1, 3) := dk_132 4 1 (dk_at dksX4_bind_8 4 rfl rfl)
theorem dX4_bind_189 : decode cX4_bind 189 = .ok (.goto (-46), 3) := dk_167 255 210 (dk_at dksX4_bind_8 7 rfl rfl)
theorem dX4_bind_192 : decode cX4_bind 192 = .ok (.return_, 1) := dk_177 (dk_at dksX4_bind_8 10 rfl rfl)
abbrev cX4_vote : ByteArray := prog_14_method_48_code
def yX4_vote : MethodName := ⟨RX4, "vote", "(IZ)I"⟩
def dkwX4_vote_5 : List UInt8 := [167, 0, 4, 3, 96, 54, 4, 132, 5, 1, 167, 255, 213, 21, 4, 172]
abbrev dktX4_vote_5 : List UInt8 := dkwX4_vote_5 ++ []
def dkwX4_vote_4 : List UInt8 := [162, 0, 37, 21, 4, 42, 180, 0, 16, 21, 5, 182, 0, 108, 192, 0, 112, 180, 1, 85, 153, 0, 7, 4]
abbrev dktX4_vote_4 : List UInt8 := dkwX4_vote_4 ++ dktX4_vote_5
def dkwX4_vote_3 : List UInt8 := [167, 0, 4, 5, 181, 1, 85, 3, 54, 4, 3, 54, 5, 21, 5, 42, 180, 0, 16, 182, 0, 94]
abbrev dktX4_vote_3 : List UInt8 := dkwX4_vote_3 ++ dktX4_vote_4
def dkwX4_vote_2 : List UInt8 := [5, 160, 0, 7, 4, 167, 0, 4, 3, 5, 182, 0, 104, 154, 0, 5, 3, 172, 45, 28, 153, 0, 7, 4]
abbrev dktX4_vote_2 : List UInt8 := dkwX4_vote_2 ++ dktX4_vote_3
def dkwX4_vote_1 : List UInt8 := [192, 0, 112, 78, 42, 42, 45, 182, 0, 120, 153, 0, 22, 45, 180, 1, 85, 154, 0, 15, 42, 180, 0, 53]
abbrev dktX4_vote_1 : List UInt8 := dkwX4_vote_1 ++ dktX4_vote_2
def dkwX4_vote_0 : List UInt8 := [42, 42, 27, 182, 0, 190, 4, 182, 0, 104, 154, 0, 5, 3, 172, 42, 180, 0, 16, 27, 182, 0, 108]
abbrev dktX4_vote_0 : List UInt8 := dkwX4_vote_0 ++ dktX4_vote_1
theorem dksX4_vote_0 : cX4_vote.data.toList.drop 0 = dktX4_vote_0 := by decide +kernel
theorem dksX4_vote_1 : cX4_vote.data.toList.drop 23 = dktX4_vote_1 := dk_seg dksX4_vote_0 23 rfl rfl
theorem dksX4_vote_2 : cX4_vote.data.toList.drop 47 = dktX4_vote_2 := dk_seg dksX4_vote_1 24 rfl rfl
theorem dksX4_vote_3 : cX4_vote.data.toList.drop 71 = dktX4_vote_3 := dk_seg dksX4_vote_2 24 rfl rfl
theorem dksX4_vote_4 : cX4_vote.data.toList.drop 93 = dktX4_vote_4 := dk_seg dksX4_vote_3 22 rfl rfl
theorem dksX4_vote_5 : cX4_vote.data.toList.drop 117 = dktX4_vote_5 := dk_seg dksX4_vote_4 24 rfl rfl
theorem dX4_vote_0 : decode cX4_vote 0 = .ok (.aload_n 0, 1) := dk_42 (dk_at dksX4_vote_0 0 rfl rfl)
theorem dX4_vote_1 : decode cX4_vote 1 = .ok (.aload_n 0, 1) := dk_42 (dk_at dksX4_vote_0 1 rfl rfl)
theorem dX4_vote_2 : decode cX4_vote 2 = .ok (.iload_n 1, 1) := dk_27 (dk_at dksX4_vote_0 2 rfl rfl)
theorem dX4_vote_3 : decode cX4_vote 3 = .ok (.invokevirtual 190, 3) := dk_182 0 190 (dk_at dksX4_vote_0 3 rfl rfl)
theorem dX4_vote_6 : decode cX4_vote 6 = .ok (.iconst 1, 1) := dk_4 (dk_at dksX4_vote_0 6 rfl rfl)
theorem dX4_vote_7 : decode cX4_vote 7 = .ok (.invokevirtual 104, 3) := dk_182 0 104 (dk_at dksX4_vote_0 7 rfl rfl)
theorem dX4_vote_10 : decode cX4_vote 10 = .ok (.ifCond .ne 5, 3) := dk_154 0 5 (dk_at dksX4_vote_0 10 rfl rfl)
theorem dX4_vote_13 : decode cX4_vote 13 = .ok (.iconst 0, 1) := dk_3 (dk_at dksX4_vote_0 13 rfl rfl)
theorem dX4_vote_14 : decode cX4_vote 14 = .ok (.ireturn, 1) := dk_172 (dk_at dksX4_vote_0 14 rfl rfl)
theorem dX4_vote_15 : decode cX4_vote 15 = .ok (.aload_n 0, 1) := dk_42 (dk_at dksX4_vote_0 15 rfl rfl)
theorem dX4_vote_16 : decode cX4_vote 16 = .ok (.getfield 16, 3) := dk_180 0 16 (dk_at dksX4_vote_0 16 rfl rfl)
theorem dX4_vote_19 : decode cX4_vote 19 = .ok (.iload_n 1, 1) := dk_27 (dk_at dksX4_vote_0 19 rfl rfl)
theorem dX4_vote_20 : decode cX4_vote 20 = .ok (.invokevirtual 108, 3) := dk_182 0 108 (dk_at dksX4_vote_0 20 rfl rfl)
theorem dX4_vote_23 : decode cX4_vote 23 = .ok (.checkcast 112, 3) := dk_192 0 112 (dk_at dksX4_vote_1 0 rfl rfl)
theorem dX4_vote_26 : decode cX4_vote 26 = .ok (.astore_n 3, 1) := dk_78 (dk_at dksX4_vote_1 3 rfl rfl)
theorem dX4_vote_27 : decode cX4_vote 27 = .ok (.aload_n 0, 1) := dk_42 (dk_at dksX4_vote_1 4 rfl rfl)
theorem dX4_vote_28 : decode cX4_vote 28 = .ok (.aload_n 0, 1) := dk_42 (dk_at dksX4_vote_1 5 rfl rfl)
theorem dX4_vote_29 : decode cX4_vote 29 = .ok (.aload_n 3, 1) := dk_45 (dk_at dksX4_vote_1 6 rfl rfl)
theorem dX4_vote_30 : decode cX4_vote 30 = .ok (.invokevirtual 120, 3) := dk_182 0 120 (dk_at dksX4_vote_1 7 rfl rfl)
theorem dX4_vote_33 : decode cX4_vote 33 = .ok (.ifCond .eq 22, 3) := dk_153 0 22 (dk_at dksX4_vote_1 10 rfl rfl)
theorem dX4_vote_36 : decode cX4_vote 36 = .ok (.aload_n 3, 1) := dk_45 (dk_at dksX4_vote_1 13 rfl rfl)
theorem dX4_vote_37 : decode cX4_vote 37 = .ok (.getfield 341, 3) := dk_180 1 85 (dk_at dksX4_vote_1 14 rfl rfl)
theorem dX4_vote_40 : decode cX4_vote 40 = .ok (.ifCond .ne 15, 3) := dk_154 0 15 (dk_at dksX4_vote_1 17 rfl rfl)
theorem dX4_vote_43 : decode cX4_vote 43 = .ok (.aload_n 0, 1) := dk_42 (dk_at dksX4_vote_1 20 rfl rfl)
theorem dX4_vote_44 : decode cX4_vote 44 = .ok (.getfield 53, 3) := dk_180 0 53 (dk_at dksX4_vote_1 21 rfl rfl)
theorem dX4_vote_47 : decode cX4_vote 47 = .ok (.iconst 2, 1) := dk_5 (dk_at dksX4_vote_2 0 rfl rfl)
theorem dX4_vote_48 : decode cX4_vote 48 = .ok (.if_icmp .ne 7, 3) := dk_160 0 7 (dk_at dksX4_vote_2 1 rfl rfl)
theorem dX4_vote_51 : decode cX4_vote 51 = .ok (.iconst 1, 1) := dk_4 (dk_at dksX4_vote_2 4 rfl rfl)
theorem dX4_vote_52 : decode cX4_vote 52 = .ok (.goto 4, 3) := dk_167 0 4 (dk_at dksX4_vote_2 5 rfl rfl)
theorem dX4_vote_55 : decode cX4_vote 55 = .ok (.iconst 0, 1) := dk_3 (dk_at dksX4_vote_2 8 rfl rfl)
theorem dX4_vote_56 : decode cX4_vote 56 = .ok (.iconst 2, 1) := dk_5 (dk_at dksX4_vote_2 9 rfl rfl)
theorem dX4_vote_57 : decode cX4_vote 57 = .ok (.invokevirtual 104, 3) := dk_182 0 104 (dk_at dksX4_vote_2 10 rfl rfl)
theorem dX4_vote_60 : decode cX4_vote 60 = .ok (.ifCond .ne 5, 3) := dk_154 0 5 (dk_at dksX4_vote_2 13 rfl rfl)
theorem dX4_vote_63 : decode cX4_vote 63 = .ok (.iconst 0, 1) := dk_3 (dk_at dksX4_vote_2 16 rfl rfl)
theorem dX4_vote_64 : decode cX4_vote 64 = .ok (.ireturn, 1) := dk_172 (dk_at dksX4_vote_2 17 rfl rfl)
theorem dX4_vote_65 : decode cX4_vote 65 = .ok (.aload_n 3, 1) := dk_45 (dk_at dksX4_vote_2 18 rfl rfl)
theorem dX4_vote_66 : decode cX4_vote 66 = .ok (.iload_n 2, 1) := dk_28 (dk_at dksX4_vote_2 19 rfl rfl)
theorem dX4_vote_67 : decode cX4_vote 67 = .ok (.ifCond .eq 7, 3) := dk_153 0 7 (dk_at dksX4_vote_2 20 rfl rfl)
theorem dX4_vote_70 : decode cX4_vote 70 = .ok (.iconst 1, 1) := dk_4 (dk_at dksX4_vote_2 23 rfl rfl)
theorem dX4_vote_71 : decode cX4_vote 71 = .ok (.goto 4, 3) := dk_167 0 4 (dk_at dksX4_vote_3 0 rfl rfl)
theorem dX4_vote_74 : decode cX4_vote 74 = .ok (.iconst 2, 1) := dk_5 (dk_at dksX4_vote_3 3 rfl rfl)
theorem dX4_vote_75 : decode cX4_vote 75 = .ok (.putfield 341, 3) := dk_181 1 85 (dk_at dksX4_vote_3 4 rfl rfl)
theorem dX4_vote_78 : decode cX4_vote 78 = .ok (.iconst 0, 1) := dk_3 (dk_at dksX4_vote_3 7 rfl rfl)
theorem dX4_vote_79 : decode cX4_vote 79 = .ok (.istore 4, 2) := dk_54 4 (dk_at dksX4_vote_3 8 rfl rfl)
theorem dX4_vote_81 : decode cX4_vote 81 = .ok (.iconst 0, 1) := dk_3 (dk_at dksX4_vote_3 10 rfl rfl)
theorem dX4_vote_82 : decode cX4_vote 82 = .ok (.istore 5, 2) := dk_54 5 (dk_at dksX4_vote_3 11 rfl rfl)
theorem dX4_vote_84 : decode cX4_vote 84 = .ok (.iload 5, 2) := dk_21 5 (dk_at dksX4_vote_3 13 rfl rfl)
theorem dX4_vote_86 : decode cX4_vote 86 = .ok (.aload_n 0, 1) := dk_42 (dk_at dksX4_vote_3 15 rfl rfl)
theorem dX4_vote_87 : decode cX4_vote 87 = .ok (.getfield 16, 3) := dk_180 0 16 (dk_at dksX4_vote_3 16 rfl rfl)
theorem dX4_vote_90 : decode cX4_vote 90 = .ok (.invokevirtual 94, 3) := dk_182 0 94 (dk_at dksX4_vote_3 19 rfl rfl)
theorem dX4_vote_93 : decode cX4_vote 93 = .ok (.if_icmp .ge 37, 3) := dk_162 0 37 (dk_at dksX4_vote_4 0 rfl rfl)
theorem dX4_vote_96 : decode cX4_vote 96 = .ok (.iload 4, 2) := dk_21 4 (dk_at dksX4_vote_4 3 rfl rfl)
theorem dX4_vote_98 : decode cX4_vote 98 = .ok (.aload_n 0, 1) := dk_42 (dk_at dksX4_vote_4 5 rfl rfl)
theorem dX4_vote_99 : decode cX4_vote 99 = .ok (.getfield 16, 3) := dk_180 0 16 (dk_at dksX4_vote_4 6 rfl rfl)
theorem dX4_vote_102 : decode cX4_vote 102 = .ok (.iload 5, 2) := dk_21 5 (dk_at dksX4_vote_4 9 rfl rfl)
theorem dX4_vote_104 : decode cX4_vote 104 = .ok (.invokevirtual 108, 3) := dk_182 0 108 (dk_at dksX4_vote_4 11 rfl rfl)
theorem dX4_vote_107 : decode cX4_vote 107 = .ok (.checkcast 112, 3) := dk_192 0 112 (dk_at dksX4_vote_4 14 rfl rfl)
theorem dX4_vote_110 : decode cX4_vote 110 = .ok (.getfield 341, 3) := dk_180 1 85 (dk_at dksX4_vote_4 17 rfl rfl)
theorem dX4_vote_113 : decode cX4_vote 113 = .ok (.ifCond .eq 7, 3) := dk_153 0 7 (dk_at dksX4_vote_4 20 rfl rfl)
theorem dX4_vote_116 : decode cX4_vote 116 = .ok (.iconst 1, 1) := dk_4 (dk_at dksX4_vote_4 23 rfl rfl)
theorem dX4_vote_117 : decode cX4_vote 117 = .ok (.goto 4, 3) := dk_167 0 4 (dk_at dksX4_vote_5 0 rfl rfl)
theorem dX4_vote_120 : decode cX4_vote 120 = .ok (.iconst 0, 1) := dk_3 (dk_at dksX4_vote_5 3 rfl rfl)
theorem dX4_vote_121 : decode cX4_vote 121 = .ok (.iadd, 1) := dk_96 (dk_at dksX4_vote_5 4 rfl rfl)
theorem dX4_vote_122 : decode cX4_vote 122 = .ok (.istore 4, 2) := dk_54 4 (dk_at dksX4_vote_5 5 rfl rfl)
theorem dX4_vote_124 : decode cX4_vote 124 = .ok (.iinc 5 1, 3) := dk_132 5 1 (dk_at dksX4_vote_5 7 rfl rfl)
theorem dX4_vote_127 : decode cX4_vote 127 = .ok (.goto (-43), 3) := dk_167 255 213 (dk_at dksX4_vote_5 10 rfl rfl)
theorem dX4_vote_130 : decode cX4_vote 130 = .ok (.iload 4, 2) := dk_21 4 (dk_at dksX4_vote_5 13 rfl rfl)
theorem dX4_vote_132 : decode cX4_vote 132 = .ok (.ireturn, 1) := dk_172 (dk_at dksX4_vote_5 15 rfl rfl)
abbrev cX4_object : ByteArray := prog_14_method_49_code
def yX4_object : MethodName := ⟨RX4, "object", "(II)I"⟩
def dkwX4_object_7 : List UInt8 := [167, 0, 4, 3, 96, 54, 4, 132, 5, 1, 167, 255, 213, 21, 4, 172]
abbrev dktX4_object_7 : List UInt8 := dkwX4_object_7 ++ []
def dkwX4_object_6 : List UInt8 := [162, 0, 37, 21, 4, 42, 180, 0, 16, 21, 5, 182, 0, 108, 192, 0, 112, 180, 1, 88, 153, 0, 7, 4]
abbrev dktX4_object_6 : List UInt8 := dkwX4_object_6 ++ dktX4_object_7
def dkwX4_object_5 : List UInt8 := [167, 0, 4, 3, 128, 181, 0, 60, 3, 54, 4, 3, 54, 5, 21, 5, 42, 180, 0, 16, 182, 0, 94]
abbrev dktX4_object_5 : List UInt8 := dkwX4_object_5 ++ dktX4_object_6
def dkwX4_object_4 : List UInt8 := [154, 0, 7, 4, 167, 0, 4, 3, 181, 1, 88, 42, 89, 180, 0, 60, 28, 5, 160, 0, 7, 4]
abbrev dktX4_object_4 : List UInt8 := dkwX4_object_4 ++ dktX4_object_5
def dkwX4_object_3 : List UInt8 := [167, 0, 4, 3, 160, 0, 7, 4, 167, 0, 4, 3, 6, 182, 0, 104, 154, 0, 5, 3, 172, 45, 28]
abbrev dktX4_object_3 : List UInt8 := dkwX4_object_3 ++ dktX4_object_4
def dkwX4_object_2 : List UInt8 := [182, 0, 120, 153, 0, 31, 42, 180, 0, 53, 5, 160, 0, 23, 45, 180, 1, 88, 28, 153, 0, 7, 4]
abbrev dktX4_object_2 : List UInt8 := dkwX4_object_2 ++ dktX4_object_3
def dkwX4_object_1 : List UInt8 := [182, 0, 104, 154, 0, 5, 3, 172, 42, 180, 0, 16, 27, 182, 0, 108, 192, 0, 112, 78, 42, 42, 45]
abbrev dktX4_object_1 : List UInt8 := dkwX4_object_1 ++ dktX4_object_2
def dkwX4_object_0 : List UInt8 := [42, 42, 27, 182, 0, 190, 4, 182, 0, 104, 153, 0, 20, 42, 28, 133, 9, 20, 1, 17, 184, 0, 100, 5]
abbrev dktX4_object_0 : List UInt8 := dkwX4_object_0 ++ dktX4_object_1
theorem dksX4_object_0 : cX4_object.data.toList.drop 0 = dktX4_object_0 := by decide +kernel
theorem dksX4_object_1 : cX4_object.data.toList.drop 24 = dktX4_object_1 := dk_seg dksX4_object_0 24 rfl rfl
theorem dksX4_object_2 : cX4_object.data.toList.drop 47 = dktX4_object_2 := dk_seg dksX4_object_1 23 rfl rfl
theorem dksX4_object_3 : cX4_object.data.toList.drop 70 = dktX4_object_3 := dk_seg dksX4_object_2 23 rfl rfl
theorem dksX4_object_4 : cX4_object.data.toList.drop 93 = dktX4_object_4 := dk_seg dksX4_object_3 23 rfl rfl
theorem dksX4_object_5 : cX4_object.data.toList.drop 115 = dktX4_object_5 := dk_seg dksX4_object_4 22 rfl rfl
theorem dksX4_object_6 : cX4_object.data.toList.drop 138 = dktX4_object_6 := dk_seg dksX4_object_5 23 rfl rfl
theorem dksX4_object_7 : cX4_object.data.toList.drop 162 = dktX4_object_7 := dk_seg dksX4_object_6 24 rfl rfl
theorem dX4_object_0 : decode cX4_object 0 = .ok (.aload_n 0, 1) := dk_42 (dk_at dksX4_object_0 0 rfl rfl)
theorem dX4_object_1 : decode cX4_object 1 = .ok (.aload_n 0, 1) := dk_42 (dk_at dksX4_object_0 1 rfl rfl)
theorem dX4_object_2 : decode cX4_object 2 = .ok (.iload_n 1, 1) := dk_27 (dk_at dksX4_object_0 2 rfl rfl)
theorem dX4_object_3 : decode cX4_object 3 = .ok (.invokevirtual 190, 3) := dk_182 0 190 (dk_at dksX4_object_0 3 rfl rfl)
theorem dX4_object_6 : decode cX4_object 6 = .ok (.iconst 1, 1) := dk_4 (dk_at dksX4_object_0 6 rfl rfl)
theorem dX4_object_7 : decode cX4_object 7 = .ok (.invokevirtual 104, 3) := dk_182 0 104 (dk_at dksX4_object_0 7 rfl rfl)
theorem dX4_object_10 : decode cX4_object 10 = .ok (.ifCond .eq 20, 3) := dk_153 0 20 (dk_at dksX4_object_0 10 rfl rfl)
theorem dX4_object_13 : decode cX4_object 13 = .ok (.aload_n 0, 1) := dk_42 (dk_at dksX4_object_0 13 rfl rfl)
theorem dX4_object_14 : decode cX4_object 14 = .ok (.iload_n 2, 1) := dk_28 (dk_at dksX4_object_0 14 rfl rfl)
theorem dX4_object_15 : decode cX4_object 15 = .ok (.i2l, 1) := dk_133 (dk_at dksX4_object_0 15 rfl rfl)
theorem dX4_object_16 : decode cX4_object 16 = .ok (.lconst 0, 1) := dk_9 (dk_at dksX4_object_0 16 rfl rfl)
theorem dX4_object_17 : decode cX4_object 17 = .ok (.ldc2_w 273, 3) := dk_20 1 17 (dk_at dksX4_object_0 17 rfl rfl)
theorem dX4_object_20 : decode cX4_object 20 = .ok (.invokestatic 100, 3) := dk_184 0 100 (dk_at dksX4_object_0 20 rfl rfl)
theorem dX4_object_23 : decode cX4_object 23 = .ok (.iconst 2, 1) := dk_5 (dk_at dksX4_object_0 23 rfl rfl)
theorem dX4_object_24 : decode cX4_object 24 = .ok (.invokevirtual 104, 3) := dk_182 0 104 (dk_at dksX4_object_1 0 rfl rfl)
theorem dX4_object_27 : decode cX4_object 27 = .ok (.ifCond .ne 5, 3) := dk_154 0 5 (dk_at dksX4_object_1 3 rfl rfl)
theorem dX4_object_30 : decode cX4_object 30 = .ok (.iconst 0, 1) := dk_3 (dk_at dksX4_object_1 6 rfl rfl)
theorem dX4_object_31 : decode cX4_object 31 = .ok (.ireturn, 1) := dk_172 (dk_at dksX4_object_1 7 rfl rfl)
theorem dX4_object_32 : decode cX4_object 32 = .ok (.aload_n 0, 1) := dk_42 (dk_at dksX4_object_1 8 rfl rfl)
theorem dX4_object_33 : decode cX4_object 33 = .ok (.getfield 16, 3) := dk_180 0 16 (dk_at dksX4_object_1 9 rfl rfl)
theorem dX4_object_36 : decode cX4_object 36 = .ok (.iload_n 1, 1) := dk_27 (dk_at dksX4_object_1 12 rfl rfl)
theorem dX4_object_37 : decode cX4_object 37 = .ok (.invokevirtual 108, 3) := dk_182 0 108 (dk_at dksX4_object_1 13 rfl rfl)
theorem dX4_object_40 : decode cX4_object 40 = .ok (.checkcast 112, 3) := dk_192 0 112 (dk_at dksX4_object_1 16 rfl rfl)
theorem dX4_object_43 : decode cX4_object 43 = .ok (.astore_n 3, 1) := dk_78 (dk_at dksX4_object_1 19 rfl rfl)
theorem dX4_object_44 : decode cX4_object 44 = .ok (.aload_n 0, 1) := dk_42 (dk_at dksX4_object_1 20 rfl rfl)
theorem dX4_object_45 : decode cX4_object 45 = .ok (.aload_n 0, 1) := dk_42 (dk_at dksX4_object_1 21 rfl rfl)
theorem dX4_object_46 : decode cX4_object 46 = .ok (.aload_n 3, 1) := dk_45 (dk_at dksX4_object_1 22 rfl rfl)
theorem dX4_object_47 : decode cX4_object 47 = .ok (.invokevirtual 120, 3) := dk_182 0 120 (dk_at dksX4_object_2 0 rfl rfl)
theorem dX4_object_50 : decode cX4_object 50 = .ok (.ifCond .eq 31, 3) := dk_153 0 31 (dk_at dksX4_object_2 3 rfl rfl)
theorem dX4_object_53 : decode cX4_object 53 = .ok (.aload_n 0, 1) := dk_42 (dk_at dksX4_object_2 6 rfl rfl)
theorem dX4_object_54 : decode cX4_object 54 = .ok (.getfield 53, 3) := dk_180 0 53 (dk_at dksX4_object_2 7 rfl rfl)
theorem dX4_object_57 : decode cX4_object 57 = .ok (.iconst 2, 1) := dk_5 (dk_at dksX4_object_2 10 rfl rfl)
theorem dX4_object_58 : decode cX4_object 58 = .ok (.if_icmp .ne 23, 3) := dk_160 0 23 (dk_at dksX4_object_2 11 rfl rfl)
theorem dX4_object_61 : decode cX4_object 61 = .ok (.aload_n 3, 1) := dk_45 (dk_at dksX4_object_2 14 rfl rfl)
theorem dX4_object_62 : decode cX4_object 62 = .ok (.getfield 344, 3) := dk_180 1 88 (dk_at dksX4_object_2 15 rfl rfl)
theorem dX4_object_65 : decode cX4_object 65 = .ok (.iload_n 2, 1) := dk_28 (dk_at dksX4_object_2 18 rfl rfl)
theorem dX4_object_66 : decode cX4_object 66 = .ok (.ifCond .eq 7, 3) := dk_153 0 7 (dk_at dksX4_object_2 19 rfl rfl)
theorem dX4_object_69 : decode cX4_object 69 = .ok (.iconst 1, 1) := dk_4 (dk_at dksX4_object_2 22 rfl rfl)
theorem dX4_object_70 : decode cX4_object 70 = .ok (.goto 4, 3) := dk_167 0 4 (dk_at dksX4_object_3 0 rfl rfl)
theorem dX4_object_73 : decode cX4_object 73 = .ok (.iconst 0, 1) := dk_3 (dk_at dksX4_object_3 3 rfl rfl)
theorem dX4_object_74 : decode cX4_object 74 = .ok (.if_icmp .ne 7, 3) := dk_160 0 7 (dk_at dksX4_object_3 4 rfl rfl)
theorem dX4_object_77 : decode cX4_object 77 = .ok (.iconst 1, 1) := dk_4 (dk_at dksX4_object_3 7 rfl rfl)
theorem dX4_object_78 : decode cX4_object 78 = .ok (.goto 4, 3) := dk_167 0 4 (dk_at dksX4_object_3 8 rfl rfl)
theorem dX4_object_81 : decode cX4_object 81 = .ok (.iconst 0, 1) := dk_3 (dk_at dksX4_object_3 11 rfl rfl)
theorem dX4_object_82 : decode cX4_object 82 = .ok (.iconst 3, 1) := dk_6 (dk_at dksX4_object_3 12 rfl rfl)
theorem dX4_object_83 : decode cX4_object 83 = .ok (.invokevirtual 104, 3) := dk_182 0 104 (dk_at dksX4_object_3 13 rfl rfl)
theorem dX4_object_86 : decode cX4_object 86 = .ok (.ifCond .ne 5, 3) := dk_154 0 5 (dk_at dksX4_object_3 16 rfl rfl)
theorem dX4_object_89 : decode cX4_object 89 = .ok (.iconst 0, 1) := dk_3 (dk_at dksX4_object_3 19 rfl rfl)
theorem dX4_object_90 : decode cX4_object 90 = .ok (.ireturn, 1) := dk_172 (dk_at dksX4_object_3 20 rfl rfl)
theorem dX4_object_91 : decode cX4_object 91 = .ok (.aload_n 3, 1) := dk_45 (dk_at dksX4_object_3 21 rfl rfl)
theorem dX4_object_92 : decode cX4_object 92 = .ok (.iload_n 2, 1) := dk_28 (dk_at dksX4_object_3 22 rfl rfl)
theorem dX4_object_93 : decode cX4_object 93 = .ok (.ifCond .ne 7, 3) := dk_154 0 7 (dk_at dksX4_object_4 0 rfl rfl)
theorem dX4_object_96 : decode cX4_object 96 = .ok (.iconst 1, 1) := dk_4 (dk_at dksX4_object_4 3 rfl rfl)
theorem dX4_object_97 : decode cX4_object 97 = .ok (.goto 4, 3) := dk_167 0 4 (dk_at dksX4_object_4 4 rfl rfl)
theorem dX4_object_100 : decode cX4_object 100 = .ok (.iconst 0, 1) := dk_3 (dk_at dksX4_object_4 7 rfl rfl)
theorem dX4_object_101 : decode cX4_object 101 = .ok (.putfield 344, 3) := dk_181 1 88 (dk_at dksX4_object_4 8 rfl rfl)
theorem dX4_object_104 : decode cX4_object 104 = .ok (.aload_n 0, 1) := dk_42 (dk_at dksX4_object_4 11 rfl rfl)
theorem dX4_object_105 : decode cX4_object 105 = .ok (.dup, 1) := dk_89 (dk_at dksX4_object_4 12 rfl rfl)
theorem dX4_object_106 : decode cX4_object 106 = .ok (.getfield 60, 3) := dk_180 0 60 (dk_at dksX4_object_4 13 rfl rfl)
theorem dX4_object_109 : decode cX4_object 109 = .ok (.iload_n 2, 1) := dk_28 (dk_at dksX4_object_4 16 rfl rfl)
theorem dX4_object_110 : decode cX4_object 110 = .ok (.iconst 2, 1) := dk_5 (dk_at dksX4_object_4 17 rfl rfl)
theorem dX4_object_111 : decode cX4_object 111 = .ok (.if_icmp .ne 7, 3) := dk_160 0 7 (dk_at dksX4_object_4 18 rfl rfl)
theorem dX4_object_114 : decode cX4_object 114 = .ok (.iconst 1, 1) := dk_4 (dk_at dksX4_object_4 21 rfl rfl)
theorem dX4_object_115 : decode cX4_object 115 = .ok (.goto 4, 3) := dk_167 0 4 (dk_at dksX4_object_5 0 rfl rfl)
theorem dX4_object_118 : decode cX4_object 118 = .ok (.iconst 0, 1) := dk_3 (dk_at dksX4_object_5 3 rfl rfl)
theorem dX4_object_119 : decode cX4_object 119 = .ok (.ior, 1) := dk_128 (dk_at dksX4_object_5 4 rfl rfl)
theorem dX4_object_120 : decode cX4_object 120 = .ok (.putfield 60, 3) := dk_181 0 60 (dk_at dksX4_object_5 5 rfl rfl)
theorem dX4_object_123 : decode cX4_object 123 = .ok (.iconst 0, 1) := dk_3 (dk_at dksX4_object_5 8 rfl rfl)
theorem dX4_object_124 : decode cX4_object 124 = .ok (.istore 4, 2) := dk_54 4 (dk_at dksX4_object_5 9 rfl rfl)
theorem dX4_object_126 : decode cX4_object 126 = .ok (.iconst 0, 1) := dk_3 (dk_at dksX4_object_5 11 rfl rfl)
theorem dX4_object_127 : decode cX4_object 127 = .ok (.istore 5, 2) := dk_54 5 (dk_at dksX4_object_5 12 rfl rfl)
theorem dX4_object_129 : decode cX4_object 129 = .ok (.iload 5, 2) := dk_21 5 (dk_at dksX4_object_5 14 rfl rfl)
theorem dX4_object_131 : decode cX4_object 131 = .ok (.aload_n 0, 1) := dk_42 (dk_at dksX4_object_5 16 rfl rfl)
theorem dX4_object_132 : decode cX4_object 132 = .ok (.getfield 16, 3) := dk_180 0 16 (dk_at dksX4_object_5 17 rfl rfl)
theorem dX4_object_135 : decode cX4_object 135 = .ok (.invokevirtual 94, 3) := dk_182 0 94 (dk_at dksX4_object_5 20 rfl rfl)
theorem dX4_object_138 : decode cX4_object 138 = .ok (.if_icmp .ge 37, 3) := dk_162 0 37 (dk_at dksX4_object_6 0 rfl rfl)
theorem dX4_object_141 : decode cX4_object 141 = .ok (.iload 4, 2) := dk_21 4 (dk_at dksX4_object_6 3 rfl rfl)
theorem dX4_object_143 : decode cX4_object 143 = .ok (.aload_n 0, 1) := dk_42 (dk_at dksX4_object_6 5 rfl rfl)
theorem dX4_object_144 : decode cX4_object 144 = .ok (.getfield 16, 3) := dk_180 0 16 (dk_at dksX4_object_6 6 rfl rfl)
theorem dX4_object_147 : decode cX4_object 147 = .ok (.iload 5, 2) := dk_21 5 (dk_at dksX4_object_6 9 rfl rfl)
theorem dX4_object_149 : decode cX4_object 149 = .ok (.invokevirtual 108, 3) := dk_182 0 108 (dk_at dksX4_object_6 11 rfl rfl)
theorem dX4_object_152 : decode cX4_object 152 = .ok (.checkcast 112, 3) := dk_192 0 112 (dk_at dksX4_object_6 14 rfl rfl)
theorem dX4_object_155 : decode cX4_object 155 = .ok (.getfield 344, 3) := dk_180 1 88 (dk_at dksX4_object_6 17 rfl rfl)
theorem dX4_object_158 : decode cX4_object 158 = .ok (.ifCond .eq 7, 3) := dk_153 0 7 (dk_at dksX4_object_6 20 rfl rfl)
theorem dX4_object_161 : decode cX4_object 161 = .ok (.iconst 1, 1) := dk_4 (dk_at dksX4_object_6 23 rfl rfl)
theorem dX4_object_162 : decode cX4_object 162 = .ok (.goto 4, 3) := dk_167 0 4 (dk_at dksX4_object_7 0 rfl rfl)
theorem dX4_object_165 : decode cX4_object 165 = .ok (.iconst 0, 1) := dk_3 (dk_at dksX4_object_7 3 rfl rfl)
theorem dX4_object_166 : decode cX4_object 166 = .ok (.iadd, 1) := dk_96 (dk_at dksX4_object_7 4 rfl rfl)
theorem dX4_object_167 : decode cX4_object 167 = .ok (.istore 4, 2) := dk_54 4 (dk_at dksX4_object_7 5 rfl rfl)
theorem dX4_object_169 : decode cX4_object 169 = .ok (.iinc 5 1, 3) := dk_132 5 1 (dk_at dksX4_object_7 7 rfl rfl)
theorem dX4_object_172 : decode cX4_object 172 = .ok (.goto (-43), 3) := dk_167 255 213 (dk_at dksX4_object_7 10 rfl rfl)
theorem dX4_object_175 : decode cX4_object 175 = .ok (.iload 4, 2) := dk_21 4 (dk_at dksX4_object_7 13 rfl rfl)
theorem dX4_object_177 : decode cX4_object 177 = .ok (.ireturn, 1) := dk_172 (dk_at dksX4_object_7 15 rfl rfl)
abbrev cX4_raise : ByteArray := prog_14_method_50_code
def yX4_raise : MethodName := ⟨RX4, "raise", "(I)J"⟩
def dkwX4_raise_3 : List UInt8 := [182, 1, 106, 173]
abbrev dktX4_raise_3 : List UInt8 := dkwX4_raise_3 ++ []
def dkwX4_raise_2 : List UInt8 := [167, 0, 4, 3, 61, 42, 28, 5, 182, 0, 104, 154, 0, 5, 9, 173, 42, 27, 133, 181, 0, 56, 42]
abbrev dktX4_raise_2 : List UInt8 := dkwX4_raise_2 ++ dktX4_raise_3
def dkwX4_raise_1 : List UInt8 := [42, 180, 0, 53, 6, 160, 0, 21, 42, 27, 133, 42, 180, 0, 56, 101, 182, 1, 73, 153, 0, 7, 4]
abbrev dktX4_raise_1 : List UInt8 := dkwX4_raise_1 ++ dktX4_raise_2
def dkwX4_raise_0 : List UInt8 := [42, 27, 133, 42, 180, 0, 56, 10, 97, 20, 1, 46, 184, 0, 100, 4, 182, 0, 104, 154, 0, 5, 9, 173]
abbrev dktX4_raise_0 : List UInt8 := dkwX4_raise_0 ++ dktX4_raise_1
theorem dksX4_raise_0 : cX4_raise.data.toList.drop 0 = dktX4_raise_0 := by decide +kernel
theorem dksX4_raise_1 : cX4_raise.data.toList.drop 24 = dktX4_raise_1 := dk_seg dksX4_raise_0 24 rfl rfl
theorem dksX4_raise_2 : cX4_raise.data.toList.drop 47 = dktX4_raise_2 := dk_seg dksX4_raise_1 23 rfl rfl
theorem dksX4_raise_3 : cX4_raise.data.toList.drop 70 = dktX4_raise_3 := dk_seg dksX4_raise_2 23 rfl rfl
theorem dX4_raise_0 : decode cX4_raise 0 = .ok (.aload_n 0, 1) := dk_42 (dk_at dksX4_raise_0 0 rfl rfl)
theorem dX4_raise_1 : decode cX4_raise 1 = .ok (.iload_n 1, 1) := dk_27 (dk_at dksX4_raise_0 1 rfl rfl)
theorem dX4_raise_2 : decode cX4_raise 2 = .ok (.i2l, 1) := dk_133 (dk_at dksX4_raise_0 2 rfl rfl)
theorem dX4_raise_3 : decode cX4_raise 3 = .ok (.aload_n 0, 1) := dk_42 (dk_at dksX4_raise_0 3 rfl rfl)
theorem dX4_raise_4 : decode cX4_raise 4 = .ok (.getfield 56, 3) := dk_180 0 56 (dk_at dksX4_raise_0 4 rfl rfl)
theorem dX4_raise_7 : decode cX4_raise 7 = .ok (.lconst 1, 1) := dk_10 (dk_at dksX4_raise_0 7 rfl rfl)
theorem dX4_raise_8 : decode cX4_raise 8 = .ok (.ladd, 1) := dk_97 (dk_at dksX4_raise_0 8 rfl rfl)
theorem dX4_raise_9 : decode cX4_raise 9 = .ok (.ldc2_w 302, 3) := dk_20 1 46 (dk_at dksX4_raise_0 9 rfl rfl)
theorem dX4_raise_12 : decode cX4_raise 12 = .ok (.invokestatic 100, 3) := dk_184 0 100 (dk_at dksX4_raise_0 12 rfl rfl)
theorem dX4_raise_15 : decode cX4_raise 15 = .ok (.iconst 1, 1) := dk_4 (dk_at dksX4_raise_0 15 rfl rfl)
theorem dX4_raise_16 : decode cX4_raise 16 = .ok (.invokevirtual 104, 3) := dk_182 0 104 (dk_at dksX4_raise_0 16 rfl rfl)
theorem dX4_raise_19 : decode cX4_raise 19 = .ok (.ifCond .ne 5, 3) := dk_154 0 5 (dk_at dksX4_raise_0 19 rfl rfl)
theorem dX4_raise_22 : decode cX4_raise 22 = .ok (.lconst 0, 1) := dk_9 (dk_at dksX4_raise_0 22 rfl rfl)
theorem dX4_raise_23 : decode cX4_raise 23 = .ok (.lreturn, 1) := dk_173 (dk_at dksX4_raise_0 23 rfl rfl)
theorem dX4_raise_24 : decode cX4_raise 24 = .ok (.aload_n 0, 1) := dk_42 (dk_at dksX4_raise_1 0 rfl rfl)
theorem dX4_raise_25 : decode cX4_raise 25 = .ok (.getfield 53, 3) := dk_180 0 53 (dk_at dksX4_raise_1 1 rfl rfl)
theorem dX4_raise_28 : decode cX4_raise 28 = .ok (.iconst 3, 1) := dk_6 (dk_at dksX4_raise_1 4 rfl rfl)
theorem dX4_raise_29 : decode cX4_raise 29 = .ok (.if_icmp .ne 21, 3) := dk_160 0 21 (dk_at dksX4_raise_1 5 rfl rfl)
theorem dX4_raise_32 : decode cX4_raise 32 = .ok (.aload_n 0, 1) := dk_42 (dk_at dksX4_raise_1 8 rfl rfl)
theorem dX4_raise_33 : decode cX4_raise 33 = .ok (.iload_n 1, 1) := dk_27 (dk_at dksX4_raise_1 9 rfl rfl)
theorem dX4_raise_34 : decode cX4_raise 34 = .ok (.i2l, 1) := dk_133 (dk_at dksX4_raise_1 10 rfl rfl)
theorem dX4_raise_35 : decode cX4_raise 35 = .ok (.aload_n 0, 1) := dk_42 (dk_at dksX4_raise_1 11 rfl rfl)
theorem dX4_raise_36 : decode cX4_raise 36 = .ok (.getfield 56, 3) := dk_180 0 56 (dk_at dksX4_raise_1 12 rfl rfl)
theorem dX4_raise_39 : decode cX4_raise 39 = .ok (.lsub, 1) := dk_101 (dk_at dksX4_raise_1 15 rfl rfl)
theorem dX4_raise_40 : decode cX4_raise 40 = .ok (.invokevirtual 329, 3) := dk_182 1 73 (dk_at dksX4_raise_1 16 rfl rfl)
theorem dX4_raise_43 : decode cX4_raise 43 = .ok (.ifCond .eq 7, 3) := dk_153 0 7 (dk_at dksX4_raise_1 19 rfl rfl)
theorem dX4_raise_46 : decode cX4_raise 46 = .ok (.iconst 1, 1) := dk_4 (dk_at dksX4_raise_1 22 rfl rfl)
theorem dX4_raise_47 : decode cX4_raise 47 = .ok (.goto 4, 3) := dk_167 0 4 (dk_at dksX4_raise_2 0 rfl rfl)
theorem dX4_raise_50 : decode cX4_raise 50 = .ok (.iconst 0, 1) := dk_3 (dk_at dksX4_raise_2 3 rfl rfl)
theorem dX4_raise_51 : decode cX4_raise 51 = .ok (.istore_n 2, 1) := dk_61 (dk_at dksX4_raise_2 4 rfl rfl)
theorem dX4_raise_52 : decode cX4_raise 52 = .ok (.aload_n 0, 1) := dk_42 (dk_at dksX4_raise_2 5 rfl rfl)
theorem dX4_raise_53 : decode cX4_raise 53 = .ok (.iload_n 2, 1) := dk_28 (dk_at dksX4_raise_2 6 rfl rfl)
theorem dX4_raise_54 : decode cX4_raise 54 = .ok (.iconst 2, 1) := dk_5 (dk_at dksX4_raise_2 7 rfl rfl)
theorem dX4_raise_55 : decode cX4_raise 55 = .ok (.invokevirtual 104, 3) := dk_182 0 104 (dk_at dksX4_raise_2 8 rfl rfl)
theorem dX4_raise_58 : decode cX4_raise 58 = .ok (.ifCond .ne 5, 3) := dk_154 0 5 (dk_at dksX4_raise_2 11 rfl rfl)
theorem dX4_raise_61 : decode cX4_raise 61 = .ok (.lconst 0, 1) := dk_9 (dk_at dksX4_raise_2 14 rfl rfl)
theorem dX4_raise_62 : decode cX4_raise 62 = .ok (.lreturn, 1) := dk_173 (dk_at dksX4_raise_2 15 rfl rfl)
theorem dX4_raise_63 : decode cX4_raise 63 = .ok (.aload_n 0, 1) := dk_42 (dk_at dksX4_raise_2 16 rfl rfl)
theorem dX4_raise_64 : decode cX4_raise 64 = .ok (.iload_n 1, 1) := dk_27 (dk_at dksX4_raise_2 17 rfl rfl)
theorem dX4_raise_65 : decode cX4_raise 65 = .ok (.i2l, 1) := dk_133 (dk_at dksX4_raise_2 18 rfl rfl)
theorem dX4_raise_66 : decode cX4_raise 66 = .ok (.putfield 56, 3) := dk_181 0 56 (dk_at dksX4_raise_2 19 rfl rfl)
theorem dX4_raise_69 : decode cX4_raise 69 = .ok (.aload_n 0, 1) := dk_42 (dk_at dksX4_raise_2 22 rfl rfl)
theorem dX4_raise_70 : decode cX4_raise 70 = .ok (.invokevirtual 362, 3) := dk_182 1 106 (dk_at dksX4_raise_3 0 rfl rfl)
theorem dX4_raise_73 : decode cX4_raise 73 = .ok (.lreturn, 1) := dk_173 (dk_at dksX4_raise_3 3 rfl rfl)
abbrev cX4_owed : ByteArray := prog_14_method_42_code
def yX4_owed : MethodName := ⟨RX4, "owed", "()J"⟩
def dkwX4_owed_1 : List UInt8 := [192, 1, 39, 180, 1, 61, 97, 64, 132, 3, 1, 167, 255, 225, 31, 173]
abbrev dktX4_owed_1 : List UInt8 := dkwX4_owed_1 ++ []
def dkwX4_owed_0 : List UInt8 := [9, 64, 3, 62, 29, 42, 180, 0, 23, 182, 0, 94, 162, 0, 26, 31, 42, 180, 0, 23, 29, 182, 0, 108]
abbrev dktX4_owed_0 : List UInt8 := dkwX4_owed_0 ++ dktX4_owed_1
theorem dksX4_owed_0 : cX4_owed.data.toList.drop 0 = dktX4_owed_0 := by decide +kernel
theorem dksX4_owed_1 : cX4_owed.data.toList.drop 24 = dktX4_owed_1 := dk_seg dksX4_owed_0 24 rfl rfl
theorem dX4_owed_0 : decode cX4_owed 0 = .ok (.lconst 0, 1) := dk_9 (dk_at dksX4_owed_0 0 rfl rfl)
theorem dX4_owed_1 : decode cX4_owed 1 = .ok (.lstore_n 1, 1) := dk_64 (dk_at dksX4_owed_0 1 rfl rfl)
theorem dX4_owed_2 : decode cX4_owed 2 = .ok (.iconst 0, 1) := dk_3 (dk_at dksX4_owed_0 2 rfl rfl)
theorem dX4_owed_3 : decode cX4_owed 3 = .ok (.istore_n 3, 1) := dk_62 (dk_at dksX4_owed_0 3 rfl rfl)
theorem dX4_owed_4 : decode cX4_owed 4 = .ok (.iload_n 3, 1) := dk_29 (dk_at dksX4_owed_0 4 rfl rfl)
theorem dX4_owed_5 : decode cX4_owed 5 = .ok (.aload_n 0, 1) := dk_42 (dk_at dksX4_owed_0 5 rfl rfl)
theorem dX4_owed_6 : decode cX4_owed 6 = .ok (.getfield 23, 3) := dk_180 0 23 (dk_at dksX4_owed_0 6 rfl rfl)
theorem dX4_owed_9 : decode cX4_owed 9 = .ok (.invokevirtual 94, 3) := dk_182 0 94 (dk_at dksX4_owed_0 9 rfl rfl)
theorem dX4_owed_12 : decode cX4_owed 12 = .ok (.if_icmp .ge 26, 3) := dk_162 0 26 (dk_at dksX4_owed_0 12 rfl rfl)
theorem dX4_owed_15 : decode cX4_owed 15 = .ok (.lload_n 1, 1) := dk_31 (dk_at dksX4_owed_0 15 rfl rfl)
theorem dX4_owed_16 : decode cX4_owed 16 = .ok (.aload_n 0, 1) := dk_42 (dk_at dksX4_owed_0 16 rfl rfl)
theorem dX4_owed_17 : decode cX4_owed 17 = .ok (.getfield 23, 3) := dk_180 0 23 (dk_at dksX4_owed_0 17 rfl rfl)
theorem dX4_owed_20 : decode cX4_owed 20 = .ok (.iload_n 3, 1) := dk_29 (dk_at dksX4_owed_0 20 rfl rfl)
theorem dX4_owed_21 : decode cX4_owed 21 = .ok (.invokevirtual 108, 3) := dk_182 0 108 (dk_at dksX4_owed_0 21 rfl rfl)
theorem dX4_owed_24 : decode cX4_owed 24 = .ok (.checkcast 295, 3) := dk_192 1 39 (dk_at dksX4_owed_1 0 rfl rfl)
theorem dX4_owed_27 : decode cX4_owed 27 = .ok (.getfield 317, 3) := dk_180 1 61 (dk_at dksX4_owed_1 3 rfl rfl)
theorem dX4_owed_30 : decode cX4_owed 30 = .ok (.ladd, 1) := dk_97 (dk_at dksX4_owed_1 6 rfl rfl)
theorem dX4_owed_31 : decode cX4_owed 31 = .ok (.lstore_n 1, 1) := dk_64 (dk_at dksX4_owed_1 7 rfl rfl)
theorem dX4_owed_32 : decode cX4_owed 32 = .ok (.iinc 3 1, 3) := dk_132 3 1 (dk_at dksX4_owed_1 8 rfl rfl)
theorem dX4_owed_35 : decode cX4_owed 35 = .ok (.goto (-31), 3) := dk_167 255 225 (dk_at dksX4_owed_1 11 rfl rfl)
theorem dX4_owed_38 : decode cX4_owed 38 = .ok (.lload_n 1, 1) := dk_31 (dk_at dksX4_owed_1 14 rfl rfl)
theorem dX4_owed_39 : decode cX4_owed 39 = .ok (.lreturn, 1) := dk_173 (dk_at dksX4_owed_1 15 rfl rfl)
abbrev cX4_grid : ByteArray := prog_14_method_52_code
def yX4_grid : MethodName := ⟨RX4, "grid", "(III)I"⟩
def dkwX4_grid_4 : List UInt8 := [54, 5, 42, 180, 0, 26, 21, 4, 29, 79, 21, 5, 172]
abbrev dktX4_grid_4 : List UInt8 := dkwX4_grid_4 ++ []
def dkwX4_grid_3 : List UInt8 := [182, 0, 104, 154, 0, 5, 3, 172, 7, 27, 4, 100, 104, 28, 96, 54, 4, 42, 180, 0, 26, 21, 4, 46]
abbrev dktX4_grid_3 : List UInt8 := dkwX4_grid_3 ++ dktX4_grid_4
def dkwX4_grid_2 : List UInt8 := [184, 0, 100, 5, 182, 0, 104, 153, 0, 23, 42, 42, 182, 0, 232, 154, 0, 7, 4, 167, 0, 4, 3, 6]
abbrev dktX4_grid_2 : List UInt8 := dkwX4_grid_2 ++ dktX4_grid_3
def dkwX4_grid_1 : List UInt8 := [153, 0, 7, 4, 167, 0, 4, 3, 4, 182, 0, 104, 153, 0, 40, 42, 29, 133, 9, 20, 1, 110]
abbrev dktX4_grid_1 : List UInt8 := dkwX4_grid_1 ++ dktX4_grid_2
def dkwX4_grid_0 : List UInt8 := [42, 27, 133, 10, 20, 0, 194, 184, 0, 100, 153, 0, 19, 28, 133, 9, 20, 0, 171, 184, 0, 100]
abbrev dktX4_grid_0 : List UInt8 := dkwX4_grid_0 ++ dktX4_grid_1
theorem dksX4_grid_0 : cX4_grid.data.toList.drop 0 = dktX4_grid_0 := by decide +kernel
theorem dksX4_grid_1 : cX4_grid.data.toList.drop 22 = dktX4_grid_1 := dk_seg dksX4_grid_0 22 rfl rfl
theorem dksX4_grid_2 : cX4_grid.data.toList.drop 44 = dktX4_grid_2 := dk_seg dksX4_grid_1 22 rfl rfl
theorem dksX4_grid_3 : cX4_grid.data.toList.drop 68 = dktX4_grid_3 := dk_seg dksX4_grid_2 24 rfl rfl
theorem dksX4_grid_4 : cX4_grid.data.toList.drop 92 = dktX4_grid_4 := dk_seg dksX4_grid_3 24 rfl rfl
theorem dX4_grid_0 : decode cX4_grid 0 = .ok (.aload_n 0, 1) := dk_42 (dk_at dksX4_grid_0 0 rfl rfl)
theorem dX4_grid_1 : decode cX4_grid 1 = .ok (.iload_n 1, 1) := dk_27 (dk_at dksX4_grid_0 1 rfl rfl)
theorem dX4_grid_2 : decode cX4_grid 2 = .ok (.i2l, 1) := dk_133 (dk_at dksX4_grid_0 2 rfl rfl)
theorem dX4_grid_3 : decode cX4_grid 3 = .ok (.lconst 1, 1) := dk_10 (dk_at dksX4_grid_0 3 rfl rfl)
theorem dX4_grid_4 : decode cX4_grid 4 = .ok (.ldc2_w 194, 3) := dk_20 0 194 (dk_at dksX4_grid_0 4 rfl rfl)
theorem dX4_grid_7 : decode cX4_grid 7 = .ok (.invokestatic 100, 3) := dk_184 0 100 (dk_at dksX4_grid_0 7 rfl rfl)
theorem dX4_grid_10 : decode cX4_grid 10 = .ok (.ifCond .eq 19, 3) := dk_153 0 19 (dk_at dksX4_grid_0 10 rfl rfl)
theorem dX4_grid_13 : decode cX4_grid 13 = .ok (.iload_n 2, 1) := dk_28 (dk_at dksX4_grid_0 13 rfl rfl)
theorem dX4_grid_14 : decode cX4_grid 14 = .ok (.i2l, 1) := dk_133 (dk_at dksX4_grid_0 14 rfl rfl)
theorem dX4_grid_15 : decode cX4_grid 15 = .ok (.lconst 0, 1) := dk_9 (dk_at dksX4_grid_0 15 rfl rfl)
theorem dX4_grid_16 : decode cX4_grid 16 = .ok (.ldc2_w 171, 3) := dk_20 0 171 (dk_at dksX4_grid_0 16 rfl rfl)
theorem dX4_grid_19 : decode cX4_grid 19 = .ok (.invokestatic 100, 3) := dk_184 0 100 (dk_at dksX4_grid_0 19 rfl rfl)
theorem dX4_grid_22 : decode cX4_grid 22 = .ok (.ifCond .eq 7, 3) := dk_153 0 7 (dk_at dksX4_grid_1 0 rfl rfl)
theorem dX4_grid_25 : decode cX4_grid 25 = .ok (.iconst 1, 1) := dk_4 (dk_at dksX4_grid_1 3 rfl rfl)
theorem dX4_grid_26 : decode cX4_grid 26 = .ok (.goto 4, 3) := dk_167 0 4 (dk_at dksX4_grid_1 4 rfl rfl)
theorem dX4_grid_29 : decode cX4_grid 29 = .ok (.iconst 0, 1) := dk_3 (dk_at dksX4_grid_1 7 rfl rfl)
theorem dX4_grid_30 : decode cX4_grid 30 = .ok (.iconst 1, 1) := dk_4 (dk_at dksX4_grid_1 8 rfl rfl)
theorem dX4_grid_31 : decode cX4_grid 31 = .ok (.invokevirtual 104, 3) := dk_182 0 104 (dk_at dksX4_grid_1 9 rfl rfl)
theorem dX4_grid_34 : decode cX4_grid 34 = .ok (.ifCond .eq 40, 3) := dk_153 0 40 (dk_at dksX4_grid_1 12 rfl rfl)
theorem dX4_grid_37 : decode cX4_grid 37 = .ok (.aload_n 0, 1) := dk_42 (dk_at dksX4_grid_1 15 rfl rfl)
theorem dX4_grid_38 : decode cX4_grid 38 = .ok (.iload_n 3, 1) := dk_29 (dk_at dksX4_grid_1 16 rfl rfl)
theorem dX4_grid_39 : decode cX4_grid 39 = .ok (.i2l, 1) := dk_133 (dk_at dksX4_grid_1 17 rfl rfl)
theorem dX4_grid_40 : decode cX4_grid 40 = .ok (.lconst 0, 1) := dk_9 (dk_at dksX4_grid_1 18 rfl rfl)
theorem dX4_grid_41 : decode cX4_grid 41 = .ok (.ldc2_w 366, 3) := dk_20 1 110 (dk_at dksX4_grid_1 19 rfl rfl)
theorem dX4_grid_44 : decode cX4_grid 44 = .ok (.invokestatic 100, 3) := dk_184 0 100 (dk_at dksX4_grid_2 0 rfl rfl)
theorem dX4_grid_47 : decode cX4_grid 47 = .ok (.iconst 2, 1) := dk_5 (dk_at dksX4_grid_2 3 rfl rfl)
theorem dX4_grid_48 : decode cX4_grid 48 = .ok (.invokevirtual 104, 3) := dk_182 0 104 (dk_at dksX4_grid_2 4 rfl rfl)
theorem dX4_grid_51 : decode cX4_grid 51 = .ok (.ifCond .eq 23, 3) := dk_153 0 23 (dk_at dksX4_grid_2 7 rfl rfl)
theorem dX4_grid_54 : decode cX4_grid 54 = .ok (.aload_n 0, 1) := dk_42 (dk_at dksX4_grid_2 10 rfl rfl)
theorem dX4_grid_55 : decode cX4_grid 55 = .ok (.aload_n 0, 1) := dk_42 (dk_at dksX4_grid_2 11 rfl rfl)
theorem dX4_grid_56 : decode cX4_grid 56 = .ok (.invokevirtual 232, 3) := dk_182 0 232 (dk_at dksX4_grid_2 12 rfl rfl)
theorem dX4_grid_59 : decode cX4_grid 59 = .ok (.ifCond .ne 7, 3) := dk_154 0 7 (dk_at dksX4_grid_2 15 rfl rfl)
theorem dX4_grid_62 : decode cX4_grid 62 = .ok (.iconst 1, 1) := dk_4 (dk_at dksX4_grid_2 18 rfl rfl)
theorem dX4_grid_63 : decode cX4_grid 63 = .ok (.goto 4, 3) := dk_167 0 4 (dk_at dksX4_grid_2 19 rfl rfl)
theorem dX4_grid_66 : decode cX4_grid 66 = .ok (.iconst 0, 1) := dk_3 (dk_at dksX4_grid_2 22 rfl rfl)
theorem dX4_grid_67 : decode cX4_grid 67 = .ok (.iconst 3, 1) := dk_6 (dk_at dksX4_grid_2 23 rfl rfl)
theorem dX4_grid_68 : decode cX4_grid 68 = .ok (.invokevirtual 104, 3) := dk_182 0 104 (dk_at dksX4_grid_3 0 rfl rfl)
theorem dX4_grid_71 : decode cX4_grid 71 = .ok (.ifCond .ne 5, 3) := dk_154 0 5 (dk_at dksX4_grid_3 3 rfl rfl)
theorem dX4_grid_74 : decode cX4_grid 74 = .ok (.iconst 0, 1) := dk_3 (dk_at dksX4_grid_3 6 rfl rfl)
theorem dX4_grid_75 : decode cX4_grid 75 = .ok (.ireturn, 1) := dk_172 (dk_at dksX4_grid_3 7 rfl rfl)
theorem dX4_grid_76 : decode cX4_grid 76 = .ok (.iconst 4, 1) := dk_7 (dk_at dksX4_grid_3 8 rfl rfl)
theorem dX4_grid_77 : decode cX4_grid 77 = .ok (.iload_n 1, 1) := dk_27 (dk_at dksX4_grid_3 9 rfl rfl)
theorem dX4_grid_78 : decode cX4_grid 78 = .ok (.iconst 1, 1) := dk_4 (dk_at dksX4_grid_3 10 rfl rfl)
theorem dX4_grid_79 : decode cX4_grid 79 = .ok (.isub, 1) := dk_100 (dk_at dksX4_grid_3 11 rfl rfl)
theorem dX4_grid_80 : decode cX4_grid 80 = .ok (.imul, 1) := dk_104 (dk_at dksX4_grid_3 12 rfl rfl)
theorem dX4_grid_81 : decode cX4_grid 81 = .ok (.iload_n 2, 1) := dk_28 (dk_at dksX4_grid_3 13 rfl rfl)
theorem dX4_grid_82 : decode cX4_grid 82 = .ok (.iadd, 1) := dk_96 (dk_at dksX4_grid_3 14 rfl rfl)
theorem dX4_grid_83 : decode cX4_grid 83 = .ok (.istore 4, 2) := dk_54 4 (dk_at dksX4_grid_3 15 rfl rfl)
theorem dX4_grid_85 : decode cX4_grid 85 = .ok (.aload_n 0, 1) := dk_42 (dk_at dksX4_grid_3 17 rfl rfl)
theorem dX4_grid_86 : decode cX4_grid 86 = .ok (.getfield 26, 3) := dk_180 0 26 (dk_at dksX4_grid_3 18 rfl rfl)
theorem dX4_grid_89 : decode cX4_grid 89 = .ok (.iload 4, 2) := dk_21 4 (dk_at dksX4_grid_3 21 rfl rfl)
theorem dX4_grid_91 : decode cX4_grid 91 = .ok (.iaload, 1) := dk_46 (dk_at dksX4_grid_3 23 rfl rfl)
theorem dX4_grid_92 : decode cX4_grid 92 = .ok (.istore 5, 2) := dk_54 5 (dk_at dksX4_grid_4 0 rfl rfl)
theorem dX4_grid_94 : decode cX4_grid 94 = .ok (.aload_n 0, 1) := dk_42 (dk_at dksX4_grid_4 2 rfl rfl)
theorem dX4_grid_95 : decode cX4_grid 95 = .ok (.getfield 26, 3) := dk_180 0 26 (dk_at dksX4_grid_4 3 rfl rfl)
theorem dX4_grid_98 : decode cX4_grid 98 = .ok (.iload 4, 2) := dk_21 4 (dk_at dksX4_grid_4 6 rfl rfl)
theorem dX4_grid_100 : decode cX4_grid 100 = .ok (.iload_n 3, 1) := dk_29 (dk_at dksX4_grid_4 8 rfl rfl)
theorem dX4_grid_101 : decode cX4_grid 101 = .ok (.iastore, 1) := dk_79 (dk_at dksX4_grid_4 9 rfl rfl)
theorem dX4_grid_102 : decode cX4_grid 102 = .ok (.iload 5, 2) := dk_21 5 (dk_at dksX4_grid_4 10 rfl rfl)
theorem dX4_grid_104 : decode cX4_grid 104 = .ok (.ireturn, 1) := dk_172 (dk_at dksX4_grid_4 12 rfl rfl)
abbrev cX4_settings : ByteArray := prog_14_method_53_code
def yX4_settings : MethodName := ⟨RX4, "settings", "(III)I"⟩
def dkwX4_settings_4 : List UInt8 := [181, 0, 67, 42, 29, 181, 0, 70, 21, 5, 172]
abbrev dktX4_settings_4 : List UInt8 := dkwX4_settings_4 ++ []
def dkwX4_settings_3 : List UInt8 := [5, 182, 0, 104, 154, 0, 5, 3, 172, 42, 180, 0, 64, 54, 5, 42, 27, 181, 0, 64, 42, 28]
abbrev dktX4_settings_3 : List UInt8 := dkwX4_settings_3 ++ dktX4_settings_4
def dkwX4_settings_2 : List UInt8 := [153, 0, 31, 42, 27, 42, 180, 0, 64, 159, 0, 10, 42, 182, 0, 232, 154, 0, 7, 4, 167, 0, 4, 3]
abbrev dktX4_settings_2 : List UInt8 := dkwX4_settings_2 ++ dktX4_settings_3
def dkwX4_settings_1 : List UInt8 := [29, 133, 9, 10, 184, 0, 100, 153, 0, 7, 4, 167, 0, 4, 3, 54, 4, 42, 21, 4, 4, 182, 0, 104]
abbrev dktX4_settings_1 : List UInt8 := dkwX4_settings_1 ++ dktX4_settings_2
def dkwX4_settings_0 : List UInt8 := [27, 133, 10, 20, 1, 110, 184, 0, 100, 153, 0, 29, 28, 133, 9, 20, 1, 44, 184, 0, 100, 153, 0, 17]
abbrev dktX4_settings_0 : List UInt8 := dkwX4_settings_0 ++ dktX4_settings_1
theorem dksX4_settings_0 : cX4_settings.data.toList.drop 0 = dktX4_settings_0 := by decide +kernel
theorem dksX4_settings_1 : cX4_settings.data.toList.drop 24 = dktX4_settings_1 := dk_seg dksX4_settings_0 24 rfl rfl
theorem dksX4_settings_2 : cX4_settings.data.toList.drop 48 = dktX4_settings_2 := dk_seg dksX4_settings_1 24 rfl rfl
theorem dksX4_settings_3 : cX4_settings.data.toList.drop 72 = dktX4_settings_3 := dk_seg dksX4_settings_2 24 rfl rfl
theorem dksX4_settings_4 : cX4_settings.data.toList.drop 94 = dktX4_settings_4 := dk_seg dksX4_settings_3 22 rfl rfl
theorem dX4_settings_0 : decode cX4_settings 0 = .ok (.iload_n 1, 1) := dk_27 (dk_at dksX4_settings_0 0 rfl rfl)
theorem dX4_settings_1 : decode cX4_settings 1 = .ok (.i2l, 1) := dk_133 (dk_at dksX4_settings_0 1 rfl rfl)
theorem dX4_settings_2 : decode cX4_settings 2 = .ok (.lconst 1, 1) := dk_10 (dk_at dksX4_settings_0 2 rfl rfl)
theorem dX4_settings_3 : decode cX4_settings 3 = .ok (.ldc2_w 366, 3) := dk_20 1 110 (dk_at dksX4_settings_0 3 rfl rfl)
theorem dX4_settings_6 : decode cX4_settings 6 = .ok (.invokestatic 100, 3) := dk_184 0 100 (dk_at dksX4_settings_0 6 rfl rfl)
theorem dX4_settings_9 : decode cX4_settings 9 = .ok (.ifCond .eq 29, 3) := dk_153 0 29 (dk_at dksX4_settings_0 9 rfl rfl)
theorem dX4_settings_12 : decode cX4_settings 12 = .ok (.iload_n 2, 1) := dk_28 (dk_at dksX4_settings_0 12 rfl rfl)
theorem dX4_settings_13 : decode cX4_settings 13 = .ok (.i2l, 1) := dk_133 (dk_at dksX4_settings_0 13 rfl rfl)
theorem dX4_settings_14 : decode cX4_settings 14 = .ok (.lconst 0, 1) := dk_9 (dk_at dksX4_settings_0 14 rfl rfl)
theorem dX4_settings_15 : decode cX4_settings 15 = .ok (.ldc2_w 300, 3) := dk_20 1 44 (dk_at dksX4_settings_0 15 rfl rfl)
theorem dX4_settings_18 : decode cX4_settings 18 = .ok (.invokestatic 100, 3) := dk_184 0 100 (dk_at dksX4_settings_0 18 rfl rfl)
theorem dX4_settings_21 : decode cX4_settings 21 = .ok (.ifCond .eq 17, 3) := dk_153 0 17 (dk_at dksX4_settings_0 21 rfl rfl)
theorem dX4_settings_24 : decode cX4_settings 24 = .ok (.iload_n 3, 1) := dk_29 (dk_at dksX4_settings_1 0 rfl rfl)
theorem dX4_settings_25 : decode cX4_settings 25 = .ok (.i2l, 1) := dk_133 (dk_at dksX4_settings_1 1 rfl rfl)
theorem dX4_settings_26 : decode cX4_settings 26 = .ok (.lconst 0, 1) := dk_9 (dk_at dksX4_settings_1 2 rfl rfl)
theorem dX4_settings_27 : decode cX4_settings 27 = .ok (.lconst 1, 1) := dk_10 (dk_at dksX4_settings_1 3 rfl rfl)
theorem dX4_settings_28 : decode cX4_settings 28 = .ok (.invokestatic 100, 3) := dk_184 0 100 (dk_at dksX4_settings_1 4 rfl rfl)
theorem dX4_settings_31 : decode cX4_settings 31 = .ok (.ifCond .eq 7, 3) := dk_153 0 7 (dk_at dksX4_settings_1 7 rfl rfl)
theorem dX4_settings_34 : decode cX4_settings 34 = .ok (.iconst 1, 1) := dk_4 (dk_at dksX4_settings_1 10 rfl rfl)
theorem dX4_settings_35 : decode cX4_settings 35 = .ok (.goto 4, 3) := dk_167 0 4 (dk_at dksX4_settings_1 11 rfl rfl)
theorem dX4_settings_38 : decode cX4_settings 38 = .ok (.iconst 0, 1) := dk_3 (dk_at dksX4_settings_1 14 rfl rfl)
theorem dX4_settings_39 : decode cX4_settings 39 = .ok (.istore 4, 2) := dk_54 4 (dk_at dksX4_settings_1 15 rfl rfl)
theorem dX4_settings_41 : decode cX4_settings 41 = .ok (.aload_n 0, 1) := dk_42 (dk_at dksX4_settings_1 17 rfl rfl)
theorem dX4_settings_42 : decode cX4_settings 42 = .ok (.iload 4, 2) := dk_21 4 (dk_at dksX4_settings_1 18 rfl rfl)
theorem dX4_settings_44 : decode cX4_settings 44 = .ok (.iconst 1, 1) := dk_4 (dk_at dksX4_settings_1 20 rfl rfl)
theorem dX4_settings_45 : decode cX4_settings 45 = .ok (.invokevirtual 104, 3) := dk_182 0 104 (dk_at dksX4_settings_1 21 rfl rfl)
theorem dX4_settings_48 : decode cX4_settings 48 = .ok (.ifCond .eq 31, 3) := dk_153 0 31 (dk_at dksX4_settings_2 0 rfl rfl)
theorem dX4_settings_51 : decode cX4_settings 51 = .ok (.aload_n 0, 1) := dk_42 (dk_at dksX4_settings_2 3 rfl rfl)
theorem dX4_settings_52 : decode cX4_settings 52 = .ok (.iload_n 1, 1) := dk_27 (dk_at dksX4_settings_2 4 rfl rfl)
theorem dX4_settings_53 : decode cX4_settings 53 = .ok (.aload_n 0, 1) := dk_42 (dk_at dksX4_settings_2 5 rfl rfl)
theorem dX4_settings_54 : decode cX4_settings 54 = .ok (.getfield 64, 3) := dk_180 0 64 (dk_at dksX4_settings_2 6 rfl rfl)
theorem dX4_settings_57 : decode cX4_settings 57 = .ok (.if_icmp .eq 10, 3) := dk_159 0 10 (dk_at dksX4_settings_2 9 rfl rfl)
theorem dX4_settings_60 : decode cX4_settings 60 = .ok (.aload_n 0, 1) := dk_42 (dk_at dksX4_settings_2 12 rfl rfl)
theorem dX4_settings_61 : decode cX4_settings 61 = .ok (.invokevirtual 232, 3) := dk_182 0 232 (dk_at dksX4_settings_2 13 rfl rfl)
theorem dX4_settings_64 : decode cX4_settings 64 = .ok (.ifCond .ne 7, 3) := dk_154 0 7 (dk_at dksX4_settings_2 16 rfl rfl)
theorem dX4_settings_67 : decode cX4_settings 67 = .ok (.iconst 1, 1) := dk_4 (dk_at dksX4_settings_2 19 rfl rfl)
theorem dX4_settings_68 : decode cX4_settings 68 = .ok (.goto 4, 3) := dk_167 0 4 (dk_at dksX4_settings_2 20 rfl rfl)
theorem dX4_settings_71 : decode cX4_settings 71 = .ok (.iconst 0, 1) := dk_3 (dk_at dksX4_settings_2 23 rfl rfl)
theorem dX4_settings_72 : decode cX4_settings 72 = .ok (.iconst 2, 1) := dk_5 (dk_at dksX4_settings_3 0 rfl rfl)
theorem dX4_settings_73 : decode cX4_settings 73 = .ok (.invokevirtual 104, 3) := dk_182 0 104 (dk_at dksX4_settings_3 1 rfl rfl)
theorem dX4_settings_76 : decode cX4_settings 76 = .ok (.ifCond .ne 5, 3) := dk_154 0 5 (dk_at dksX4_settings_3 4 rfl rfl)
theorem dX4_settings_79 : decode cX4_settings 79 = .ok (.iconst 0, 1) := dk_3 (dk_at dksX4_settings_3 7 rfl rfl)
theorem dX4_settings_80 : decode cX4_settings 80 = .ok (.ireturn, 1) := dk_172 (dk_at dksX4_settings_3 8 rfl rfl)
theorem dX4_settings_81 : decode cX4_settings 81 = .ok (.aload_n 0, 1) := dk_42 (dk_at dksX4_settings_3 9 rfl rfl)
theorem dX4_settings_82 : decode cX4_settings 82 = .ok (.getfield 64, 3) := dk_180 0 64 (dk_at dksX4_settings_3 10 rfl rfl)
theorem dX4_settings_85 : decode cX4_settings 85 = .ok (.istore 5, 2) := dk_54 5 (dk_at dksX4_settings_3 13 rfl rfl)
theorem dX4_settings_87 : decode cX4_settings 87 = .ok (.aload_n 0, 1) := dk_42 (dk_at dksX4_settings_3 15 rfl rfl)
theorem dX4_settings_88 : decode cX4_settings 88 = .ok (.iload_n 1, 1) := dk_27 (dk_at dksX4_settings_3 16 rfl rfl)
theorem dX4_settings_89 : decode cX4_settings 89 = .ok (.putfield 64, 3) := dk_181 0 64 (dk_at dksX4_settings_3 17 rfl rfl)
theorem dX4_settings_92 : decode cX4_settings 92 = .ok (.aload_n 0, 1) := dk_42 (dk_at dksX4_settings_3 20 rfl rfl)
theorem dX4_settings_93 : decode cX4_settings 93 = .ok (.iload_n 2, 1) := dk_28 (dk_at dksX4_settings_3 21 rfl rfl)
theorem dX4_settings_94 : decode cX4_settings 94 = .ok (.putfield 67, 3) := dk_181 0 67 (dk_at dksX4_settings_4 0 rfl rfl)
theorem dX4_settings_97 : decode cX4_settings 97 = .ok (.aload_n 0, 1) := dk_42 (dk_at dksX4_settings_4 3 rfl rfl)
theorem dX4_settings_98 : decode cX4_settings 98 = .ok (.iload_n 3, 1) := dk_29 (dk_at dksX4_settings_4 4 rfl rfl)
theorem dX4_settings_99 : decode cX4_settings 99 = .ok (.putfield 70, 3) := dk_181 0 70 (dk_at dksX4_settings_4 5 rfl rfl)
theorem dX4_settings_102 : decode cX4_settings 102 = .ok (.iload 5, 2) := dk_21 5 (dk_at dksX4_settings_4 8 rfl rfl)
theorem dX4_settings_104 : decode cX4_settings 104 = .ok (.ireturn, 1) := dk_172 (dk_at dksX4_settings_4 10 rfl rfl)
abbrev cX4_claim : ByteArray := prog_14_method_55_code
def yX4_claim : MethodName := ⟨RX4, "claim", "(IIII)I"⟩
def dkwX4_claim_10 : List UInt8 := [182, 0, 186, 87, 42, 25, 8, 182, 1, 132, 42, 180, 0, 30, 182, 0, 94, 4, 100, 172]
abbrev dktX4_claim_10 : List UInt8 := dkwX4_claim_10 ++ []
def dkwX4_claim_9 : List UInt8 := [89, 4, 42, 180, 0, 43, 79, 182, 0, 186, 87, 25, 6, 25, 8, 181, 0, 248, 42, 180, 0, 30, 25, 8]
abbrev dktX4_claim_9 : List UInt8 := dkwX4_claim_9 ++ dktX4_claim_10
def dkwX4_claim_8 : List UInt8 := [25, 8, 21, 4, 16, 33, 184, 1, 124, 181, 1, 127, 25, 8, 180, 1, 130, 5, 188, 10, 89, 3, 29, 79]
abbrev dktX4_claim_8 : List UInt8 := dkwX4_claim_8 ++ dktX4_claim_9
def dkwX4_claim_7 : List UInt8 := [3, 172, 187, 0, 124, 89, 183, 1, 123, 58, 8, 25, 8, 25, 6, 181, 1, 112, 25, 8, 28, 181, 1, 117]
abbrev dktX4_claim_7 : List UInt8 := dkwX4_claim_7 ++ dktX4_claim_8
def dkwX4_claim_6 : List UInt8 := [42, 180, 0, 30, 182, 0, 94, 16, 50, 162, 0, 7, 4, 167, 0, 4, 3, 6, 182, 0, 104, 154, 0, 5]
abbrev dktX4_claim_6 : List UInt8 := dkwX4_claim_6 ++ dktX4_claim_7
def dkwX4_claim_5 : List UInt8 := [162, 0, 15, 25, 6, 180, 0, 248, 199, 0, 7, 4, 167, 0, 4, 3, 54, 7, 42, 21, 7, 153, 0, 19]
abbrev dktX4_claim_5 : List UInt8 := dkwX4_claim_5 ++ dktX4_claim_6
def dkwX4_claim_4 : List UInt8 := [182, 0, 120, 153, 0, 34, 25, 6, 180, 0, 117, 158, 0, 26, 25, 6, 180, 0, 114, 17, 4, 56]
abbrev dktX4_claim_4 : List UInt8 := dkwX4_claim_4 ++ dktX4_claim_5
def dkwX4_claim_3 : List UInt8 := [180, 0, 16, 27, 182, 0, 108, 192, 0, 112, 58, 6, 42, 180, 0, 53, 6, 160, 0, 43, 42, 25, 6]
abbrev dktX4_claim_3 : List UInt8 := dkwX4_claim_3 ++ dktX4_claim_4
def dkwX4_claim_2 : List UInt8 := [182, 0, 190, 4, 182, 0, 104, 153, 0, 13, 42, 21, 5, 5, 182, 0, 104, 154, 0, 5, 3, 172, 42]
abbrev dktX4_claim_2 : List UInt8 := dkwX4_claim_2 ++ dktX4_claim_3
def dkwX4_claim_1 : List UInt8 := [21, 4, 133, 9, 20, 1, 77, 184, 0, 100, 153, 0, 7, 4, 167, 0, 4, 3, 54, 5, 42, 42, 27]
abbrev dktX4_claim_1 : List UInt8 := dkwX4_claim_1 ++ dktX4_claim_2
def dkwX4_claim_0 : List UInt8 := [28, 133, 9, 20, 0, 171, 184, 0, 100, 153, 0, 32, 29, 133, 9, 20, 0, 194, 184, 0, 100, 153, 0, 20]
abbrev dktX4_claim_0 : List UInt8 := dkwX4_claim_0 ++ dktX4_claim_1
theorem dksX4_claim_0 : cX4_claim.data.toList.drop 0 = dktX4_claim_0 := by decide +kernel
theorem dksX4_claim_1 : cX4_claim.data.toList.drop 24 = dktX4_claim_1 := dk_seg dksX4_claim_0 24 rfl rfl
theorem dksX4_claim_2 : cX4_claim.data.toList.drop 47 = dktX4_claim_2 := dk_seg dksX4_claim_1 23 rfl rfl
theorem dksX4_claim_3 : cX4_claim.data.toList.drop 70 = dktX4_claim_3 := dk_seg dksX4_claim_2 23 rfl rfl
theorem dksX4_claim_4 : cX4_claim.data.toList.drop 93 = dktX4_claim_4 := dk_seg dksX4_claim_3 23 rfl rfl
theorem dksX4_claim_5 : cX4_claim.data.toList.drop 115 = dktX4_claim_5 := dk_seg dksX4_claim_4 22 rfl rfl
theorem dksX4_claim_6 : cX4_claim.data.toList.drop 139 = dktX4_claim_6 := dk_seg dksX4_claim_5 24 rfl rfl
theorem dksX4_claim_7 : cX4_claim.data.toList.drop 163 = dktX4_claim_7 := dk_seg dksX4_claim_6 24 rfl rfl
theorem dksX4_claim_8 : cX4_claim.data.toList.drop 187 = dktX4_claim_8 := dk_seg dksX4_claim_7 24 rfl rfl
theorem dksX4_claim_9 : cX4_claim.data.toList.drop 211 = dktX4_claim_9 := dk_seg dksX4_claim_8 24 rfl rfl
theorem dksX4_claim_10 : cX4_claim.data.toList.drop 235 = dktX4_claim_10 := dk_seg dksX4_claim_9 24 rfl rfl
theorem dX4_claim_0 : decode cX4_claim 0 = .ok (.iload_n 2, 1) := dk_28 (dk_at dksX4_claim_0 0 rfl rfl)
theorem dX4_claim_1 : decode cX4_claim 1 = .ok (.i2l, 1) := dk_133 (dk_at dksX4_claim_0 1 rfl rfl)
theorem dX4_claim_2 : decode cX4_claim 2 = .ok (.lconst 0, 1) := dk_9 (dk_at dksX4_claim_0 2 rfl rfl)
theorem dX4_claim_3 : decode cX4_claim 3 = .ok (.ldc2_w 171, 3) := dk_20 0 171 (dk_at dksX4_claim_0 3 rfl rfl)
theorem dX4_claim_6 : decode cX4_claim 6 = .ok (.invokestatic 100, 3) := dk_184 0 100 (dk_at dksX4_claim_0 6 rfl rfl)
theorem dX4_claim_9 : decode cX4_claim 9 = .ok (.ifCond .eq 32, 3) := dk_153 0 32 (dk_at dksX4_claim_0 9 rfl rfl)
theorem dX4_claim_12 : decode cX4_claim 12 = .ok (.iload_n 3, 1) := dk_29 (dk_at dksX4_claim_0 12 rfl rfl)
theorem dX4_claim_13 : decode cX4_claim 13 = .ok (.i2l, 1) := dk_133 (dk_at dksX4_claim_0 13 rfl rfl)
theorem dX4_claim_14 : decode cX4_claim 14 = .ok (.lconst 0, 1) := dk_9 (dk_at dksX4_claim_0 14 rfl rfl)
theorem dX4_claim_15 : decode cX4_claim 15 = .ok (.ldc2_w 194, 3) := dk_20 0 194 (dk_at dksX4_claim_0 15 rfl rfl)
theorem dX4_claim_18 : decode cX4_claim 18 = .ok (.invokestatic 100, 3) := dk_184 0 100 (dk_at dksX4_claim_0 18 rfl rfl)
theorem dX4_claim_21 : decode cX4_claim 21 = .ok (.ifCond .eq 20, 3) := dk_153 0 20 (dk_at dksX4_claim_0 21 rfl rfl)
theorem dX4_claim_24 : decode cX4_claim 24 = .ok (.iload 4, 2) := dk_21 4 (dk_at dksX4_claim_1 0 rfl rfl)
theorem dX4_claim_26 : decode cX4_claim 26 = .ok (.i2l, 1) := dk_133 (dk_at dksX4_claim_1 2 rfl rfl)
theorem dX4_claim_27 : decode cX4_claim 27 = .ok (.lconst 0, 1) := dk_9 (dk_at dksX4_claim_1 3 rfl rfl)
theorem dX4_claim_28 : decode cX4_claim 28 = .ok (.ldc2_w 333, 3) := dk_20 1 77 (dk_at dksX4_claim_1 4 rfl rfl)
theorem dX4_claim_31 : decode cX4_claim 31 = .ok (.invokestatic 100, 3) := dk_184 0 100 (dk_at dksX4_claim_1 7 rfl rfl)
theorem dX4_claim_34 : decode cX4_claim 34 = .ok (.ifCond .eq 7, 3) := dk_153 0 7 (dk_at dksX4_claim_1 10 rfl rfl)
theorem dX4_claim_37 : decode cX4_claim 37 = .ok (.iconst 1, 1) := dk_4 (dk_at dksX4_claim_1 13 rfl rfl)
theorem dX4_claim_38 : decode cX4_claim 38 = .ok (.goto 4, 3) := dk_167 0 4 (dk_at dksX4_claim_1 14 rfl rfl)
theorem dX4_claim_41 : decode cX4_claim 41 = .ok (.iconst 0, 1) := dk_3 (dk_at dksX4_claim_1 17 rfl rfl)
theorem dX4_claim_42 : decode cX4_claim 42 = .ok (.istore 5, 2) := dk_54 5 (dk_at dksX4_claim_1 18 rfl rfl)
theorem dX4_claim_44 : decode cX4_claim 44 = .ok (.aload_n 0, 1) := dk_42 (dk_at dksX4_claim_1 20 rfl rfl)
theorem dX4_claim_45 : decode cX4_claim 45 = .ok (.aload_n 0, 1) := dk_42 (dk_at dksX4_claim_1 21 rfl rfl)
theorem dX4_claim_46 : decode cX4_claim 46 = .ok (.iload_n 1, 1) := dk_27 (dk_at dksX4_claim_1 22 rfl rfl)
theorem dX4_claim_47 : decode cX4_claim 47 = .ok (.invokevirtual 190, 3) := dk_182 0 190 (dk_at dksX4_claim_2 0 rfl rfl)
theorem dX4_claim_50 : decode cX4_claim 50 = .ok (.iconst 1, 1) := dk_4 (dk_at dksX4_claim_2 3 rfl rfl)
theorem dX4_claim_51 : decode cX4_claim 51 = .ok (.invokevirtual 104, 3) := dk_182 0 104 (dk_at dksX4_claim_2 4 rfl rfl)
theorem dX4_claim_54 : decode cX4_claim 54 = .ok (.ifCond .eq 13, 3) := dk_153 0 13 (dk_at dksX4_claim_2 7 rfl rfl)
theorem dX4_claim_57 : decode cX4_claim 57 = .ok (.aload_n 0, 1) := dk_42 (dk_at dksX4_claim_2 10 rfl rfl)
theorem dX4_claim_58 : decode cX4_claim 58 = .ok (.iload 5, 2) := dk_21 5 (dk_at dksX4_claim_2 11 rfl rfl)
theorem dX4_claim_60 : decode cX4_claim 60 = .ok (.iconst 2, 1) := dk_5 (dk_at dksX4_claim_2 13 rfl rfl)
theorem dX4_claim_61 : decode cX4_claim 61 = .ok (.invokevirtual 104, 3) := dk_182 0 104 (dk_at dksX4_claim_2 14 rfl rfl)
theorem dX4_claim_64 : decode cX4_claim 64 = .ok (.ifCond .ne 5, 3) := dk_154 0 5 (dk_at dksX4_claim_2 17 rfl rfl)
theorem dX4_claim_67 : decode cX4_claim 67 = .ok (.iconst 0, 1) := dk_3 (dk_at dksX4_claim_2 20 rfl rfl)
theorem dX4_claim_68 : decode cX4_claim 68 = .ok (.ireturn, 1) := dk_172 (dk_at dksX4_claim_2 21 rfl rfl)
theorem dX4_claim_69 : decode cX4_claim 69 = .ok (.aload_n 0, 1) := dk_42 (dk_at dksX4_claim_2 22 rfl rfl)
theorem dX4_claim_70 : decode cX4_claim 70 = .ok (.getfield 16, 3) := dk_180 0 16 (dk_at dksX4_claim_3 0 rfl rfl)
theorem dX4_claim_73 : decode cX4_claim 73 = .ok (.iload_n 1, 1) := dk_27 (dk_at dksX4_claim_3 3 rfl rfl)
theorem dX4_claim_74 : decode cX4_claim 74 = .ok (.invokevirtual 108, 3) := dk_182 0 108 (dk_at dksX4_claim_3 4 rfl rfl)
theorem dX4_claim_77 : decode cX4_claim 77 = .ok (.checkcast 112, 3) := dk_192 0 112 (dk_at dksX4_claim_3 7 rfl rfl)
theorem dX4_claim_80 : decode cX4_claim 80 = .ok (.astore 6, 2) := dk_58 6 (dk_at dksX4_claim_3 10 rfl rfl)
theorem dX4_claim_82 : decode cX4_claim 82 = .ok (.aload_n 0, 1) := dk_42 (dk_at dksX4_claim_3 12 rfl rfl)
theorem dX4_claim_83 : decode cX4_claim 83 = .ok (.getfield 53, 3) := dk_180 0 53 (dk_at dksX4_claim_3 13 rfl rfl)
theorem dX4_claim_86 : decode cX4_claim 86 = .ok (.iconst 3, 1) := dk_6 (dk_at dksX4_claim_3 16 rfl rfl)
theorem dX4_claim_87 : decode cX4_claim 87 = .ok (.if_icmp .ne 43, 3) := dk_160 0 43 (dk_at dksX4_claim_3 17 rfl rfl)
theorem dX4_claim_90 : decode cX4_claim 90 = .ok (.aload_n 0, 1) := dk_42 (dk_at dksX4_claim_3 20 rfl rfl)
theorem dX4_claim_91 : decode cX4_claim 91 = .ok (.aload 6, 2) := dk_25 6 (dk_at dksX4_claim_3 21 rfl rfl)
theorem dX4_claim_93 : decode cX4_claim 93 = .ok (.invokevirtual 120, 3) := dk_182 0 120 (dk_at dksX4_claim_4 0 rfl rfl)
theorem dX4_claim_96 : decode cX4_claim 96 = .ok (.ifCond .eq 34, 3) := dk_153 0 34 (dk_at dksX4_claim_4 3 rfl rfl)
theorem dX4_claim_99 : decode cX4_claim 99 = .ok (.aload 6, 2) := dk_25 6 (dk_at dksX4_claim_4 6 rfl rfl)
theorem dX4_claim_101 : decode cX4_claim 101 = .ok (.getfield 117, 3) := dk_180 0 117 (dk_at dksX4_claim_4 8 rfl rfl)
theorem dX4_claim_104 : decode cX4_claim 104 = .ok (.ifCond .le 26, 3) := dk_158 0 26 (dk_at dksX4_claim_4 11 rfl rfl)
theorem dX4_claim_107 : decode cX4_claim 107 = .ok (.aload 6, 2) := dk_25 6 (dk_at dksX4_claim_4 14 rfl rfl)
theorem dX4_claim_109 : decode cX4_claim 109 = .ok (.getfield 114, 3) := dk_180 0 114 (dk_at dksX4_claim_4 16 rfl rfl)
theorem dX4_claim_112 : decode cX4_claim 112 = .ok (.sipush 1080, 3) := dk_17 4 56 (dk_at dksX4_claim_4 19 rfl rfl)
theorem dX4_claim_115 : decode cX4_claim 115 = .ok (.if_icmp .ge 15, 3) := dk_162 0 15 (dk_at dksX4_claim_5 0 rfl rfl)
theorem dX4_claim_118 : decode cX4_claim 118 = .ok (.aload 6, 2) := dk_25 6 (dk_at dksX4_claim_5 3 rfl rfl)
theorem dX4_claim_120 : decode cX4_claim 120 = .ok (.getfield 248, 3) := dk_180 0 248 (dk_at dksX4_claim_5 5 rfl rfl)
theorem dX4_claim_123 : decode cX4_claim 123 = .ok (.ifnonnull 7, 3) := dk_199 0 7 (dk_at dksX4_claim_5 8 rfl rfl)
theorem dX4_claim_126 : decode cX4_claim 126 = .ok (.iconst 1, 1) := dk_4 (dk_at dksX4_claim_5 11 rfl rfl)
theorem dX4_claim_127 : decode cX4_claim 127 = .ok (.goto 4, 3) := dk_167 0 4 (dk_at dksX4_claim_5 12 rfl rfl)
theorem dX4_claim_130 : decode cX4_claim 130 = .ok (.iconst 0, 1) := dk_3 (dk_at dksX4_claim_5 15 rfl rfl)
theorem dX4_claim_131 : decode cX4_claim 131 = .ok (.istore 7, 2) := dk_54 7 (dk_at dksX4_claim_5 16 rfl rfl)
theorem dX4_claim_133 : decode cX4_claim 133 = .ok (.aload_n 0, 1) := dk_42 (dk_at dksX4_claim_5 18 rfl rfl)
theorem dX4_claim_134 : decode cX4_claim 134 = .ok (.iload 7, 2) := dk_21 7 (dk_at dksX4_claim_5 19 rfl rfl)
theorem dX4_claim_136 : decode cX4_claim 136 = .ok (.ifCond .eq 19, 3) := dk_153 0 19 (dk_at dksX4_claim_5 21 rfl rfl)
theorem dX4_claim_139 : decode cX4_claim 139 = .ok (.aload_n 0, 1) := dk_42 (dk_at dksX4_claim_6 0 rfl rfl)
theorem dX4_claim_140 : decode cX4_claim 140 = .ok (.getfield 30, 3) := dk_180 0 30 (dk_at dksX4_claim_6 1 rfl rfl)
theorem dX4_claim_143 : decode cX4_claim 143 = .ok (.invokevirtual 94, 3) := dk_182 0 94 (dk_at dksX4_claim_6 4 rfl rfl)
theorem dX4_claim_146 : decode cX4_claim 146 = .ok (.bipush 50, 2) := dk_16 50 (dk_at dksX4_claim_6 7 rfl rfl)
theorem dX4_claim_148 : decode cX4_claim 148 = .ok (.if_icmp .ge 7, 3) := dk_162 0 7 (dk_at dksX4_claim_6 9 rfl rfl)
theorem dX4_claim_151 : decode cX4_claim 151 = .ok (.iconst 1, 1) := dk_4 (dk_at dksX4_claim_6 12 rfl rfl)
theorem dX4_claim_152 : decode cX4_claim 152 = .ok (.goto 4, 3) := dk_167 0 4 (dk_at dksX4_claim_6 13 rfl rfl)
theorem dX4_claim_155 : decode cX4_claim 155 = .ok (.iconst 0, 1) := dk_3 (dk_at dksX4_claim_6 16 rfl rfl)
theorem dX4_claim_156 : decode cX4_claim 156 = .ok (.iconst 3, 1) := dk_6 (dk_at dksX4_claim_6 17 rfl rfl)
theorem dX4_claim_157 : decode cX4_claim 157 = .ok (.invokevirtual 104, 3) := dk_182 0 104 (dk_at dksX4_claim_6 18 rfl rfl)
theorem dX4_claim_160 : decode cX4_claim 160 = .ok (.ifCond .ne 5, 3) := dk_154 0 5 (dk_at dksX4_claim_6 21 rfl rfl)
theorem dX4_claim_163 : decode cX4_claim 163 = .ok (.iconst 0, 1) := dk_3 (dk_at dksX4_claim_7 0 rfl rfl)
theorem dX4_claim_164 : decode cX4_claim 164 = .ok (.ireturn, 1) := dk_172 (dk_at dksX4_claim_7 1 rfl rfl)
theorem dX4_claim_165 : decode cX4_claim 165 = .ok (.new 124, 3) := dk_187 0 124 (dk_at dksX4_claim_7 2 rfl rfl)
theorem dX4_claim_168 : decode cX4_claim 168 = .ok (.dup, 1) := dk_89 (dk_at dksX4_claim_7 5 rfl rfl)
theorem dX4_claim_169 : decode cX4_claim 169 = .ok (.invokespecial 379, 3) := dk_183 1 123 (dk_at dksX4_claim_7 6 rfl rfl)
theorem dX4_claim_172 : decode cX4_claim 172 = .ok (.astore 8, 2) := dk_58 8 (dk_at dksX4_claim_7 9 rfl rfl)
theorem dX4_claim_174 : decode cX4_claim 174 = .ok (.aload 8, 2) := dk_25 8 (dk_at dksX4_claim_7 11 rfl rfl)
theorem dX4_claim_176 : decode cX4_claim 176 = .ok (.aload 6, 2) := dk_25 6 (dk_at dksX4_claim_7 13 rfl rfl)
theorem dX4_claim_178 : decode cX4_claim 178 = .ok (.putfield 368, 3) := dk_181 1 112 (dk_at dksX4_claim_7 15 rfl rfl)
theorem dX4_claim_181 : decode cX4_claim 181 = .ok (.aload 8, 2) := dk_25 8 (dk_at dksX4_claim_7 18 rfl rfl)
theorem dX4_claim_183 : decode cX4_claim 183 = .ok (.iload_n 2, 1) := dk_28 (dk_at dksX4_claim_7 20 rfl rfl)
theorem dX4_claim_184 : decode cX4_claim 184 = .ok (.putfield 373, 3) := dk_181 1 117 (dk_at dksX4_claim_7 21 rfl rfl)
theorem dX4_claim_187 : decode cX4_claim 187 = .ok (.aload 8, 2) := dk_25 8 (dk_at dksX4_claim_8 0 rfl rfl)
theorem dX4_claim_189 : decode cX4_claim 189 = .ok (.iload 4, 2) := dk_21 4 (dk_at dksX4_claim_8 2 rfl rfl)
theorem dX4_claim_191 : decode cX4_claim 191 = .ok (.bipush 33, 2) := dk_16 33 (dk_at dksX4_claim_8 4 rfl rfl)
theorem dX4_claim_193 : decode cX4_claim 193 = .ok (.invokestatic 380, 3) := dk_184 1 124 (dk_at dksX4_claim_8 6 rfl rfl)
theorem dX4_claim_196 : decode cX4_claim 196 = .ok (.putfield 383, 3) := dk_181 1 127 (dk_at dksX4_claim_8 9 rfl rfl)
theorem dX4_claim_199 : decode cX4_claim 199 = .ok (.aload 8, 2) := dk_25 8 (dk_at dksX4_claim_8 12 rfl rfl)
theorem dX4_claim_201 : decode cX4_claim 201 = .ok (.getfield 386, 3) := dk_180 1 130 (dk_at dksX4_claim_8 14 rfl rfl)
theorem dX4_claim_204 : decode cX4_claim 204 = .ok (.iconst 2, 1) := dk_5 (dk_at dksX4_claim_8 17 rfl rfl)
theorem dX4_claim_205 : decode cX4_claim 205 = .ok (.newarray .int, 2) := dk_188_10 (dk_at dksX4_claim_8 18 rfl rfl)
theorem dX4_claim_207 : decode cX4_claim 207 = .ok (.dup, 1) := dk_89 (dk_at dksX4_claim_8 20 rfl rfl)
theorem dX4_claim_208 : decode cX4_claim 208 = .ok (.iconst 0, 1) := dk_3 (dk_at dksX4_claim_8 21 rfl rfl)
theorem dX4_claim_209 : decode cX4_claim 209 = .ok (.iload_n 3, 1) := dk_29 (dk_at dksX4_claim_8 22 rfl rfl)
theorem dX4_claim_210 : decode cX4_claim 210 = .ok (.iastore, 1) := dk_79 (dk_at dksX4_claim_8 23 rfl rfl)
theorem dX4_claim_211 : decode cX4_claim 211 = .ok (.dup, 1) := dk_89 (dk_at dksX4_claim_9 0 rfl rfl)
theorem dX4_claim_212 : decode cX4_claim 212 = .ok (.iconst 1, 1) := dk_4 (dk_at dksX4_claim_9 1 rfl rfl)
theorem dX4_claim_213 : decode cX4_claim 213 = .ok (.aload_n 0, 1) := dk_42 (dk_at dksX4_claim_9 2 rfl rfl)
theorem dX4_claim_214 : decode cX4_claim 214 = .ok (.getfield 43, 3) := dk_180 0 43 (dk_at dksX4_claim_9 3 rfl rfl)
theorem dX4_claim_217 : decode cX4_claim 217 = .ok (.iastore, 1) := dk_79 (dk_at dksX4_claim_9 6 rfl rfl)
theorem dX4_claim_218 : decode cX4_claim 218 = .ok (.invokevirtual 186, 3) := dk_182 0 186 (dk_at dksX4_claim_9 7 rfl rfl)
theorem dX4_claim_221 : decode cX4_claim 221 = .ok (.pop, 1) := dk_87 (dk_at dksX4_claim_9 10 rfl rfl)
theorem dX4_claim_222 : decode cX4_claim 222 = .ok (.aload 6, 2) := dk_25 6 (dk_at dksX4_claim_9 11 rfl rfl)
theorem dX4_claim_224 : decode cX4_claim 224 = .ok (.aload 8, 2) := dk_25 8 (dk_at dksX4_claim_9 13 rfl rfl)
theorem dX4_claim_226 : decode cX4_claim 226 = .ok (.putfield 248, 3) := dk_181 0 248 (dk_at dksX4_claim_9 15 rfl rfl)
theorem dX4_claim_229 : decode cX4_claim 229 = .ok (.aload_n 0, 1) := dk_42 (dk_at dksX4_claim_9 18 rfl rfl)
theorem dX4_claim_230 : decode cX4_claim 230 = .ok (.getfield 30, 3) := dk_180 0 30 (dk_at dksX4_claim_9 19 rfl rfl)
theorem dX4_claim_233 : decode cX4_claim 233 = .ok (.aload 8, 2) := dk_25 8 (dk_at dksX4_claim_9 22 rfl rfl)
theorem dX4_claim_235 : decode cX4_claim 235 = .ok (.invokevirtual 186, 3) := dk_182 0 186 (dk_at dksX4_claim_10 0 rfl rfl)
theorem dX4_claim_238 : decode cX4_claim 238 = .ok (.pop, 1) := dk_87 (dk_at dksX4_claim_10 3 rfl rfl)
theorem dX4_claim_239 : decode cX4_claim 239 = .ok (.aload_n 0, 1) := dk_42 (dk_at dksX4_claim_10 4 rfl rfl)
theorem dX4_claim_240 : decode cX4_claim 240 = .ok (.aload 8, 2) := dk_25 8 (dk_at dksX4_claim_10 5 rfl rfl)
theorem dX4_claim_242 : decode cX4_claim 242 = .ok (.invokevirtual 388, 3) := dk_182 1 132 (dk_at dksX4_claim_10 7 rfl rfl)
theorem dX4_claim_245 : decode cX4_claim 245 = .ok (.aload_n 0, 1) := dk_42 (dk_at dksX4_claim_10 10 rfl rfl)
theorem dX4_claim_246 : decode cX4_claim 246 = .ok (.getfield 30, 3) := dk_180 0 30 (dk_at dksX4_claim_10 11 rfl rfl)
theorem dX4_claim_249 : decode cX4_claim 249 = .ok (.invokevirtual 94, 3) := dk_182 0 94 (dk_at dksX4_claim_10 14 rfl rfl)
theorem dX4_claim_252 : decode cX4_claim 252 = .ok (.iconst 1, 1) := dk_4 (dk_at dksX4_claim_10 17 rfl rfl)
theorem dX4_claim_253 : decode cX4_claim 253 = .ok (.isub, 1) := dk_100 (dk_at dksX4_claim_10 18 rfl rfl)
theorem dX4_claim_254 : decode cX4_claim 254 = .ok (.ireturn, 1) := dk_172 (dk_at dksX4_claim_10 19 rfl rfl)
abbrev cX4_ring : ByteArray := prog_14_method_57_code
def yX4_ring : MethodName := ⟨RX4, "ring", "(LMassclaimModel$Claim;)V"⟩
def dkwX4_ring_5 : List UInt8 := [181, 0, 126, 132, 3, 1, 167, 255, 187, 177]
abbrev dktX4_ring_5 : List UInt8 := dkwX4_ring_5 ++ []
def dkwX4_ring_4 : List UInt8 := [184, 1, 142, 153, 0, 7, 5, 167, 0, 17, 42, 180, 0, 30, 29, 182, 0, 108, 192, 0, 124, 180, 0, 126]
abbrev dktX4_ring_4 : List UInt8 := dkwX4_ring_4 ++ dktX4_ring_5
def dkwX4_ring_3 : List UInt8 := [180, 0, 30, 29, 182, 0, 108, 192, 0, 124, 43, 42, 180, 0, 30, 29, 182, 0, 108, 192, 0, 124]
abbrev dktX4_ring_3 : List UInt8 := dkwX4_ring_3 ++ dktX4_ring_4
def dkwX4_ring_2 : List UInt8 := [167, 255, 216, 3, 62, 29, 42, 180, 0, 30, 182, 0, 94, 162, 0, 64, 28, 6, 161, 0, 59, 42]
abbrev dktX4_ring_2 : List UInt8 := dkwX4_ring_2 ++ dktX4_ring_3
def dkwX4_ring_1 : List UInt8 := [182, 0, 108, 192, 0, 124, 184, 1, 142, 153, 0, 7, 4, 167, 0, 4, 3, 96, 61, 132, 3, 1]
abbrev dktX4_ring_1 : List UInt8 := dkwX4_ring_1 ++ dktX4_ring_2
def dkwX4_ring_0 : List UInt8 := [3, 61, 3, 62, 29, 42, 180, 0, 30, 182, 0, 94, 162, 0, 35, 28, 43, 42, 180, 0, 30, 29]
abbrev dktX4_ring_0 : List UInt8 := dkwX4_ring_0 ++ dktX4_ring_1
theorem dksX4_ring_0 : cX4_ring.data.toList.drop 0 = dktX4_ring_0 := by decide +kernel
theorem dksX4_ring_1 : cX4_ring.data.toList.drop 22 = dktX4_ring_1 := dk_seg dksX4_ring_0 22 rfl rfl
theorem dksX4_ring_2 : cX4_ring.data.toList.drop 44 = dktX4_ring_2 := dk_seg dksX4_ring_1 22 rfl rfl
theorem dksX4_ring_3 : cX4_ring.data.toList.drop 66 = dktX4_ring_3 := dk_seg dksX4_ring_2 22 rfl rfl
theorem dksX4_ring_4 : cX4_ring.data.toList.drop 88 = dktX4_ring_4 := dk_seg dksX4_ring_3 22 rfl rfl
theorem dksX4_ring_5 : cX4_ring.data.toList.drop 112 = dktX4_ring_5 := dk_seg dksX4_ring_4 24 rfl rfl
theorem dX4_ring_0 : decode cX4_ring 0 = .ok (.iconst 0, 1) := dk_3 (dk_at dksX4_ring_0 0 rfl rfl)
theorem dX4_ring_1 : decode cX4_ring 1 = .ok (.istore_n 2, 1) := dk_61 (dk_at dksX4_ring_0 1 rfl rfl)
theorem dX4_ring_2 : decode cX4_ring 2 = .ok (.iconst 0, 1) := dk_3 (dk_at dksX4_ring_0 2 rfl rfl)
theorem dX4_ring_3 : decode cX4_ring 3 = .ok (.istore_n 3, 1) := dk_62 (dk_at dksX4_ring_0 3 rfl rfl)
theorem dX4_ring_4 : decode cX4_ring 4 = .ok (.iload_n 3, 1) := dk_29 (dk_at dksX4_ring_0 4 rfl rfl)
theorem dX4_ring_5 : decode cX4_ring 5 = .ok (.aload_n 0, 1) := dk_42 (dk_at dksX4_ring_0 5 rfl rfl)
theorem dX4_ring_6 : decode cX4_ring 6 = .ok (.getfield 30, 3) := dk_180 0 30 (dk_at dksX4_ring_0 6 rfl rfl)
theorem dX4_ring_9 : decode cX4_ring 9 = .ok (.invokevirtual 94, 3) := dk_182 0 94 (dk_at dksX4_ring_0 9 rfl rfl)
theorem dX4_ring_12 : decode cX4_ring 12 = .ok (.if_icmp .ge 35, 3) := dk_162 0 35 (dk_at dksX4_ring_0 12 rfl rfl)
theorem dX4_ring_15 : decode cX4_ring 15 = .ok (.iload_n 2, 1) := dk_28 (dk_at dksX4_ring_0 15 rfl rfl)
theorem dX4_ring_16 : decode cX4_ring 16 = .ok (.aload_n 1, 1) := dk_43 (dk_at dksX4_ring_0 16 rfl rfl)
theorem dX4_ring_17 : decode cX4_ring 17 = .ok (.aload_n 0, 1) := dk_42 (dk_at dksX4_ring_0 17 rfl rfl)
theorem dX4_ring_18 : decode cX4_ring 18 = .ok (.getfield 30, 3) := dk_180 0 30 (dk_at dksX4_ring_0 18 rfl rfl)
theorem dX4_ring_21 : decode cX4_ring 21 = .ok (.iload_n 3, 1) := dk_29 (dk_at dksX4_ring_0 21 rfl rfl)
theorem dX4_ring_22 : decode cX4_ring 22 = .ok (.invokevirtual 108, 3) := dk_182 0 108 (dk_at dksX4_ring_1 0 rfl rfl)
theorem dX4_ring_25 : decode cX4_ring 25 = .ok (.checkcast 124, 3) := dk_192 0 124 (dk_at dksX4_ring_1 3 rfl rfl)
theorem dX4_ring_28 : decode cX4_ring 28 = .ok (.invokestatic 398, 3) := dk_184 1 142 (dk_at dksX4_ring_1 6 rfl rfl)
theorem dX4_ring_31 : decode cX4_ring 31 = .ok (.ifCond .eq 7, 3) := dk_153 0 7 (dk_at dksX4_ring_1 9 rfl rfl)
theorem dX4_ring_34 : decode cX4_ring 34 = .ok (.iconst 1, 1) := dk_4 (dk_at dksX4_ring_1 12 rfl rfl)
theorem dX4_ring_35 : decode cX4_ring 35 = .ok (.goto 4, 3) := dk_167 0 4 (dk_at dksX4_ring_1 13 rfl rfl)
theorem dX4_ring_38 : decode cX4_ring 38 = .ok (.iconst 0, 1) := dk_3 (dk_at dksX4_ring_1 16 rfl rfl)
theorem dX4_ring_39 : decode cX4_ring 39 = .ok (.iadd, 1) := dk_96 (dk_at dksX4_ring_1 17 rfl rfl)
theorem dX4_ring_40 : decode cX4_ring 40 = .ok (.istore_n 2, 1) := dk_61 (dk_at dksX4_ring_1 18 rfl rfl)
theorem dX4_ring_41 : decode cX4_ring 41 = .ok (.iinc 3 1, 3) := dk_132 3 1 (dk_at dksX4_ring_1 19 rfl rfl)
theorem dX4_ring_44 : decode cX4_ring 44 = .ok (.goto (-40), 3) := dk_167 255 216 (dk_at dksX4_ring_2 0 rfl rfl)
theorem dX4_ring_47 : decode cX4_ring 47 = .ok (.iconst 0, 1) := dk_3 (dk_at dksX4_ring_2 3 rfl rfl)
theorem dX4_ring_48 : decode cX4_ring 48 = .ok (.istore_n 3, 1) := dk_62 (dk_at dksX4_ring_2 4 rfl rfl)
theorem dX4_ring_49 : decode cX4_ring 49 = .ok (.iload_n 3, 1) := dk_29 (dk_at dksX4_ring_2 5 rfl rfl)
theorem dX4_ring_50 : decode cX4_ring 50 = .ok (.aload_n 0, 1) := dk_42 (dk_at dksX4_ring_2 6 rfl rfl)
theorem dX4_ring_51 : decode cX4_ring 51 = .ok (.getfield 30, 3) := dk_180 0 30 (dk_at dksX4_ring_2 7 rfl rfl)
theorem dX4_ring_54 : decode cX4_ring 54 = .ok (.invokevirtual 94, 3) := dk_182 0 94 (dk_at dksX4_ring_2 10 rfl rfl)
theorem dX4_ring_57 : decode cX4_ring 57 = .ok (.if_icmp .ge 64, 3) := dk_162 0 64 (dk_at dksX4_ring_2 13 rfl rfl)
theorem dX4_ring_60 : decode cX4_ring 60 = .ok (.iload_n 2, 1) := dk_28 (dk_at dksX4_ring_2 16 rfl rfl)
theorem dX4_ring_61 : decode cX4_ring 61 = .ok (.iconst 3, 1) := dk_6 (dk_at dksX4_ring_2 17 rfl rfl)
theorem dX4_ring_62 : decode cX4_ring 62 = .ok (.if_icmp .lt 59, 3) := dk_161 0 59 (dk_at dksX4_ring_2 18 rfl rfl)
theorem dX4_ring_65 : decode cX4_ring 65 = .ok (.aload_n 0, 1) := dk_42 (dk_at dksX4_ring_2 21 rfl rfl)
theorem dX4_ring_66 : decode cX4_ring 66 = .ok (.getfield 30, 3) := dk_180 0 30 (dk_at dksX4_ring_3 0 rfl rfl)
theorem dX4_ring_69 : decode cX4_ring 69 = .ok (.iload_n 3, 1) := dk_29 (dk_at dksX4_ring_3 3 rfl rfl)
theorem dX4_ring_70 : decode cX4_ring 70 = .ok (.invokevirtual 108, 3) := dk_182 0 108 (dk_at dksX4_ring_3 4 rfl rfl)
theorem dX4_ring_73 : decode cX4_ring 73 = .ok (.checkcast 124, 3) := dk_192 0 124 (dk_at dksX4_ring_3 7 rfl rfl)
theorem dX4_ring_76 : decode cX4_ring 76 = .ok (.aload_n 1, 1) := dk_43 (dk_at dksX4_ring_3 10 rfl rfl)
theorem dX4_ring_77 : decode cX4_ring 77 = .ok (.aload_n 0, 1) := dk_42 (dk_at dksX4_ring_3 11 rfl rfl)
theorem dX4_ring_78 : decode cX4_ring 78 = .ok (.getfield 30, 3) := dk_180 0 30 (dk_at dksX4_ring_3 12 rfl rfl)
theorem dX4_ring_81 : decode cX4_ring 81 = .ok (.iload_n 3, 1) := dk_29 (dk_at dksX4_ring_3 15 rfl rfl)
theorem dX4_ring_82 : decode cX4_ring 82 = .ok (.invokevirtual 108, 3) := dk_182 0 108 (dk_at dksX4_ring_3 16 rfl rfl)
theorem dX4_ring_85 : decode cX4_ring 85 = .ok (.checkcast 124, 3) := dk_192 0 124 (dk_at dksX4_ring_3 19 rfl rfl)
theorem dX4_ring_88 : decode cX4_ring 88 = .ok (.invokestatic 398, 3) := dk_184 1 142 (dk_at dksX4_ring_4 0 rfl rfl)
theorem dX4_ring_91 : decode cX4_ring 91 = .ok (.ifCond .eq 7, 3) := dk_153 0 7 (dk_at dksX4_ring_4 3 rfl rfl)
theorem dX4_ring_94 : decode cX4_ring 94 = .ok (.iconst 2, 1) := dk_5 (dk_at dksX4_ring_4 6 rfl rfl)
theorem dX4_ring_95 : decode cX4_ring 95 = .ok (.goto 17, 3) := dk_167 0 17 (dk_at dksX4_ring_4 7 rfl rfl)
theorem dX4_ring_98 : decode cX4_ring 98 = .ok (.aload_n 0, 1) := dk_42 (dk_at dksX4_ring_4 10 rfl rfl)
theorem dX4_ring_99 : decode cX4_ring 99 = .ok (.getfield 30, 3) := dk_180 0 30 (dk_at dksX4_ring_4 11 rfl rfl)
theorem dX4_ring_102 : decode cX4_ring 102 = .ok (.iload_n 3, 1) := dk_29 (dk_at dksX4_ring_4 14 rfl rfl)
theorem dX4_ring_103 : decode cX4_ring 103 = .ok (.invokevirtual 108, 3) := dk_182 0 108 (dk_at dksX4_ring_4 15 rfl rfl)
theorem dX4_ring_106 : decode cX4_ring 106 = .ok (.checkcast 124, 3) := dk_192 0 124 (dk_at dksX4_ring_4 18 rfl rfl)
theorem dX4_ring_109 : decode cX4_ring 109 = .ok (.getfield 126, 3) := dk_180 0 126 (dk_at dksX4_ring_4 21 rfl rfl)
theorem dX4_ring_112 : decode cX4_ring 112 = .ok (.putfield 126, 3) := dk_181 0 126 (dk_at dksX4_ring_5 0 rfl rfl)
theorem dX4_ring_115 : decode cX4_ring 115 = .ok (.iinc 3 1, 3) := dk_132 3 1 (dk_at dksX4_ring_5 3 rfl rfl)
theorem dX4_ring_118 : decode cX4_ring 118 = .ok (.goto (-69), 3) := dk_167 255 187 (dk_at dksX4_ring_5 6 rfl rfl)
theorem dX4_ring_121 : decode cX4_ring 121 = .ok (.return_, 1) := dk_177 (dk_at dksX4_ring_5 9 rfl rfl)
abbrev cX4_isAlike : ByteArray := prog_14_method_56_code
def yX4_isAlike : MethodName := ⟨RX4, "isAlike", "(LMassclaimModel$Claim;LMassclaimModel$Claim;)Z"⟩
def dkwX4_isAlike_4 : List UInt8 := [167, 0, 4, 3, 172]
abbrev dktX4_isAlike_4 : List UInt8 := dkwX4_isAlike_4 ++ []
def dkwX4_isAlike_3 : List UInt8 := [180, 1, 112, 180, 0, 183, 16, 12, 108, 43, 180, 1, 112, 180, 0, 183, 16, 12, 108, 160, 0, 7, 4]
abbrev dktX4_isAlike_3 : List UInt8 := dkwX4_isAlike_3 ++ dktX4_isAlike_4
def dkwX4_isAlike_2 : List UInt8 := [180, 0, 117, 160, 0, 47, 42, 180, 1, 112, 180, 0, 179, 43, 180, 1, 112, 180, 0, 179, 160, 0, 30, 42]
abbrev dktX4_isAlike_2 : List UInt8 := dkwX4_isAlike_2 ++ dktX4_isAlike_3
def dkwX4_isAlike_1 : List UInt8 := [160, 0, 7, 4, 167, 0, 4, 3, 61, 28, 153, 0, 64, 42, 180, 1, 112, 180, 0, 117, 43, 180, 1, 112]
abbrev dktX4_isAlike_1 : List UInt8 := dkwX4_isAlike_1 ++ dktX4_isAlike_2
def dkwX4_isAlike_0 : List UInt8 := [43, 180, 0, 126, 154, 0, 25, 43, 180, 1, 136, 154, 0, 18, 42, 182, 1, 139, 43, 182, 1, 139]
abbrev dktX4_isAlike_0 : List UInt8 := dkwX4_isAlike_0 ++ dktX4_isAlike_1
theorem dksX4_isAlike_0 : cX4_isAlike.data.toList.drop 0 = dktX4_isAlike_0 := by decide +kernel
theorem dksX4_isAlike_1 : cX4_isAlike.data.toList.drop 22 = dktX4_isAlike_1 := dk_seg dksX4_isAlike_0 22 rfl rfl
theorem dksX4_isAlike_2 : cX4_isAlike.data.toList.drop 46 = dktX4_isAlike_2 := dk_seg dksX4_isAlike_1 24 rfl rfl
theorem dksX4_isAlike_3 : cX4_isAlike.data.toList.drop 70 = dktX4_isAlike_3 := dk_seg dksX4_isAlike_2 24 rfl rfl
theorem dksX4_isAlike_4 : cX4_isAlike.data.toList.drop 93 = dktX4_isAlike_4 := dk_seg dksX4_isAlike_3 23 rfl rfl
theorem dX4_isAlike_0 : decode cX4_isAlike 0 = .ok (.aload_n 1, 1) := dk_43 (dk_at dksX4_isAlike_0 0 rfl rfl)
theorem dX4_isAlike_1 : decode cX4_isAlike 1 = .ok (.getfield 126, 3) := dk_180 0 126 (dk_at dksX4_isAlike_0 1 rfl rfl)
theorem dX4_isAlike_4 : decode cX4_isAlike 4 = .ok (.ifCond .ne 25, 3) := dk_154 0 25 (dk_at dksX4_isAlike_0 4 rfl rfl)
theorem dX4_isAlike_7 : decode cX4_isAlike 7 = .ok (.aload_n 1, 1) := dk_43 (dk_at dksX4_isAlike_0 7 rfl rfl)
theorem dX4_isAlike_8 : decode cX4_isAlike 8 = .ok (.getfield 392, 3) := dk_180 1 136 (dk_at dksX4_isAlike_0 8 rfl rfl)
theorem dX4_isAlike_11 : decode cX4_isAlike 11 = .ok (.ifCond .ne 18, 3) := dk_154 0 18 (dk_at dksX4_isAlike_0 11 rfl rfl)
theorem dX4_isAlike_14 : decode cX4_isAlike 14 = .ok (.aload_n 0, 1) := dk_42 (dk_at dksX4_isAlike_0 14 rfl rfl)
theorem dX4_isAlike_15 : decode cX4_isAlike 15 = .ok (.invokevirtual 395, 3) := dk_182 1 139 (dk_at dksX4_isAlike_0 15 rfl rfl)
theorem dX4_isAlike_18 : decode cX4_isAlike 18 = .ok (.aload_n 1, 1) := dk_43 (dk_at dksX4_isAlike_0 18 rfl rfl)
theorem dX4_isAlike_19 : decode cX4_isAlike 19 = .ok (.invokevirtual 395, 3) := dk_182 1 139 (dk_at dksX4_isAlike_0 19 rfl rfl)
theorem dX4_isAlike_22 : decode cX4_isAlike 22 = .ok (.if_icmp .ne 7, 3) := dk_160 0 7 (dk_at dksX4_isAlike_1 0 rfl rfl)
theorem dX4_isAlike_25 : decode cX4_isAlike 25 = .ok (.iconst 1, 1) := dk_4 (dk_at dksX4_isAlike_1 3 rfl rfl)
theorem dX4_isAlike_26 : decode cX4_isAlike 26 = .ok (.goto 4, 3) := dk_167 0 4 (dk_at dksX4_isAlike_1 4 rfl rfl)
theorem dX4_isAlike_29 : decode cX4_isAlike 29 = .ok (.iconst 0, 1) := dk_3 (dk_at dksX4_isAlike_1 7 rfl rfl)
theorem dX4_isAlike_30 : decode cX4_isAlike 30 = .ok (.istore_n 2, 1) := dk_61 (dk_at dksX4_isAlike_1 8 rfl rfl)
theorem dX4_isAlike_31 : decode cX4_isAlike 31 = .ok (.iload_n 2, 1) := dk_28 (dk_at dksX4_isAlike_1 9 rfl rfl)
theorem dX4_isAlike_32 : decode cX4_isAlike 32 = .ok (.ifCond .eq 64, 3) := dk_153 0 64 (dk_at dksX4_isAlike_1 10 rfl rfl)
theorem dX4_isAlike_35 : decode cX4_isAlike 35 = .ok (.aload_n 0, 1) := dk_42 (dk_at dksX4_isAlike_1 13 rfl rfl)
theorem dX4_isAlike_36 : decode cX4_isAlike 36 = .ok (.getfield 368, 3) := dk_180 1 112 (dk_at dksX4_isAlike_1 14 rfl rfl)
theorem dX4_isAlike_39 : decode cX4_isAlike 39 = .ok (.getfield 117, 3) := dk_180 0 117 (dk_at dksX4_isAlike_1 17 rfl rfl)
theorem dX4_isAlike_42 : decode cX4_isAlike 42 = .ok (.aload_n 1, 1) := dk_43 (dk_at dksX4_isAlike_1 20 rfl rfl)
theorem dX4_isAlike_43 : decode cX4_isAlike 43 = .ok (.getfield 368, 3) := dk_180 1 112 (dk_at dksX4_isAlike_1 21 rfl rfl)
theorem dX4_isAlike_46 : decode cX4_isAlike 46 = .ok (.getfield 117, 3) := dk_180 0 117 (dk_at dksX4_isAlike_2 0 rfl rfl)
theorem dX4_isAlike_49 : decode cX4_isAlike 49 = .ok (.if_icmp .ne 47, 3) := dk_160 0 47 (dk_at dksX4_isAlike_2 3 rfl rfl)
theorem dX4_isAlike_52 : decode cX4_isAlike 52 = .ok (.aload_n 0, 1) := dk_42 (dk_at dksX4_isAlike_2 6 rfl rfl)
theorem dX4_isAlike_53 : decode cX4_isAlike 53 = .ok (.getfield 368, 3) := dk_180 1 112 (dk_at dksX4_isAlike_2 7 rfl rfl)
theorem dX4_isAlike_56 : decode cX4_isAlike 56 = .ok (.getfield 179, 3) := dk_180 0 179 (dk_at dksX4_isAlike_2 10 rfl rfl)
theorem dX4_isAlike_59 : decode cX4_isAlike 59 = .ok (.aload_n 1, 1) := dk_43 (dk_at dksX4_isAlike_2 13 rfl rfl)
theorem dX4_isAlike_60 : decode cX4_isAlike 60 = .ok (.getfield 368, 3) := dk_180 1 112 (dk_at dksX4_isAlike_2 14 rfl rfl)
theorem dX4_isAlike_63 : decode cX4_isAlike 63 = .ok (.getfield 179, 3) := dk_180 0 179 (dk_at dksX4_isAlike_2 17 rfl rfl)
theorem dX4_isAlike_66 : decode cX4_isAlike 66 = .ok (.if_icmp .ne 30, 3) := dk_160 0 30 (dk_at dksX4_isAlike_2 20 rfl rfl)
theorem dX4_isAlike_69 : decode cX4_isAlike 69 = .ok (.aload_n 0, 1) := dk_42 (dk_at dksX4_isAlike_2 23 rfl rfl)
theorem dX4_isAlike_70 : decode cX4_isAlike 70 = .ok (.getfield 368, 3) := dk_180 1 112 (dk_at dksX4_isAlike_3 0 rfl rfl)
theorem dX4_isAlike_73 : decode cX4_isAlike 73 = .ok (.getfield 183, 3) := dk_180 0 183 (dk_at dksX4_isAlike_3 3 rfl rfl)
theorem dX4_isAlike_76 : decode cX4_isAlike 76 = .ok (.bipush 12, 2) := dk_16 12 (dk_at dksX4_isAlike_3 6 rfl rfl)
theorem dX4_isAlike_78 : decode cX4_isAlike 78 = .ok (.idiv, 1) := dk_108 (dk_at dksX4_isAlike_3 8 rfl rfl)
theorem dX4_isAlike_79 : decode cX4_isAlike 79 = .ok (.aload_n 1, 1) := dk_43 (dk_at dksX4_isAlike_3 9 rfl rfl)
theorem dX4_isAlike_80 : decode cX4_isAlike 80 = .ok (.getfield 368, 3) := dk_180 1 112 (dk_at dksX4_isAlike_3 10 rfl rfl)
theorem dX4_isAlike_83 : decode cX4_isAlike 83 = .ok (.getfield 183, 3) := dk_180 0 183 (dk_at dksX4_isAlike_3 13 rfl rfl)
theorem dX4_isAlike_86 : decode cX4_isAlike 86 = .ok (.bipush 12, 2) := dk_16 12 (dk_at dksX4_isAlike_3 16 rfl rfl)
theorem dX4_isAlike_88 : decode cX4_isAlike 88 = .ok (.idiv, 1) := dk_108 (dk_at dksX4_isAlike_3 18 rfl rfl)
theorem dX4_isAlike_89 : decode cX4_isAlike 89 = .ok (.if_icmp .ne 7, 3) := dk_160 0 7 (dk_at dksX4_isAlike_3 19 rfl rfl)
theorem dX4_isAlike_92 : decode cX4_isAlike 92 = .ok (.iconst 1, 1) := dk_4 (dk_at dksX4_isAlike_3 22 rfl rfl)
theorem dX4_isAlike_93 : decode cX4_isAlike 93 = .ok (.goto 4, 3) := dk_167 0 4 (dk_at dksX4_isAlike_4 0 rfl rfl)
theorem dX4_isAlike_96 : decode cX4_isAlike 96 = .ok (.iconst 0, 1) := dk_3 (dk_at dksX4_isAlike_4 3 rfl rfl)
theorem dX4_isAlike_97 : decode cX4_isAlike 97 = .ok (.ireturn, 1) := dk_172 (dk_at dksX4_isAlike_4 4 rfl rfl)
abbrev cX4_claimAt : ByteArray := prog_14_method_61_code
def yX4_claimAt : MethodName := ⟨RX4, "claimAt", "(II)I"⟩
def dkwX4_claimAt_5 : List UInt8 := [182, 1, 139, 172, 42, 180, 0, 16, 45, 180, 1, 112, 182, 0, 252, 172]
abbrev dktX4_claimAt_5 : List UInt8 := dkwX4_claimAt_5 ++ []
def dkwX4_claimAt_4 : List UInt8 := [182, 1, 156, 136, 172, 45, 180, 1, 117, 172, 45, 180, 1, 136, 153, 0, 7, 4, 167, 0, 4, 3, 172, 45]
abbrev dktX4_claimAt_4 : List UInt8 := dkwX4_claimAt_4 ++ dktX4_claimAt_5
def dkwX4_claimAt_3 : List UInt8 := [45, 180, 0, 126, 172, 42, 45, 182, 1, 146, 136, 172, 45, 180, 1, 150, 136, 172, 42, 45, 42, 180, 0, 73]
abbrev dktX4_claimAt_3 : List UInt8 := dkwX4_claimAt_3 ++ dktX4_claimAt_4
def dkwX4_claimAt_2 : List UInt8 := [170, 0, 0, 0, 0, 0, 95, 0, 0, 0, 0, 0, 0, 0, 6, 0, 0, 0, 43, 0, 0, 0, 48, 0, 0, 0, 55, 0, 0, 0, 61, 0, 0, 0, 72, 0, 0, 0, 77, 0, 0, 0, 90]
abbrev dktX4_claimAt_2 : List UInt8 := dkwX4_claimAt_2 ++ dktX4_claimAt_3
def dkwX4_claimAt_1 : List UInt8 := [182, 0, 104, 154, 0, 5, 3, 172, 42, 180, 0, 30, 27, 182, 0, 108, 192, 0, 124, 78, 28]
abbrev dktX4_claimAt_1 : List UInt8 := dkwX4_claimAt_1 ++ dktX4_claimAt_2
def dkwX4_claimAt_0 : List UInt8 := [42, 42, 27, 182, 1, 160, 4, 182, 0, 104, 153, 0, 20, 42, 28, 133, 9, 20, 1, 163, 184, 0, 100, 5]
abbrev dktX4_claimAt_0 : List UInt8 := dkwX4_claimAt_0 ++ dktX4_claimAt_1
theorem dksX4_claimAt_0 : cX4_claimAt.data.toList.drop 0 = dktX4_claimAt_0 := by decide +kernel
theorem dksX4_claimAt_1 : cX4_claimAt.data.toList.drop 24 = dktX4_claimAt_1 := dk_seg dksX4_claimAt_0 24 rfl rfl
theorem dksX4_claimAt_2 : cX4_claimAt.data.toList.drop 45 = dktX4_claimAt_2 := dk_seg dksX4_claimAt_1 21 rfl rfl
theorem dksX4_claimAt_3 : cX4_claimAt.data.toList.drop 88 = dktX4_claimAt_3 := dk_seg dksX4_claimAt_2 43 rfl rfl
theorem dksX4_claimAt_4 : cX4_claimAt.data.toList.drop 112 = dktX4_claimAt_4 := dk_seg dksX4_claimAt_3 24 rfl rfl
theorem dksX4_claimAt_5 : cX4_claimAt.data.toList.drop 136 = dktX4_claimAt_5 := dk_seg dksX4_claimAt_4 24 rfl rfl
theorem dX4_claimAt_0 : decode cX4_claimAt 0 = .ok (.aload_n 0, 1) := dk_42 (dk_at dksX4_claimAt_0 0 rfl rfl)
theorem dX4_claimAt_1 : decode cX4_claimAt 1 = .ok (.aload_n 0, 1) := dk_42 (dk_at dksX4_claimAt_0 1 rfl rfl)
theorem dX4_claimAt_2 : decode cX4_claimAt 2 = .ok (.iload_n 1, 1) := dk_27 (dk_at dksX4_claimAt_0 2 rfl rfl)
theorem dX4_claimAt_3 : decode cX4_claimAt 3 = .ok (.invokevirtual 416, 3) := dk_182 1 160 (dk_at dksX4_claimAt_0 3 rfl rfl)
theorem dX4_claimAt_6 : decode cX4_claimAt 6 = .ok (.iconst 1, 1) := dk_4 (dk_at dksX4_claimAt_0 6 rfl rfl)
theorem dX4_claimAt_7 : decode cX4_claimAt 7 = .ok (.invokevirtual 104, 3) := dk_182 0 104 (dk_at dksX4_claimAt_0 7 rfl rfl)
theorem dX4_claimAt_10 : decode cX4_claimAt 10 = .ok (.ifCond .eq 20, 3) := dk_153 0 20 (dk_at dksX4_claimAt_0 10 rfl rfl)
theorem dX4_claimAt_13 : decode cX4_claimAt 13 = .ok (.aload_n 0, 1) := dk_42 (dk_at dksX4_claimAt_0 13 rfl rfl)
theorem dX4_claimAt_14 : decode cX4_claimAt 14 = .ok (.iload_n 2, 1) := dk_28 (dk_at dksX4_claimAt_0 14 rfl rfl)
theorem dX4_claimAt_15 : decode cX4_claimAt 15 = .ok (.i2l, 1) := dk_133 (dk_at dksX4_claimAt_0 15 rfl rfl)
theorem dX4_claimAt_16 : decode cX4_claimAt 16 = .ok (.lconst 0, 1) := dk_9 (dk_at dksX4_claimAt_0 16 rfl rfl)
theorem dX4_claimAt_17 : decode cX4_claimAt 17 = .ok (.ldc2_w 419, 3) := dk_20 1 163 (dk_at dksX4_claimAt_0 17 rfl rfl)
theorem dX4_claimAt_20 : decode cX4_claimAt 20 = .ok (.invokestatic 100, 3) := dk_184 0 100 (dk_at dksX4_claimAt_0 20 rfl rfl)
theorem dX4_claimAt_23 : decode cX4_claimAt 23 = .ok (.iconst 2, 1) := dk_5 (dk_at dksX4_claimAt_0 23 rfl rfl)
theorem dX4_claimAt_24 : decode cX4_claimAt 24 = .ok (.invokevirtual 104, 3) := dk_182 0 104 (dk_at dksX4_claimAt_1 0 rfl rfl)
theorem dX4_claimAt_27 : decode cX4_claimAt 27 = .ok (.ifCond .ne 5, 3) := dk_154 0 5 (dk_at dksX4_claimAt_1 3 rfl rfl)
theorem dX4_claimAt_30 : decode cX4_claimAt 30 = .ok (.iconst 0, 1) := dk_3 (dk_at dksX4_claimAt_1 6 rfl rfl)
theorem dX4_claimAt_31 : decode cX4_claimAt 31 = .ok (.ireturn, 1) := dk_172 (dk_at dksX4_claimAt_1 7 rfl rfl)
theorem dX4_claimAt_32 : decode cX4_claimAt 32 = .ok (.aload_n 0, 1) := dk_42 (dk_at dksX4_claimAt_1 8 rfl rfl)
theorem dX4_claimAt_33 : decode cX4_claimAt 33 = .ok (.getfield 30, 3) := dk_180 0 30 (dk_at dksX4_claimAt_1 9 rfl rfl)
theorem dX4_claimAt_36 : decode cX4_claimAt 36 = .ok (.iload_n 1, 1) := dk_27 (dk_at dksX4_claimAt_1 12 rfl rfl)
theorem dX4_claimAt_37 : decode cX4_claimAt 37 = .ok (.invokevirtual 108, 3) := dk_182 0 108 (dk_at dksX4_claimAt_1 13 rfl rfl)
theorem dX4_claimAt_40 : decode cX4_claimAt 40 = .ok (.checkcast 124, 3) := dk_192 0 124 (dk_at dksX4_claimAt_1 16 rfl rfl)
theorem dX4_claimAt_43 : decode cX4_claimAt 43 = .ok (.astore_n 3, 1) := dk_78 (dk_at dksX4_claimAt_1 19 rfl rfl)
theorem dX4_claimAt_44 : decode cX4_claimAt 44 = .ok (.iload_n 2, 1) := dk_28 (dk_at dksX4_claimAt_1 20 rfl rfl)
theorem dX4_claimAt_45 : decode cX4_claimAt 45 = .ok (.tableswitch 95 0 6 #[43, 48, 55, 61, 72, 77, 90], 43) := by decide +kernel
theorem dX4_claimAt_88 : decode cX4_claimAt 88 = .ok (.aload_n 3, 1) := dk_45 (dk_at dksX4_claimAt_3 0 rfl rfl)
theorem dX4_claimAt_89 : decode cX4_claimAt 89 = .ok (.getfield 126, 3) := dk_180 0 126 (dk_at dksX4_claimAt_3 1 rfl rfl)
theorem dX4_claimAt_92 : decode cX4_claimAt 92 = .ok (.ireturn, 1) := dk_172 (dk_at dksX4_claimAt_3 4 rfl rfl)
theorem dX4_claimAt_93 : decode cX4_claimAt 93 = .ok (.aload_n 0, 1) := dk_42 (dk_at dksX4_claimAt_3 5 rfl rfl)
theorem dX4_claimAt_94 : decode cX4_claimAt 94 = .ok (.aload_n 3, 1) := dk_45 (dk_at dksX4_claimAt_3 6 rfl rfl)
theorem dX4_claimAt_95 : decode cX4_claimAt 95 = .ok (.invokevirtual 402, 3) := dk_182 1 146 (dk_at dksX4_claimAt_3 7 rfl rfl)
theorem dX4_claimAt_98 : decode cX4_claimAt 98 = .ok (.l2i, 1) := dk_136 (dk_at dksX4_claimAt_3 10 rfl rfl)
theorem dX4_claimAt_99 : decode cX4_claimAt 99 = .ok (.ireturn, 1) := dk_172 (dk_at dksX4_claimAt_3 11 rfl rfl)
theorem dX4_claimAt_100 : decode cX4_claimAt 100 = .ok (.aload_n 3, 1) := dk_45 (dk_at dksX4_claimAt_3 12 rfl rfl)
theorem dX4_claimAt_101 : decode cX4_claimAt 101 = .ok (.getfield 406, 3) := dk_180 1 150 (dk_at dksX4_claimAt_3 13 rfl rfl)
theorem dX4_claimAt_104 : decode cX4_claimAt 104 = .ok (.l2i, 1) := dk_136 (dk_at dksX4_claimAt_3 16 rfl rfl)
theorem dX4_claimAt_105 : decode cX4_claimAt 105 = .ok (.ireturn, 1) := dk_172 (dk_at dksX4_claimAt_3 17 rfl rfl)
theorem dX4_claimAt_106 : decode cX4_claimAt 106 = .ok (.aload_n 0, 1) := dk_42 (dk_at dksX4_claimAt_3 18 rfl rfl)
theorem dX4_claimAt_107 : decode cX4_claimAt 107 = .ok (.aload_n 3, 1) := dk_45 (dk_at dksX4_claimAt_3 19 rfl rfl)
theorem dX4_claimAt_108 : decode cX4_claimAt 108 = .ok (.aload_n 0, 1) := dk_42 (dk_at dksX4_claimAt_3 20 rfl rfl)
theorem dX4_claimAt_109 : decode cX4_claimAt 109 = .ok (.getfield 73, 3) := dk_180 0 73 (dk_at dksX4_claimAt_3 21 rfl rfl)
theorem dX4_claimAt_112 : decode cX4_claimAt 112 = .ok (.invokevirtual 412, 3) := dk_182 1 156 (dk_at dksX4_claimAt_4 0 rfl rfl)
theorem dX4_claimAt_115 : decode cX4_claimAt 115 = .ok (.l2i, 1) := dk_136 (dk_at dksX4_claimAt_4 3 rfl rfl)
theorem dX4_claimAt_116 : decode cX4_claimAt 116 = .ok (.ireturn, 1) := dk_172 (dk_at dksX4_claimAt_4 4 rfl rfl)
theorem dX4_claimAt_117 : decode cX4_claimAt 117 = .ok (.aload_n 3, 1) := dk_45 (dk_at dksX4_claimAt_4 5 rfl rfl)
theorem dX4_claimAt_118 : decode cX4_claimAt 118 = .ok (.getfield 373, 3) := dk_180 1 117 (dk_at dksX4_claimAt_4 6 rfl rfl)
theorem dX4_claimAt_121 : decode cX4_claimAt 121 = .ok (.ireturn, 1) := dk_172 (dk_at dksX4_claimAt_4 9 rfl rfl)
theorem dX4_claimAt_122 : decode cX4_claimAt 122 = .ok (.aload_n 3, 1) := dk_45 (dk_at dksX4_claimAt_4 10 rfl rfl)
theorem dX4_claimAt_123 : decode cX4_claimAt 123 = .ok (.getfield 392, 3) := dk_180 1 136 (dk_at dksX4_claimAt_4 11 rfl rfl)
theorem dX4_claimAt_126 : decode cX4_claimAt 126 = .ok (.ifCond .eq 7, 3) := dk_153 0 7 (dk_at dksX4_claimAt_4 14 rfl rfl)
theorem dX4_claimAt_129 : decode cX4_claimAt 129 = .ok (.iconst 1, 1) := dk_4 (dk_at dksX4_claimAt_4 17 rfl rfl)
theorem dX4_claimAt_130 : decode cX4_claimAt 130 = .ok (.goto 4, 3) := dk_167 0 4 (dk_at dksX4_claimAt_4 18 rfl rfl)
theorem dX4_claimAt_133 : decode cX4_claimAt 133 = .ok (.iconst 0, 1) := dk_3 (dk_at dksX4_claimAt_4 21 rfl rfl)
theorem dX4_claimAt_134 : decode cX4_claimAt 134 = .ok (.ireturn, 1) := dk_172 (dk_at dksX4_claimAt_4 22 rfl rfl)
theorem dX4_claimAt_135 : decode cX4_claimAt 135 = .ok (.aload_n 3, 1) := dk_45 (dk_at dksX4_claimAt_4 23 rfl rfl)
theorem dX4_claimAt_136 : decode cX4_claimAt 136 = .ok (.invokevirtual 395, 3) := dk_182 1 139 (dk_at dksX4_claimAt_5 0 rfl rfl)
theorem dX4_claimAt_139 : decode cX4_claimAt 139 = .ok (.ireturn, 1) := dk_172 (dk_at dksX4_claimAt_5 3 rfl rfl)
theorem dX4_claimAt_140 : decode cX4_claimAt 140 = .ok (.aload_n 0, 1) := dk_42 (dk_at dksX4_claimAt_5 4 rfl rfl)
theorem dX4_claimAt_141 : decode cX4_claimAt 141 = .ok (.getfield 16, 3) := dk_180 0 16 (dk_at dksX4_claimAt_5 5 rfl rfl)
theorem dX4_claimAt_144 : decode cX4_claimAt 144 = .ok (.aload_n 3, 1) := dk_45 (dk_at dksX4_claimAt_5 8 rfl rfl)
theorem dX4_claimAt_145 : decode cX4_claimAt 145 = .ok (.getfield 368, 3) := dk_180 1 112 (dk_at dksX4_claimAt_5 9 rfl rfl)
theorem dX4_claimAt_148 : decode cX4_claimAt 148 = .ok (.invokevirtual 252, 3) := dk_182 0 252 (dk_at dksX4_claimAt_5 12 rfl rfl)
theorem dX4_claimAt_151 : decode cX4_claimAt 151 = .ok (.ireturn, 1) := dk_172 (dk_at dksX4_claimAt_5 15 rfl rfl)
abbrev cX4_isClaim : ByteArray := prog_14_method_58_code
def yX4_isClaim : MethodName := ⟨RX4, "isClaim", "(I)Z"⟩
def dkwX4_isClaim_0 : List UInt8 := [27, 133, 9, 42, 180, 0, 30, 182, 0, 94, 4, 100, 133, 184, 0, 100, 172]
abbrev dktX4_isClaim_0 : List UInt8 := dkwX4_isClaim_0 ++ []
theorem dksX4_isClaim_0 : cX4_isClaim.data.toList.drop 0 = dktX4_isClaim_0 := by decide +kernel
theorem dX4_isClaim_0 : decode cX4_isClaim 0 = .ok (.iload_n 1, 1) := dk_27 (dk_at dksX4_isClaim_0 0 rfl rfl)
theorem dX4_isClaim_1 : decode cX4_isClaim 1 = .ok (.i2l, 1) := dk_133 (dk_at dksX4_isClaim_0 1 rfl rfl)
theorem dX4_isClaim_2 : decode cX4_isClaim 2 = .ok (.lconst 0, 1) := dk_9 (dk_at dksX4_isClaim_0 2 rfl rfl)
theorem dX4_isClaim_3 : decode cX4_isClaim 3 = .ok (.aload_n 0, 1) := dk_42 (dk_at dksX4_isClaim_0 3 rfl rfl)
theorem dX4_isClaim_4 : decode cX4_isClaim 4 = .ok (.getfield 30, 3) := dk_180 0 30 (dk_at dksX4_isClaim_0 4 rfl rfl)
theorem dX4_isClaim_7 : decode cX4_isClaim 7 = .ok (.invokevirtual 94, 3) := dk_182 0 94 (dk_at dksX4_isClaim_0 7 rfl rfl)
theorem dX4_isClaim_10 : decode cX4_isClaim 10 = .ok (.iconst 1, 1) := dk_4 (dk_at dksX4_isClaim_0 10 rfl rfl)
theorem dX4_isClaim_11 : decode cX4_isClaim 11 = .ok (.isub, 1) := dk_100 (dk_at dksX4_isClaim_0 11 rfl rfl)
theorem dX4_isClaim_12 : decode cX4_isClaim 12 = .ok (.i2l, 1) := dk_133 (dk_at dksX4_isClaim_0 12 rfl rfl)
theorem dX4_isClaim_13 : decode cX4_isClaim 13 = .ok (.invokestatic 100, 3) := dk_184 0 100 (dk_at dksX4_isClaim_0 13 rfl rfl)
theorem dX4_isClaim_16 : decode cX4_isClaim 16 = .ok (.ireturn, 1) := dk_172 (dk_at dksX4_isClaim_0 16 rfl rfl)
abbrev cX4_value : ByteArray := prog_14_method_54_code
def yX4_value : MethodName := ⟨RX4, "value", "(LMassclaimModel$Claim;)J"⟩
def dkwX4_value_7 : List UInt8 := [22, 6, 105, 20, 1, 44, 109, 184, 1, 64, 173]
abbrev dktX4_value_7 : List UInt8 := dkwX4_value_7 ++ []
def dkwX4_value_6 : List UInt8 := [182, 0, 143, 184, 1, 120, 96, 46, 133, 55, 8, 42, 180, 0, 64, 133, 22, 8, 33, 105, 20, 1, 44, 109]
abbrev dktX4_value_6 : List UInt8 := dkwX4_value_6 ++ dktX4_value_7
def dkwX4_value_5 : List UInt8 := [167, 0, 4, 9, 55, 6, 42, 180, 0, 26, 7, 44, 180, 0, 117, 4, 100, 104, 44, 44, 180, 0, 196]
abbrev dktX4_value_5 : List UInt8 := dkwX4_value_5 ++ dktX4_value_6
def dkwX4_value_4 : List UInt8 := [167, 0, 28, 21, 5, 4, 160, 0, 9, 20, 1, 113, 167, 0, 16, 21, 5, 5, 160, 0, 9, 20, 1, 77]
abbrev dktX4_value_4 : List UInt8 := dkwX4_value_4 ++ dktX4_value_5
def dkwX4_value_3 : List UInt8 := [43, 180, 1, 117, 4, 100, 167, 0, 7, 43, 180, 1, 117, 54, 5, 21, 5, 154, 0, 9, 20, 1, 44]
abbrev dktX4_value_3 : List UInt8 := dkwX4_value_3 ++ dktX4_value_4
def dkwX4_value_2 : List UInt8 := [167, 0, 6, 20, 1, 115, 66, 44, 180, 0, 183, 16, 120, 161, 0, 20, 43, 180, 1, 117, 5, 161, 0, 12]
abbrev dktX4_value_2 : List UInt8 := dkwX4_value_2 ++ dktX4_value_3
def dkwX4_value_1 : List UInt8 := [16, 60, 162, 0, 9, 20, 1, 113, 167, 0, 22, 44, 180, 0, 183, 17, 0, 240, 162, 0, 9, 20, 1, 44]
abbrev dktX4_value_1 : List UInt8 := dkwX4_value_1 ++ dktX4_value_2
def dkwX4_value_0 : List UInt8 := [43, 180, 1, 112, 77, 44, 180, 0, 183, 16, 12, 162, 0, 9, 20, 1, 77, 167, 0, 37, 44, 180, 0, 183]
abbrev dktX4_value_0 : List UInt8 := dkwX4_value_0 ++ dktX4_value_1
theorem dksX4_value_0 : cX4_value.data.toList.drop 0 = dktX4_value_0 := by decide +kernel
theorem dksX4_value_1 : cX4_value.data.toList.drop 24 = dktX4_value_1 := dk_seg dksX4_value_0 24 rfl rfl
theorem dksX4_value_2 : cX4_value.data.toList.drop 48 = dktX4_value_2 := dk_seg dksX4_value_1 24 rfl rfl
theorem dksX4_value_3 : cX4_value.data.toList.drop 72 = dktX4_value_3 := dk_seg dksX4_value_2 24 rfl rfl
theorem dksX4_value_4 : cX4_value.data.toList.drop 95 = dktX4_value_4 := dk_seg dksX4_value_3 23 rfl rfl
theorem dksX4_value_5 : cX4_value.data.toList.drop 119 = dktX4_value_5 := dk_seg dksX4_value_4 24 rfl rfl
theorem dksX4_value_6 : cX4_value.data.toList.drop 142 = dktX4_value_6 := dk_seg dksX4_value_5 23 rfl rfl
theorem dksX4_value_7 : cX4_value.data.toList.drop 166 = dktX4_value_7 := dk_seg dksX4_value_6 24 rfl rfl
theorem dX4_value_0 : decode cX4_value 0 = .ok (.aload_n 1, 1) := dk_43 (dk_at dksX4_value_0 0 rfl rfl)
theorem dX4_value_1 : decode cX4_value 1 = .ok (.getfield 368, 3) := dk_180 1 112 (dk_at dksX4_value_0 1 rfl rfl)
theorem dX4_value_4 : decode cX4_value 4 = .ok (.astore_n 2, 1) := dk_77 (dk_at dksX4_value_0 4 rfl rfl)
theorem dX4_value_5 : decode cX4_value 5 = .ok (.aload_n 2, 1) := dk_44 (dk_at dksX4_value_0 5 rfl rfl)
theorem dX4_value_6 : decode cX4_value 6 = .ok (.getfield 183, 3) := dk_180 0 183 (dk_at dksX4_value_0 6 rfl rfl)
theorem dX4_value_9 : decode cX4_value 9 = .ok (.bipush 12, 2) := dk_16 12 (dk_at dksX4_value_0 9 rfl rfl)
theorem dX4_value_11 : decode cX4_value 11 = .ok (.if_icmp .ge 9, 3) := dk_162 0 9 (dk_at dksX4_value_0 11 rfl rfl)
theorem dX4_value_14 : decode cX4_value 14 = .ok (.ldc2_w 333, 3) := dk_20 1 77 (dk_at dksX4_value_0 14 rfl rfl)
theorem dX4_value_17 : decode cX4_value 17 = .ok (.goto 37, 3) := dk_167 0 37 (dk_at dksX4_value_0 17 rfl rfl)
theorem dX4_value_20 : decode cX4_value 20 = .ok (.aload_n 2, 1) := dk_44 (dk_at dksX4_value_0 20 rfl rfl)
theorem dX4_value_21 : decode cX4_value 21 = .ok (.getfield 183, 3) := dk_180 0 183 (dk_at dksX4_value_0 21 rfl rfl)
theorem dX4_value_24 : decode cX4_value 24 = .ok (.bipush 60, 2) := dk_16 60 (dk_at dksX4_value_1 0 rfl rfl)
theorem dX4_value_26 : decode cX4_value 26 = .ok (.if_icmp .ge 9, 3) := dk_162 0 9 (dk_at dksX4_value_1 2 rfl rfl)
theorem dX4_value_29 : decode cX4_value 29 = .ok (.ldc2_w 369, 3) := dk_20 1 113 (dk_at dksX4_value_1 5 rfl rfl)
theorem dX4_value_32 : decode cX4_value 32 = .ok (.goto 22, 3) := dk_167 0 22 (dk_at dksX4_value_1 8 rfl rfl)
theorem dX4_value_35 : decode cX4_value 35 = .ok (.aload_n 2, 1) := dk_44 (dk_at dksX4_value_1 11 rfl rfl)
theorem dX4_value_36 : decode cX4_value 36 = .ok (.getfield 183, 3) := dk_180 0 183 (dk_at dksX4_value_1 12 rfl rfl)
theorem dX4_value_39 : decode cX4_value 39 = .ok (.sipush 240, 3) := dk_17 0 240 (dk_at dksX4_value_1 15 rfl rfl)
theorem dX4_value_42 : decode cX4_value 42 = .ok (.if_icmp .ge 9, 3) := dk_162 0 9 (dk_at dksX4_value_1 18 rfl rfl)
theorem dX4_value_45 : decode cX4_value 45 = .ok (.ldc2_w 300, 3) := dk_20 1 44 (dk_at dksX4_value_1 21 rfl rfl)
theorem dX4_value_48 : decode cX4_value 48 = .ok (.goto 6, 3) := dk_167 0 6 (dk_at dksX4_value_2 0 rfl rfl)
theorem dX4_value_51 : decode cX4_value 51 = .ok (.ldc2_w 371, 3) := dk_20 1 115 (dk_at dksX4_value_2 3 rfl rfl)
theorem dX4_value_54 : decode cX4_value 54 = .ok (.lstore_n 3, 1) := dk_66 (dk_at dksX4_value_2 6 rfl rfl)
theorem dX4_value_55 : decode cX4_value 55 = .ok (.aload_n 2, 1) := dk_44 (dk_at dksX4_value_2 7 rfl rfl)
theorem dX4_value_56 : decode cX4_value 56 = .ok (.getfield 183, 3) := dk_180 0 183 (dk_at dksX4_value_2 8 rfl rfl)
theorem dX4_value_59 : decode cX4_value 59 = .ok (.bipush 120, 2) := dk_16 120 (dk_at dksX4_value_2 11 rfl rfl)
theorem dX4_value_61 : decode cX4_value 61 = .ok (.if_icmp .lt 20, 3) := dk_161 0 20 (dk_at dksX4_value_2 13 rfl rfl)
theorem dX4_value_64 : decode cX4_value 64 = .ok (.aload_n 1, 1) := dk_43 (dk_at dksX4_value_2 16 rfl rfl)
theorem dX4_value_65 : decode cX4_value 65 = .ok (.getfield 373, 3) := dk_180 1 117 (dk_at dksX4_value_2 17 rfl rfl)
theorem dX4_value_68 : decode cX4_value 68 = .ok (.iconst 2, 1) := dk_5 (dk_at dksX4_value_2 20 rfl rfl)
theorem dX4_value_69 : decode cX4_value 69 = .ok (.if_icmp .lt 12, 3) := dk_161 0 12 (dk_at dksX4_value_2 21 rfl rfl)
theorem dX4_value_72 : decode cX4_value 72 = .ok (.aload_n 1, 1) := dk_43 (dk_at dksX4_value_3 0 rfl rfl)
theorem dX4_value_73 : decode cX4_value 73 = .ok (.getfield 373, 3) := dk_180 1 117 (dk_at dksX4_value_3 1 rfl rfl)
theorem dX4_value_76 : decode cX4_value 76 = .ok (.iconst 1, 1) := dk_4 (dk_at dksX4_value_3 4 rfl rfl)
theorem dX4_value_77 : decode cX4_value 77 = .ok (.isub, 1) := dk_100 (dk_at dksX4_value_3 5 rfl rfl)
theorem dX4_value_78 : decode cX4_value 78 = .ok (.goto 7, 3) := dk_167 0 7 (dk_at dksX4_value_3 6 rfl rfl)
theorem dX4_value_81 : decode cX4_value 81 = .ok (.aload_n 1, 1) := dk_43 (dk_at dksX4_value_3 9 rfl rfl)
theorem dX4_value_82 : decode cX4_value 82 = .ok (.getfield 373, 3) := dk_180 1 117 (dk_at dksX4_value_3 10 rfl rfl)
theorem dX4_value_85 : decode cX4_value 85 = .ok (.istore 5, 2) := dk_54 5 (dk_at dksX4_value_3 13 rfl rfl)
theorem dX4_value_87 : decode cX4_value 87 = .ok (.iload 5, 2) := dk_21 5 (dk_at dksX4_value_3 15 rfl rfl)
theorem dX4_value_89 : decode cX4_value 89 = .ok (.ifCond .ne 9, 3) := dk_154 0 9 (dk_at dksX4_value_3 17 rfl rfl)
theorem dX4_value_92 : decode cX4_value 92 = .ok (.ldc2_w 300, 3) := dk_20 1 44 (dk_at dksX4_value_3 20 rfl rfl)
theorem dX4_value_95 : decode cX4_value 95 = .ok (.goto 28, 3) := dk_167 0 28 (dk_at dksX4_value_4 0 rfl rfl)
theorem dX4_value_98 : decode cX4_value 98 = .ok (.iload 5, 2) := dk_21 5 (dk_at dksX4_value_4 3 rfl rfl)
theorem dX4_value_100 : decode cX4_value 100 = .ok (.iconst 1, 1) := dk_4 (dk_at dksX4_value_4 5 rfl rfl)
theorem dX4_value_101 : decode cX4_value 101 = .ok (.if_icmp .ne 9, 3) := dk_160 0 9 (dk_at dksX4_value_4 6 rfl rfl)
theorem dX4_value_104 : decode cX4_value 104 = .ok (.ldc2_w 369, 3) := dk_20 1 113 (dk_at dksX4_value_4 9 rfl rfl)
theorem dX4_value_107 : decode cX4_value 107 = .ok (.goto 16, 3) := dk_167 0 16 (dk_at dksX4_value_4 12 rfl rfl)
theorem dX4_value_110 : decode cX4_value 110 = .ok (.iload 5, 2) := dk_21 5 (dk_at dksX4_value_4 15 rfl rfl)
theorem dX4_value_112 : decode cX4_value 112 = .ok (.iconst 2, 1) := dk_5 (dk_at dksX4_value_4 17 rfl rfl)
theorem dX4_value_113 : decode cX4_value 113 = .ok (.if_icmp .ne 9, 3) := dk_160 0 9 (dk_at dksX4_value_4 18 rfl rfl)
theorem dX4_value_116 : decode cX4_value 116 = .ok (.ldc2_w 333, 3) := dk_20 1 77 (dk_at dksX4_value_4 21 rfl rfl)
theorem dX4_value_119 : decode cX4_value 119 = .ok (.goto 4, 3) := dk_167 0 4 (dk_at dksX4_value_5 0 rfl rfl)
theorem dX4_value_122 : decode cX4_value 122 = .ok (.lconst 0, 1) := dk_9 (dk_at dksX4_value_5 3 rfl rfl)
theorem dX4_value_123 : decode cX4_value 123 = .ok (.lstore 6, 2) := dk_55 6 (dk_at dksX4_value_5 4 rfl rfl)
theorem dX4_value_125 : decode cX4_value 125 = .ok (.aload_n 0, 1) := dk_42 (dk_at dksX4_value_5 6 rfl rfl)
theorem dX4_value_126 : decode cX4_value 126 = .ok (.getfield 26, 3) := dk_180 0 26 (dk_at dksX4_value_5 7 rfl rfl)
theorem dX4_value_129 : decode cX4_value 129 = .ok (.iconst 4, 1) := dk_7 (dk_at dksX4_value_5 10 rfl rfl)
theorem dX4_value_130 : decode cX4_value 130 = .ok (.aload_n 2, 1) := dk_44 (dk_at dksX4_value_5 11 rfl rfl)
theorem dX4_value_131 : decode cX4_value 131 = .ok (.getfield 117, 3) := dk_180 0 117 (dk_at dksX4_value_5 12 rfl rfl)
theorem dX4_value_134 : decode cX4_value 134 = .ok (.iconst 1, 1) := dk_4 (dk_at dksX4_value_5 15 rfl rfl)
theorem dX4_value_135 : decode cX4_value 135 = .ok (.isub, 1) := dk_100 (dk_at dksX4_value_5 16 rfl rfl)
theorem dX4_value_136 : decode cX4_value 136 = .ok (.imul, 1) := dk_104 (dk_at dksX4_value_5 17 rfl rfl)
theorem dX4_value_137 : decode cX4_value 137 = .ok (.aload_n 2, 1) := dk_44 (dk_at dksX4_value_5 18 rfl rfl)
theorem dX4_value_138 : decode cX4_value 138 = .ok (.aload_n 2, 1) := dk_44 (dk_at dksX4_value_5 19 rfl rfl)
theorem dX4_value_139 : decode cX4_value 139 = .ok (.getfield 196, 3) := dk_180 0 196 (dk_at dksX4_value_5 20 rfl rfl)
theorem dX4_value_142 : decode cX4_value 142 = .ok (.invokevirtual 143, 3) := dk_182 0 143 (dk_at dksX4_value_6 0 rfl rfl)
theorem dX4_value_145 : decode cX4_value 145 = .ok (.invokestatic 376, 3) := dk_184 1 120 (dk_at dksX4_value_6 3 rfl rfl)
theorem dX4_value_148 : decode cX4_value 148 = .ok (.iadd, 1) := dk_96 (dk_at dksX4_value_6 6 rfl rfl)
theorem dX4_value_149 : decode cX4_value 149 = .ok (.iaload, 1) := dk_46 (dk_at dksX4_value_6 7 rfl rfl)
theorem dX4_value_150 : decode cX4_value 150 = .ok (.i2l, 1) := dk_133 (dk_at dksX4_value_6 8 rfl rfl)
theorem dX4_value_151 : decode cX4_value 151 = .ok (.lstore 8, 2) := dk_55 8 (dk_at dksX4_value_6 9 rfl rfl)
theorem dX4_value_153 : decode cX4_value 153 = .ok (.aload_n 0, 1) := dk_42 (dk_at dksX4_value_6 11 rfl rfl)
theorem dX4_value_154 : decode cX4_value 154 = .ok (.getfield 64, 3) := dk_180 0 64 (dk_at dksX4_value_6 12 rfl rfl)
theorem dX4_value_157 : decode cX4_value 157 = .ok (.i2l, 1) := dk_133 (dk_at dksX4_value_6 15 rfl rfl)
theorem dX4_value_158 : decode cX4_value 158 = .ok (.lload 8, 2) := dk_22 8 (dk_at dksX4_value_6 16 rfl rfl)
theorem dX4_value_160 : decode cX4_value 160 = .ok (.lload_n 3, 1) := dk_33 (dk_at dksX4_value_6 18 rfl rfl)
theorem dX4_value_161 : decode cX4_value 161 = .ok (.lmul, 1) := dk_105 (dk_at dksX4_value_6 19 rfl rfl)
theorem dX4_value_162 : decode cX4_value 162 = .ok (.ldc2_w 300, 3) := dk_20 1 44 (dk_at dksX4_value_6 20 rfl rfl)
theorem dX4_value_165 : decode cX4_value 165 = .ok (.ldiv, 1) := dk_109 (dk_at dksX4_value_6 23 rfl rfl)
theorem dX4_value_166 : decode cX4_value 166 = .ok (.lload 6, 2) := dk_22 6 (dk_at dksX4_value_7 0 rfl rfl)
theorem dX4_value_168 : decode cX4_value 168 = .ok (.lmul, 1) := dk_105 (dk_at dksX4_value_7 2 rfl rfl)
theorem dX4_value_169 : decode cX4_value 169 = .ok (.ldc2_w 300, 3) := dk_20 1 44 (dk_at dksX4_value_7 3 rfl rfl)
theorem dX4_value_172 : decode cX4_value 172 = .ok (.ldiv, 1) := dk_109 (dk_at dksX4_value_7 6 rfl rfl)
theorem dX4_value_173 : decode cX4_value 173 = .ok (.invokestatic 320, 3) := dk_184 1 64 (dk_at dksX4_value_7 7 rfl rfl)
theorem dX4_value_176 : decode cX4_value 176 = .ok (.lreturn, 1) := dk_173 (dk_at dksX4_value_7 10 rfl rfl)
abbrev cX4_bandOf : ByteArray := prog_14_method_51_code
def yX4_bandOf : MethodName := ⟨RX4, "bandOf", "(I)I"⟩
def dkwX4_bandOf_1 : List UInt8 := [162, 0, 7, 5, 167, 0, 4, 6, 172]
abbrev dktX4_bandOf_1 : List UInt8 := dkwX4_bandOf_1 ++ []
def dkwX4_bandOf_0 : List UInt8 := [26, 16, 30, 162, 0, 7, 3, 167, 0, 24, 26, 16, 50, 162, 0, 7, 4, 167, 0, 14, 26, 16, 65]
abbrev dktX4_bandOf_0 : List UInt8 := dkwX4_bandOf_0 ++ dktX4_bandOf_1
theorem dksX4_bandOf_0 : cX4_bandOf.data.toList.drop 0 = dktX4_bandOf_0 := by decide +kernel
theorem dksX4_bandOf_1 : cX4_bandOf.data.toList.drop 23 = dktX4_bandOf_1 := dk_seg dksX4_bandOf_0 23 rfl rfl
theorem dX4_bandOf_0 : decode cX4_bandOf 0 = .ok (.iload_n 0, 1) := dk_26 (dk_at dksX4_bandOf_0 0 rfl rfl)
theorem dX4_bandOf_1 : decode cX4_bandOf 1 = .ok (.bipush 30, 2) := dk_16 30 (dk_at dksX4_bandOf_0 1 rfl rfl)
theorem dX4_bandOf_3 : decode cX4_bandOf 3 = .ok (.if_icmp .ge 7, 3) := dk_162 0 7 (dk_at dksX4_bandOf_0 3 rfl rfl)
theorem dX4_bandOf_6 : decode cX4_bandOf 6 = .ok (.iconst 0, 1) := dk_3 (dk_at dksX4_bandOf_0 6 rfl rfl)
theorem dX4_bandOf_7 : decode cX4_bandOf 7 = .ok (.goto 24, 3) := dk_167 0 24 (dk_at dksX4_bandOf_0 7 rfl rfl)
theorem dX4_bandOf_10 : decode cX4_bandOf 10 = .ok (.iload_n 0, 1) := dk_26 (dk_at dksX4_bandOf_0 10 rfl rfl)
theorem dX4_bandOf_11 : decode cX4_bandOf 11 = .ok (.bipush 50, 2) := dk_16 50 (dk_at dksX4_bandOf_0 11 rfl rfl)
theorem dX4_bandOf_13 : decode cX4_bandOf 13 = .ok (.if_icmp .ge 7, 3) := dk_162 0 7 (dk_at dksX4_bandOf_0 13 rfl rfl)
theorem dX4_bandOf_16 : decode cX4_bandOf 16 = .ok (.iconst 1, 1) := dk_4 (dk_at dksX4_bandOf_0 16 rfl rfl)
theorem dX4_bandOf_17 : decode cX4_bandOf 17 = .ok (.goto 14, 3) := dk_167 0 14 (dk_at dksX4_bandOf_0 17 rfl rfl)
theorem dX4_bandOf_20 : decode cX4_bandOf 20 = .ok (.iload_n 0, 1) := dk_26 (dk_at dksX4_bandOf_0 20 rfl rfl)
theorem dX4_bandOf_21 : decode cX4_bandOf 21 = .ok (.bipush 65, 2) := dk_16 65 (dk_at dksX4_bandOf_0 21 rfl rfl)
theorem dX4_bandOf_23 : decode cX4_bandOf 23 = .ok (.if_icmp .ge 7, 3) := dk_162 0 7 (dk_at dksX4_bandOf_1 0 rfl rfl)
theorem dX4_bandOf_26 : decode cX4_bandOf 26 = .ok (.iconst 2, 1) := dk_5 (dk_at dksX4_bandOf_1 3 rfl rfl)
theorem dX4_bandOf_27 : decode cX4_bandOf 27 = .ok (.goto 4, 3) := dk_167 0 4 (dk_at dksX4_bandOf_1 4 rfl rfl)
theorem dX4_bandOf_30 : decode cX4_bandOf 30 = .ok (.iconst 3, 1) := dk_6 (dk_at dksX4_bandOf_1 7 rfl rfl)
theorem dX4_bandOf_31 : decode cX4_bandOf 31 = .ok (.ireturn, 1) := dk_172 (dk_at dksX4_bandOf_1 8 rfl rfl)
abbrev cX4_due : ByteArray := prog_14_method_59_code
def yX4_due : MethodName := ⟨RX4, "due", "(LMassclaimModel$Claim;I)J"⟩
def dkwX4_due_1 : List UInt8 := [101, 184, 1, 153, 167, 0, 4, 9, 173]
abbrev dktX4_due_1 : List UInt8 := dkwX4_due_1 ++ []
def dkwX4_due_0 : List UInt8 := [43, 180, 0, 126, 154, 0, 27, 9, 42, 43, 182, 1, 146, 28, 133, 105, 20, 1, 44, 109, 43, 180, 1, 150]
abbrev dktX4_due_0 : List UInt8 := dkwX4_due_0 ++ dktX4_due_1
theorem dksX4_due_0 : cX4_due.data.toList.drop 0 = dktX4_due_0 := by decide +kernel
theorem dksX4_due_1 : cX4_due.data.toList.drop 24 = dktX4_due_1 := dk_seg dksX4_due_0 24 rfl rfl
theorem dX4_due_0 : decode cX4_due 0 = .ok (.aload_n 1, 1) := dk_43 (dk_at dksX4_due_0 0 rfl rfl)
theorem dX4_due_1 : decode cX4_due 1 = .ok (.getfield 126, 3) := dk_180 0 126 (dk_at dksX4_due_0 1 rfl rfl)
theorem dX4_due_4 : decode cX4_due 4 = .ok (.ifCond .ne 27, 3) := dk_154 0 27 (dk_at dksX4_due_0 4 rfl rfl)
theorem dX4_due_7 : decode cX4_due 7 = .ok (.lconst 0, 1) := dk_9 (dk_at dksX4_due_0 7 rfl rfl)
theorem dX4_due_8 : decode cX4_due 8 = .ok (.aload_n 0, 1) := dk_42 (dk_at dksX4_due_0 8 rfl rfl)
theorem dX4_due_9 : decode cX4_due 9 = .ok (.aload_n 1, 1) := dk_43 (dk_at dksX4_due_0 9 rfl rfl)
theorem dX4_due_10 : decode cX4_due 10 = .ok (.invokevirtual 402, 3) := dk_182 1 146 (dk_at dksX4_due_0 10 rfl rfl)
theorem dX4_due_13 : decode cX4_due 13 = .ok (.iload_n 2, 1) := dk_28 (dk_at dksX4_due_0 13 rfl rfl)
theorem dX4_due_14 : decode cX4_due 14 = .ok (.i2l, 1) := dk_133 (dk_at dksX4_due_0 14 rfl rfl)
theorem dX4_due_15 : decode cX4_due 15 = .ok (.lmul, 1) := dk_105 (dk_at dksX4_due_0 15 rfl rfl)
theorem dX4_due_16 : decode cX4_due 16 = .ok (.ldc2_w 300, 3) := dk_20 1 44 (dk_at dksX4_due_0 16 rfl rfl)
theorem dX4_due_19 : decode cX4_due 19 = .ok (.ldiv, 1) := dk_109 (dk_at dksX4_due_0 19 rfl rfl)
theorem dX4_due_20 : decode cX4_due 20 = .ok (.aload_n 1, 1) := dk_43 (dk_at dksX4_due_0 20 rfl rfl)
theorem dX4_due_21 : decode cX4_due 21 = .ok (.getfield 406, 3) := dk_180 1 150 (dk_at dksX4_due_0 21 rfl rfl)
theorem dX4_due_24 : decode cX4_due 24 = .ok (.lsub, 1) := dk_101 (dk_at dksX4_due_1 0 rfl rfl)
theorem dX4_due_25 : decode cX4_due 25 = .ok (.invokestatic 409, 3) := dk_184 1 153 (dk_at dksX4_due_1 1 rfl rfl)
theorem dX4_due_28 : decode cX4_due 28 = .ok (.goto 4, 3) := dk_167 0 4 (dk_at dksX4_due_1 4 rfl rfl)
theorem dX4_due_31 : decode cX4_due 31 = .ok (.lconst 0, 1) := dk_9 (dk_at dksX4_due_1 7 rfl rfl)
theorem dX4_due_32 : decode cX4_due 32 = .ok (.lreturn, 1) := dk_173 (dk_at dksX4_due_1 8 rfl rfl)
abbrev cX4_takeOver : ByteArray := prog_14_method_62_code
def yX4_takeOver : MethodName := ⟨RX4, "takeOver", "(II)I"⟩
def dkwX4_takeOver_4 : List UInt8 := [180, 1, 130, 5, 188, 10, 89, 3, 28, 79, 89, 4, 42, 180, 0, 43, 79, 182, 0, 186, 87, 21, 4, 172]
abbrev dktX4_takeOver_4 : List UInt8 := dkwX4_takeOver_4 ++ []
def dkwX4_takeOver_3 : List UInt8 := [162, 0, 7, 4, 167, 0, 4, 3, 6, 182, 0, 104, 154, 0, 5, 3, 172, 45, 182, 1, 139, 54, 4, 45]
abbrev dktX4_takeOver_3 : List UInt8 := dkwX4_takeOver_3 ++ dktX4_takeOver_4
def dkwX4_takeOver_2 : List UInt8 := [159, 0, 7, 4, 167, 0, 4, 3, 5, 182, 0, 104, 153, 0, 27, 42, 45, 180, 1, 130, 182, 0, 94, 7]
abbrev dktX4_takeOver_2 : List UInt8 := dkwX4_takeOver_2 ++ dktX4_takeOver_3
def dkwX4_takeOver_1 : List UInt8 := [192, 0, 124, 78, 42, 28, 133, 9, 20, 0, 194, 184, 0, 100, 153, 0, 15, 28, 45, 182, 1, 139]
abbrev dktX4_takeOver_1 : List UInt8 := dkwX4_takeOver_1 ++ dktX4_takeOver_2
def dkwX4_takeOver_0 : List UInt8 := [42, 42, 27, 182, 1, 160, 4, 182, 0, 104, 154, 0, 5, 3, 172, 42, 180, 0, 30, 27, 182, 0, 108]
abbrev dktX4_takeOver_0 : List UInt8 := dkwX4_takeOver_0 ++ dktX4_takeOver_1
theorem dksX4_takeOver_0 : cX4_takeOver.data.toList.drop 0 = dktX4_takeOver_0 := by decide +kernel
theorem dksX4_takeOver_1 : cX4_takeOver.data.toList.drop 23 = dktX4_takeOver_1 := dk_seg dksX4_takeOver_0 23 rfl rfl
theorem dksX4_takeOver_2 : cX4_takeOver.data.toList.drop 45 = dktX4_takeOver_2 := dk_seg dksX4_takeOver_1 22 rfl rfl
theorem dksX4_takeOver_3 : cX4_takeOver.data.toList.drop 69 = dktX4_takeOver_3 := dk_seg dksX4_takeOver_2 24 rfl rfl
theorem dksX4_takeOver_4 : cX4_takeOver.data.toList.drop 93 = dktX4_takeOver_4 := dk_seg dksX4_takeOver_3 24 rfl rfl
theorem dX4_takeOver_0 : decode cX4_takeOver 0 = .ok (.aload_n 0, 1) := dk_42 (dk_at dksX4_takeOver_0 0 rfl rfl)
theorem dX4_takeOver_1 : decode cX4_takeOver 1 = .ok (.aload_n 0, 1) := dk_42 (dk_at dksX4_takeOver_0 1 rfl rfl)
theorem dX4_takeOver_2 : decode cX4_takeOver 2 = .ok (.iload_n 1, 1) := dk_27 (dk_at dksX4_takeOver_0 2 rfl rfl)
theorem dX4_takeOver_3 : decode cX4_takeOver 3 = .ok (.invokevirtual 416, 3) := dk_182 1 160 (dk_at dksX4_takeOver_0 3 rfl rfl)
theorem dX4_takeOver_6 : decode cX4_takeOver 6 = .ok (.iconst 1, 1) := dk_4 (dk_at dksX4_takeOver_0 6 rfl rfl)
theorem dX4_takeOver_7 : decode cX4_takeOver 7 = .ok (.invokevirtual 104, 3) := dk_182 0 104 (dk_at dksX4_takeOver_0 7 rfl rfl)
theorem dX4_takeOver_10 : decode cX4_takeOver 10 = .ok (.ifCond .ne 5, 3) := dk_154 0 5 (dk_at dksX4_takeOver_0 10 rfl rfl)
theorem dX4_takeOver_13 : decode cX4_takeOver 13 = .ok (.iconst 0, 1) := dk_3 (dk_at dksX4_takeOver_0 13 rfl rfl)
theorem dX4_takeOver_14 : decode cX4_takeOver 14 = .ok (.ireturn, 1) := dk_172 (dk_at dksX4_takeOver_0 14 rfl rfl)
theorem dX4_takeOver_15 : decode cX4_takeOver 15 = .ok (.aload_n 0, 1) := dk_42 (dk_at dksX4_takeOver_0 15 rfl rfl)
theorem dX4_takeOver_16 : decode cX4_takeOver 16 = .ok (.getfield 30, 3) := dk_180 0 30 (dk_at dksX4_takeOver_0 16 rfl rfl)
theorem dX4_takeOver_19 : decode cX4_takeOver 19 = .ok (.iload_n 1, 1) := dk_27 (dk_at dksX4_takeOver_0 19 rfl rfl)
theorem dX4_takeOver_20 : decode cX4_takeOver 20 = .ok (.invokevirtual 108, 3) := dk_182 0 108 (dk_at dksX4_takeOver_0 20 rfl rfl)
theorem dX4_takeOver_23 : decode cX4_takeOver 23 = .ok (.checkcast 124, 3) := dk_192 0 124 (dk_at dksX4_takeOver_1 0 rfl rfl)
theorem dX4_takeOver_26 : decode cX4_takeOver 26 = .ok (.astore_n 3, 1) := dk_78 (dk_at dksX4_takeOver_1 3 rfl rfl)
theorem dX4_takeOver_27 : decode cX4_takeOver 27 = .ok (.aload_n 0, 1) := dk_42 (dk_at dksX4_takeOver_1 4 rfl rfl)
theorem dX4_takeOver_28 : decode cX4_takeOver 28 = .ok (.iload_n 2, 1) := dk_28 (dk_at dksX4_takeOver_1 5 rfl rfl)
theorem dX4_takeOver_29 : decode cX4_takeOver 29 = .ok (.i2l, 1) := dk_133 (dk_at dksX4_takeOver_1 6 rfl rfl)
theorem dX4_takeOver_30 : decode cX4_takeOver 30 = .ok (.lconst 0, 1) := dk_9 (dk_at dksX4_takeOver_1 7 rfl rfl)
theorem dX4_takeOver_31 : decode cX4_takeOver 31 = .ok (.ldc2_w 194, 3) := dk_20 0 194 (dk_at dksX4_takeOver_1 8 rfl rfl)
theorem dX4_takeOver_34 : decode cX4_takeOver 34 = .ok (.invokestatic 100, 3) := dk_184 0 100 (dk_at dksX4_takeOver_1 11 rfl rfl)
theorem dX4_takeOver_37 : decode cX4_takeOver 37 = .ok (.ifCond .eq 15, 3) := dk_153 0 15 (dk_at dksX4_takeOver_1 14 rfl rfl)
theorem dX4_takeOver_40 : decode cX4_takeOver 40 = .ok (.iload_n 2, 1) := dk_28 (dk_at dksX4_takeOver_1 17 rfl rfl)
theorem dX4_takeOver_41 : decode cX4_takeOver 41 = .ok (.aload_n 3, 1) := dk_45 (dk_at dksX4_takeOver_1 18 rfl rfl)
theorem dX4_takeOver_42 : decode cX4_takeOver 42 = .ok (.invokevirtual 395, 3) := dk_182 1 139 (dk_at dksX4_takeOver_1 19 rfl rfl)
theorem dX4_takeOver_45 : decode cX4_takeOver 45 = .ok (.if_icmp .eq 7, 3) := dk_159 0 7 (dk_at dksX4_takeOver_2 0 rfl rfl)
theorem dX4_takeOver_48 : decode cX4_takeOver 48 = .ok (.iconst 1, 1) := dk_4 (dk_at dksX4_takeOver_2 3 rfl rfl)
theorem dX4_takeOver_49 : decode cX4_takeOver 49 = .ok (.goto 4, 3) := dk_167 0 4 (dk_at dksX4_takeOver_2 4 rfl rfl)
theorem dX4_takeOver_52 : decode cX4_takeOver 52 = .ok (.iconst 0, 1) := dk_3 (dk_at dksX4_takeOver_2 7 rfl rfl)
theorem dX4_takeOver_53 : decode cX4_takeOver 53 = .ok (.iconst 2, 1) := dk_5 (dk_at dksX4_takeOver_2 8 rfl rfl)
theorem dX4_takeOver_54 : decode cX4_takeOver 54 = .ok (.invokevirtual 104, 3) := dk_182 0 104 (dk_at dksX4_takeOver_2 9 rfl rfl)
theorem dX4_takeOver_57 : decode cX4_takeOver 57 = .ok (.ifCond .eq 27, 3) := dk_153 0 27 (dk_at dksX4_takeOver_2 12 rfl rfl)
theorem dX4_takeOver_60 : decode cX4_takeOver 60 = .ok (.aload_n 0, 1) := dk_42 (dk_at dksX4_takeOver_2 15 rfl rfl)
theorem dX4_takeOver_61 : decode cX4_takeOver 61 = .ok (.aload_n 3, 1) := dk_45 (dk_at dksX4_takeOver_2 16 rfl rfl)
theorem dX4_takeOver_62 : decode cX4_takeOver 62 = .ok (.getfield 386, 3) := dk_180 1 130 (dk_at dksX4_takeOver_2 17 rfl rfl)
theorem dX4_takeOver_65 : decode cX4_takeOver 65 = .ok (.invokevirtual 94, 3) := dk_182 0 94 (dk_at dksX4_takeOver_2 20 rfl rfl)
theorem dX4_takeOver_68 : decode cX4_takeOver 68 = .ok (.iconst 4, 1) := dk_7 (dk_at dksX4_takeOver_2 23 rfl rfl)
theorem dX4_takeOver_69 : decode cX4_takeOver 69 = .ok (.if_icmp .ge 7, 3) := dk_162 0 7 (dk_at dksX4_takeOver_3 0 rfl rfl)
theorem dX4_takeOver_72 : decode cX4_takeOver 72 = .ok (.iconst 1, 1) := dk_4 (dk_at dksX4_takeOver_3 3 rfl rfl)
theorem dX4_takeOver_73 : decode cX4_takeOver 73 = .ok (.goto 4, 3) := dk_167 0 4 (dk_at dksX4_takeOver_3 4 rfl rfl)
theorem dX4_takeOver_76 : decode cX4_takeOver 76 = .ok (.iconst 0, 1) := dk_3 (dk_at dksX4_takeOver_3 7 rfl rfl)
theorem dX4_takeOver_77 : decode cX4_takeOver 77 = .ok (.iconst 3, 1) := dk_6 (dk_at dksX4_takeOver_3 8 rfl rfl)
theorem dX4_takeOver_78 : decode cX4_takeOver 78 = .ok (.invokevirtual 104, 3) := dk_182 0 104 (dk_at dksX4_takeOver_3 9 rfl rfl)
theorem dX4_takeOver_81 : decode cX4_takeOver 81 = .ok (.ifCond .ne 5, 3) := dk_154 0 5 (dk_at dksX4_takeOver_3 12 rfl rfl)
theorem dX4_takeOver_84 : decode cX4_takeOver 84 = .ok (.iconst 0, 1) := dk_3 (dk_at dksX4_takeOver_3 15 rfl rfl)
theorem dX4_takeOver_85 : decode cX4_takeOver 85 = .ok (.ireturn, 1) := dk_172 (dk_at dksX4_takeOver_3 16 rfl rfl)
theorem dX4_takeOver_86 : decode cX4_takeOver 86 = .ok (.aload_n 3, 1) := dk_45 (dk_at dksX4_takeOver_3 17 rfl rfl)
theorem dX4_takeOver_87 : decode cX4_takeOver 87 = .ok (.invokevirtual 395, 3) := dk_182 1 139 (dk_at dksX4_takeOver_3 18 rfl rfl)
theorem dX4_takeOver_90 : decode cX4_takeOver 90 = .ok (.istore 4, 2) := dk_54 4 (dk_at dksX4_takeOver_3 21 rfl rfl)
theorem dX4_takeOver_92 : decode cX4_takeOver 92 = .ok (.aload_n 3, 1) := dk_45 (dk_at dksX4_takeOver_3 23 rfl rfl)
theorem dX4_takeOver_93 : decode cX4_takeOver 93 = .ok (.getfield 386, 3) := dk_180 1 130 (dk_at dksX4_takeOver_4 0 rfl rfl)
theorem dX4_takeOver_96 : decode cX4_takeOver 96 = .ok (.iconst 2, 1) := dk_5 (dk_at dksX4_takeOver_4 3 rfl rfl)
theorem dX4_takeOver_97 : decode cX4_takeOver 97 = .ok (.newarray .int, 2) := dk_188_10 (dk_at dksX4_takeOver_4 4 rfl rfl)
theorem dX4_takeOver_99 : decode cX4_takeOver 99 = .ok (.dup, 1) := dk_89 (dk_at dksX4_takeOver_4 6 rfl rfl)
theorem dX4_takeOver_100 : decode cX4_takeOver 100 = .ok (.iconst 0, 1) := dk_3 (dk_at dksX4_takeOver_4 7 rfl rfl)
theorem dX4_takeOver_101 : decode cX4_takeOver 101 = .ok (.iload_n 2, 1) := dk_28 (dk_at dksX4_takeOver_4 8 rfl rfl)
theorem dX4_takeOver_102 : decode cX4_takeOver 102 = .ok (.iastore, 1) := dk_79 (dk_at dksX4_takeOver_4 9 rfl rfl)
theorem dX4_takeOver_103 : decode cX4_takeOver 103 = .ok (.dup, 1) := dk_89 (dk_at dksX4_takeOver_4 10 rfl rfl)
theorem dX4_takeOver_104 : decode cX4_takeOver 104 = .ok (.iconst 1, 1) := dk_4 (dk_at dksX4_takeOver_4 11 rfl rfl)
theorem dX4_takeOver_105 : decode cX4_takeOver 105 = .ok (.aload_n 0, 1) := dk_42 (dk_at dksX4_takeOver_4 12 rfl rfl)
theorem dX4_takeOver_106 : decode cX4_takeOver 106 = .ok (.getfield 43, 3) := dk_180 0 43 (dk_at dksX4_takeOver_4 13 rfl rfl)
theorem dX4_takeOver_109 : decode cX4_takeOver 109 = .ok (.iastore, 1) := dk_79 (dk_at dksX4_takeOver_4 16 rfl rfl)
theorem dX4_takeOver_110 : decode cX4_takeOver 110 = .ok (.invokevirtual 186, 3) := dk_182 0 186 (dk_at dksX4_takeOver_4 17 rfl rfl)
theorem dX4_takeOver_113 : decode cX4_takeOver 113 = .ok (.pop, 1) := dk_87 (dk_at dksX4_takeOver_4 20 rfl rfl)
theorem dX4_takeOver_114 : decode cX4_takeOver 114 = .ok (.iload 4, 2) := dk_21 4 (dk_at dksX4_takeOver_4 21 rfl rfl)
theorem dX4_takeOver_116 : decode cX4_takeOver 116 = .ok (.ireturn, 1) := dk_172 (dk_at dksX4_takeOver_4 23 rfl rfl)
abbrev cX4_parts : ByteArray := prog_14_method_63_code
def yX4_parts : MethodName := ⟨RX4, "parts", "(II)I"⟩
def dkwX4_parts_2 : List UInt8 := [180, 0, 30, 27, 182, 0, 108, 192, 0, 124, 28, 181, 1, 167, 29, 172]
abbrev dktX4_parts_2 : List UInt8 := dkwX4_parts_2 ++ []
def dkwX4_parts_1 : List UInt8 := [182, 0, 104, 154, 0, 5, 3, 172, 42, 180, 0, 30, 27, 182, 0, 108, 192, 0, 124, 180, 1, 167, 62, 42]
abbrev dktX4_parts_1 : List UInt8 := dkwX4_parts_1 ++ dktX4_parts_2
def dkwX4_parts_0 : List UInt8 := [42, 42, 27, 182, 1, 160, 4, 182, 0, 104, 153, 0, 20, 42, 28, 133, 10, 20, 1, 165, 184, 0, 100, 5]
abbrev dktX4_parts_0 : List UInt8 := dkwX4_parts_0 ++ dktX4_parts_1
theorem dksX4_parts_0 : cX4_parts.data.toList.drop 0 = dktX4_parts_0 := by decide +kernel
theorem dksX4_parts_1 : cX4_parts.data.toList.drop 24 = dktX4_parts_1 := dk_seg dksX4_parts_0 24 rfl rfl
theorem dksX4_parts_2 : cX4_parts.data.toList.drop 48 = dktX4_parts_2 := dk_seg dksX4_parts_1 24 rfl rfl
theorem dX4_parts_0 : decode cX4_parts 0 = .ok (.aload_n 0, 1) := dk_42 (dk_at dksX4_parts_0 0 rfl rfl)
theorem dX4_parts_1 : decode cX4_parts 1 = .ok (.aload_n 0, 1) := dk_42 (dk_at dksX4_parts_0 1 rfl rfl)
theorem dX4_parts_2 : decode cX4_parts 2 = .ok (.iload_n 1, 1) := dk_27 (dk_at dksX4_parts_0 2 rfl rfl)
theorem dX4_parts_3 : decode cX4_parts 3 = .ok (.invokevirtual 416, 3) := dk_182 1 160 (dk_at dksX4_parts_0 3 rfl rfl)
theorem dX4_parts_6 : decode cX4_parts 6 = .ok (.iconst 1, 1) := dk_4 (dk_at dksX4_parts_0 6 rfl rfl)
theorem dX4_parts_7 : decode cX4_parts 7 = .ok (.invokevirtual 104, 3) := dk_182 0 104 (dk_at dksX4_parts_0 7 rfl rfl)
theorem dX4_parts_10 : decode cX4_parts 10 = .ok (.ifCond .eq 20, 3) := dk_153 0 20 (dk_at dksX4_parts_0 10 rfl rfl)
theorem dX4_parts_13 : decode cX4_parts 13 = .ok (.aload_n 0, 1) := dk_42 (dk_at dksX4_parts_0 13 rfl rfl)
theorem dX4_parts_14 : decode cX4_parts 14 = .ok (.iload_n 2, 1) := dk_28 (dk_at dksX4_parts_0 14 rfl rfl)
theorem dX4_parts_15 : decode cX4_parts 15 = .ok (.i2l, 1) := dk_133 (dk_at dksX4_parts_0 15 rfl rfl)
theorem dX4_parts_16 : decode cX4_parts 16 = .ok (.lconst 1, 1) := dk_10 (dk_at dksX4_parts_0 16 rfl rfl)
theorem dX4_parts_17 : decode cX4_parts 17 = .ok (.ldc2_w 421, 3) := dk_20 1 165 (dk_at dksX4_parts_0 17 rfl rfl)
theorem dX4_parts_20 : decode cX4_parts 20 = .ok (.invokestatic 100, 3) := dk_184 0 100 (dk_at dksX4_parts_0 20 rfl rfl)
theorem dX4_parts_23 : decode cX4_parts 23 = .ok (.iconst 2, 1) := dk_5 (dk_at dksX4_parts_0 23 rfl rfl)
theorem dX4_parts_24 : decode cX4_parts 24 = .ok (.invokevirtual 104, 3) := dk_182 0 104 (dk_at dksX4_parts_1 0 rfl rfl)
theorem dX4_parts_27 : decode cX4_parts 27 = .ok (.ifCond .ne 5, 3) := dk_154 0 5 (dk_at dksX4_parts_1 3 rfl rfl)
theorem dX4_parts_30 : decode cX4_parts 30 = .ok (.iconst 0, 1) := dk_3 (dk_at dksX4_parts_1 6 rfl rfl)
theorem dX4_parts_31 : decode cX4_parts 31 = .ok (.ireturn, 1) := dk_172 (dk_at dksX4_parts_1 7 rfl rfl)
theorem dX4_parts_32 : decode cX4_parts 32 = .ok (.aload_n 0, 1) := dk_42 (dk_at dksX4_parts_1 8 rfl rfl)
theorem dX4_parts_33 : decode cX4_parts 33 = .ok (.getfield 30, 3) := dk_180 0 30 (dk_at dksX4_parts_1 9 rfl rfl)
theorem dX4_parts_36 : decode cX4_parts 36 = .ok (.iload_n 1, 1) := dk_27 (dk_at dksX4_parts_1 12 rfl rfl)
theorem dX4_parts_37 : decode cX4_parts 37 = .ok (.invokevirtual 108, 3) := dk_182 0 108 (dk_at dksX4_parts_1 13 rfl rfl)
theorem dX4_parts_40 : decode cX4_parts 40 = .ok (.checkcast 124, 3) := dk_192 0 124 (dk_at dksX4_parts_1 16 rfl rfl)
theorem dX4_parts_43 : decode cX4_parts 43 = .ok (.getfield 423, 3) := dk_180 1 167 (dk_at dksX4_parts_1 19 rfl rfl)
theorem dX4_parts_46 : decode cX4_parts 46 = .ok (.istore_n 3, 1) := dk_62 (dk_at dksX4_parts_1 22 rfl rfl)
theorem dX4_parts_47 : decode cX4_parts 47 = .ok (.aload_n 0, 1) := dk_42 (dk_at dksX4_parts_1 23 rfl rfl)
theorem dX4_parts_48 : decode cX4_parts 48 = .ok (.getfield 30, 3) := dk_180 0 30 (dk_at dksX4_parts_2 0 rfl rfl)
theorem dX4_parts_51 : decode cX4_parts 51 = .ok (.iload_n 1, 1) := dk_27 (dk_at dksX4_parts_2 3 rfl rfl)
theorem dX4_parts_52 : decode cX4_parts 52 = .ok (.invokevirtual 108, 3) := dk_182 0 108 (dk_at dksX4_parts_2 4 rfl rfl)
theorem dX4_parts_55 : decode cX4_parts 55 = .ok (.checkcast 124, 3) := dk_192 0 124 (dk_at dksX4_parts_2 7 rfl rfl)
theorem dX4_parts_58 : decode cX4_parts 58 = .ok (.iload_n 2, 1) := dk_28 (dk_at dksX4_parts_2 10 rfl rfl)
theorem dX4_parts_59 : decode cX4_parts 59 = .ok (.putfield 423, 3) := dk_181 1 167 (dk_at dksX4_parts_2 11 rfl rfl)
theorem dX4_parts_62 : decode cX4_parts 62 = .ok (.iload_n 3, 1) := dk_29 (dk_at dksX4_parts_2 14 rfl rfl)
theorem dX4_parts_63 : decode cX4_parts 63 = .ok (.ireturn, 1) := dk_172 (dk_at dksX4_parts_2 15 rfl rfl)
abbrev cX4_cure : ByteArray := prog_14_method_64_code
def yX4_cure : MethodName := ⟨RX4, "cure", "(II)I"⟩
def dkwX4_cure_4 : List UInt8 := [181, 0, 129, 167, 0, 13, 45, 3, 181, 0, 126, 45, 28, 181, 1, 117, 45, 180, 0, 126, 172]
abbrev dktX4_cure_4 : List UInt8 := dkwX4_cure_4 ++ []
def dkwX4_cure_3 : List UInt8 := [182, 0, 104, 154, 0, 5, 3, 172, 28, 2, 160, 0, 19, 45, 4, 181, 0, 126, 45, 42, 180, 0, 43]
abbrev dktX4_cure_3 : List UInt8 := dkwX4_cure_3 ++ dktX4_cure_4
def dkwX4_cure_2 : List UInt8 := [42, 45, 180, 0, 126, 28, 2, 160, 0, 7, 3, 167, 0, 4, 4, 160, 0, 7, 4, 167, 0, 4, 3, 6]
abbrev dktX4_cure_2 : List UInt8 := dkwX4_cure_2 ++ dktX4_cure_3
def dkwX4_cure_1 : List UInt8 := [184, 0, 100, 5, 182, 0, 104, 154, 0, 5, 3, 172, 42, 180, 0, 30, 27, 182, 0, 108, 192, 0, 124, 78]
abbrev dktX4_cure_1 : List UInt8 := dkwX4_cure_1 ++ dktX4_cure_2
def dkwX4_cure_0 : List UInt8 := [42, 42, 27, 182, 1, 160, 4, 182, 0, 104, 153, 0, 22, 42, 28, 133, 20, 1, 168, 20, 0, 171]
abbrev dktX4_cure_0 : List UInt8 := dkwX4_cure_0 ++ dktX4_cure_1
theorem dksX4_cure_0 : cX4_cure.data.toList.drop 0 = dktX4_cure_0 := by decide +kernel
theorem dksX4_cure_1 : cX4_cure.data.toList.drop 22 = dktX4_cure_1 := dk_seg dksX4_cure_0 22 rfl rfl
theorem dksX4_cure_2 : cX4_cure.data.toList.drop 46 = dktX4_cure_2 := dk_seg dksX4_cure_1 24 rfl rfl
theorem dksX4_cure_3 : cX4_cure.data.toList.drop 70 = dktX4_cure_3 := dk_seg dksX4_cure_2 24 rfl rfl
theorem dksX4_cure_4 : cX4_cure.data.toList.drop 93 = dktX4_cure_4 := dk_seg dksX4_cure_3 23 rfl rfl
theorem dX4_cure_0 : decode cX4_cure 0 = .ok (.aload_n 0, 1) := dk_42 (dk_at dksX4_cure_0 0 rfl rfl)
theorem dX4_cure_1 : decode cX4_cure 1 = .ok (.aload_n 0, 1) := dk_42 (dk_at dksX4_cure_0 1 rfl rfl)
theorem dX4_cure_2 : decode cX4_cure 2 = .ok (.iload_n 1, 1) := dk_27 (dk_at dksX4_cure_0 2 rfl rfl)
theorem dX4_cure_3 : decode cX4_cure 3 = .ok (.invokevirtual 416, 3) := dk_182 1 160 (dk_at dksX4_cure_0 3 rfl rfl)
theorem dX4_cure_6 : decode cX4_cure 6 = .ok (.iconst 1, 1) := dk_4 (dk_at dksX4_cure_0 6 rfl rfl)
theorem dX4_cure_7 : decode cX4_cure 7 = .ok (.invokevirtual 104, 3) := dk_182 0 104 (dk_at dksX4_cure_0 7 rfl rfl)
theorem dX4_cure_10 : decode cX4_cure 10 = .ok (.ifCond .eq 22, 3) := dk_153 0 22 (dk_at dksX4_cure_0 10 rfl rfl)
theorem dX4_cure_13 : decode cX4_cure 13 = .ok (.aload_n 0, 1) := dk_42 (dk_at dksX4_cure_0 13 rfl rfl)
theorem dX4_cure_14 : decode cX4_cure 14 = .ok (.iload_n 2, 1) := dk_28 (dk_at dksX4_cure_0 14 rfl rfl)
theorem dX4_cure_15 : decode cX4_cure 15 = .ok (.i2l, 1) := dk_133 (dk_at dksX4_cure_0 15 rfl rfl)
theorem dX4_cure_16 : decode cX4_cure 16 = .ok (.ldc2_w 424, 3) := dk_20 1 168 (dk_at dksX4_cure_0 16 rfl rfl)
theorem dX4_cure_19 : decode cX4_cure 19 = .ok (.ldc2_w 171, 3) := dk_20 0 171 (dk_at dksX4_cure_0 19 rfl rfl)
theorem dX4_cure_22 : decode cX4_cure 22 = .ok (.invokestatic 100, 3) := dk_184 0 100 (dk_at dksX4_cure_1 0 rfl rfl)
theorem dX4_cure_25 : decode cX4_cure 25 = .ok (.iconst 2, 1) := dk_5 (dk_at dksX4_cure_1 3 rfl rfl)
theorem dX4_cure_26 : decode cX4_cure 26 = .ok (.invokevirtual 104, 3) := dk_182 0 104 (dk_at dksX4_cure_1 4 rfl rfl)
theorem dX4_cure_29 : decode cX4_cure 29 = .ok (.ifCond .ne 5, 3) := dk_154 0 5 (dk_at dksX4_cure_1 7 rfl rfl)
theorem dX4_cure_32 : decode cX4_cure 32 = .ok (.iconst 0, 1) := dk_3 (dk_at dksX4_cure_1 10 rfl rfl)
theorem dX4_cure_33 : decode cX4_cure 33 = .ok (.ireturn, 1) := dk_172 (dk_at dksX4_cure_1 11 rfl rfl)
theorem dX4_cure_34 : decode cX4_cure 34 = .ok (.aload_n 0, 1) := dk_42 (dk_at dksX4_cure_1 12 rfl rfl)
theorem dX4_cure_35 : decode cX4_cure 35 = .ok (.getfield 30, 3) := dk_180 0 30 (dk_at dksX4_cure_1 13 rfl rfl)
theorem dX4_cure_38 : decode cX4_cure 38 = .ok (.iload_n 1, 1) := dk_27 (dk_at dksX4_cure_1 16 rfl rfl)
theorem dX4_cure_39 : decode cX4_cure 39 = .ok (.invokevirtual 108, 3) := dk_182 0 108 (dk_at dksX4_cure_1 17 rfl rfl)
theorem dX4_cure_42 : decode cX4_cure 42 = .ok (.checkcast 124, 3) := dk_192 0 124 (dk_at dksX4_cure_1 20 rfl rfl)
theorem dX4_cure_45 : decode cX4_cure 45 = .ok (.astore_n 3, 1) := dk_78 (dk_at dksX4_cure_1 23 rfl rfl)
theorem dX4_cure_46 : decode cX4_cure 46 = .ok (.aload_n 0, 1) := dk_42 (dk_at dksX4_cure_2 0 rfl rfl)
theorem dX4_cure_47 : decode cX4_cure 47 = .ok (.aload_n 3, 1) := dk_45 (dk_at dksX4_cure_2 1 rfl rfl)
theorem dX4_cure_48 : decode cX4_cure 48 = .ok (.getfield 126, 3) := dk_180 0 126 (dk_at dksX4_cure_2 2 rfl rfl)
theorem dX4_cure_51 : decode cX4_cure 51 = .ok (.iload_n 2, 1) := dk_28 (dk_at dksX4_cure_2 5 rfl rfl)
theorem dX4_cure_52 : decode cX4_cure 52 = .ok (.iconst (-1), 1) := dk_2 (dk_at dksX4_cure_2 6 rfl rfl)
theorem dX4_cure_53 : decode cX4_cure 53 = .ok (.if_icmp .ne 7, 3) := dk_160 0 7 (dk_at dksX4_cure_2 7 rfl rfl)
theorem dX4_cure_56 : decode cX4_cure 56 = .ok (.iconst 0, 1) := dk_3 (dk_at dksX4_cure_2 10 rfl rfl)
theorem dX4_cure_57 : decode cX4_cure 57 = .ok (.goto 4, 3) := dk_167 0 4 (dk_at dksX4_cure_2 11 rfl rfl)
theorem dX4_cure_60 : decode cX4_cure 60 = .ok (.iconst 1, 1) := dk_4 (dk_at dksX4_cure_2 14 rfl rfl)
theorem dX4_cure_61 : decode cX4_cure 61 = .ok (.if_icmp .ne 7, 3) := dk_160 0 7 (dk_at dksX4_cure_2 15 rfl rfl)
theorem dX4_cure_64 : decode cX4_cure 64 = .ok (.iconst 1, 1) := dk_4 (dk_at dksX4_cure_2 18 rfl rfl)
theorem dX4_cure_65 : decode cX4_cure 65 = .ok (.goto 4, 3) := dk_167 0 4 (dk_at dksX4_cure_2 19 rfl rfl)
theorem dX4_cure_68 : decode cX4_cure 68 = .ok (.iconst 0, 1) := dk_3 (dk_at dksX4_cure_2 22 rfl rfl)
theorem dX4_cure_69 : decode cX4_cure 69 = .ok (.iconst 3, 1) := dk_6 (dk_at dksX4_cure_2 23 rfl rfl)
theorem dX4_cure_70 : decode cX4_cure 70 = .ok (.invokevirtual 104, 3) := dk_182 0 104 (dk_at dksX4_cure_3 0 rfl rfl)
theorem dX4_cure_73 : decode cX4_cure 73 = .ok (.ifCond .ne 5, 3) := dk_154 0 5 (dk_at dksX4_cure_3 3 rfl rfl)
theorem dX4_cure_76 : decode cX4_cure 76 = .ok (.iconst 0, 1) := dk_3 (dk_at dksX4_cure_3 6 rfl rfl)
theorem dX4_cure_77 : decode cX4_cure 77 = .ok (.ireturn, 1) := dk_172 (dk_at dksX4_cure_3 7 rfl rfl)
theorem dX4_cure_78 : decode cX4_cure 78 = .ok (.iload_n 2, 1) := dk_28 (dk_at dksX4_cure_3 8 rfl rfl)
theorem dX4_cure_79 : decode cX4_cure 79 = .ok (.iconst (-1), 1) := dk_2 (dk_at dksX4_cure_3 9 rfl rfl)
theorem dX4_cure_80 : decode cX4_cure 80 = .ok (.if_icmp .ne 19, 3) := dk_160 0 19 (dk_at dksX4_cure_3 10 rfl rfl)
theorem dX4_cure_83 : decode cX4_cure 83 = .ok (.aload_n 3, 1) := dk_45 (dk_at dksX4_cure_3 13 rfl rfl)
theorem dX4_cure_84 : decode cX4_cure 84 = .ok (.iconst 1, 1) := dk_4 (dk_at dksX4_cure_3 14 rfl rfl)
theorem dX4_cure_85 : decode cX4_cure 85 = .ok (.putfield 126, 3) := dk_181 0 126 (dk_at dksX4_cure_3 15 rfl rfl)
theorem dX4_cure_88 : decode cX4_cure 88 = .ok (.aload_n 3, 1) := dk_45 (dk_at dksX4_cure_3 18 rfl rfl)
theorem dX4_cure_89 : decode cX4_cure 89 = .ok (.aload_n 0, 1) := dk_42 (dk_at dksX4_cure_3 19 rfl rfl)
theorem dX4_cure_90 : decode cX4_cure 90 = .ok (.getfield 43, 3) := dk_180 0 43 (dk_at dksX4_cure_3 20 rfl rfl)
theorem dX4_cure_93 : decode cX4_cure 93 = .ok (.putfield 129, 3) := dk_181 0 129 (dk_at dksX4_cure_4 0 rfl rfl)
theorem dX4_cure_96 : decode cX4_cure 96 = .ok (.goto 13, 3) := dk_167 0 13 (dk_at dksX4_cure_4 3 rfl rfl)
theorem dX4_cure_99 : decode cX4_cure 99 = .ok (.aload_n 3, 1) := dk_45 (dk_at dksX4_cure_4 6 rfl rfl)
theorem dX4_cure_100 : decode cX4_cure 100 = .ok (.iconst 0, 1) := dk_3 (dk_at dksX4_cure_4 7 rfl rfl)
theorem dX4_cure_101 : decode cX4_cure 101 = .ok (.putfield 126, 3) := dk_181 0 126 (dk_at dksX4_cure_4 8 rfl rfl)
theorem dX4_cure_104 : decode cX4_cure 104 = .ok (.aload_n 3, 1) := dk_45 (dk_at dksX4_cure_4 11 rfl rfl)
theorem dX4_cure_105 : decode cX4_cure 105 = .ok (.iload_n 2, 1) := dk_28 (dk_at dksX4_cure_4 12 rfl rfl)
theorem dX4_cure_106 : decode cX4_cure 106 = .ok (.putfield 373, 3) := dk_181 1 117 (dk_at dksX4_cure_4 13 rfl rfl)
theorem dX4_cure_109 : decode cX4_cure 109 = .ok (.aload_n 3, 1) := dk_45 (dk_at dksX4_cure_4 16 rfl rfl)
theorem dX4_cure_110 : decode cX4_cure 110 = .ok (.getfield 126, 3) := dk_180 0 126 (dk_at dksX4_cure_4 17 rfl rfl)
theorem dX4_cure_113 : decode cX4_cure 113 = .ok (.ireturn, 1) := dk_172 (dk_at dksX4_cure_4 20 rfl rfl)
abbrev cX4_sample : ByteArray := prog_14_method_65_code
def yX4_sample : MethodName := ⟨RX4, "sample", "(I)I"⟩
def dkwX4_sample_3 : List UInt8 := [112, 160, 0, 12, 25, 4, 5, 181, 0, 126, 132, 2, 1, 132, 3, 1, 167, 255, 192, 28, 172]
abbrev dktX4_sample_3 : List UInt8 := dkwX4_sample_3 ++ []
def dkwX4_sample_2 : List UInt8 := [25, 4, 180, 0, 126, 154, 0, 32, 25, 4, 180, 1, 136, 154, 0, 24, 29, 27, 112, 42, 180, 0, 43, 27]
abbrev dktX4_sample_2 : List UInt8 := dkwX4_sample_2 ++ dktX4_sample_3
def dkwX4_sample_1 : List UInt8 := [42, 180, 0, 30, 182, 0, 94, 162, 0, 59, 42, 180, 0, 30, 29, 182, 0, 108, 192, 0, 124, 58, 4]
abbrev dktX4_sample_1 : List UInt8 := dkwX4_sample_1 ++ dktX4_sample_2
def dkwX4_sample_0 : List UInt8 := [42, 27, 133, 10, 20, 1, 77, 184, 0, 100, 4, 182, 0, 104, 154, 0, 5, 3, 172, 3, 61, 3, 62, 29]
abbrev dktX4_sample_0 : List UInt8 := dkwX4_sample_0 ++ dktX4_sample_1
theorem dksX4_sample_0 : cX4_sample.data.toList.drop 0 = dktX4_sample_0 := by decide +kernel
theorem dksX4_sample_1 : cX4_sample.data.toList.drop 24 = dktX4_sample_1 := dk_seg dksX4_sample_0 24 rfl rfl
theorem dksX4_sample_2 : cX4_sample.data.toList.drop 47 = dktX4_sample_2 := dk_seg dksX4_sample_1 23 rfl rfl
theorem dksX4_sample_3 : cX4_sample.data.toList.drop 71 = dktX4_sample_3 := dk_seg dksX4_sample_2 24 rfl rfl
theorem dX4_sample_0 : decode cX4_sample 0 = .ok (.aload_n 0, 1) := dk_42 (dk_at dksX4_sample_0 0 rfl rfl)
theorem dX4_sample_1 : decode cX4_sample 1 = .ok (.iload_n 1, 1) := dk_27 (dk_at dksX4_sample_0 1 rfl rfl)
theorem dX4_sample_2 : decode cX4_sample 2 = .ok (.i2l, 1) := dk_133 (dk_at dksX4_sample_0 2 rfl rfl)
theorem dX4_sample_3 : decode cX4_sample 3 = .ok (.lconst 1, 1) := dk_10 (dk_at dksX4_sample_0 3 rfl rfl)
theorem dX4_sample_4 : decode cX4_sample 4 = .ok (.ldc2_w 333, 3) := dk_20 1 77 (dk_at dksX4_sample_0 4 rfl rfl)
theorem dX4_sample_7 : decode cX4_sample 7 = .ok (.invokestatic 100, 3) := dk_184 0 100 (dk_at dksX4_sample_0 7 rfl rfl)
theorem dX4_sample_10 : decode cX4_sample 10 = .ok (.iconst 1, 1) := dk_4 (dk_at dksX4_sample_0 10 rfl rfl)
theorem dX4_sample_11 : decode cX4_sample 11 = .ok (.invokevirtual 104, 3) := dk_182 0 104 (dk_at dksX4_sample_0 11 rfl rfl)
theorem dX4_sample_14 : decode cX4_sample 14 = .ok (.ifCond .ne 5, 3) := dk_154 0 5 (dk_at dksX4_sample_0 14 rfl rfl)
theorem dX4_sample_17 : decode cX4_sample 17 = .ok (.iconst 0, 1) := dk_3 (dk_at dksX4_sample_0 17 rfl rfl)
theorem dX4_sample_18 : decode cX4_sample 18 = .ok (.ireturn, 1) := dk_172 (dk_at dksX4_sample_0 18 rfl rfl)
theorem dX4_sample_19 : decode cX4_sample 19 = .ok (.iconst 0, 1) := dk_3 (dk_at dksX4_sample_0 19 rfl rfl)
theorem dX4_sample_20 : decode cX4_sample 20 = .ok (.istore_n 2, 1) := dk_61 (dk_at dksX4_sample_0 20 rfl rfl)
theorem dX4_sample_21 : decode cX4_sample 21 = .ok (.iconst 0, 1) := dk_3 (dk_at dksX4_sample_0 21 rfl rfl)
theorem dX4_sample_22 : decode cX4_sample 22 = .ok (.istore_n 3, 1) := dk_62 (dk_at dksX4_sample_0 22 rfl rfl)
theorem dX4_sample_23 : decode cX4_sample 23 = .ok (.iload_n 3, 1) := dk_29 (dk_at dksX4_sample_0 23 rfl rfl)
theorem dX4_sample_24 : decode cX4_sample 24 = .ok (.aload_n 0, 1) := dk_42 (dk_at dksX4_sample_1 0 rfl rfl)
theorem dX4_sample_25 : decode cX4_sample 25 = .ok (.getfield 30, 3) := dk_180 0 30 (dk_at dksX4_sample_1 1 rfl rfl)
theorem dX4_sample_28 : decode cX4_sample 28 = .ok (.invokevirtual 94, 3) := dk_182 0 94 (dk_at dksX4_sample_1 4 rfl rfl)
theorem dX4_sample_31 : decode cX4_sample 31 = .ok (.if_icmp .ge 59, 3) := dk_162 0 59 (dk_at dksX4_sample_1 7 rfl rfl)
theorem dX4_sample_34 : decode cX4_sample 34 = .ok (.aload_n 0, 1) := dk_42 (dk_at dksX4_sample_1 10 rfl rfl)
theorem dX4_sample_35 : decode cX4_sample 35 = .ok (.getfield 30, 3) := dk_180 0 30 (dk_at dksX4_sample_1 11 rfl rfl)
theorem dX4_sample_38 : decode cX4_sample 38 = .ok (.iload_n 3, 1) := dk_29 (dk_at dksX4_sample_1 14 rfl rfl)
theorem dX4_sample_39 : decode cX4_sample 39 = .ok (.invokevirtual 108, 3) := dk_182 0 108 (dk_at dksX4_sample_1 15 rfl rfl)
theorem dX4_sample_42 : decode cX4_sample 42 = .ok (.checkcast 124, 3) := dk_192 0 124 (dk_at dksX4_sample_1 18 rfl rfl)
theorem dX4_sample_45 : decode cX4_sample 45 = .ok (.astore 4, 2) := dk_58 4 (dk_at dksX4_sample_1 21 rfl rfl)
theorem dX4_sample_47 : decode cX4_sample 47 = .ok (.aload 4, 2) := dk_25 4 (dk_at dksX4_sample_2 0 rfl rfl)
theorem dX4_sample_49 : decode cX4_sample 49 = .ok (.getfield 126, 3) := dk_180 0 126 (dk_at dksX4_sample_2 2 rfl rfl)
theorem dX4_sample_52 : decode cX4_sample 52 = .ok (.ifCond .ne 32, 3) := dk_154 0 32 (dk_at dksX4_sample_2 5 rfl rfl)
theorem dX4_sample_55 : decode cX4_sample 55 = .ok (.aload 4, 2) := dk_25 4 (dk_at dksX4_sample_2 8 rfl rfl)
theorem dX4_sample_57 : decode cX4_sample 57 = .ok (.getfield 392, 3) := dk_180 1 136 (dk_at dksX4_sample_2 10 rfl rfl)
theorem dX4_sample_60 : decode cX4_sample 60 = .ok (.ifCond .ne 24, 3) := dk_154 0 24 (dk_at dksX4_sample_2 13 rfl rfl)
theorem dX4_sample_63 : decode cX4_sample 63 = .ok (.iload_n 3, 1) := dk_29 (dk_at dksX4_sample_2 16 rfl rfl)
theorem dX4_sample_64 : decode cX4_sample 64 = .ok (.iload_n 1, 1) := dk_27 (dk_at dksX4_sample_2 17 rfl rfl)
theorem dX4_sample_65 : decode cX4_sample 65 = .ok (.irem, 1) := dk_112 (dk_at dksX4_sample_2 18 rfl rfl)
theorem dX4_sample_66 : decode cX4_sample 66 = .ok (.aload_n 0, 1) := dk_42 (dk_at dksX4_sample_2 19 rfl rfl)
theorem dX4_sample_67 : decode cX4_sample 67 = .ok (.getfield 43, 3) := dk_180 0 43 (dk_at dksX4_sample_2 20 rfl rfl)
theorem dX4_sample_70 : decode cX4_sample 70 = .ok (.iload_n 1, 1) := dk_27 (dk_at dksX4_sample_2 23 rfl rfl)
theorem dX4_sample_71 : decode cX4_sample 71 = .ok (.irem, 1) := dk_112 (dk_at dksX4_sample_3 0 rfl rfl)
theorem dX4_sample_72 : decode cX4_sample 72 = .ok (.if_icmp .ne 12, 3) := dk_160 0 12 (dk_at dksX4_sample_3 1 rfl rfl)
theorem dX4_sample_75 : decode cX4_sample 75 = .ok (.aload 4, 2) := dk_25 4 (dk_at dksX4_sample_3 4 rfl rfl)
theorem dX4_sample_77 : decode cX4_sample 77 = .ok (.iconst 2, 1) := dk_5 (dk_at dksX4_sample_3 6 rfl rfl)
theorem dX4_sample_78 : decode cX4_sample 78 = .ok (.putfield 126, 3) := dk_181 0 126 (dk_at dksX4_sample_3 7 rfl rfl)
theorem dX4_sample_81 : decode cX4_sample 81 = .ok (.iinc 2 1, 3) := dk_132 2 1 (dk_at dksX4_sample_3 10 rfl rfl)
theorem dX4_sample_84 : decode cX4_sample 84 = .ok (.iinc 3 1, 3) := dk_132 3 1 (dk_at dksX4_sample_3 13 rfl rfl)
theorem dX4_sample_87 : decode cX4_sample 87 = .ok (.goto (-64), 3) := dk_167 255 192 (dk_at dksX4_sample_3 16 rfl rfl)
theorem dX4_sample_90 : decode cX4_sample 90 = .ok (.iload_n 2, 1) := dk_28 (dk_at dksX4_sample_3 19 rfl rfl)
theorem dX4_sample_91 : decode cX4_sample 91 = .ok (.ireturn, 1) := dk_172 (dk_at dksX4_sample_3 20 rfl rfl)
abbrev cX4_audit : ByteArray := prog_14_method_66_code
def yX4_audit : MethodName := ⟨RX4, "audit", "(IZ)I"⟩
def dkwX4_audit_3 : List UInt8 := [167, 0, 4, 7, 181, 0, 126, 45, 180, 0, 126, 172]
abbrev dktX4_audit_3 : List UInt8 := dkwX4_audit_3 ++ []
def dkwX4_audit_2 : List UInt8 := [42, 180, 0, 30, 27, 182, 0, 108, 192, 0, 124, 78, 45, 4, 181, 1, 136, 45, 28, 153, 0, 7, 3]
abbrev dktX4_audit_2 : List UInt8 := dkwX4_audit_2 ++ dktX4_audit_3
def dkwX4_audit_1 : List UInt8 := [192, 0, 124, 180, 0, 126, 5, 160, 0, 7, 4, 167, 0, 4, 3, 5, 182, 0, 104, 154, 0, 5, 3, 172]
abbrev dktX4_audit_1 : List UInt8 := dkwX4_audit_1 ++ dktX4_audit_2
def dkwX4_audit_0 : List UInt8 := [42, 42, 27, 182, 1, 160, 4, 182, 0, 104, 153, 0, 34, 42, 42, 180, 0, 30, 27, 182, 0, 108]
abbrev dktX4_audit_0 : List UInt8 := dkwX4_audit_0 ++ dktX4_audit_1
theorem dksX4_audit_0 : cX4_audit.data.toList.drop 0 = dktX4_audit_0 := by decide +kernel
theorem dksX4_audit_1 : cX4_audit.data.toList.drop 22 = dktX4_audit_1 := dk_seg dksX4_audit_0 22 rfl rfl
theorem dksX4_audit_2 : cX4_audit.data.toList.drop 46 = dktX4_audit_2 := dk_seg dksX4_audit_1 24 rfl rfl
theorem dksX4_audit_3 : cX4_audit.data.toList.drop 69 = dktX4_audit_3 := dk_seg dksX4_audit_2 23 rfl rfl
theorem dX4_audit_0 : decode cX4_audit 0 = .ok (.aload_n 0, 1) := dk_42 (dk_at dksX4_audit_0 0 rfl rfl)
theorem dX4_audit_1 : decode cX4_audit 1 = .ok (.aload_n 0, 1) := dk_42 (dk_at dksX4_audit_0 1 rfl rfl)
theorem dX4_audit_2 : decode cX4_audit 2 = .ok (.iload_n 1, 1) := dk_27 (dk_at dksX4_audit_0 2 rfl rfl)
theorem dX4_audit_3 : decode cX4_audit 3 = .ok (.invokevirtual 416, 3) := dk_182 1 160 (dk_at dksX4_audit_0 3 rfl rfl)
theorem dX4_audit_6 : decode cX4_audit 6 = .ok (.iconst 1, 1) := dk_4 (dk_at dksX4_audit_0 6 rfl rfl)
theorem dX4_audit_7 : decode cX4_audit 7 = .ok (.invokevirtual 104, 3) := dk_182 0 104 (dk_at dksX4_audit_0 7 rfl rfl)
theorem dX4_audit_10 : decode cX4_audit 10 = .ok (.ifCond .eq 34, 3) := dk_153 0 34 (dk_at dksX4_audit_0 10 rfl rfl)
theorem dX4_audit_13 : decode cX4_audit 13 = .ok (.aload_n 0, 1) := dk_42 (dk_at dksX4_audit_0 13 rfl rfl)
theorem dX4_audit_14 : decode cX4_audit 14 = .ok (.aload_n 0, 1) := dk_42 (dk_at dksX4_audit_0 14 rfl rfl)
theorem dX4_audit_15 : decode cX4_audit 15 = .ok (.getfield 30, 3) := dk_180 0 30 (dk_at dksX4_audit_0 15 rfl rfl)
theorem dX4_audit_18 : decode cX4_audit 18 = .ok (.iload_n 1, 1) := dk_27 (dk_at dksX4_audit_0 18 rfl rfl)
theorem dX4_audit_19 : decode cX4_audit 19 = .ok (.invokevirtual 108, 3) := dk_182 0 108 (dk_at dksX4_audit_0 19 rfl rfl)
theorem dX4_audit_22 : decode cX4_audit 22 = .ok (.checkcast 124, 3) := dk_192 0 124 (dk_at dksX4_audit_1 0 rfl rfl)
theorem dX4_audit_25 : decode cX4_audit 25 = .ok (.getfield 126, 3) := dk_180 0 126 (dk_at dksX4_audit_1 3 rfl rfl)
theorem dX4_audit_28 : decode cX4_audit 28 = .ok (.iconst 2, 1) := dk_5 (dk_at dksX4_audit_1 6 rfl rfl)
theorem dX4_audit_29 : decode cX4_audit 29 = .ok (.if_icmp .ne 7, 3) := dk_160 0 7 (dk_at dksX4_audit_1 7 rfl rfl)
theorem dX4_audit_32 : decode cX4_audit 32 = .ok (.iconst 1, 1) := dk_4 (dk_at dksX4_audit_1 10 rfl rfl)
theorem dX4_audit_33 : decode cX4_audit 33 = .ok (.goto 4, 3) := dk_167 0 4 (dk_at dksX4_audit_1 11 rfl rfl)
theorem dX4_audit_36 : decode cX4_audit 36 = .ok (.iconst 0, 1) := dk_3 (dk_at dksX4_audit_1 14 rfl rfl)
theorem dX4_audit_37 : decode cX4_audit 37 = .ok (.iconst 2, 1) := dk_5 (dk_at dksX4_audit_1 15 rfl rfl)
theorem dX4_audit_38 : decode cX4_audit 38 = .ok (.invokevirtual 104, 3) := dk_182 0 104 (dk_at dksX4_audit_1 16 rfl rfl)
theorem dX4_audit_41 : decode cX4_audit 41 = .ok (.ifCond .ne 5, 3) := dk_154 0 5 (dk_at dksX4_audit_1 19 rfl rfl)
theorem dX4_audit_44 : decode cX4_audit 44 = .ok (.iconst 0, 1) := dk_3 (dk_at dksX4_audit_1 22 rfl rfl)
theorem dX4_audit_45 : decode cX4_audit 45 = .ok (.ireturn, 1) := dk_172 (dk_at dksX4_audit_1 23 rfl rfl)
theorem dX4_audit_46 : decode cX4_audit 46 = .ok (.aload_n 0, 1) := dk_42 (dk_at dksX4_audit_2 0 rfl rfl)
theorem dX4_audit_47 : decode cX4_audit 47 = .ok (.getfield 30, 3) := dk_180 0 30 (dk_at dksX4_audit_2 1 rfl rfl)
theorem dX4_audit_50 : decode cX4_audit 50 = .ok (.iload_n 1, 1) := dk_27 (dk_at dksX4_audit_2 4 rfl rfl)
theorem dX4_audit_51 : decode cX4_audit 51 = .ok (.invokevirtual 108, 3) := dk_182 0 108 (dk_at dksX4_audit_2 5 rfl rfl)
theorem dX4_audit_54 : decode cX4_audit 54 = .ok (.checkcast 124, 3) := dk_192 0 124 (dk_at dksX4_audit_2 8 rfl rfl)
theorem dX4_audit_57 : decode cX4_audit 57 = .ok (.astore_n 3, 1) := dk_78 (dk_at dksX4_audit_2 11 rfl rfl)
theorem dX4_audit_58 : decode cX4_audit 58 = .ok (.aload_n 3, 1) := dk_45 (dk_at dksX4_audit_2 12 rfl rfl)
theorem dX4_audit_59 : decode cX4_audit 59 = .ok (.iconst 1, 1) := dk_4 (dk_at dksX4_audit_2 13 rfl rfl)
theorem dX4_audit_60 : decode cX4_audit 60 = .ok (.putfield 392, 3) := dk_181 1 136 (dk_at dksX4_audit_2 14 rfl rfl)
theorem dX4_audit_63 : decode cX4_audit 63 = .ok (.aload_n 3, 1) := dk_45 (dk_at dksX4_audit_2 17 rfl rfl)
theorem dX4_audit_64 : decode cX4_audit 64 = .ok (.iload_n 2, 1) := dk_28 (dk_at dksX4_audit_2 18 rfl rfl)
theorem dX4_audit_65 : decode cX4_audit 65 = .ok (.ifCond .eq 7, 3) := dk_153 0 7 (dk_at dksX4_audit_2 19 rfl rfl)
theorem dX4_audit_68 : decode cX4_audit 68 = .ok (.iconst 0, 1) := dk_3 (dk_at dksX4_audit_2 22 rfl rfl)
theorem dX4_audit_69 : decode cX4_audit 69 = .ok (.goto 4, 3) := dk_167 0 4 (dk_at dksX4_audit_3 0 rfl rfl)
theorem dX4_audit_72 : decode cX4_audit 72 = .ok (.iconst 4, 1) := dk_7 (dk_at dksX4_audit_3 3 rfl rfl)
theorem dX4_audit_73 : decode cX4_audit 73 = .ok (.putfield 126, 3) := dk_181 0 126 (dk_at dksX4_audit_3 4 rfl rfl)
theorem dX4_audit_76 : decode cX4_audit 76 = .ok (.aload_n 3, 1) := dk_45 (dk_at dksX4_audit_3 7 rfl rfl)
theorem dX4_audit_77 : decode cX4_audit 77 = .ok (.getfield 126, 3) := dk_180 0 126 (dk_at dksX4_audit_3 8 rfl rfl)
theorem dX4_audit_80 : decode cX4_audit 80 = .ok (.ireturn, 1) := dk_172 (dk_at dksX4_audit_3 11 rfl rfl)
abbrev cX4_appeal : ByteArray := prog_14_method_67_code
def yX4_appeal : MethodName := ⟨RX4, "appeal", "(IZ)I"⟩
def dkwX4_appeal_3 : List UInt8 := [181, 1, 170, 45, 28, 153, 0, 7, 3, 167, 0, 7, 45, 180, 0, 126, 181, 0, 126, 45, 180, 0, 126, 172]
abbrev dktX4_appeal_3 : List UInt8 := dkwX4_appeal_3 ++ []
def dkwX4_appeal_2 : List UInt8 := [180, 1, 170, 154, 0, 7, 4, 167, 0, 4, 3, 5, 182, 0, 104, 154, 0, 5, 3, 172, 45, 4]
abbrev dktX4_appeal_2 : List UInt8 := dkwX4_appeal_2 ++ dktX4_appeal_3
def dkwX4_appeal_1 : List UInt8 := [192, 0, 124, 78, 42, 45, 180, 0, 126, 6, 159, 0, 11, 45, 180, 0, 126, 7, 160, 0, 14, 45]
abbrev dktX4_appeal_1 : List UInt8 := dkwX4_appeal_1 ++ dktX4_appeal_2
def dkwX4_appeal_0 : List UInt8 := [42, 42, 27, 182, 1, 160, 4, 182, 0, 104, 154, 0, 5, 3, 172, 42, 180, 0, 30, 27, 182, 0, 108]
abbrev dktX4_appeal_0 : List UInt8 := dkwX4_appeal_0 ++ dktX4_appeal_1
theorem dksX4_appeal_0 : cX4_appeal.data.toList.drop 0 = dktX4_appeal_0 := by decide +kernel
theorem dksX4_appeal_1 : cX4_appeal.data.toList.drop 23 = dktX4_appeal_1 := dk_seg dksX4_appeal_0 23 rfl rfl
theorem dksX4_appeal_2 : cX4_appeal.data.toList.drop 45 = dktX4_appeal_2 := dk_seg dksX4_appeal_1 22 rfl rfl
theorem dksX4_appeal_3 : cX4_appeal.data.toList.drop 67 = dktX4_appeal_3 := dk_seg dksX4_appeal_2 22 rfl rfl
theorem dX4_appeal_0 : decode cX4_appeal 0 = .ok (.aload_n 0, 1) := dk_42 (dk_at dksX4_appeal_0 0 rfl rfl)
theorem dX4_appeal_1 : decode cX4_appeal 1 = .ok (.aload_n 0, 1) := dk_42 (dk_at dksX4_appeal_0 1 rfl rfl)
theorem dX4_appeal_2 : decode cX4_appeal 2 = .ok (.iload_n 1, 1) := dk_27 (dk_at dksX4_appeal_0 2 rfl rfl)
theorem dX4_appeal_3 : decode cX4_appeal 3 = .ok (.invokevirtual 416, 3) := dk_182 1 160 (dk_at dksX4_appeal_0 3 rfl rfl)
theorem dX4_appeal_6 : decode cX4_appeal 6 = .ok (.iconst 1, 1) := dk_4 (dk_at dksX4_appeal_0 6 rfl rfl)
theorem dX4_appeal_7 : decode cX4_appeal 7 = .ok (.invokevirtual 104, 3) := dk_182 0 104 (dk_at dksX4_appeal_0 7 rfl rfl)
theorem dX4_appeal_10 : decode cX4_appeal 10 = .ok (.ifCond .ne 5, 3) := dk_154 0 5 (dk_at dksX4_appeal_0 10 rfl rfl)
theorem dX4_appeal_13 : decode cX4_appeal 13 = .ok (.iconst 0, 1) := dk_3 (dk_at dksX4_appeal_0 13 rfl rfl)
theorem dX4_appeal_14 : decode cX4_appeal 14 = .ok (.ireturn, 1) := dk_172 (dk_at dksX4_appeal_0 14 rfl rfl)
theorem dX4_appeal_15 : decode cX4_appeal 15 = .ok (.aload_n 0, 1) := dk_42 (dk_at dksX4_appeal_0 15 rfl rfl)
theorem dX4_appeal_16 : decode cX4_appeal 16 = .ok (.getfield 30, 3) := dk_180 0 30 (dk_at dksX4_appeal_0 16 rfl rfl)
theorem dX4_appeal_19 : decode cX4_appeal 19 = .ok (.iload_n 1, 1) := dk_27 (dk_at dksX4_appeal_0 19 rfl rfl)
theorem dX4_appeal_20 : decode cX4_appeal 20 = .ok (.invokevirtual 108, 3) := dk_182 0 108 (dk_at dksX4_appeal_0 20 rfl rfl)
theorem dX4_appeal_23 : decode cX4_appeal 23 = .ok (.checkcast 124, 3) := dk_192 0 124 (dk_at dksX4_appeal_1 0 rfl rfl)
theorem dX4_appeal_26 : decode cX4_appeal 26 = .ok (.astore_n 3, 1) := dk_78 (dk_at dksX4_appeal_1 3 rfl rfl)
theorem dX4_appeal_27 : decode cX4_appeal 27 = .ok (.aload_n 0, 1) := dk_42 (dk_at dksX4_appeal_1 4 rfl rfl)
theorem dX4_appeal_28 : decode cX4_appeal 28 = .ok (.aload_n 3, 1) := dk_45 (dk_at dksX4_appeal_1 5 rfl rfl)
theorem dX4_appeal_29 : decode cX4_appeal 29 = .ok (.getfield 126, 3) := dk_180 0 126 (dk_at dksX4_appeal_1 6 rfl rfl)
theorem dX4_appeal_32 : decode cX4_appeal 32 = .ok (.iconst 3, 1) := dk_6 (dk_at dksX4_appeal_1 9 rfl rfl)
theorem dX4_appeal_33 : decode cX4_appeal 33 = .ok (.if_icmp .eq 11, 3) := dk_159 0 11 (dk_at dksX4_appeal_1 10 rfl rfl)
theorem dX4_appeal_36 : decode cX4_appeal 36 = .ok (.aload_n 3, 1) := dk_45 (dk_at dksX4_appeal_1 13 rfl rfl)
theorem dX4_appeal_37 : decode cX4_appeal 37 = .ok (.getfield 126, 3) := dk_180 0 126 (dk_at dksX4_appeal_1 14 rfl rfl)
theorem dX4_appeal_40 : decode cX4_appeal 40 = .ok (.iconst 4, 1) := dk_7 (dk_at dksX4_appeal_1 17 rfl rfl)
theorem dX4_appeal_41 : decode cX4_appeal 41 = .ok (.if_icmp .ne 14, 3) := dk_160 0 14 (dk_at dksX4_appeal_1 18 rfl rfl)
theorem dX4_appeal_44 : decode cX4_appeal 44 = .ok (.aload_n 3, 1) := dk_45 (dk_at dksX4_appeal_1 21 rfl rfl)
theorem dX4_appeal_45 : decode cX4_appeal 45 = .ok (.getfield 426, 3) := dk_180 1 170 (dk_at dksX4_appeal_2 0 rfl rfl)
theorem dX4_appeal_48 : decode cX4_appeal 48 = .ok (.ifCond .ne 7, 3) := dk_154 0 7 (dk_at dksX4_appeal_2 3 rfl rfl)
theorem dX4_appeal_51 : decode cX4_appeal 51 = .ok (.iconst 1, 1) := dk_4 (dk_at dksX4_appeal_2 6 rfl rfl)
theorem dX4_appeal_52 : decode cX4_appeal 52 = .ok (.goto 4, 3) := dk_167 0 4 (dk_at dksX4_appeal_2 7 rfl rfl)
theorem dX4_appeal_55 : decode cX4_appeal 55 = .ok (.iconst 0, 1) := dk_3 (dk_at dksX4_appeal_2 10 rfl rfl)
theorem dX4_appeal_56 : decode cX4_appeal 56 = .ok (.iconst 2, 1) := dk_5 (dk_at dksX4_appeal_2 11 rfl rfl)
theorem dX4_appeal_57 : decode cX4_appeal 57 = .ok (.invokevirtual 104, 3) := dk_182 0 104 (dk_at dksX4_appeal_2 12 rfl rfl)
theorem dX4_appeal_60 : decode cX4_appeal 60 = .ok (.ifCond .ne 5, 3) := dk_154 0 5 (dk_at dksX4_appeal_2 15 rfl rfl)
theorem dX4_appeal_63 : decode cX4_appeal 63 = .ok (.iconst 0, 1) := dk_3 (dk_at dksX4_appeal_2 18 rfl rfl)
theorem dX4_appeal_64 : decode cX4_appeal 64 = .ok (.ireturn, 1) := dk_172 (dk_at dksX4_appeal_2 19 rfl rfl)
theorem dX4_appeal_65 : decode cX4_appeal 65 = .ok (.aload_n 3, 1) := dk_45 (dk_at dksX4_appeal_2 20 rfl rfl)
theorem dX4_appeal_66 : decode cX4_appeal 66 = .ok (.iconst 1, 1) := dk_4 (dk_at dksX4_appeal_2 21 rfl rfl)
theorem dX4_appeal_67 : decode cX4_appeal 67 = .ok (.putfield 426, 3) := dk_181 1 170 (dk_at dksX4_appeal_3 0 rfl rfl)
theorem dX4_appeal_70 : decode cX4_appeal 70 = .ok (.aload_n 3, 1) := dk_45 (dk_at dksX4_appeal_3 3 rfl rfl)
theorem dX4_appeal_71 : decode cX4_appeal 71 = .ok (.iload_n 2, 1) := dk_28 (dk_at dksX4_appeal_3 4 rfl rfl)
theorem dX4_appeal_72 : decode cX4_appeal 72 = .ok (.ifCond .eq 7, 3) := dk_153 0 7 (dk_at dksX4_appeal_3 5 rfl rfl)
theorem dX4_appeal_75 : decode cX4_appeal 75 = .ok (.iconst 0, 1) := dk_3 (dk_at dksX4_appeal_3 8 rfl rfl)
theorem dX4_appeal_76 : decode cX4_appeal 76 = .ok (.goto 7, 3) := dk_167 0 7 (dk_at dksX4_appeal_3 9 rfl rfl)
theorem dX4_appeal_79 : decode cX4_appeal 79 = .ok (.aload_n 3, 1) := dk_45 (dk_at dksX4_appeal_3 12 rfl rfl)
theorem dX4_appeal_80 : decode cX4_appeal 80 = .ok (.getfield 126, 3) := dk_180 0 126 (dk_at dksX4_appeal_3 13 rfl rfl)
theorem dX4_appeal_83 : decode cX4_appeal 83 = .ok (.putfield 126, 3) := dk_181 0 126 (dk_at dksX4_appeal_3 16 rfl rfl)
theorem dX4_appeal_86 : decode cX4_appeal 86 = .ok (.aload_n 3, 1) := dk_45 (dk_at dksX4_appeal_3 19 rfl rfl)
theorem dX4_appeal_87 : decode cX4_appeal 87 = .ok (.getfield 126, 3) := dk_180 0 126 (dk_at dksX4_appeal_3 20 rfl rfl)
theorem dX4_appeal_90 : decode cX4_appeal 90 = .ok (.ireturn, 1) := dk_172 (dk_at dksX4_appeal_3 23 rfl rfl)
abbrev cX4_percent : ByteArray := prog_14_method_69_code
def yX4_percent : MethodName := ⟨RX4, "percent", "(I)Z"⟩
def dkwX4_percent_3 : List UInt8 := [42, 28, 153, 0, 7, 27, 167, 0, 7, 42, 180, 0, 73, 181, 0, 73, 28, 172]
abbrev dktX4_percent_3 : List UInt8 := dkwX4_percent_3 ++ []
def dkwX4_percent_2 : List UInt8 := [180, 0, 76, 42, 27, 182, 1, 173, 42, 27, 182, 1, 177, 97, 148, 155, 0, 7, 4, 167, 0, 4, 3, 61]
abbrev dktX4_percent_2 : List UInt8 := dkwX4_percent_2 ++ dktX4_percent_3
def dkwX4_percent_1 : List UInt8 := [42, 180, 0, 53, 6, 160, 0, 7, 4, 167, 0, 4, 3, 5, 182, 0, 104, 154, 0, 5, 3, 172, 42]
abbrev dktX4_percent_1 : List UInt8 := dkwX4_percent_1 ++ dktX4_percent_2
def dkwX4_percent_0 : List UInt8 := [42, 27, 133, 42, 180, 0, 73, 4, 96, 133, 20, 1, 44, 184, 0, 100, 4, 182, 0, 104, 153, 0, 24, 42]
abbrev dktX4_percent_0 : List UInt8 := dkwX4_percent_0 ++ dktX4_percent_1
theorem dksX4_percent_0 : cX4_percent.data.toList.drop 0 = dktX4_percent_0 := by decide +kernel
theorem dksX4_percent_1 : cX4_percent.data.toList.drop 24 = dktX4_percent_1 := dk_seg dksX4_percent_0 24 rfl rfl
theorem dksX4_percent_2 : cX4_percent.data.toList.drop 47 = dktX4_percent_2 := dk_seg dksX4_percent_1 23 rfl rfl
theorem dksX4_percent_3 : cX4_percent.data.toList.drop 71 = dktX4_percent_3 := dk_seg dksX4_percent_2 24 rfl rfl
theorem dX4_percent_0 : decode cX4_percent 0 = .ok (.aload_n 0, 1) := dk_42 (dk_at dksX4_percent_0 0 rfl rfl)
theorem dX4_percent_1 : decode cX4_percent 1 = .ok (.iload_n 1, 1) := dk_27 (dk_at dksX4_percent_0 1 rfl rfl)
theorem dX4_percent_2 : decode cX4_percent 2 = .ok (.i2l, 1) := dk_133 (dk_at dksX4_percent_0 2 rfl rfl)
theorem dX4_percent_3 : decode cX4_percent 3 = .ok (.aload_n 0, 1) := dk_42 (dk_at dksX4_percent_0 3 rfl rfl)
theorem dX4_percent_4 : decode cX4_percent 4 = .ok (.getfield 73, 3) := dk_180 0 73 (dk_at dksX4_percent_0 4 rfl rfl)
theorem dX4_percent_7 : decode cX4_percent 7 = .ok (.iconst 1, 1) := dk_4 (dk_at dksX4_percent_0 7 rfl rfl)
theorem dX4_percent_8 : decode cX4_percent 8 = .ok (.iadd, 1) := dk_96 (dk_at dksX4_percent_0 8 rfl rfl)
theorem dX4_percent_9 : decode cX4_percent 9 = .ok (.i2l, 1) := dk_133 (dk_at dksX4_percent_0 9 rfl rfl)
theorem dX4_percent_10 : decode cX4_percent 10 = .ok (.ldc2_w 300, 3) := dk_20 1 44 (dk_at dksX4_percent_0 10 rfl rfl)
theorem dX4_percent_13 : decode cX4_percent 13 = .ok (.invokestatic 100, 3) := dk_184 0 100 (dk_at dksX4_percent_0 13 rfl rfl)
theorem dX4_percent_16 : decode cX4_percent 16 = .ok (.iconst 1, 1) := dk_4 (dk_at dksX4_percent_0 16 rfl rfl)
theorem dX4_percent_17 : decode cX4_percent 17 = .ok (.invokevirtual 104, 3) := dk_182 0 104 (dk_at dksX4_percent_0 17 rfl rfl)
theorem dX4_percent_20 : decode cX4_percent 20 = .ok (.ifCond .eq 24, 3) := dk_153 0 24 (dk_at dksX4_percent_0 20 rfl rfl)
theorem dX4_percent_23 : decode cX4_percent 23 = .ok (.aload_n 0, 1) := dk_42 (dk_at dksX4_percent_0 23 rfl rfl)
theorem dX4_percent_24 : decode cX4_percent 24 = .ok (.aload_n 0, 1) := dk_42 (dk_at dksX4_percent_1 0 rfl rfl)
theorem dX4_percent_25 : decode cX4_percent 25 = .ok (.getfield 53, 3) := dk_180 0 53 (dk_at dksX4_percent_1 1 rfl rfl)
theorem dX4_percent_28 : decode cX4_percent 28 = .ok (.iconst 3, 1) := dk_6 (dk_at dksX4_percent_1 4 rfl rfl)
theorem dX4_percent_29 : decode cX4_percent 29 = .ok (.if_icmp .ne 7, 3) := dk_160 0 7 (dk_at dksX4_percent_1 5 rfl rfl)
theorem dX4_percent_32 : decode cX4_percent 32 = .ok (.iconst 1, 1) := dk_4 (dk_at dksX4_percent_1 8 rfl rfl)
theorem dX4_percent_33 : decode cX4_percent 33 = .ok (.goto 4, 3) := dk_167 0 4 (dk_at dksX4_percent_1 9 rfl rfl)
theorem dX4_percent_36 : decode cX4_percent 36 = .ok (.iconst 0, 1) := dk_3 (dk_at dksX4_percent_1 12 rfl rfl)
theorem dX4_percent_37 : decode cX4_percent 37 = .ok (.iconst 2, 1) := dk_5 (dk_at dksX4_percent_1 13 rfl rfl)
theorem dX4_percent_38 : decode cX4_percent 38 = .ok (.invokevirtual 104, 3) := dk_182 0 104 (dk_at dksX4_percent_1 14 rfl rfl)
theorem dX4_percent_41 : decode cX4_percent 41 = .ok (.ifCond .ne 5, 3) := dk_154 0 5 (dk_at dksX4_percent_1 17 rfl rfl)
theorem dX4_percent_44 : decode cX4_percent 44 = .ok (.iconst 0, 1) := dk_3 (dk_at dksX4_percent_1 20 rfl rfl)
theorem dX4_percent_45 : decode cX4_percent 45 = .ok (.ireturn, 1) := dk_172 (dk_at dksX4_percent_1 21 rfl rfl)
theorem dX4_percent_46 : decode cX4_percent 46 = .ok (.aload_n 0, 1) := dk_42 (dk_at dksX4_percent_1 22 rfl rfl)
theorem dX4_percent_47 : decode cX4_percent 47 = .ok (.getfield 76, 3) := dk_180 0 76 (dk_at dksX4_percent_2 0 rfl rfl)
theorem dX4_percent_50 : decode cX4_percent 50 = .ok (.aload_n 0, 1) := dk_42 (dk_at dksX4_percent_2 3 rfl rfl)
theorem dX4_percent_51 : decode cX4_percent 51 = .ok (.iload_n 1, 1) := dk_27 (dk_at dksX4_percent_2 4 rfl rfl)
theorem dX4_percent_52 : decode cX4_percent 52 = .ok (.invokevirtual 429, 3) := dk_182 1 173 (dk_at dksX4_percent_2 5 rfl rfl)
theorem dX4_percent_55 : decode cX4_percent 55 = .ok (.aload_n 0, 1) := dk_42 (dk_at dksX4_percent_2 8 rfl rfl)
theorem dX4_percent_56 : decode cX4_percent 56 = .ok (.iload_n 1, 1) := dk_27 (dk_at dksX4_percent_2 9 rfl rfl)
theorem dX4_percent_57 : decode cX4_percent 57 = .ok (.invokevirtual 433, 3) := dk_182 1 177 (dk_at dksX4_percent_2 10 rfl rfl)
theorem dX4_percent_60 : decode cX4_percent 60 = .ok (.ladd, 1) := dk_97 (dk_at dksX4_percent_2 13 rfl rfl)
theorem dX4_percent_61 : decode cX4_percent 61 = .ok (.lcmp, 1) := dk_148 (dk_at dksX4_percent_2 14 rfl rfl)
theorem dX4_percent_62 : decode cX4_percent 62 = .ok (.ifCond .lt 7, 3) := dk_155 0 7 (dk_at dksX4_percent_2 15 rfl rfl)
theorem dX4_percent_65 : decode cX4_percent 65 = .ok (.iconst 1, 1) := dk_4 (dk_at dksX4_percent_2 18 rfl rfl)
theorem dX4_percent_66 : decode cX4_percent 66 = .ok (.goto 4, 3) := dk_167 0 4 (dk_at dksX4_percent_2 19 rfl rfl)
theorem dX4_percent_69 : decode cX4_percent 69 = .ok (.iconst 0, 1) := dk_3 (dk_at dksX4_percent_2 22 rfl rfl)
theorem dX4_percent_70 : decode cX4_percent 70 = .ok (.istore_n 2, 1) := dk_61 (dk_at dksX4_percent_2 23 rfl rfl)
theorem dX4_percent_71 : decode cX4_percent 71 = .ok (.aload_n 0, 1) := dk_42 (dk_at dksX4_percent_3 0 rfl rfl)
theorem dX4_percent_72 : decode cX4_percent 72 = .ok (.iload_n 2, 1) := dk_28 (dk_at dksX4_percent_3 1 rfl rfl)
theorem dX4_percent_73 : decode cX4_percent 73 = .ok (.ifCond .eq 7, 3) := dk_153 0 7 (dk_at dksX4_percent_3 2 rfl rfl)
theorem dX4_percent_76 : decode cX4_percent 76 = .ok (.iload_n 1, 1) := dk_27 (dk_at dksX4_percent_3 5 rfl rfl)
theorem dX4_percent_77 : decode cX4_percent 77 = .ok (.goto 7, 3) := dk_167 0 7 (dk_at dksX4_percent_3 6 rfl rfl)
theorem dX4_percent_80 : decode cX4_percent 80 = .ok (.aload_n 0, 1) := dk_42 (dk_at dksX4_percent_3 9 rfl rfl)
theorem dX4_percent_81 : decode cX4_percent 81 = .ok (.getfield 73, 3) := dk_180 0 73 (dk_at dksX4_percent_3 10 rfl rfl)
theorem dX4_percent_84 : decode cX4_percent 84 = .ok (.putfield 73, 3) := dk_181 0 73 (dk_at dksX4_percent_3 13 rfl rfl)
theorem dX4_percent_87 : decode cX4_percent 87 = .ok (.iload_n 2, 1) := dk_28 (dk_at dksX4_percent_3 16 rfl rfl)
theorem dX4_percent_88 : decode cX4_percent 88 = .ok (.ireturn, 1) := dk_172 (dk_at dksX4_percent_3 17 rfl rfl)
abbrev cX4_allDue : ByteArray := prog_14_method_60_code
def yX4_allDue : MethodName := ⟨RX4, "allDue", "(I)J"⟩
def dkwX4_allDue_1 : List UInt8 := [21, 4, 182, 0, 108, 192, 0, 124, 27, 182, 1, 156, 97, 65, 132, 4, 1, 167, 255, 221, 32, 173]
abbrev dktX4_allDue_1 : List UInt8 := dkwX4_allDue_1 ++ []
def dkwX4_allDue_0 : List UInt8 := [9, 65, 3, 54, 4, 21, 4, 42, 180, 0, 30, 182, 0, 94, 162, 0, 29, 32, 42, 42, 180, 0, 30]
abbrev dktX4_allDue_0 : List UInt8 := dkwX4_allDue_0 ++ dktX4_allDue_1
theorem dksX4_allDue_0 : cX4_allDue.data.toList.drop 0 = dktX4_allDue_0 := by decide +kernel
theorem dksX4_allDue_1 : cX4_allDue.data.toList.drop 23 = dktX4_allDue_1 := dk_seg dksX4_allDue_0 23 rfl rfl
theorem dX4_allDue_0 : decode cX4_allDue 0 = .ok (.lconst 0, 1) := dk_9 (dk_at dksX4_allDue_0 0 rfl rfl)
theorem dX4_allDue_1 : decode cX4_allDue 1 = .ok (.lstore_n 2, 1) := dk_65 (dk_at dksX4_allDue_0 1 rfl rfl)
theorem dX4_allDue_2 : decode cX4_allDue 2 = .ok (.iconst 0, 1) := dk_3 (dk_at dksX4_allDue_0 2 rfl rfl)
theorem dX4_allDue_3 : decode cX4_allDue 3 = .ok (.istore 4, 2) := dk_54 4 (dk_at dksX4_allDue_0 3 rfl rfl)
theorem dX4_allDue_5 : decode cX4_allDue 5 = .ok (.iload 4, 2) := dk_21 4 (dk_at dksX4_allDue_0 5 rfl rfl)
theorem dX4_allDue_7 : decode cX4_allDue 7 = .ok (.aload_n 0, 1) := dk_42 (dk_at dksX4_allDue_0 7 rfl rfl)
theorem dX4_allDue_8 : decode cX4_allDue 8 = .ok (.getfield 30, 3) := dk_180 0 30 (dk_at dksX4_allDue_0 8 rfl rfl)
theorem dX4_allDue_11 : decode cX4_allDue 11 = .ok (.invokevirtual 94, 3) := dk_182 0 94 (dk_at dksX4_allDue_0 11 rfl rfl)
theorem dX4_allDue_14 : decode cX4_allDue 14 = .ok (.if_icmp .ge 29, 3) := dk_162 0 29 (dk_at dksX4_allDue_0 14 rfl rfl)
theorem dX4_allDue_17 : decode cX4_allDue 17 = .ok (.lload_n 2, 1) := dk_32 (dk_at dksX4_allDue_0 17 rfl rfl)
theorem dX4_allDue_18 : decode cX4_allDue 18 = .ok (.aload_n 0, 1) := dk_42 (dk_at dksX4_allDue_0 18 rfl rfl)
theorem dX4_allDue_19 : decode cX4_allDue 19 = .ok (.aload_n 0, 1) := dk_42 (dk_at dksX4_allDue_0 19 rfl rfl)
theorem dX4_allDue_20 : decode cX4_allDue 20 = .ok (.getfield 30, 3) := dk_180 0 30 (dk_at dksX4_allDue_0 20 rfl rfl)
theorem dX4_allDue_23 : decode cX4_allDue 23 = .ok (.iload 4, 2) := dk_21 4 (dk_at dksX4_allDue_1 0 rfl rfl)
theorem dX4_allDue_25 : decode cX4_allDue 25 = .ok (.invokevirtual 108, 3) := dk_182 0 108 (dk_at dksX4_allDue_1 2 rfl rfl)
theorem dX4_allDue_28 : decode cX4_allDue 28 = .ok (.checkcast 124, 3) := dk_192 0 124 (dk_at dksX4_allDue_1 5 rfl rfl)
theorem dX4_allDue_31 : decode cX4_allDue 31 = .ok (.iload_n 1, 1) := dk_27 (dk_at dksX4_allDue_1 8 rfl rfl)
theorem dX4_allDue_32 : decode cX4_allDue 32 = .ok (.invokevirtual 412, 3) := dk_182 1 156 (dk_at dksX4_allDue_1 9 rfl rfl)
theorem dX4_allDue_35 : decode cX4_allDue 35 = .ok (.ladd, 1) := dk_97 (dk_at dksX4_allDue_1 12 rfl rfl)
theorem dX4_allDue_36 : decode cX4_allDue 36 = .ok (.lstore_n 2, 1) := dk_65 (dk_at dksX4_allDue_1 13 rfl rfl)
theorem dX4_allDue_37 : decode cX4_allDue 37 = .ok (.iinc 4 1, 3) := dk_132 4 1 (dk_at dksX4_allDue_1 14 rfl rfl)
theorem dX4_allDue_40 : decode cX4_allDue 40 = .ok (.goto (-35), 3) := dk_167 255 221 (dk_at dksX4_allDue_1 17 rfl rfl)
theorem dX4_allDue_43 : decode cX4_allDue 43 = .ok (.lload_n 2, 1) := dk_32 (dk_at dksX4_allDue_1 20 rfl rfl)
theorem dX4_allDue_44 : decode cX4_allDue 44 = .ok (.lreturn, 1) := dk_173 (dk_at dksX4_allDue_1 21 rfl rfl)
abbrev cX4_reserve : ByteArray := prog_14_method_68_code
def yX4_reserve : MethodName := ⟨RX4, "reserve", "(I)J"⟩
def dkwX4_reserve_4 : List UInt8 := [20, 1, 44, 109, 97, 65, 132, 4, 1, 167, 255, 161, 32, 173]
abbrev dktX4_reserve_4 : List UInt8 := dkwX4_reserve_4 ++ []
def dkwX4_reserve_3 : List UInt8 := [25, 5, 42, 180, 0, 43, 182, 0, 143, 184, 1, 120, 96, 46, 133, 105, 20, 1, 44, 109, 27, 133, 105]
abbrev dktX4_reserve_3 : List UInt8 := dkwX4_reserve_3 ++ dktX4_reserve_4
def dkwX4_reserve_2 : List UInt8 := [153, 0, 52, 25, 5, 180, 0, 117, 154, 0, 44, 32, 42, 180, 0, 67, 133, 42, 180, 0, 26, 16, 8]
abbrev dktX4_reserve_2 : List UInt8 := dkwX4_reserve_2 ++ dktX4_reserve_3
def dkwX4_reserve_1 : List UInt8 := [182, 0, 108, 192, 0, 112, 58, 5, 42, 25, 5, 182, 0, 120, 153, 0, 60, 25, 5, 182, 0, 136]
abbrev dktX4_reserve_1 : List UInt8 := dkwX4_reserve_1 ++ dktX4_reserve_2
def dkwX4_reserve_0 : List UInt8 := [9, 65, 3, 54, 4, 21, 4, 42, 180, 0, 16, 182, 0, 94, 162, 0, 89, 42, 180, 0, 16, 21, 4]
abbrev dktX4_reserve_0 : List UInt8 := dkwX4_reserve_0 ++ dktX4_reserve_1
theorem dksX4_reserve_0 : cX4_reserve.data.toList.drop 0 = dktX4_reserve_0 := by decide +kernel
theorem dksX4_reserve_1 : cX4_reserve.data.toList.drop 23 = dktX4_reserve_1 := dk_seg dksX4_reserve_0 23 rfl rfl
theorem dksX4_reserve_2 : cX4_reserve.data.toList.drop 45 = dktX4_reserve_2 := dk_seg dksX4_reserve_1 22 rfl rfl
theorem dksX4_reserve_3 : cX4_reserve.data.toList.drop 68 = dktX4_reserve_3 := dk_seg dksX4_reserve_2 23 rfl rfl
theorem dksX4_reserve_4 : cX4_reserve.data.toList.drop 91 = dktX4_reserve_4 := dk_seg dksX4_reserve_3 23 rfl rfl
theorem dX4_reserve_0 : decode cX4_reserve 0 = .ok (.lconst 0, 1) := dk_9 (dk_at dksX4_reserve_0 0 rfl rfl)
theorem dX4_reserve_1 : decode cX4_reserve 1 = .ok (.lstore_n 2, 1) := dk_65 (dk_at dksX4_reserve_0 1 rfl rfl)
theorem dX4_reserve_2 : decode cX4_reserve 2 = .ok (.iconst 0, 1) := dk_3 (dk_at dksX4_reserve_0 2 rfl rfl)
theorem dX4_reserve_3 : decode cX4_reserve 3 = .ok (.istore 4, 2) := dk_54 4 (dk_at dksX4_reserve_0 3 rfl rfl)
theorem dX4_reserve_5 : decode cX4_reserve 5 = .ok (.iload 4, 2) := dk_21 4 (dk_at dksX4_reserve_0 5 rfl rfl)
theorem dX4_reserve_7 : decode cX4_reserve 7 = .ok (.aload_n 0, 1) := dk_42 (dk_at dksX4_reserve_0 7 rfl rfl)
theorem dX4_reserve_8 : decode cX4_reserve 8 = .ok (.getfield 16, 3) := dk_180 0 16 (dk_at dksX4_reserve_0 8 rfl rfl)
theorem dX4_reserve_11 : decode cX4_reserve 11 = .ok (.invokevirtual 94, 3) := dk_182 0 94 (dk_at dksX4_reserve_0 11 rfl rfl)
theorem dX4_reserve_14 : decode cX4_reserve 14 = .ok (.if_icmp .ge 89, 3) := dk_162 0 89 (dk_at dksX4_reserve_0 14 rfl rfl)
theorem dX4_reserve_17 : decode cX4_reserve 17 = .ok (.aload_n 0, 1) := dk_42 (dk_at dksX4_reserve_0 17 rfl rfl)
theorem dX4_reserve_18 : decode cX4_reserve 18 = .ok (.getfield 16, 3) := dk_180 0 16 (dk_at dksX4_reserve_0 18 rfl rfl)
theorem dX4_reserve_21 : decode cX4_reserve 21 = .ok (.iload 4, 2) := dk_21 4 (dk_at dksX4_reserve_0 21 rfl rfl)
theorem dX4_reserve_23 : decode cX4_reserve 23 = .ok (.invokevirtual 108, 3) := dk_182 0 108 (dk_at dksX4_reserve_1 0 rfl rfl)
theorem dX4_reserve_26 : decode cX4_reserve 26 = .ok (.checkcast 112, 3) := dk_192 0 112 (dk_at dksX4_reserve_1 3 rfl rfl)
theorem dX4_reserve_29 : decode cX4_reserve 29 = .ok (.astore 5, 2) := dk_58 5 (dk_at dksX4_reserve_1 6 rfl rfl)
theorem dX4_reserve_31 : decode cX4_reserve 31 = .ok (.aload_n 0, 1) := dk_42 (dk_at dksX4_reserve_1 8 rfl rfl)
theorem dX4_reserve_32 : decode cX4_reserve 32 = .ok (.aload 5, 2) := dk_25 5 (dk_at dksX4_reserve_1 9 rfl rfl)
theorem dX4_reserve_34 : decode cX4_reserve 34 = .ok (.invokevirtual 120, 3) := dk_182 0 120 (dk_at dksX4_reserve_1 11 rfl rfl)
theorem dX4_reserve_37 : decode cX4_reserve 37 = .ok (.ifCond .eq 60, 3) := dk_153 0 60 (dk_at dksX4_reserve_1 14 rfl rfl)
theorem dX4_reserve_40 : decode cX4_reserve 40 = .ok (.aload 5, 2) := dk_25 5 (dk_at dksX4_reserve_1 17 rfl rfl)
theorem dX4_reserve_42 : decode cX4_reserve 42 = .ok (.invokevirtual 136, 3) := dk_182 0 136 (dk_at dksX4_reserve_1 19 rfl rfl)
theorem dX4_reserve_45 : decode cX4_reserve 45 = .ok (.ifCond .eq 52, 3) := dk_153 0 52 (dk_at dksX4_reserve_2 0 rfl rfl)
theorem dX4_reserve_48 : decode cX4_reserve 48 = .ok (.aload 5, 2) := dk_25 5 (dk_at dksX4_reserve_2 3 rfl rfl)
theorem dX4_reserve_50 : decode cX4_reserve 50 = .ok (.getfield 117, 3) := dk_180 0 117 (dk_at dksX4_reserve_2 5 rfl rfl)
theorem dX4_reserve_53 : decode cX4_reserve 53 = .ok (.ifCond .ne 44, 3) := dk_154 0 44 (dk_at dksX4_reserve_2 8 rfl rfl)
theorem dX4_reserve_56 : decode cX4_reserve 56 = .ok (.lload_n 2, 1) := dk_32 (dk_at dksX4_reserve_2 11 rfl rfl)
theorem dX4_reserve_57 : decode cX4_reserve 57 = .ok (.aload_n 0, 1) := dk_42 (dk_at dksX4_reserve_2 12 rfl rfl)
theorem dX4_reserve_58 : decode cX4_reserve 58 = .ok (.getfield 67, 3) := dk_180 0 67 (dk_at dksX4_reserve_2 13 rfl rfl)
theorem dX4_reserve_61 : decode cX4_reserve 61 = .ok (.i2l, 1) := dk_133 (dk_at dksX4_reserve_2 16 rfl rfl)
theorem dX4_reserve_62 : decode cX4_reserve 62 = .ok (.aload_n 0, 1) := dk_42 (dk_at dksX4_reserve_2 17 rfl rfl)
theorem dX4_reserve_63 : decode cX4_reserve 63 = .ok (.getfield 26, 3) := dk_180 0 26 (dk_at dksX4_reserve_2 18 rfl rfl)
theorem dX4_reserve_66 : decode cX4_reserve 66 = .ok (.bipush 8, 2) := dk_16 8 (dk_at dksX4_reserve_2 21 rfl rfl)
theorem dX4_reserve_68 : decode cX4_reserve 68 = .ok (.aload 5, 2) := dk_25 5 (dk_at dksX4_reserve_3 0 rfl rfl)
theorem dX4_reserve_70 : decode cX4_reserve 70 = .ok (.aload_n 0, 1) := dk_42 (dk_at dksX4_reserve_3 2 rfl rfl)
theorem dX4_reserve_71 : decode cX4_reserve 71 = .ok (.getfield 43, 3) := dk_180 0 43 (dk_at dksX4_reserve_3 3 rfl rfl)
theorem dX4_reserve_74 : decode cX4_reserve 74 = .ok (.invokevirtual 143, 3) := dk_182 0 143 (dk_at dksX4_reserve_3 6 rfl rfl)
theorem dX4_reserve_77 : decode cX4_reserve 77 = .ok (.invokestatic 376, 3) := dk_184 1 120 (dk_at dksX4_reserve_3 9 rfl rfl)
theorem dX4_reserve_80 : decode cX4_reserve 80 = .ok (.iadd, 1) := dk_96 (dk_at dksX4_reserve_3 12 rfl rfl)
theorem dX4_reserve_81 : decode cX4_reserve 81 = .ok (.iaload, 1) := dk_46 (dk_at dksX4_reserve_3 13 rfl rfl)
theorem dX4_reserve_82 : decode cX4_reserve 82 = .ok (.i2l, 1) := dk_133 (dk_at dksX4_reserve_3 14 rfl rfl)
theorem dX4_reserve_83 : decode cX4_reserve 83 = .ok (.lmul, 1) := dk_105 (dk_at dksX4_reserve_3 15 rfl rfl)
theorem dX4_reserve_84 : decode cX4_reserve 84 = .ok (.ldc2_w 300, 3) := dk_20 1 44 (dk_at dksX4_reserve_3 16 rfl rfl)
theorem dX4_reserve_87 : decode cX4_reserve 87 = .ok (.ldiv, 1) := dk_109 (dk_at dksX4_reserve_3 19 rfl rfl)
theorem dX4_reserve_88 : decode cX4_reserve 88 = .ok (.iload_n 1, 1) := dk_27 (dk_at dksX4_reserve_3 20 rfl rfl)
theorem dX4_reserve_89 : decode cX4_reserve 89 = .ok (.i2l, 1) := dk_133 (dk_at dksX4_reserve_3 21 rfl rfl)
theorem dX4_reserve_90 : decode cX4_reserve 90 = .ok (.lmul, 1) := dk_105 (dk_at dksX4_reserve_3 22 rfl rfl)
theorem dX4_reserve_91 : decode cX4_reserve 91 = .ok (.ldc2_w 300, 3) := dk_20 1 44 (dk_at dksX4_reserve_4 0 rfl rfl)
theorem dX4_reserve_94 : decode cX4_reserve 94 = .ok (.ldiv, 1) := dk_109 (dk_at dksX4_reserve_4 3 rfl rfl)
theorem dX4_reserve_95 : decode cX4_reserve 95 = .ok (.ladd, 1) := dk_97 (dk_at dksX4_reserve_4 4 rfl rfl)
theorem dX4_reserve_96 : decode cX4_reserve 96 = .ok (.lstore_n 2, 1) := dk_65 (dk_at dksX4_reserve_4 5 rfl rfl)
theorem dX4_reserve_97 : decode cX4_reserve 97 = .ok (.iinc 4 1, 3) := dk_132 4 1 (dk_at dksX4_reserve_4 6 rfl rfl)
theorem dX4_reserve_100 : decode cX4_reserve 100 = .ok (.goto (-95), 3) := dk_167 255 161 (dk_at dksX4_reserve_4 9 rfl rfl)
theorem dX4_reserve_103 : decode cX4_reserve 103 = .ok (.lload_n 2, 1) := dk_32 (dk_at dksX4_reserve_4 12 rfl rfl)
theorem dX4_reserve_104 : decode cX4_reserve 104 = .ok (.lreturn, 1) := dk_173 (dk_at dksX4_reserve_4 13 rfl rfl)
abbrev cX4_pay : ByteArray := prog_14_method_70_code
def yX4_pay : MethodName := ⟨RX4, "pay", "()J"⟩
def dkwX4_pay_7 : List UInt8 := [180, 0, 76, 101, 173]
abbrev dktX4_pay_7 : List UInt8 := dkwX4_pay_7 ++ []
def dkwX4_pay_6 : List UInt8 := [180, 0, 30, 21, 6, 182, 0, 108, 192, 0, 124, 22, 7, 182, 1, 180, 132, 6, 1, 167, 255, 141, 31, 42]
abbrev dktX4_pay_6 : List UInt8 := dkwX4_pay_6 ++ dktX4_pay_7
def dkwX4_pay_5 : List UInt8 := [182, 1, 180, 167, 0, 37, 22, 7, 42, 180, 0, 76, 148, 158, 0, 9, 3, 54, 5, 167, 0, 21, 42, 42]
abbrev dktX4_pay_5 : List UInt8 := dkwX4_pay_5 ++ dktX4_pay_6
def dkwX4_pay_4 : List UInt8 := [160, 0, 28, 42, 42, 180, 0, 30, 21, 6, 182, 0, 108, 192, 0, 124, 22, 7, 31, 105, 33, 109]
abbrev dktX4_pay_4 : List UInt8 := dkwX4_pay_4 ++ dktX4_pay_5
def dkwX4_pay_3 : List UInt8 := [192, 0, 124, 42, 180, 0, 73, 182, 1, 156, 55, 7, 33, 31, 148, 158, 0, 36, 42, 180, 0, 70, 4]
abbrev dktX4_pay_3 : List UInt8 := dkwX4_pay_3 ++ dktX4_pay_4
def dkwX4_pay_2 : List UInt8 := [180, 0, 30, 182, 0, 94, 162, 0, 109, 21, 5, 153, 0, 104, 42, 42, 180, 0, 30, 21, 6, 182, 0, 108]
abbrev dktX4_pay_2 : List UInt8 := dkwX4_pay_2 ++ dktX4_pay_3
def dkwX4_pay_1 : List UInt8 := [180, 0, 76, 64, 42, 42, 180, 0, 73, 182, 1, 173, 66, 4, 54, 5, 3, 54, 6, 21, 6, 42]
abbrev dktX4_pay_1 : List UInt8 := dkwX4_pay_1 ++ dktX4_pay_2
def dkwX4_pay_0 : List UInt8 := [42, 42, 180, 0, 53, 6, 160, 0, 7, 4, 167, 0, 4, 3, 4, 182, 0, 104, 154, 0, 5, 9, 173, 42]
abbrev dktX4_pay_0 : List UInt8 := dkwX4_pay_0 ++ dktX4_pay_1
theorem dksX4_pay_0 : cX4_pay.data.toList.drop 0 = dktX4_pay_0 := by decide +kernel
theorem dksX4_pay_1 : cX4_pay.data.toList.drop 24 = dktX4_pay_1 := dk_seg dksX4_pay_0 24 rfl rfl
theorem dksX4_pay_2 : cX4_pay.data.toList.drop 46 = dktX4_pay_2 := dk_seg dksX4_pay_1 22 rfl rfl
theorem dksX4_pay_3 : cX4_pay.data.toList.drop 70 = dktX4_pay_3 := dk_seg dksX4_pay_2 24 rfl rfl
theorem dksX4_pay_4 : cX4_pay.data.toList.drop 93 = dktX4_pay_4 := dk_seg dksX4_pay_3 23 rfl rfl
theorem dksX4_pay_5 : cX4_pay.data.toList.drop 115 = dktX4_pay_5 := dk_seg dksX4_pay_4 22 rfl rfl
theorem dksX4_pay_6 : cX4_pay.data.toList.drop 139 = dktX4_pay_6 := dk_seg dksX4_pay_5 24 rfl rfl
theorem dksX4_pay_7 : cX4_pay.data.toList.drop 163 = dktX4_pay_7 := dk_seg dksX4_pay_6 24 rfl rfl
theorem dX4_pay_0 : decode cX4_pay 0 = .ok (.aload_n 0, 1) := dk_42 (dk_at dksX4_pay_0 0 rfl rfl)
theorem dX4_pay_1 : decode cX4_pay 1 = .ok (.aload_n 0, 1) := dk_42 (dk_at dksX4_pay_0 1 rfl rfl)
theorem dX4_pay_2 : decode cX4_pay 2 = .ok (.getfield 53, 3) := dk_180 0 53 (dk_at dksX4_pay_0 2 rfl rfl)
theorem dX4_pay_5 : decode cX4_pay 5 = .ok (.iconst 3, 1) := dk_6 (dk_at dksX4_pay_0 5 rfl rfl)
theorem dX4_pay_6 : decode cX4_pay 6 = .ok (.if_icmp .ne 7, 3) := dk_160 0 7 (dk_at dksX4_pay_0 6 rfl rfl)
theorem dX4_pay_9 : decode cX4_pay 9 = .ok (.iconst 1, 1) := dk_4 (dk_at dksX4_pay_0 9 rfl rfl)
theorem dX4_pay_10 : decode cX4_pay 10 = .ok (.goto 4, 3) := dk_167 0 4 (dk_at dksX4_pay_0 10 rfl rfl)
theorem dX4_pay_13 : decode cX4_pay 13 = .ok (.iconst 0, 1) := dk_3 (dk_at dksX4_pay_0 13 rfl rfl)
theorem dX4_pay_14 : decode cX4_pay 14 = .ok (.iconst 1, 1) := dk_4 (dk_at dksX4_pay_0 14 rfl rfl)
theorem dX4_pay_15 : decode cX4_pay 15 = .ok (.invokevirtual 104, 3) := dk_182 0 104 (dk_at dksX4_pay_0 15 rfl rfl)
theorem dX4_pay_18 : decode cX4_pay 18 = .ok (.ifCond .ne 5, 3) := dk_154 0 5 (dk_at dksX4_pay_0 18 rfl rfl)
theorem dX4_pay_21 : decode cX4_pay 21 = .ok (.lconst 0, 1) := dk_9 (dk_at dksX4_pay_0 21 rfl rfl)
theorem dX4_pay_22 : decode cX4_pay 22 = .ok (.lreturn, 1) := dk_173 (dk_at dksX4_pay_0 22 rfl rfl)
theorem dX4_pay_23 : decode cX4_pay 23 = .ok (.aload_n 0, 1) := dk_42 (dk_at dksX4_pay_0 23 rfl rfl)
theorem dX4_pay_24 : decode cX4_pay 24 = .ok (.getfield 76, 3) := dk_180 0 76 (dk_at dksX4_pay_1 0 rfl rfl)
theorem dX4_pay_27 : decode cX4_pay 27 = .ok (.lstore_n 1, 1) := dk_64 (dk_at dksX4_pay_1 3 rfl rfl)
theorem dX4_pay_28 : decode cX4_pay 28 = .ok (.aload_n 0, 1) := dk_42 (dk_at dksX4_pay_1 4 rfl rfl)
theorem dX4_pay_29 : decode cX4_pay 29 = .ok (.aload_n 0, 1) := dk_42 (dk_at dksX4_pay_1 5 rfl rfl)
theorem dX4_pay_30 : decode cX4_pay 30 = .ok (.getfield 73, 3) := dk_180 0 73 (dk_at dksX4_pay_1 6 rfl rfl)
theorem dX4_pay_33 : decode cX4_pay 33 = .ok (.invokevirtual 429, 3) := dk_182 1 173 (dk_at dksX4_pay_1 9 rfl rfl)
theorem dX4_pay_36 : decode cX4_pay 36 = .ok (.lstore_n 3, 1) := dk_66 (dk_at dksX4_pay_1 12 rfl rfl)
theorem dX4_pay_37 : decode cX4_pay 37 = .ok (.iconst 1, 1) := dk_4 (dk_at dksX4_pay_1 13 rfl rfl)
theorem dX4_pay_38 : decode cX4_pay 38 = .ok (.istore 5, 2) := dk_54 5 (dk_at dksX4_pay_1 14 rfl rfl)
theorem dX4_pay_40 : decode cX4_pay 40 = .ok (.iconst 0, 1) := dk_3 (dk_at dksX4_pay_1 16 rfl rfl)
theorem dX4_pay_41 : decode cX4_pay 41 = .ok (.istore 6, 2) := dk_54 6 (dk_at dksX4_pay_1 17 rfl rfl)
theorem dX4_pay_43 : decode cX4_pay 43 = .ok (.iload 6, 2) := dk_21 6 (dk_at dksX4_pay_1 19 rfl rfl)
theorem dX4_pay_45 : decode cX4_pay 45 = .ok (.aload_n 0, 1) := dk_42 (dk_at dksX4_pay_1 21 rfl rfl)
theorem dX4_pay_46 : decode cX4_pay 46 = .ok (.getfield 30, 3) := dk_180 0 30 (dk_at dksX4_pay_2 0 rfl rfl)
theorem dX4_pay_49 : decode cX4_pay 49 = .ok (.invokevirtual 94, 3) := dk_182 0 94 (dk_at dksX4_pay_2 3 rfl rfl)
theorem dX4_pay_52 : decode cX4_pay 52 = .ok (.if_icmp .ge 109, 3) := dk_162 0 109 (dk_at dksX4_pay_2 6 rfl rfl)
theorem dX4_pay_55 : decode cX4_pay 55 = .ok (.iload 5, 2) := dk_21 5 (dk_at dksX4_pay_2 9 rfl rfl)
theorem dX4_pay_57 : decode cX4_pay 57 = .ok (.ifCond .eq 104, 3) := dk_153 0 104 (dk_at dksX4_pay_2 11 rfl rfl)
theorem dX4_pay_60 : decode cX4_pay 60 = .ok (.aload_n 0, 1) := dk_42 (dk_at dksX4_pay_2 14 rfl rfl)
theorem dX4_pay_61 : decode cX4_pay 61 = .ok (.aload_n 0, 1) := dk_42 (dk_at dksX4_pay_2 15 rfl rfl)
theorem dX4_pay_62 : decode cX4_pay 62 = .ok (.getfield 30, 3) := dk_180 0 30 (dk_at dksX4_pay_2 16 rfl rfl)
theorem dX4_pay_65 : decode cX4_pay 65 = .ok (.iload 6, 2) := dk_21 6 (dk_at dksX4_pay_2 19 rfl rfl)
theorem dX4_pay_67 : decode cX4_pay 67 = .ok (.invokevirtual 108, 3) := dk_182 0 108 (dk_at dksX4_pay_2 21 rfl rfl)
theorem dX4_pay_70 : decode cX4_pay 70 = .ok (.checkcast 124, 3) := dk_192 0 124 (dk_at dksX4_pay_3 0 rfl rfl)
theorem dX4_pay_73 : decode cX4_pay 73 = .ok (.aload_n 0, 1) := dk_42 (dk_at dksX4_pay_3 3 rfl rfl)
theorem dX4_pay_74 : decode cX4_pay 74 = .ok (.getfield 73, 3) := dk_180 0 73 (dk_at dksX4_pay_3 4 rfl rfl)
theorem dX4_pay_77 : decode cX4_pay 77 = .ok (.invokevirtual 412, 3) := dk_182 1 156 (dk_at dksX4_pay_3 7 rfl rfl)
theorem dX4_pay_80 : decode cX4_pay 80 = .ok (.lstore 7, 2) := dk_55 7 (dk_at dksX4_pay_3 10 rfl rfl)
theorem dX4_pay_82 : decode cX4_pay 82 = .ok (.lload_n 3, 1) := dk_33 (dk_at dksX4_pay_3 12 rfl rfl)
theorem dX4_pay_83 : decode cX4_pay 83 = .ok (.lload_n 1, 1) := dk_31 (dk_at dksX4_pay_3 13 rfl rfl)
theorem dX4_pay_84 : decode cX4_pay 84 = .ok (.lcmp, 1) := dk_148 (dk_at dksX4_pay_3 14 rfl rfl)
theorem dX4_pay_85 : decode cX4_pay 85 = .ok (.ifCond .le 36, 3) := dk_158 0 36 (dk_at dksX4_pay_3 15 rfl rfl)
theorem dX4_pay_88 : decode cX4_pay 88 = .ok (.aload_n 0, 1) := dk_42 (dk_at dksX4_pay_3 18 rfl rfl)
theorem dX4_pay_89 : decode cX4_pay 89 = .ok (.getfield 70, 3) := dk_180 0 70 (dk_at dksX4_pay_3 19 rfl rfl)
theorem dX4_pay_92 : decode cX4_pay 92 = .ok (.iconst 1, 1) := dk_4 (dk_at dksX4_pay_3 22 rfl rfl)
theorem dX4_pay_93 : decode cX4_pay 93 = .ok (.if_icmp .ne 28, 3) := dk_160 0 28 (dk_at dksX4_pay_4 0 rfl rfl)
theorem dX4_pay_96 : decode cX4_pay 96 = .ok (.aload_n 0, 1) := dk_42 (dk_at dksX4_pay_4 3 rfl rfl)
theorem dX4_pay_97 : decode cX4_pay 97 = .ok (.aload_n 0, 1) := dk_42 (dk_at dksX4_pay_4 4 rfl rfl)
theorem dX4_pay_98 : decode cX4_pay 98 = .ok (.getfield 30, 3) := dk_180 0 30 (dk_at dksX4_pay_4 5 rfl rfl)
theorem dX4_pay_101 : decode cX4_pay 101 = .ok (.iload 6, 2) := dk_21 6 (dk_at dksX4_pay_4 8 rfl rfl)
theorem dX4_pay_103 : decode cX4_pay 103 = .ok (.invokevirtual 108, 3) := dk_182 0 108 (dk_at dksX4_pay_4 10 rfl rfl)
theorem dX4_pay_106 : decode cX4_pay 106 = .ok (.checkcast 124, 3) := dk_192 0 124 (dk_at dksX4_pay_4 13 rfl rfl)
theorem dX4_pay_109 : decode cX4_pay 109 = .ok (.lload 7, 2) := dk_22 7 (dk_at dksX4_pay_4 16 rfl rfl)
theorem dX4_pay_111 : decode cX4_pay 111 = .ok (.lload_n 1, 1) := dk_31 (dk_at dksX4_pay_4 18 rfl rfl)
theorem dX4_pay_112 : decode cX4_pay 112 = .ok (.lmul, 1) := dk_105 (dk_at dksX4_pay_4 19 rfl rfl)
theorem dX4_pay_113 : decode cX4_pay 113 = .ok (.lload_n 3, 1) := dk_33 (dk_at dksX4_pay_4 20 rfl rfl)
theorem dX4_pay_114 : decode cX4_pay 114 = .ok (.ldiv, 1) := dk_109 (dk_at dksX4_pay_4 21 rfl rfl)
theorem dX4_pay_115 : decode cX4_pay 115 = .ok (.invokevirtual 436, 3) := dk_182 1 180 (dk_at dksX4_pay_5 0 rfl rfl)
theorem dX4_pay_118 : decode cX4_pay 118 = .ok (.goto 37, 3) := dk_167 0 37 (dk_at dksX4_pay_5 3 rfl rfl)
theorem dX4_pay_121 : decode cX4_pay 121 = .ok (.lload 7, 2) := dk_22 7 (dk_at dksX4_pay_5 6 rfl rfl)
theorem dX4_pay_123 : decode cX4_pay 123 = .ok (.aload_n 0, 1) := dk_42 (dk_at dksX4_pay_5 8 rfl rfl)
theorem dX4_pay_124 : decode cX4_pay 124 = .ok (.getfield 76, 3) := dk_180 0 76 (dk_at dksX4_pay_5 9 rfl rfl)
theorem dX4_pay_127 : decode cX4_pay 127 = .ok (.lcmp, 1) := dk_148 (dk_at dksX4_pay_5 12 rfl rfl)
theorem dX4_pay_128 : decode cX4_pay 128 = .ok (.ifCond .le 9, 3) := dk_158 0 9 (dk_at dksX4_pay_5 13 rfl rfl)
theorem dX4_pay_131 : decode cX4_pay 131 = .ok (.iconst 0, 1) := dk_3 (dk_at dksX4_pay_5 16 rfl rfl)
theorem dX4_pay_132 : decode cX4_pay 132 = .ok (.istore 5, 2) := dk_54 5 (dk_at dksX4_pay_5 17 rfl rfl)
theorem dX4_pay_134 : decode cX4_pay 134 = .ok (.goto 21, 3) := dk_167 0 21 (dk_at dksX4_pay_5 19 rfl rfl)
theorem dX4_pay_137 : decode cX4_pay 137 = .ok (.aload_n 0, 1) := dk_42 (dk_at dksX4_pay_5 22 rfl rfl)
theorem dX4_pay_138 : decode cX4_pay 138 = .ok (.aload_n 0, 1) := dk_42 (dk_at dksX4_pay_5 23 rfl rfl)
theorem dX4_pay_139 : decode cX4_pay 139 = .ok (.getfield 30, 3) := dk_180 0 30 (dk_at dksX4_pay_6 0 rfl rfl)
theorem dX4_pay_142 : decode cX4_pay 142 = .ok (.iload 6, 2) := dk_21 6 (dk_at dksX4_pay_6 3 rfl rfl)
theorem dX4_pay_144 : decode cX4_pay 144 = .ok (.invokevirtual 108, 3) := dk_182 0 108 (dk_at dksX4_pay_6 5 rfl rfl)
theorem dX4_pay_147 : decode cX4_pay 147 = .ok (.checkcast 124, 3) := dk_192 0 124 (dk_at dksX4_pay_6 8 rfl rfl)
theorem dX4_pay_150 : decode cX4_pay 150 = .ok (.lload 7, 2) := dk_22 7 (dk_at dksX4_pay_6 11 rfl rfl)
theorem dX4_pay_152 : decode cX4_pay 152 = .ok (.invokevirtual 436, 3) := dk_182 1 180 (dk_at dksX4_pay_6 13 rfl rfl)
theorem dX4_pay_155 : decode cX4_pay 155 = .ok (.iinc 6 1, 3) := dk_132 6 1 (dk_at dksX4_pay_6 16 rfl rfl)
theorem dX4_pay_158 : decode cX4_pay 158 = .ok (.goto (-115), 3) := dk_167 255 141 (dk_at dksX4_pay_6 19 rfl rfl)
theorem dX4_pay_161 : decode cX4_pay 161 = .ok (.lload_n 1, 1) := dk_31 (dk_at dksX4_pay_6 22 rfl rfl)
theorem dX4_pay_162 : decode cX4_pay 162 = .ok (.aload_n 0, 1) := dk_42 (dk_at dksX4_pay_6 23 rfl rfl)
theorem dX4_pay_163 : decode cX4_pay 163 = .ok (.getfield 76, 3) := dk_180 0 76 (dk_at dksX4_pay_7 0 rfl rfl)
theorem dX4_pay_166 : decode cX4_pay 166 = .ok (.lsub, 1) := dk_101 (dk_at dksX4_pay_7 3 rfl rfl)
theorem dX4_pay_167 : decode cX4_pay 167 = .ok (.lreturn, 1) := dk_173 (dk_at dksX4_pay_7 4 rfl rfl)
abbrev cX4_payOut : ByteArray := prog_14_method_71_code
def yX4_payOut : MethodName := ⟨RX4, "payOut", "(LMassclaimModel$Claim;J)V"⟩
def dkwX4_payOut_6 : List UInt8 := [182, 1, 193, 42, 43, 180, 1, 112, 182, 1, 196, 177]
abbrev dktX4_payOut_6 : List UInt8 := dkwX4_payOut_6 ++ []
def dkwX4_payOut_5 : List UInt8 := [181, 1, 11, 42, 43, 22, 10, 22, 10, 20, 0, 194, 109, 101, 182, 1, 193, 167, 0, 18, 42, 43, 22, 10]
abbrev dktX4_payOut_5 : List UInt8 := dkwX4_payOut_5 ++ dktX4_payOut_6
def dkwX4_payOut_4 : List UInt8 := [180, 1, 112, 182, 1, 14, 158, 0, 38, 43, 180, 1, 112, 89, 180, 1, 11, 22, 10, 20, 0, 194, 109, 97]
abbrev dktX4_payOut_4 : List UInt8 := dkwX4_payOut_4 ++ dktX4_payOut_5
def dkwX4_payOut_3 : List UInt8 := [43, 22, 8, 182, 1, 186, 42, 43, 180, 1, 112, 22, 6, 22, 8, 101, 182, 1, 189, 55, 10, 42, 43]
abbrev dktX4_payOut_3 : List UInt8 := dkwX4_payOut_3 ++ dktX4_payOut_4
def dkwX4_payOut_2 : List UInt8 := [181, 0, 82, 32, 22, 4, 101, 55, 6, 22, 6, 43, 180, 1, 127, 133, 105, 20, 1, 44, 109, 55, 8, 42]
abbrev dktX4_payOut_2 : List UInt8 := dkwX4_payOut_2 ++ dktX4_payOut_3
def dkwX4_payOut_1 : List UInt8 := [181, 0, 76, 32, 20, 1, 184, 105, 20, 1, 44, 109, 55, 4, 42, 89, 180, 0, 82, 22, 4, 97]
abbrev dktX4_payOut_1 : List UInt8 := dkwX4_payOut_1 ++ dktX4_payOut_2
def dkwX4_payOut_0 : List UInt8 := [32, 9, 148, 154, 0, 4, 177, 43, 89, 180, 1, 150, 32, 97, 181, 1, 150, 42, 89, 180, 0, 76, 32, 101]
abbrev dktX4_payOut_0 : List UInt8 := dkwX4_payOut_0 ++ dktX4_payOut_1
theorem dksX4_payOut_0 : cX4_payOut.data.toList.drop 0 = dktX4_payOut_0 := by decide +kernel
theorem dksX4_payOut_1 : cX4_payOut.data.toList.drop 24 = dktX4_payOut_1 := dk_seg dksX4_payOut_0 24 rfl rfl
theorem dksX4_payOut_2 : cX4_payOut.data.toList.drop 46 = dktX4_payOut_2 := dk_seg dksX4_payOut_1 22 rfl rfl
theorem dksX4_payOut_3 : cX4_payOut.data.toList.drop 70 = dktX4_payOut_3 := dk_seg dksX4_payOut_2 24 rfl rfl
theorem dksX4_payOut_4 : cX4_payOut.data.toList.drop 93 = dktX4_payOut_4 := dk_seg dksX4_payOut_3 23 rfl rfl
theorem dksX4_payOut_5 : cX4_payOut.data.toList.drop 117 = dktX4_payOut_5 := dk_seg dksX4_payOut_4 24 rfl rfl
theorem dksX4_payOut_6 : cX4_payOut.data.toList.drop 141 = dktX4_payOut_6 := dk_seg dksX4_payOut_5 24 rfl rfl
theorem dX4_payOut_0 : decode cX4_payOut 0 = .ok (.lload_n 2, 1) := dk_32 (dk_at dksX4_payOut_0 0 rfl rfl)
theorem dX4_payOut_1 : decode cX4_payOut 1 = .ok (.lconst 0, 1) := dk_9 (dk_at dksX4_payOut_0 1 rfl rfl)
theorem dX4_payOut_2 : decode cX4_payOut 2 = .ok (.lcmp, 1) := dk_148 (dk_at dksX4_payOut_0 2 rfl rfl)
theorem dX4_payOut_3 : decode cX4_payOut 3 = .ok (.ifCond .ne 4, 3) := dk_154 0 4 (dk_at dksX4_payOut_0 3 rfl rfl)
theorem dX4_payOut_6 : decode cX4_payOut 6 = .ok (.return_, 1) := dk_177 (dk_at dksX4_payOut_0 6 rfl rfl)
theorem dX4_payOut_7 : decode cX4_payOut 7 = .ok (.aload_n 1, 1) := dk_43 (dk_at dksX4_payOut_0 7 rfl rfl)
theorem dX4_payOut_8 : decode cX4_payOut 8 = .ok (.dup, 1) := dk_89 (dk_at dksX4_payOut_0 8 rfl rfl)
theorem dX4_payOut_9 : decode cX4_payOut 9 = .ok (.getfield 406, 3) := dk_180 1 150 (dk_at dksX4_payOut_0 9 rfl rfl)
theorem dX4_payOut_12 : decode cX4_payOut 12 = .ok (.lload_n 2, 1) := dk_32 (dk_at dksX4_payOut_0 12 rfl rfl)
theorem dX4_payOut_13 : decode cX4_payOut 13 = .ok (.ladd, 1) := dk_97 (dk_at dksX4_payOut_0 13 rfl rfl)
theorem dX4_payOut_14 : decode cX4_payOut 14 = .ok (.putfield 406, 3) := dk_181 1 150 (dk_at dksX4_payOut_0 14 rfl rfl)
theorem dX4_payOut_17 : decode cX4_payOut 17 = .ok (.aload_n 0, 1) := dk_42 (dk_at dksX4_payOut_0 17 rfl rfl)
theorem dX4_payOut_18 : decode cX4_payOut 18 = .ok (.dup, 1) := dk_89 (dk_at dksX4_payOut_0 18 rfl rfl)
theorem dX4_payOut_19 : decode cX4_payOut 19 = .ok (.getfield 76, 3) := dk_180 0 76 (dk_at dksX4_payOut_0 19 rfl rfl)
theorem dX4_payOut_22 : decode cX4_payOut 22 = .ok (.lload_n 2, 1) := dk_32 (dk_at dksX4_payOut_0 22 rfl rfl)
theorem dX4_payOut_23 : decode cX4_payOut 23 = .ok (.lsub, 1) := dk_101 (dk_at dksX4_payOut_0 23 rfl rfl)
theorem dX4_payOut_24 : decode cX4_payOut 24 = .ok (.putfield 76, 3) := dk_181 0 76 (dk_at dksX4_payOut_1 0 rfl rfl)
theorem dX4_payOut_27 : decode cX4_payOut 27 = .ok (.lload_n 2, 1) := dk_32 (dk_at dksX4_payOut_1 3 rfl rfl)
theorem dX4_payOut_28 : decode cX4_payOut 28 = .ok (.ldc2_w 440, 3) := dk_20 1 184 (dk_at dksX4_payOut_1 4 rfl rfl)
theorem dX4_payOut_31 : decode cX4_payOut 31 = .ok (.lmul, 1) := dk_105 (dk_at dksX4_payOut_1 7 rfl rfl)
theorem dX4_payOut_32 : decode cX4_payOut 32 = .ok (.ldc2_w 300, 3) := dk_20 1 44 (dk_at dksX4_payOut_1 8 rfl rfl)
theorem dX4_payOut_35 : decode cX4_payOut 35 = .ok (.ldiv, 1) := dk_109 (dk_at dksX4_payOut_1 11 rfl rfl)
theorem dX4_payOut_36 : decode cX4_payOut 36 = .ok (.lstore 4, 2) := dk_55 4 (dk_at dksX4_payOut_1 12 rfl rfl)
theorem dX4_payOut_38 : decode cX4_payOut 38 = .ok (.aload_n 0, 1) := dk_42 (dk_at dksX4_payOut_1 14 rfl rfl)
theorem dX4_payOut_39 : decode cX4_payOut 39 = .ok (.dup, 1) := dk_89 (dk_at dksX4_payOut_1 15 rfl rfl)
theorem dX4_payOut_40 : decode cX4_payOut 40 = .ok (.getfield 82, 3) := dk_180 0 82 (dk_at dksX4_payOut_1 16 rfl rfl)
theorem dX4_payOut_43 : decode cX4_payOut 43 = .ok (.lload 4, 2) := dk_22 4 (dk_at dksX4_payOut_1 19 rfl rfl)
theorem dX4_payOut_45 : decode cX4_payOut 45 = .ok (.ladd, 1) := dk_97 (dk_at dksX4_payOut_1 21 rfl rfl)
theorem dX4_payOut_46 : decode cX4_payOut 46 = .ok (.putfield 82, 3) := dk_181 0 82 (dk_at dksX4_payOut_2 0 rfl rfl)
theorem dX4_payOut_49 : decode cX4_payOut 49 = .ok (.lload_n 2, 1) := dk_32 (dk_at dksX4_payOut_2 3 rfl rfl)
theorem dX4_payOut_50 : decode cX4_payOut 50 = .ok (.lload 4, 2) := dk_22 4 (dk_at dksX4_payOut_2 4 rfl rfl)
theorem dX4_payOut_52 : decode cX4_payOut 52 = .ok (.lsub, 1) := dk_101 (dk_at dksX4_payOut_2 6 rfl rfl)
theorem dX4_payOut_53 : decode cX4_payOut 53 = .ok (.lstore 6, 2) := dk_55 6 (dk_at dksX4_payOut_2 7 rfl rfl)
theorem dX4_payOut_55 : decode cX4_payOut 55 = .ok (.lload 6, 2) := dk_22 6 (dk_at dksX4_payOut_2 9 rfl rfl)
theorem dX4_payOut_57 : decode cX4_payOut 57 = .ok (.aload_n 1, 1) := dk_43 (dk_at dksX4_payOut_2 11 rfl rfl)
theorem dX4_payOut_58 : decode cX4_payOut 58 = .ok (.getfield 383, 3) := dk_180 1 127 (dk_at dksX4_payOut_2 12 rfl rfl)
theorem dX4_payOut_61 : decode cX4_payOut 61 = .ok (.i2l, 1) := dk_133 (dk_at dksX4_payOut_2 15 rfl rfl)
theorem dX4_payOut_62 : decode cX4_payOut 62 = .ok (.lmul, 1) := dk_105 (dk_at dksX4_payOut_2 16 rfl rfl)
theorem dX4_payOut_63 : decode cX4_payOut 63 = .ok (.ldc2_w 300, 3) := dk_20 1 44 (dk_at dksX4_payOut_2 17 rfl rfl)
theorem dX4_payOut_66 : decode cX4_payOut 66 = .ok (.ldiv, 1) := dk_109 (dk_at dksX4_payOut_2 20 rfl rfl)
theorem dX4_payOut_67 : decode cX4_payOut 67 = .ok (.lstore 8, 2) := dk_55 8 (dk_at dksX4_payOut_2 21 rfl rfl)
theorem dX4_payOut_69 : decode cX4_payOut 69 = .ok (.aload_n 0, 1) := dk_42 (dk_at dksX4_payOut_2 23 rfl rfl)
theorem dX4_payOut_70 : decode cX4_payOut 70 = .ok (.aload_n 1, 1) := dk_43 (dk_at dksX4_payOut_3 0 rfl rfl)
theorem dX4_payOut_71 : decode cX4_payOut 71 = .ok (.lload 8, 2) := dk_22 8 (dk_at dksX4_payOut_3 1 rfl rfl)
theorem dX4_payOut_73 : decode cX4_payOut 73 = .ok (.invokevirtual 442, 3) := dk_182 1 186 (dk_at dksX4_payOut_3 3 rfl rfl)
theorem dX4_payOut_76 : decode cX4_payOut 76 = .ok (.aload_n 0, 1) := dk_42 (dk_at dksX4_payOut_3 6 rfl rfl)
theorem dX4_payOut_77 : decode cX4_payOut 77 = .ok (.aload_n 1, 1) := dk_43 (dk_at dksX4_payOut_3 7 rfl rfl)
theorem dX4_payOut_78 : decode cX4_payOut 78 = .ok (.getfield 368, 3) := dk_180 1 112 (dk_at dksX4_payOut_3 8 rfl rfl)
theorem dX4_payOut_81 : decode cX4_payOut 81 = .ok (.lload 6, 2) := dk_22 6 (dk_at dksX4_payOut_3 11 rfl rfl)
theorem dX4_payOut_83 : decode cX4_payOut 83 = .ok (.lload 8, 2) := dk_22 8 (dk_at dksX4_payOut_3 13 rfl rfl)
theorem dX4_payOut_85 : decode cX4_payOut 85 = .ok (.lsub, 1) := dk_101 (dk_at dksX4_payOut_3 15 rfl rfl)
theorem dX4_payOut_86 : decode cX4_payOut 86 = .ok (.invokevirtual 445, 3) := dk_182 1 189 (dk_at dksX4_payOut_3 16 rfl rfl)
theorem dX4_payOut_89 : decode cX4_payOut 89 = .ok (.lstore 10, 2) := dk_55 10 (dk_at dksX4_payOut_3 19 rfl rfl)
theorem dX4_payOut_91 : decode cX4_payOut 91 = .ok (.aload_n 0, 1) := dk_42 (dk_at dksX4_payOut_3 21 rfl rfl)
theorem dX4_payOut_92 : decode cX4_payOut 92 = .ok (.aload_n 1, 1) := dk_43 (dk_at dksX4_payOut_3 22 rfl rfl)
theorem dX4_payOut_93 : decode cX4_payOut 93 = .ok (.getfield 368, 3) := dk_180 1 112 (dk_at dksX4_payOut_4 0 rfl rfl)
theorem dX4_payOut_96 : decode cX4_payOut 96 = .ok (.invokevirtual 270, 3) := dk_182 1 14 (dk_at dksX4_payOut_4 3 rfl rfl)
theorem dX4_payOut_99 : decode cX4_payOut 99 = .ok (.ifCond .le 38, 3) := dk_158 0 38 (dk_at dksX4_payOut_4 6 rfl rfl)
theorem dX4_payOut_102 : decode cX4_payOut 102 = .ok (.aload_n 1, 1) := dk_43 (dk_at dksX4_payOut_4 9 rfl rfl)
theorem dX4_payOut_103 : decode cX4_payOut 103 = .ok (.getfield 368, 3) := dk_180 1 112 (dk_at dksX4_payOut_4 10 rfl rfl)
theorem dX4_payOut_106 : decode cX4_payOut 106 = .ok (.dup, 1) := dk_89 (dk_at dksX4_payOut_4 13 rfl rfl)
theorem dX4_payOut_107 : decode cX4_payOut 107 = .ok (.getfield 267, 3) := dk_180 1 11 (dk_at dksX4_payOut_4 14 rfl rfl)
theorem dX4_payOut_110 : decode cX4_payOut 110 = .ok (.lload 10, 2) := dk_22 10 (dk_at dksX4_payOut_4 17 rfl rfl)
theorem dX4_payOut_112 : decode cX4_payOut 112 = .ok (.ldc2_w 194, 3) := dk_20 0 194 (dk_at dksX4_payOut_4 19 rfl rfl)
theorem dX4_payOut_115 : decode cX4_payOut 115 = .ok (.ldiv, 1) := dk_109 (dk_at dksX4_payOut_4 22 rfl rfl)
theorem dX4_payOut_116 : decode cX4_payOut 116 = .ok (.ladd, 1) := dk_97 (dk_at dksX4_payOut_4 23 rfl rfl)
theorem dX4_payOut_117 : decode cX4_payOut 117 = .ok (.putfield 267, 3) := dk_181 1 11 (dk_at dksX4_payOut_5 0 rfl rfl)
theorem dX4_payOut_120 : decode cX4_payOut 120 = .ok (.aload_n 0, 1) := dk_42 (dk_at dksX4_payOut_5 3 rfl rfl)
theorem dX4_payOut_121 : decode cX4_payOut 121 = .ok (.aload_n 1, 1) := dk_43 (dk_at dksX4_payOut_5 4 rfl rfl)
theorem dX4_payOut_122 : decode cX4_payOut 122 = .ok (.lload 10, 2) := dk_22 10 (dk_at dksX4_payOut_5 5 rfl rfl)
theorem dX4_payOut_124 : decode cX4_payOut 124 = .ok (.lload 10, 2) := dk_22 10 (dk_at dksX4_payOut_5 7 rfl rfl)
theorem dX4_payOut_126 : decode cX4_payOut 126 = .ok (.ldc2_w 194, 3) := dk_20 0 194 (dk_at dksX4_payOut_5 9 rfl rfl)
theorem dX4_payOut_129 : decode cX4_payOut 129 = .ok (.ldiv, 1) := dk_109 (dk_at dksX4_payOut_5 12 rfl rfl)
theorem dX4_payOut_130 : decode cX4_payOut 130 = .ok (.lsub, 1) := dk_101 (dk_at dksX4_payOut_5 13 rfl rfl)
theorem dX4_payOut_131 : decode cX4_payOut 131 = .ok (.invokevirtual 449, 3) := dk_182 1 193 (dk_at dksX4_payOut_5 14 rfl rfl)
theorem dX4_payOut_134 : decode cX4_payOut 134 = .ok (.goto 18, 3) := dk_167 0 18 (dk_at dksX4_payOut_5 17 rfl rfl)
theorem dX4_payOut_137 : decode cX4_payOut 137 = .ok (.aload_n 0, 1) := dk_42 (dk_at dksX4_payOut_5 20 rfl rfl)
theorem dX4_payOut_138 : decode cX4_payOut 138 = .ok (.aload_n 1, 1) := dk_43 (dk_at dksX4_payOut_5 21 rfl rfl)
theorem dX4_payOut_139 : decode cX4_payOut 139 = .ok (.lload 10, 2) := dk_22 10 (dk_at dksX4_payOut_5 22 rfl rfl)
theorem dX4_payOut_141 : decode cX4_payOut 141 = .ok (.invokevirtual 449, 3) := dk_182 1 193 (dk_at dksX4_payOut_6 0 rfl rfl)
theorem dX4_payOut_144 : decode cX4_payOut 144 = .ok (.aload_n 0, 1) := dk_42 (dk_at dksX4_payOut_6 3 rfl rfl)
theorem dX4_payOut_145 : decode cX4_payOut 145 = .ok (.aload_n 1, 1) := dk_43 (dk_at dksX4_payOut_6 4 rfl rfl)
theorem dX4_payOut_146 : decode cX4_payOut 146 = .ok (.getfield 368, 3) := dk_180 1 112 (dk_at dksX4_payOut_6 5 rfl rfl)
theorem dX4_payOut_149 : decode cX4_payOut 149 = .ok (.invokevirtual 452, 3) := dk_182 1 196 (dk_at dksX4_payOut_6 8 rfl rfl)
theorem dX4_payOut_152 : decode cX4_payOut 152 = .ok (.return_, 1) := dk_177 (dk_at dksX4_payOut_6 11 rfl rfl)
abbrev cX4_payLawyers : ByteArray := prog_14_method_72_code
def yX4_payLawyers : MethodName := ⟨RX4, "payLawyers", "(LMassclaimModel$Claim;J)V"⟩
def dkwX4_payLawyers_6 : List UInt8 := [22, 6, 97, 80, 177]
abbrev dktX4_payLawyers_6 : List UInt8 := dkwX4_payLawyers_6 ++ []
def dkwX4_payLawyers_5 : List UInt8 := [22, 6, 22, 10, 101, 55, 6, 132, 8, 1, 167, 255, 164, 42, 180, 0, 36, 43, 182, 1, 139, 92, 47]
abbrev dktX4_payLawyers_5 : List UInt8 := dkwX4_payLawyers_5 ++ dktX4_payLawyers_6
def dkwX4_payLawyers_4 : List UInt8 := [42, 180, 0, 36, 43, 180, 1, 130, 21, 8, 182, 0, 108, 192, 0, 238, 3, 46, 92, 47, 22, 10, 97, 80]
abbrev dktX4_payLawyers_4 : List UInt8 := dkwX4_payLawyers_4 ++ dktX4_payLawyers_5
def dkwX4_payLawyers_3 : List UInt8 := [21, 8, 182, 0, 108, 192, 0, 238, 4, 46, 100, 54, 9, 32, 21, 9, 133, 105, 21, 5, 133, 109, 55, 10]
abbrev dktX4_payLawyers_3 : List UInt8 := dkwX4_payLawyers_3 ++ dktX4_payLawyers_4
def dkwX4_payLawyers_2 : List UInt8 := [158, 0, 84, 43, 180, 1, 130, 21, 8, 4, 96, 182, 0, 108, 192, 0, 238, 4, 46, 43, 180, 1, 130]
abbrev dktX4_payLawyers_2 : List UInt8 := dkwX4_payLawyers_2 ++ dktX4_payLawyers_3
def dkwX4_payLawyers_1 : List UInt8 := [4, 46, 100, 54, 5, 32, 55, 6, 3, 54, 8, 21, 8, 4, 96, 21, 4, 162, 0, 89, 21, 5]
abbrev dktX4_payLawyers_1 : List UInt8 := dkwX4_payLawyers_1 ++ dktX4_payLawyers_2
def dkwX4_payLawyers_0 : List UInt8 := [43, 180, 1, 130, 182, 0, 94, 54, 4, 42, 180, 0, 43, 43, 180, 1, 130, 3, 182, 0, 108, 192, 0, 238]
abbrev dktX4_payLawyers_0 : List UInt8 := dkwX4_payLawyers_0 ++ dktX4_payLawyers_1
theorem dksX4_payLawyers_0 : cX4_payLawyers.data.toList.drop 0 = dktX4_payLawyers_0 := by decide +kernel
theorem dksX4_payLawyers_1 : cX4_payLawyers.data.toList.drop 24 = dktX4_payLawyers_1 := dk_seg dksX4_payLawyers_0 24 rfl rfl
theorem dksX4_payLawyers_2 : cX4_payLawyers.data.toList.drop 46 = dktX4_payLawyers_2 := dk_seg dksX4_payLawyers_1 22 rfl rfl
theorem dksX4_payLawyers_3 : cX4_payLawyers.data.toList.drop 69 = dktX4_payLawyers_3 := dk_seg dksX4_payLawyers_2 23 rfl rfl
theorem dksX4_payLawyers_4 : cX4_payLawyers.data.toList.drop 93 = dktX4_payLawyers_4 := dk_seg dksX4_payLawyers_3 24 rfl rfl
theorem dksX4_payLawyers_5 : cX4_payLawyers.data.toList.drop 117 = dktX4_payLawyers_5 := dk_seg dksX4_payLawyers_4 24 rfl rfl
theorem dksX4_payLawyers_6 : cX4_payLawyers.data.toList.drop 140 = dktX4_payLawyers_6 := dk_seg dksX4_payLawyers_5 23 rfl rfl
theorem dX4_payLawyers_0 : decode cX4_payLawyers 0 = .ok (.aload_n 1, 1) := dk_43 (dk_at dksX4_payLawyers_0 0 rfl rfl)
theorem dX4_payLawyers_1 : decode cX4_payLawyers 1 = .ok (.getfield 386, 3) := dk_180 1 130 (dk_at dksX4_payLawyers_0 1 rfl rfl)
theorem dX4_payLawyers_4 : decode cX4_payLawyers 4 = .ok (.invokevirtual 94, 3) := dk_182 0 94 (dk_at dksX4_payLawyers_0 4 rfl rfl)
theorem dX4_payLawyers_7 : decode cX4_payLawyers 7 = .ok (.istore 4, 2) := dk_54 4 (dk_at dksX4_payLawyers_0 7 rfl rfl)
theorem dX4_payLawyers_9 : decode cX4_payLawyers 9 = .ok (.aload_n 0, 1) := dk_42 (dk_at dksX4_payLawyers_0 9 rfl rfl)
theorem dX4_payLawyers_10 : decode cX4_payLawyers 10 = .ok (.getfield 43, 3) := dk_180 0 43 (dk_at dksX4_payLawyers_0 10 rfl rfl)
theorem dX4_payLawyers_13 : decode cX4_payLawyers 13 = .ok (.aload_n 1, 1) := dk_43 (dk_at dksX4_payLawyers_0 13 rfl rfl)
theorem dX4_payLawyers_14 : decode cX4_payLawyers 14 = .ok (.getfield 386, 3) := dk_180 1 130 (dk_at dksX4_payLawyers_0 14 rfl rfl)
theorem dX4_payLawyers_17 : decode cX4_payLawyers 17 = .ok (.iconst 0, 1) := dk_3 (dk_at dksX4_payLawyers_0 17 rfl rfl)
theorem dX4_payLawyers_18 : decode cX4_payLawyers 18 = .ok (.invokevirtual 108, 3) := dk_182 0 108 (dk_at dksX4_payLawyers_0 18 rfl rfl)
theorem dX4_payLawyers_21 : decode cX4_payLawyers 21 = .ok (.checkcast 238, 3) := dk_192 0 238 (dk_at dksX4_payLawyers_0 21 rfl rfl)
theorem dX4_payLawyers_24 : decode cX4_payLawyers 24 = .ok (.iconst 1, 1) := dk_4 (dk_at dksX4_payLawyers_1 0 rfl rfl)
theorem dX4_payLawyers_25 : decode cX4_payLawyers 25 = .ok (.iaload, 1) := dk_46 (dk_at dksX4_payLawyers_1 1 rfl rfl)
theorem dX4_payLawyers_26 : decode cX4_payLawyers 26 = .ok (.isub, 1) := dk_100 (dk_at dksX4_payLawyers_1 2 rfl rfl)
theorem dX4_payLawyers_27 : decode cX4_payLawyers 27 = .ok (.istore 5, 2) := dk_54 5 (dk_at dksX4_payLawyers_1 3 rfl rfl)
theorem dX4_payLawyers_29 : decode cX4_payLawyers 29 = .ok (.lload_n 2, 1) := dk_32 (dk_at dksX4_payLawyers_1 5 rfl rfl)
theorem dX4_payLawyers_30 : decode cX4_payLawyers 30 = .ok (.lstore 6, 2) := dk_55 6 (dk_at dksX4_payLawyers_1 6 rfl rfl)
theorem dX4_payLawyers_32 : decode cX4_payLawyers 32 = .ok (.iconst 0, 1) := dk_3 (dk_at dksX4_payLawyers_1 8 rfl rfl)
theorem dX4_payLawyers_33 : decode cX4_payLawyers 33 = .ok (.istore 8, 2) := dk_54 8 (dk_at dksX4_payLawyers_1 9 rfl rfl)
theorem dX4_payLawyers_35 : decode cX4_payLawyers 35 = .ok (.iload 8, 2) := dk_21 8 (dk_at dksX4_payLawyers_1 11 rfl rfl)
theorem dX4_payLawyers_37 : decode cX4_payLawyers 37 = .ok (.iconst 1, 1) := dk_4 (dk_at dksX4_payLawyers_1 13 rfl rfl)
theorem dX4_payLawyers_38 : decode cX4_payLawyers 38 = .ok (.iadd, 1) := dk_96 (dk_at dksX4_payLawyers_1 14 rfl rfl)
theorem dX4_payLawyers_39 : decode cX4_payLawyers 39 = .ok (.iload 4, 2) := dk_21 4 (dk_at dksX4_payLawyers_1 15 rfl rfl)
theorem dX4_payLawyers_41 : decode cX4_payLawyers 41 = .ok (.if_icmp .ge 89, 3) := dk_162 0 89 (dk_at dksX4_payLawyers_1 17 rfl rfl)
theorem dX4_payLawyers_44 : decode cX4_payLawyers 44 = .ok (.iload 5, 2) := dk_21 5 (dk_at dksX4_payLawyers_1 20 rfl rfl)
theorem dX4_payLawyers_46 : decode cX4_payLawyers 46 = .ok (.ifCond .le 84, 3) := dk_158 0 84 (dk_at dksX4_payLawyers_2 0 rfl rfl)
theorem dX4_payLawyers_49 : decode cX4_payLawyers 49 = .ok (.aload_n 1, 1) := dk_43 (dk_at dksX4_payLawyers_2 3 rfl rfl)
theorem dX4_payLawyers_50 : decode cX4_payLawyers 50 = .ok (.getfield 386, 3) := dk_180 1 130 (dk_at dksX4_payLawyers_2 4 rfl rfl)
theorem dX4_payLawyers_53 : decode cX4_payLawyers 53 = .ok (.iload 8, 2) := dk_21 8 (dk_at dksX4_payLawyers_2 7 rfl rfl)
theorem dX4_payLawyers_55 : decode cX4_payLawyers 55 = .ok (.iconst 1, 1) := dk_4 (dk_at dksX4_payLawyers_2 9 rfl rfl)
theorem dX4_payLawyers_56 : decode cX4_payLawyers 56 = .ok (.iadd, 1) := dk_96 (dk_at dksX4_payLawyers_2 10 rfl rfl)
theorem dX4_payLawyers_57 : decode cX4_payLawyers 57 = .ok (.invokevirtual 108, 3) := dk_182 0 108 (dk_at dksX4_payLawyers_2 11 rfl rfl)
theorem dX4_payLawyers_60 : decode cX4_payLawyers 60 = .ok (.checkcast 238, 3) := dk_192 0 238 (dk_at dksX4_payLawyers_2 14 rfl rfl)
theorem dX4_payLawyers_63 : decode cX4_payLawyers 63 = .ok (.iconst 1, 1) := dk_4 (dk_at dksX4_payLawyers_2 17 rfl rfl)
theorem dX4_payLawyers_64 : decode cX4_payLawyers 64 = .ok (.iaload, 1) := dk_46 (dk_at dksX4_payLawyers_2 18 rfl rfl)
theorem dX4_payLawyers_65 : decode cX4_payLawyers 65 = .ok (.aload_n 1, 1) := dk_43 (dk_at dksX4_payLawyers_2 19 rfl rfl)
theorem dX4_payLawyers_66 : decode cX4_payLawyers 66 = .ok (.getfield 386, 3) := dk_180 1 130 (dk_at dksX4_payLawyers_2 20 rfl rfl)
theorem dX4_payLawyers_69 : decode cX4_payLawyers 69 = .ok (.iload 8, 2) := dk_21 8 (dk_at dksX4_payLawyers_3 0 rfl rfl)
theorem dX4_payLawyers_71 : decode cX4_payLawyers 71 = .ok (.invokevirtual 108, 3) := dk_182 0 108 (dk_at dksX4_payLawyers_3 2 rfl rfl)
theorem dX4_payLawyers_74 : decode cX4_payLawyers 74 = .ok (.checkcast 238, 3) := dk_192 0 238 (dk_at dksX4_payLawyers_3 5 rfl rfl)
theorem dX4_payLawyers_77 : decode cX4_payLawyers 77 = .ok (.iconst 1, 1) := dk_4 (dk_at dksX4_payLawyers_3 8 rfl rfl)
theorem dX4_payLawyers_78 : decode cX4_payLawyers 78 = .ok (.iaload, 1) := dk_46 (dk_at dksX4_payLawyers_3 9 rfl rfl)
theorem dX4_payLawyers_79 : decode cX4_payLawyers 79 = .ok (.isub, 1) := dk_100 (dk_at dksX4_payLawyers_3 10 rfl rfl)
theorem dX4_payLawyers_80 : decode cX4_payLawyers 80 = .ok (.istore 9, 2) := dk_54 9 (dk_at dksX4_payLawyers_3 11 rfl rfl)
theorem dX4_payLawyers_82 : decode cX4_payLawyers 82 = .ok (.lload_n 2, 1) := dk_32 (dk_at dksX4_payLawyers_3 13 rfl rfl)
theorem dX4_payLawyers_83 : decode cX4_payLawyers 83 = .ok (.iload 9, 2) := dk_21 9 (dk_at dksX4_payLawyers_3 14 rfl rfl)
theorem dX4_payLawyers_85 : decode cX4_payLawyers 85 = .ok (.i2l, 1) := dk_133 (dk_at dksX4_payLawyers_3 16 rfl rfl)
theorem dX4_payLawyers_86 : decode cX4_payLawyers 86 = .ok (.lmul, 1) := dk_105 (dk_at dksX4_payLawyers_3 17 rfl rfl)
theorem dX4_payLawyers_87 : decode cX4_payLawyers 87 = .ok (.iload 5, 2) := dk_21 5 (dk_at dksX4_payLawyers_3 18 rfl rfl)
theorem dX4_payLawyers_89 : decode cX4_payLawyers 89 = .ok (.i2l, 1) := dk_133 (dk_at dksX4_payLawyers_3 20 rfl rfl)
theorem dX4_payLawyers_90 : decode cX4_payLawyers 90 = .ok (.ldiv, 1) := dk_109 (dk_at dksX4_payLawyers_3 21 rfl rfl)
theorem dX4_payLawyers_91 : decode cX4_payLawyers 91 = .ok (.lstore 10, 2) := dk_55 10 (dk_at dksX4_payLawyers_3 22 rfl rfl)
theorem dX4_payLawyers_93 : decode cX4_payLawyers 93 = .ok (.aload_n 0, 1) := dk_42 (dk_at dksX4_payLawyers_4 0 rfl rfl)
theorem dX4_payLawyers_94 : decode cX4_payLawyers 94 = .ok (.getfield 36, 3) := dk_180 0 36 (dk_at dksX4_payLawyers_4 1 rfl rfl)
theorem dX4_payLawyers_97 : decode cX4_payLawyers 97 = .ok (.aload_n 1, 1) := dk_43 (dk_at dksX4_payLawyers_4 4 rfl rfl)
theorem dX4_payLawyers_98 : decode cX4_payLawyers 98 = .ok (.getfield 386, 3) := dk_180 1 130 (dk_at dksX4_payLawyers_4 5 rfl rfl)
theorem dX4_payLawyers_101 : decode cX4_payLawyers 101 = .ok (.iload 8, 2) := dk_21 8 (dk_at dksX4_payLawyers_4 8 rfl rfl)
theorem dX4_payLawyers_103 : decode cX4_payLawyers 103 = .ok (.invokevirtual 108, 3) := dk_182 0 108 (dk_at dksX4_payLawyers_4 10 rfl rfl)
theorem dX4_payLawyers_106 : decode cX4_payLawyers 106 = .ok (.checkcast 238, 3) := dk_192 0 238 (dk_at dksX4_payLawyers_4 13 rfl rfl)
theorem dX4_payLawyers_109 : decode cX4_payLawyers 109 = .ok (.iconst 0, 1) := dk_3 (dk_at dksX4_payLawyers_4 16 rfl rfl)
theorem dX4_payLawyers_110 : decode cX4_payLawyers 110 = .ok (.iaload, 1) := dk_46 (dk_at dksX4_payLawyers_4 17 rfl rfl)
theorem dX4_payLawyers_111 : decode cX4_payLawyers 111 = .ok (.dup2, 1) := dk_92 (dk_at dksX4_payLawyers_4 18 rfl rfl)
theorem dX4_payLawyers_112 : decode cX4_payLawyers 112 = .ok (.laload, 1) := dk_47 (dk_at dksX4_payLawyers_4 19 rfl rfl)
theorem dX4_payLawyers_113 : decode cX4_payLawyers 113 = .ok (.lload 10, 2) := dk_22 10 (dk_at dksX4_payLawyers_4 20 rfl rfl)
theorem dX4_payLawyers_115 : decode cX4_payLawyers 115 = .ok (.ladd, 1) := dk_97 (dk_at dksX4_payLawyers_4 22 rfl rfl)
theorem dX4_payLawyers_116 : decode cX4_payLawyers 116 = .ok (.lastore, 1) := dk_80 (dk_at dksX4_payLawyers_4 23 rfl rfl)
theorem dX4_payLawyers_117 : decode cX4_payLawyers 117 = .ok (.lload 6, 2) := dk_22 6 (dk_at dksX4_payLawyers_5 0 rfl rfl)
theorem dX4_payLawyers_119 : decode cX4_payLawyers 119 = .ok (.lload 10, 2) := dk_22 10 (dk_at dksX4_payLawyers_5 2 rfl rfl)
theorem dX4_payLawyers_121 : decode cX4_payLawyers 121 = .ok (.lsub, 1) := dk_101 (dk_at dksX4_payLawyers_5 4 rfl rfl)
theorem dX4_payLawyers_122 : decode cX4_payLawyers 122 = .ok (.lstore 6, 2) := dk_55 6 (dk_at dksX4_payLawyers_5 5 rfl rfl)
theorem dX4_payLawyers_124 : decode cX4_payLawyers 124 = .ok (.iinc 8 1, 3) := dk_132 8 1 (dk_at dksX4_payLawyers_5 7 rfl rfl)
theorem dX4_payLawyers_127 : decode cX4_payLawyers 127 = .ok (.goto (-92), 3) := dk_167 255 164 (dk_at dksX4_payLawyers_5 10 rfl rfl)
theorem dX4_payLawyers_130 : decode cX4_payLawyers 130 = .ok (.aload_n 0, 1) := dk_42 (dk_at dksX4_payLawyers_5 13 rfl rfl)
theorem dX4_payLawyers_131 : decode cX4_payLawyers 131 = .ok (.getfield 36, 3) := dk_180 0 36 (dk_at dksX4_payLawyers_5 14 rfl rfl)
theorem dX4_payLawyers_134 : decode cX4_payLawyers 134 = .ok (.aload_n 1, 1) := dk_43 (dk_at dksX4_payLawyers_5 17 rfl rfl)
theorem dX4_payLawyers_135 : decode cX4_payLawyers 135 = .ok (.invokevirtual 395, 3) := dk_182 1 139 (dk_at dksX4_payLawyers_5 18 rfl rfl)
theorem dX4_payLawyers_138 : decode cX4_payLawyers 138 = .ok (.dup2, 1) := dk_92 (dk_at dksX4_payLawyers_5 21 rfl rfl)
theorem dX4_payLawyers_139 : decode cX4_payLawyers 139 = .ok (.laload, 1) := dk_47 (dk_at dksX4_payLawyers_5 22 rfl rfl)
theorem dX4_payLawyers_140 : decode cX4_payLawyers 140 = .ok (.lload 6, 2) := dk_22 6 (dk_at dksX4_payLawyers_6 0 rfl rfl)
theorem dX4_payLawyers_142 : decode cX4_payLawyers 142 = .ok (.ladd, 1) := dk_97 (dk_at dksX4_payLawyers_6 2 rfl rfl)
theorem dX4_payLawyers_143 : decode cX4_payLawyers 143 = .ok (.lastore, 1) := dk_80 (dk_at dksX4_payLawyers_6 3 rfl rfl)
theorem dX4_payLawyers_144 : decode cX4_payLawyers 144 = .ok (.return_, 1) := dk_177 (dk_at dksX4_payLawyers_6 4 rfl rfl)
abbrev cX4_payLiens : ByteArray := prog_14_method_73_code
def yX4_payLiens : MethodName := ⟨RX4, "payLiens", "(LMassclaimModel$Person;J)J"⟩
def dkwX4_payLiens_5 : List UInt8 := [173]
abbrev dktX4_payLiens_5 : List UInt8 := dkwX4_payLiens_5 ++ []
def dkwX4_payLiens_4 : List UInt8 := [180, 0, 85, 22, 8, 97, 181, 0, 85, 22, 4, 22, 8, 101, 55, 4, 132, 6, 1, 167, 255, 150, 22, 4]
abbrev dktX4_payLiens_4 : List UInt8 := dkwX4_payLiens_4 ++ dktX4_payLiens_5
def dkwX4_payLiens_3 : List UInt8 := [184, 1, 64, 184, 1, 64, 55, 8, 25, 7, 89, 180, 1, 6, 22, 8, 136, 100, 181, 1, 6, 42, 89]
abbrev dktX4_payLiens_3 : List UInt8 := dkwX4_payLiens_3 ++ dktX4_payLiens_4
def dkwX4_payLiens_2 : List UInt8 := [133, 25, 7, 180, 1, 199, 153, 0, 11, 32, 20, 0, 171, 109, 167, 0, 8, 32, 20, 1, 17, 109]
abbrev dktX4_payLiens_2 : List UInt8 := dkwX4_payLiens_2 ++ dktX4_payLiens_3
def dkwX4_payLiens_1 : List UInt8 := [182, 0, 108, 192, 1, 0, 58, 7, 25, 7, 180, 1, 2, 43, 166, 0, 71, 22, 4, 25, 7, 180, 1, 6]
abbrev dktX4_payLiens_1 : List UInt8 := dkwX4_payLiens_1 ++ dktX4_payLiens_2
def dkwX4_payLiens_0 : List UInt8 := [32, 55, 4, 3, 54, 6, 21, 6, 42, 180, 0, 33, 182, 0, 94, 162, 0, 100, 42, 180, 0, 33, 21, 6]
abbrev dktX4_payLiens_0 : List UInt8 := dkwX4_payLiens_0 ++ dktX4_payLiens_1
theorem dksX4_payLiens_0 : cX4_payLiens.data.toList.drop 0 = dktX4_payLiens_0 := by decide +kernel
theorem dksX4_payLiens_1 : cX4_payLiens.data.toList.drop 24 = dktX4_payLiens_1 := dk_seg dksX4_payLiens_0 24 rfl rfl
theorem dksX4_payLiens_2 : cX4_payLiens.data.toList.drop 48 = dktX4_payLiens_2 := dk_seg dksX4_payLiens_1 24 rfl rfl
theorem dksX4_payLiens_3 : cX4_payLiens.data.toList.drop 70 = dktX4_payLiens_3 := dk_seg dksX4_payLiens_2 22 rfl rfl
theorem dksX4_payLiens_4 : cX4_payLiens.data.toList.drop 93 = dktX4_payLiens_4 := dk_seg dksX4_payLiens_3 23 rfl rfl
theorem dksX4_payLiens_5 : cX4_payLiens.data.toList.drop 117 = dktX4_payLiens_5 := dk_seg dksX4_payLiens_4 24 rfl rfl
theorem dX4_payLiens_0 : decode cX4_payLiens 0 = .ok (.lload_n 2, 1) := dk_32 (dk_at dksX4_payLiens_0 0 rfl rfl)
theorem dX4_payLiens_1 : decode cX4_payLiens 1 = .ok (.lstore 4, 2) := dk_55 4 (dk_at dksX4_payLiens_0 1 rfl rfl)
theorem dX4_payLiens_3 : decode cX4_payLiens 3 = .ok (.iconst 0, 1) := dk_3 (dk_at dksX4_payLiens_0 3 rfl rfl)
theorem dX4_payLiens_4 : decode cX4_payLiens 4 = .ok (.istore 6, 2) := dk_54 6 (dk_at dksX4_payLiens_0 4 rfl rfl)
theorem dX4_payLiens_6 : decode cX4_payLiens 6 = .ok (.iload 6, 2) := dk_21 6 (dk_at dksX4_payLiens_0 6 rfl rfl)
theorem dX4_payLiens_8 : decode cX4_payLiens 8 = .ok (.aload_n 0, 1) := dk_42 (dk_at dksX4_payLiens_0 8 rfl rfl)
theorem dX4_payLiens_9 : decode cX4_payLiens 9 = .ok (.getfield 33, 3) := dk_180 0 33 (dk_at dksX4_payLiens_0 9 rfl rfl)
theorem dX4_payLiens_12 : decode cX4_payLiens 12 = .ok (.invokevirtual 94, 3) := dk_182 0 94 (dk_at dksX4_payLiens_0 12 rfl rfl)
theorem dX4_payLiens_15 : decode cX4_payLiens 15 = .ok (.if_icmp .ge 100, 3) := dk_162 0 100 (dk_at dksX4_payLiens_0 15 rfl rfl)
theorem dX4_payLiens_18 : decode cX4_payLiens 18 = .ok (.aload_n 0, 1) := dk_42 (dk_at dksX4_payLiens_0 18 rfl rfl)
theorem dX4_payLiens_19 : decode cX4_payLiens 19 = .ok (.getfield 33, 3) := dk_180 0 33 (dk_at dksX4_payLiens_0 19 rfl rfl)
theorem dX4_payLiens_22 : decode cX4_payLiens 22 = .ok (.iload 6, 2) := dk_21 6 (dk_at dksX4_payLiens_0 22 rfl rfl)
theorem dX4_payLiens_24 : decode cX4_payLiens 24 = .ok (.invokevirtual 108, 3) := dk_182 0 108 (dk_at dksX4_payLiens_1 0 rfl rfl)
theorem dX4_payLiens_27 : decode cX4_payLiens 27 = .ok (.checkcast 256, 3) := dk_192 1 0 (dk_at dksX4_payLiens_1 3 rfl rfl)
theorem dX4_payLiens_30 : decode cX4_payLiens 30 = .ok (.astore 7, 2) := dk_58 7 (dk_at dksX4_payLiens_1 6 rfl rfl)
theorem dX4_payLiens_32 : decode cX4_payLiens 32 = .ok (.aload 7, 2) := dk_25 7 (dk_at dksX4_payLiens_1 8 rfl rfl)
theorem dX4_payLiens_34 : decode cX4_payLiens 34 = .ok (.getfield 258, 3) := dk_180 1 2 (dk_at dksX4_payLiens_1 10 rfl rfl)
theorem dX4_payLiens_37 : decode cX4_payLiens 37 = .ok (.aload_n 1, 1) := dk_43 (dk_at dksX4_payLiens_1 13 rfl rfl)
theorem dX4_payLiens_38 : decode cX4_payLiens 38 = .ok (.if_acmp .ne 71, 3) := dk_166 0 71 (dk_at dksX4_payLiens_1 14 rfl rfl)
theorem dX4_payLiens_41 : decode cX4_payLiens 41 = .ok (.lload 4, 2) := dk_22 4 (dk_at dksX4_payLiens_1 17 rfl rfl)
theorem dX4_payLiens_43 : decode cX4_payLiens 43 = .ok (.aload 7, 2) := dk_25 7 (dk_at dksX4_payLiens_1 19 rfl rfl)
theorem dX4_payLiens_45 : decode cX4_payLiens 45 = .ok (.getfield 262, 3) := dk_180 1 6 (dk_at dksX4_payLiens_1 21 rfl rfl)
theorem dX4_payLiens_48 : decode cX4_payLiens 48 = .ok (.i2l, 1) := dk_133 (dk_at dksX4_payLiens_2 0 rfl rfl)
theorem dX4_payLiens_49 : decode cX4_payLiens 49 = .ok (.aload 7, 2) := dk_25 7 (dk_at dksX4_payLiens_2 1 rfl rfl)
theorem dX4_payLiens_51 : decode cX4_payLiens 51 = .ok (.getfield 455, 3) := dk_180 1 199 (dk_at dksX4_payLiens_2 3 rfl rfl)
theorem dX4_payLiens_54 : decode cX4_payLiens 54 = .ok (.ifCond .eq 11, 3) := dk_153 0 11 (dk_at dksX4_payLiens_2 6 rfl rfl)
theorem dX4_payLiens_57 : decode cX4_payLiens 57 = .ok (.lload_n 2, 1) := dk_32 (dk_at dksX4_payLiens_2 9 rfl rfl)
theorem dX4_payLiens_58 : decode cX4_payLiens 58 = .ok (.ldc2_w 171, 3) := dk_20 0 171 (dk_at dksX4_payLiens_2 10 rfl rfl)
theorem dX4_payLiens_61 : decode cX4_payLiens 61 = .ok (.ldiv, 1) := dk_109 (dk_at dksX4_payLiens_2 13 rfl rfl)
theorem dX4_payLiens_62 : decode cX4_payLiens 62 = .ok (.goto 8, 3) := dk_167 0 8 (dk_at dksX4_payLiens_2 14 rfl rfl)
theorem dX4_payLiens_65 : decode cX4_payLiens 65 = .ok (.lload_n 2, 1) := dk_32 (dk_at dksX4_payLiens_2 17 rfl rfl)
theorem dX4_payLiens_66 : decode cX4_payLiens 66 = .ok (.ldc2_w 273, 3) := dk_20 1 17 (dk_at dksX4_payLiens_2 18 rfl rfl)
theorem dX4_payLiens_69 : decode cX4_payLiens 69 = .ok (.ldiv, 1) := dk_109 (dk_at dksX4_payLiens_2 21 rfl rfl)
theorem dX4_payLiens_70 : decode cX4_payLiens 70 = .ok (.invokestatic 320, 3) := dk_184 1 64 (dk_at dksX4_payLiens_3 0 rfl rfl)
theorem dX4_payLiens_73 : decode cX4_payLiens 73 = .ok (.invokestatic 320, 3) := dk_184 1 64 (dk_at dksX4_payLiens_3 3 rfl rfl)
theorem dX4_payLiens_76 : decode cX4_payLiens 76 = .ok (.lstore 8, 2) := dk_55 8 (dk_at dksX4_payLiens_3 6 rfl rfl)
theorem dX4_payLiens_78 : decode cX4_payLiens 78 = .ok (.aload 7, 2) := dk_25 7 (dk_at dksX4_payLiens_3 8 rfl rfl)
theorem dX4_payLiens_80 : decode cX4_payLiens 80 = .ok (.dup, 1) := dk_89 (dk_at dksX4_payLiens_3 10 rfl rfl)
theorem dX4_payLiens_81 : decode cX4_payLiens 81 = .ok (.getfield 262, 3) := dk_180 1 6 (dk_at dksX4_payLiens_3 11 rfl rfl)
theorem dX4_payLiens_84 : decode cX4_payLiens 84 = .ok (.lload 8, 2) := dk_22 8 (dk_at dksX4_payLiens_3 14 rfl rfl)
theorem dX4_payLiens_86 : decode cX4_payLiens 86 = .ok (.l2i, 1) := dk_136 (dk_at dksX4_payLiens_3 16 rfl rfl)
theorem dX4_payLiens_87 : decode cX4_payLiens 87 = .ok (.isub, 1) := dk_100 (dk_at dksX4_payLiens_3 17 rfl rfl)
theorem dX4_payLiens_88 : decode cX4_payLiens 88 = .ok (.putfield 262, 3) := dk_181 1 6 (dk_at dksX4_payLiens_3 18 rfl rfl)
theorem dX4_payLiens_91 : decode cX4_payLiens 91 = .ok (.aload_n 0, 1) := dk_42 (dk_at dksX4_payLiens_3 21 rfl rfl)
theorem dX4_payLiens_92 : decode cX4_payLiens 92 = .ok (.dup, 1) := dk_89 (dk_at dksX4_payLiens_3 22 rfl rfl)
theorem dX4_payLiens_93 : decode cX4_payLiens 93 = .ok (.getfield 85, 3) := dk_180 0 85 (dk_at dksX4_payLiens_4 0 rfl rfl)
theorem dX4_payLiens_96 : decode cX4_payLiens 96 = .ok (.lload 8, 2) := dk_22 8 (dk_at dksX4_payLiens_4 3 rfl rfl)
theorem dX4_payLiens_98 : decode cX4_payLiens 98 = .ok (.ladd, 1) := dk_97 (dk_at dksX4_payLiens_4 5 rfl rfl)
theorem dX4_payLiens_99 : decode cX4_payLiens 99 = .ok (.putfield 85, 3) := dk_181 0 85 (dk_at dksX4_payLiens_4 6 rfl rfl)
theorem dX4_payLiens_102 : decode cX4_payLiens 102 = .ok (.lload 4, 2) := dk_22 4 (dk_at dksX4_payLiens_4 9 rfl rfl)
theorem dX4_payLiens_104 : decode cX4_payLiens 104 = .ok (.lload 8, 2) := dk_22 8 (dk_at dksX4_payLiens_4 11 rfl rfl)
theorem dX4_payLiens_106 : decode cX4_payLiens 106 = .ok (.lsub, 1) := dk_101 (dk_at dksX4_payLiens_4 13 rfl rfl)
theorem dX4_payLiens_107 : decode cX4_payLiens 107 = .ok (.lstore 4, 2) := dk_55 4 (dk_at dksX4_payLiens_4 14 rfl rfl)
theorem dX4_payLiens_109 : decode cX4_payLiens 109 = .ok (.iinc 6 1, 3) := dk_132 6 1 (dk_at dksX4_payLiens_4 16 rfl rfl)
theorem dX4_payLiens_112 : decode cX4_payLiens 112 = .ok (.goto (-106), 3) := dk_167 255 150 (dk_at dksX4_payLiens_4 19 rfl rfl)
theorem dX4_payLiens_115 : decode cX4_payLiens 115 = .ok (.lload 4, 2) := dk_22 4 (dk_at dksX4_payLiens_4 22 rfl rfl)
theorem dX4_payLiens_117 : decode cX4_payLiens 117 = .ok (.lreturn, 1) := dk_173 (dk_at dksX4_payLiens_5 0 rfl rfl)
abbrev cX4_deliver : ByteArray := prog_14_method_74_code
def yX4_deliver : MethodName := ⟨RX4, "deliver", "(LMassclaimModel$Claim;J)V"⟩
def dkwX4_deliver_5 : List UInt8 := [25, 4, 89, 180, 0, 147, 32, 97, 181, 0, 147, 177]
abbrev dktX4_deliver_5 : List UInt8 := dkwX4_deliver_5 ++ []
def dkwX4_deliver_4 : List UInt8 := [133, 109, 101, 43, 180, 1, 167, 4, 100, 42, 180, 0, 43, 183, 1, 202, 182, 0, 186, 87, 167, 0, 14]
abbrev dktX4_deliver_4 : List UInt8 := dkwX4_deliver_4 ++ dktX4_deliver_5
def dkwX4_deliver_3 : List UInt8 := [180, 1, 167, 133, 109, 97, 181, 0, 147, 25, 4, 180, 0, 150, 187, 0, 153, 89, 32, 32, 43, 180, 1, 167]
abbrev dktX4_deliver_3 : List UInt8 := dkwX4_deliver_3 ++ dktX4_deliver_4
def dkwX4_deliver_2 : List UInt8 := [181, 0, 140, 167, 0, 77, 43, 180, 1, 167, 4, 164, 0, 58, 25, 4, 89, 180, 0, 147, 32, 43]
abbrev dktX4_deliver_2 : List UInt8 := dkwX4_deliver_2 ++ dktX4_deliver_3
def dkwX4_deliver_1 : List UInt8 := [25, 4, 42, 180, 0, 43, 182, 0, 143, 16, 18, 162, 0, 17, 25, 4, 89, 180, 0, 140, 32, 97]
abbrev dktX4_deliver_1 : List UInt8 := dkwX4_deliver_1 ++ dktX4_deliver_2
def dkwX4_deliver_0 : List UInt8 := [43, 180, 1, 112, 58, 4, 25, 4, 182, 0, 136, 154, 0, 12, 25, 4, 32, 184, 0, 206, 167, 0, 105]
abbrev dktX4_deliver_0 : List UInt8 := dkwX4_deliver_0 ++ dktX4_deliver_1
theorem dksX4_deliver_0 : cX4_deliver.data.toList.drop 0 = dktX4_deliver_0 := by decide +kernel
theorem dksX4_deliver_1 : cX4_deliver.data.toList.drop 23 = dktX4_deliver_1 := dk_seg dksX4_deliver_0 23 rfl rfl
theorem dksX4_deliver_2 : cX4_deliver.data.toList.drop 45 = dktX4_deliver_2 := dk_seg dksX4_deliver_1 22 rfl rfl
theorem dksX4_deliver_3 : cX4_deliver.data.toList.drop 67 = dktX4_deliver_3 := dk_seg dksX4_deliver_2 22 rfl rfl
theorem dksX4_deliver_4 : cX4_deliver.data.toList.drop 91 = dktX4_deliver_4 := dk_seg dksX4_deliver_3 24 rfl rfl
theorem dksX4_deliver_5 : cX4_deliver.data.toList.drop 114 = dktX4_deliver_5 := dk_seg dksX4_deliver_4 23 rfl rfl
theorem dX4_deliver_0 : decode cX4_deliver 0 = .ok (.aload_n 1, 1) := dk_43 (dk_at dksX4_deliver_0 0 rfl rfl)
theorem dX4_deliver_1 : decode cX4_deliver 1 = .ok (.getfield 368, 3) := dk_180 1 112 (dk_at dksX4_deliver_0 1 rfl rfl)
theorem dX4_deliver_4 : decode cX4_deliver 4 = .ok (.astore 4, 2) := dk_58 4 (dk_at dksX4_deliver_0 4 rfl rfl)
theorem dX4_deliver_6 : decode cX4_deliver 6 = .ok (.aload 4, 2) := dk_25 4 (dk_at dksX4_deliver_0 6 rfl rfl)
theorem dX4_deliver_8 : decode cX4_deliver 8 = .ok (.invokevirtual 136, 3) := dk_182 0 136 (dk_at dksX4_deliver_0 8 rfl rfl)
theorem dX4_deliver_11 : decode cX4_deliver 11 = .ok (.ifCond .ne 12, 3) := dk_154 0 12 (dk_at dksX4_deliver_0 11 rfl rfl)
theorem dX4_deliver_14 : decode cX4_deliver 14 = .ok (.aload 4, 2) := dk_25 4 (dk_at dksX4_deliver_0 14 rfl rfl)
theorem dX4_deliver_16 : decode cX4_deliver 16 = .ok (.lload_n 2, 1) := dk_32 (dk_at dksX4_deliver_0 16 rfl rfl)
theorem dX4_deliver_17 : decode cX4_deliver 17 = .ok (.invokestatic 206, 3) := dk_184 0 206 (dk_at dksX4_deliver_0 17 rfl rfl)
theorem dX4_deliver_20 : decode cX4_deliver 20 = .ok (.goto 105, 3) := dk_167 0 105 (dk_at dksX4_deliver_0 20 rfl rfl)
theorem dX4_deliver_23 : decode cX4_deliver 23 = .ok (.aload 4, 2) := dk_25 4 (dk_at dksX4_deliver_1 0 rfl rfl)
theorem dX4_deliver_25 : decode cX4_deliver 25 = .ok (.aload_n 0, 1) := dk_42 (dk_at dksX4_deliver_1 2 rfl rfl)
theorem dX4_deliver_26 : decode cX4_deliver 26 = .ok (.getfield 43, 3) := dk_180 0 43 (dk_at dksX4_deliver_1 3 rfl rfl)
theorem dX4_deliver_29 : decode cX4_deliver 29 = .ok (.invokevirtual 143, 3) := dk_182 0 143 (dk_at dksX4_deliver_1 6 rfl rfl)
theorem dX4_deliver_32 : decode cX4_deliver 32 = .ok (.bipush 18, 2) := dk_16 18 (dk_at dksX4_deliver_1 9 rfl rfl)
theorem dX4_deliver_34 : decode cX4_deliver 34 = .ok (.if_icmp .ge 17, 3) := dk_162 0 17 (dk_at dksX4_deliver_1 11 rfl rfl)
theorem dX4_deliver_37 : decode cX4_deliver 37 = .ok (.aload 4, 2) := dk_25 4 (dk_at dksX4_deliver_1 14 rfl rfl)
theorem dX4_deliver_39 : decode cX4_deliver 39 = .ok (.dup, 1) := dk_89 (dk_at dksX4_deliver_1 16 rfl rfl)
theorem dX4_deliver_40 : decode cX4_deliver 40 = .ok (.getfield 140, 3) := dk_180 0 140 (dk_at dksX4_deliver_1 17 rfl rfl)
theorem dX4_deliver_43 : decode cX4_deliver 43 = .ok (.lload_n 2, 1) := dk_32 (dk_at dksX4_deliver_1 20 rfl rfl)
theorem dX4_deliver_44 : decode cX4_deliver 44 = .ok (.ladd, 1) := dk_97 (dk_at dksX4_deliver_1 21 rfl rfl)
theorem dX4_deliver_45 : decode cX4_deliver 45 = .ok (.putfield 140, 3) := dk_181 0 140 (dk_at dksX4_deliver_2 0 rfl rfl)
theorem dX4_deliver_48 : decode cX4_deliver 48 = .ok (.goto 77, 3) := dk_167 0 77 (dk_at dksX4_deliver_2 3 rfl rfl)
theorem dX4_deliver_51 : decode cX4_deliver 51 = .ok (.aload_n 1, 1) := dk_43 (dk_at dksX4_deliver_2 6 rfl rfl)
theorem dX4_deliver_52 : decode cX4_deliver 52 = .ok (.getfield 423, 3) := dk_180 1 167 (dk_at dksX4_deliver_2 7 rfl rfl)
theorem dX4_deliver_55 : decode cX4_deliver 55 = .ok (.iconst 1, 1) := dk_4 (dk_at dksX4_deliver_2 10 rfl rfl)
theorem dX4_deliver_56 : decode cX4_deliver 56 = .ok (.if_icmp .le 58, 3) := dk_164 0 58 (dk_at dksX4_deliver_2 11 rfl rfl)
theorem dX4_deliver_59 : decode cX4_deliver 59 = .ok (.aload 4, 2) := dk_25 4 (dk_at dksX4_deliver_2 14 rfl rfl)
theorem dX4_deliver_61 : decode cX4_deliver 61 = .ok (.dup, 1) := dk_89 (dk_at dksX4_deliver_2 16 rfl rfl)
theorem dX4_deliver_62 : decode cX4_deliver 62 = .ok (.getfield 147, 3) := dk_180 0 147 (dk_at dksX4_deliver_2 17 rfl rfl)
theorem dX4_deliver_65 : decode cX4_deliver 65 = .ok (.lload_n 2, 1) := dk_32 (dk_at dksX4_deliver_2 20 rfl rfl)
theorem dX4_deliver_66 : decode cX4_deliver 66 = .ok (.aload_n 1, 1) := dk_43 (dk_at dksX4_deliver_2 21 rfl rfl)
theorem dX4_deliver_67 : decode cX4_deliver 67 = .ok (.getfield 423, 3) := dk_180 1 167 (dk_at dksX4_deliver_3 0 rfl rfl)
theorem dX4_deliver_70 : decode cX4_deliver 70 = .ok (.i2l, 1) := dk_133 (dk_at dksX4_deliver_3 3 rfl rfl)
theorem dX4_deliver_71 : decode cX4_deliver 71 = .ok (.ldiv, 1) := dk_109 (dk_at dksX4_deliver_3 4 rfl rfl)
theorem dX4_deliver_72 : decode cX4_deliver 72 = .ok (.ladd, 1) := dk_97 (dk_at dksX4_deliver_3 5 rfl rfl)
theorem dX4_deliver_73 : decode cX4_deliver 73 = .ok (.putfield 147, 3) := dk_181 0 147 (dk_at dksX4_deliver_3 6 rfl rfl)
theorem dX4_deliver_76 : decode cX4_deliver 76 = .ok (.aload 4, 2) := dk_25 4 (dk_at dksX4_deliver_3 9 rfl rfl)
theorem dX4_deliver_78 : decode cX4_deliver 78 = .ok (.getfield 150, 3) := dk_180 0 150 (dk_at dksX4_deliver_3 11 rfl rfl)
theorem dX4_deliver_81 : decode cX4_deliver 81 = .ok (.new 153, 3) := dk_187 0 153 (dk_at dksX4_deliver_3 14 rfl rfl)
theorem dX4_deliver_84 : decode cX4_deliver 84 = .ok (.dup, 1) := dk_89 (dk_at dksX4_deliver_3 17 rfl rfl)
theorem dX4_deliver_85 : decode cX4_deliver 85 = .ok (.lload_n 2, 1) := dk_32 (dk_at dksX4_deliver_3 18 rfl rfl)
theorem dX4_deliver_86 : decode cX4_deliver 86 = .ok (.lload_n 2, 1) := dk_32 (dk_at dksX4_deliver_3 19 rfl rfl)
theorem dX4_deliver_87 : decode cX4_deliver 87 = .ok (.aload_n 1, 1) := dk_43 (dk_at dksX4_deliver_3 20 rfl rfl)
theorem dX4_deliver_88 : decode cX4_deliver 88 = .ok (.getfield 423, 3) := dk_180 1 167 (dk_at dksX4_deliver_3 21 rfl rfl)
theorem dX4_deliver_91 : decode cX4_deliver 91 = .ok (.i2l, 1) := dk_133 (dk_at dksX4_deliver_4 0 rfl rfl)
theorem dX4_deliver_92 : decode cX4_deliver 92 = .ok (.ldiv, 1) := dk_109 (dk_at dksX4_deliver_4 1 rfl rfl)
theorem dX4_deliver_93 : decode cX4_deliver 93 = .ok (.lsub, 1) := dk_101 (dk_at dksX4_deliver_4 2 rfl rfl)
theorem dX4_deliver_94 : decode cX4_deliver 94 = .ok (.aload_n 1, 1) := dk_43 (dk_at dksX4_deliver_4 3 rfl rfl)
theorem dX4_deliver_95 : decode cX4_deliver 95 = .ok (.getfield 423, 3) := dk_180 1 167 (dk_at dksX4_deliver_4 4 rfl rfl)
theorem dX4_deliver_98 : decode cX4_deliver 98 = .ok (.iconst 1, 1) := dk_4 (dk_at dksX4_deliver_4 7 rfl rfl)
theorem dX4_deliver_99 : decode cX4_deliver 99 = .ok (.isub, 1) := dk_100 (dk_at dksX4_deliver_4 8 rfl rfl)
theorem dX4_deliver_100 : decode cX4_deliver 100 = .ok (.aload_n 0, 1) := dk_42 (dk_at dksX4_deliver_4 9 rfl rfl)
theorem dX4_deliver_101 : decode cX4_deliver 101 = .ok (.getfield 43, 3) := dk_180 0 43 (dk_at dksX4_deliver_4 10 rfl rfl)
theorem dX4_deliver_104 : decode cX4_deliver 104 = .ok (.invokespecial 458, 3) := dk_183 1 202 (dk_at dksX4_deliver_4 13 rfl rfl)
theorem dX4_deliver_107 : decode cX4_deliver 107 = .ok (.invokevirtual 186, 3) := dk_182 0 186 (dk_at dksX4_deliver_4 16 rfl rfl)
theorem dX4_deliver_110 : decode cX4_deliver 110 = .ok (.pop, 1) := dk_87 (dk_at dksX4_deliver_4 19 rfl rfl)
theorem dX4_deliver_111 : decode cX4_deliver 111 = .ok (.goto 14, 3) := dk_167 0 14 (dk_at dksX4_deliver_4 20 rfl rfl)
theorem dX4_deliver_114 : decode cX4_deliver 114 = .ok (.aload 4, 2) := dk_25 4 (dk_at dksX4_deliver_5 0 rfl rfl)
theorem dX4_deliver_116 : decode cX4_deliver 116 = .ok (.dup, 1) := dk_89 (dk_at dksX4_deliver_5 2 rfl rfl)
theorem dX4_deliver_117 : decode cX4_deliver 117 = .ok (.getfield 147, 3) := dk_180 0 147 (dk_at dksX4_deliver_5 3 rfl rfl)
theorem dX4_deliver_120 : decode cX4_deliver 120 = .ok (.lload_n 2, 1) := dk_32 (dk_at dksX4_deliver_5 6 rfl rfl)
theorem dX4_deliver_121 : decode cX4_deliver 121 = .ok (.ladd, 1) := dk_97 (dk_at dksX4_deliver_5 7 rfl rfl)
theorem dX4_deliver_122 : decode cX4_deliver 122 = .ok (.putfield 147, 3) := dk_181 0 147 (dk_at dksX4_deliver_5 8 rfl rfl)
theorem dX4_deliver_125 : decode cX4_deliver 125 = .ok (.return_, 1) := dk_177 (dk_at dksX4_deliver_5 11 rfl rfl)
abbrev cX4_freeHeld : ByteArray := prog_14_method_75_code
def yX4_freeHeld : MethodName := ⟨RX4, "freeHeld", "(LMassclaimModel$Person;)V"⟩
def dkwX4_freeHeld_1 : List UInt8 := [182, 1, 193, 177]
abbrev dktX4_freeHeld_1 : List UInt8 := dkwX4_freeHeld_1 ++ []
def dkwX4_freeHeld_0 : List UInt8 := [43, 180, 1, 11, 65, 32, 9, 148, 158, 0, 17, 43, 9, 181, 1, 11, 42, 43, 180, 0, 248, 32]
abbrev dktX4_freeHeld_0 : List UInt8 := dkwX4_freeHeld_0 ++ dktX4_freeHeld_1
theorem dksX4_freeHeld_0 : cX4_freeHeld.data.toList.drop 0 = dktX4_freeHeld_0 := by decide +kernel
theorem dksX4_freeHeld_1 : cX4_freeHeld.data.toList.drop 22 = dktX4_freeHeld_1 := dk_seg dksX4_freeHeld_0 22 rfl rfl
theorem dX4_freeHeld_0 : decode cX4_freeHeld 0 = .ok (.aload_n 1, 1) := dk_43 (dk_at dksX4_freeHeld_0 0 rfl rfl)
theorem dX4_freeHeld_1 : decode cX4_freeHeld 1 = .ok (.getfield 267, 3) := dk_180 1 11 (dk_at dksX4_freeHeld_0 1 rfl rfl)
theorem dX4_freeHeld_4 : decode cX4_freeHeld 4 = .ok (.lstore_n 2, 1) := dk_65 (dk_at dksX4_freeHeld_0 4 rfl rfl)
theorem dX4_freeHeld_5 : decode cX4_freeHeld 5 = .ok (.lload_n 2, 1) := dk_32 (dk_at dksX4_freeHeld_0 5 rfl rfl)
theorem dX4_freeHeld_6 : decode cX4_freeHeld 6 = .ok (.lconst 0, 1) := dk_9 (dk_at dksX4_freeHeld_0 6 rfl rfl)
theorem dX4_freeHeld_7 : decode cX4_freeHeld 7 = .ok (.lcmp, 1) := dk_148 (dk_at dksX4_freeHeld_0 7 rfl rfl)
theorem dX4_freeHeld_8 : decode cX4_freeHeld 8 = .ok (.ifCond .le 17, 3) := dk_158 0 17 (dk_at dksX4_freeHeld_0 8 rfl rfl)
theorem dX4_freeHeld_11 : decode cX4_freeHeld 11 = .ok (.aload_n 1, 1) := dk_43 (dk_at dksX4_freeHeld_0 11 rfl rfl)
theorem dX4_freeHeld_12 : decode cX4_freeHeld 12 = .ok (.lconst 0, 1) := dk_9 (dk_at dksX4_freeHeld_0 12 rfl rfl)
theorem dX4_freeHeld_13 : decode cX4_freeHeld 13 = .ok (.putfield 267, 3) := dk_181 1 11 (dk_at dksX4_freeHeld_0 13 rfl rfl)
theorem dX4_freeHeld_16 : decode cX4_freeHeld 16 = .ok (.aload_n 0, 1) := dk_42 (dk_at dksX4_freeHeld_0 16 rfl rfl)
theorem dX4_freeHeld_17 : decode cX4_freeHeld 17 = .ok (.aload_n 1, 1) := dk_43 (dk_at dksX4_freeHeld_0 17 rfl rfl)
theorem dX4_freeHeld_18 : decode cX4_freeHeld 18 = .ok (.getfield 248, 3) := dk_180 0 248 (dk_at dksX4_freeHeld_0 18 rfl rfl)
theorem dX4_freeHeld_21 : decode cX4_freeHeld 21 = .ok (.lload_n 2, 1) := dk_32 (dk_at dksX4_freeHeld_0 21 rfl rfl)
theorem dX4_freeHeld_22 : decode cX4_freeHeld 22 = .ok (.invokevirtual 449, 3) := dk_182 1 193 (dk_at dksX4_freeHeld_1 0 rfl rfl)
theorem dX4_freeHeld_25 : decode cX4_freeHeld 25 = .ok (.return_, 1) := dk_177 (dk_at dksX4_freeHeld_1 3 rfl rfl)
abbrev cX4_lien : ByteArray := prog_14_method_77_code
def yX4_lien : MethodName := ⟨RX4, "lien", "(IIZ)I"⟩
def dkwX4_lien_4 : List UInt8 := [180, 0, 33, 25, 4, 182, 0, 186, 87, 42, 180, 0, 33, 182, 0, 94, 4, 100, 172]
abbrev dktX4_lien_4 : List UInt8 := dkwX4_lien_4 ++ []
def dkwX4_lien_3 : List UInt8 := [27, 182, 0, 108, 192, 0, 112, 181, 1, 2, 25, 4, 28, 181, 1, 6, 25, 4, 29, 181, 1, 199, 42]
abbrev dktX4_lien_3 : List UInt8 := dkwX4_lien_3 ++ dktX4_lien_4
def dkwX4_lien_2 : List UInt8 := [6, 182, 0, 104, 154, 0, 5, 3, 172, 187, 1, 0, 89, 183, 1, 205, 58, 4, 25, 4, 42, 180, 0, 16]
abbrev dktX4_lien_2 : List UInt8 := dkwX4_lien_2 ++ dktX4_lien_3
def dkwX4_lien_1 : List UInt8 := [182, 0, 104, 153, 0, 28, 42, 42, 180, 0, 33, 182, 0, 94, 16, 20, 162, 0, 7, 4, 167, 0, 4, 3]
abbrev dktX4_lien_1 : List UInt8 := dkwX4_lien_1 ++ dktX4_lien_2
def dkwX4_lien_0 : List UInt8 := [42, 42, 27, 182, 0, 190, 4, 182, 0, 104, 153, 0, 45, 42, 28, 133, 10, 20, 1, 110, 184, 0, 100, 5]
abbrev dktX4_lien_0 : List UInt8 := dkwX4_lien_0 ++ dktX4_lien_1
theorem dksX4_lien_0 : cX4_lien.data.toList.drop 0 = dktX4_lien_0 := by decide +kernel
theorem dksX4_lien_1 : cX4_lien.data.toList.drop 24 = dktX4_lien_1 := dk_seg dksX4_lien_0 24 rfl rfl
theorem dksX4_lien_2 : cX4_lien.data.toList.drop 48 = dktX4_lien_2 := dk_seg dksX4_lien_1 24 rfl rfl
theorem dksX4_lien_3 : cX4_lien.data.toList.drop 72 = dktX4_lien_3 := dk_seg dksX4_lien_2 24 rfl rfl
theorem dksX4_lien_4 : cX4_lien.data.toList.drop 95 = dktX4_lien_4 := dk_seg dksX4_lien_3 23 rfl rfl
theorem dX4_lien_0 : decode cX4_lien 0 = .ok (.aload_n 0, 1) := dk_42 (dk_at dksX4_lien_0 0 rfl rfl)
theorem dX4_lien_1 : decode cX4_lien 1 = .ok (.aload_n 0, 1) := dk_42 (dk_at dksX4_lien_0 1 rfl rfl)
theorem dX4_lien_2 : decode cX4_lien 2 = .ok (.iload_n 1, 1) := dk_27 (dk_at dksX4_lien_0 2 rfl rfl)
theorem dX4_lien_3 : decode cX4_lien 3 = .ok (.invokevirtual 190, 3) := dk_182 0 190 (dk_at dksX4_lien_0 3 rfl rfl)
theorem dX4_lien_6 : decode cX4_lien 6 = .ok (.iconst 1, 1) := dk_4 (dk_at dksX4_lien_0 6 rfl rfl)
theorem dX4_lien_7 : decode cX4_lien 7 = .ok (.invokevirtual 104, 3) := dk_182 0 104 (dk_at dksX4_lien_0 7 rfl rfl)
theorem dX4_lien_10 : decode cX4_lien 10 = .ok (.ifCond .eq 45, 3) := dk_153 0 45 (dk_at dksX4_lien_0 10 rfl rfl)
theorem dX4_lien_13 : decode cX4_lien 13 = .ok (.aload_n 0, 1) := dk_42 (dk_at dksX4_lien_0 13 rfl rfl)
theorem dX4_lien_14 : decode cX4_lien 14 = .ok (.iload_n 2, 1) := dk_28 (dk_at dksX4_lien_0 14 rfl rfl)
theorem dX4_lien_15 : decode cX4_lien 15 = .ok (.i2l, 1) := dk_133 (dk_at dksX4_lien_0 15 rfl rfl)
theorem dX4_lien_16 : decode cX4_lien 16 = .ok (.lconst 1, 1) := dk_10 (dk_at dksX4_lien_0 16 rfl rfl)
theorem dX4_lien_17 : decode cX4_lien 17 = .ok (.ldc2_w 366, 3) := dk_20 1 110 (dk_at dksX4_lien_0 17 rfl rfl)
theorem dX4_lien_20 : decode cX4_lien 20 = .ok (.invokestatic 100, 3) := dk_184 0 100 (dk_at dksX4_lien_0 20 rfl rfl)
theorem dX4_lien_23 : decode cX4_lien 23 = .ok (.iconst 2, 1) := dk_5 (dk_at dksX4_lien_0 23 rfl rfl)
theorem dX4_lien_24 : decode cX4_lien 24 = .ok (.invokevirtual 104, 3) := dk_182 0 104 (dk_at dksX4_lien_1 0 rfl rfl)
theorem dX4_lien_27 : decode cX4_lien 27 = .ok (.ifCond .eq 28, 3) := dk_153 0 28 (dk_at dksX4_lien_1 3 rfl rfl)
theorem dX4_lien_30 : decode cX4_lien 30 = .ok (.aload_n 0, 1) := dk_42 (dk_at dksX4_lien_1 6 rfl rfl)
theorem dX4_lien_31 : decode cX4_lien 31 = .ok (.aload_n 0, 1) := dk_42 (dk_at dksX4_lien_1 7 rfl rfl)
theorem dX4_lien_32 : decode cX4_lien 32 = .ok (.getfield 33, 3) := dk_180 0 33 (dk_at dksX4_lien_1 8 rfl rfl)
theorem dX4_lien_35 : decode cX4_lien 35 = .ok (.invokevirtual 94, 3) := dk_182 0 94 (dk_at dksX4_lien_1 11 rfl rfl)
theorem dX4_lien_38 : decode cX4_lien 38 = .ok (.bipush 20, 2) := dk_16 20 (dk_at dksX4_lien_1 14 rfl rfl)
theorem dX4_lien_40 : decode cX4_lien 40 = .ok (.if_icmp .ge 7, 3) := dk_162 0 7 (dk_at dksX4_lien_1 16 rfl rfl)
theorem dX4_lien_43 : decode cX4_lien 43 = .ok (.iconst 1, 1) := dk_4 (dk_at dksX4_lien_1 19 rfl rfl)
theorem dX4_lien_44 : decode cX4_lien 44 = .ok (.goto 4, 3) := dk_167 0 4 (dk_at dksX4_lien_1 20 rfl rfl)
theorem dX4_lien_47 : decode cX4_lien 47 = .ok (.iconst 0, 1) := dk_3 (dk_at dksX4_lien_1 23 rfl rfl)
theorem dX4_lien_48 : decode cX4_lien 48 = .ok (.iconst 3, 1) := dk_6 (dk_at dksX4_lien_2 0 rfl rfl)
theorem dX4_lien_49 : decode cX4_lien 49 = .ok (.invokevirtual 104, 3) := dk_182 0 104 (dk_at dksX4_lien_2 1 rfl rfl)
theorem dX4_lien_52 : decode cX4_lien 52 = .ok (.ifCond .ne 5, 3) := dk_154 0 5 (dk_at dksX4_lien_2 4 rfl rfl)
theorem dX4_lien_55 : decode cX4_lien 55 = .ok (.iconst 0, 1) := dk_3 (dk_at dksX4_lien_2 7 rfl rfl)
theorem dX4_lien_56 : decode cX4_lien 56 = .ok (.ireturn, 1) := dk_172 (dk_at dksX4_lien_2 8 rfl rfl)
theorem dX4_lien_57 : decode cX4_lien 57 = .ok (.new 256, 3) := dk_187 1 0 (dk_at dksX4_lien_2 9 rfl rfl)
theorem dX4_lien_60 : decode cX4_lien 60 = .ok (.dup, 1) := dk_89 (dk_at dksX4_lien_2 12 rfl rfl)
theorem dX4_lien_61 : decode cX4_lien 61 = .ok (.invokespecial 461, 3) := dk_183 1 205 (dk_at dksX4_lien_2 13 rfl rfl)
theorem dX4_lien_64 : decode cX4_lien 64 = .ok (.astore 4, 2) := dk_58 4 (dk_at dksX4_lien_2 16 rfl rfl)
theorem dX4_lien_66 : decode cX4_lien 66 = .ok (.aload 4, 2) := dk_25 4 (dk_at dksX4_lien_2 18 rfl rfl)
theorem dX4_lien_68 : decode cX4_lien 68 = .ok (.aload_n 0, 1) := dk_42 (dk_at dksX4_lien_2 20 rfl rfl)
theorem dX4_lien_69 : decode cX4_lien 69 = .ok (.getfield 16, 3) := dk_180 0 16 (dk_at dksX4_lien_2 21 rfl rfl)
theorem dX4_lien_72 : decode cX4_lien 72 = .ok (.iload_n 1, 1) := dk_27 (dk_at dksX4_lien_3 0 rfl rfl)
theorem dX4_lien_73 : decode cX4_lien 73 = .ok (.invokevirtual 108, 3) := dk_182 0 108 (dk_at dksX4_lien_3 1 rfl rfl)
theorem dX4_lien_76 : decode cX4_lien 76 = .ok (.checkcast 112, 3) := dk_192 0 112 (dk_at dksX4_lien_3 4 rfl rfl)
theorem dX4_lien_79 : decode cX4_lien 79 = .ok (.putfield 258, 3) := dk_181 1 2 (dk_at dksX4_lien_3 7 rfl rfl)
theorem dX4_lien_82 : decode cX4_lien 82 = .ok (.aload 4, 2) := dk_25 4 (dk_at dksX4_lien_3 10 rfl rfl)
theorem dX4_lien_84 : decode cX4_lien 84 = .ok (.iload_n 2, 1) := dk_28 (dk_at dksX4_lien_3 12 rfl rfl)
theorem dX4_lien_85 : decode cX4_lien 85 = .ok (.putfield 262, 3) := dk_181 1 6 (dk_at dksX4_lien_3 13 rfl rfl)
theorem dX4_lien_88 : decode cX4_lien 88 = .ok (.aload 4, 2) := dk_25 4 (dk_at dksX4_lien_3 16 rfl rfl)
theorem dX4_lien_90 : decode cX4_lien 90 = .ok (.iload_n 3, 1) := dk_29 (dk_at dksX4_lien_3 18 rfl rfl)
theorem dX4_lien_91 : decode cX4_lien 91 = .ok (.putfield 455, 3) := dk_181 1 199 (dk_at dksX4_lien_3 19 rfl rfl)
theorem dX4_lien_94 : decode cX4_lien 94 = .ok (.aload_n 0, 1) := dk_42 (dk_at dksX4_lien_3 22 rfl rfl)
theorem dX4_lien_95 : decode cX4_lien 95 = .ok (.getfield 33, 3) := dk_180 0 33 (dk_at dksX4_lien_4 0 rfl rfl)
theorem dX4_lien_98 : decode cX4_lien 98 = .ok (.aload 4, 2) := dk_25 4 (dk_at dksX4_lien_4 3 rfl rfl)
theorem dX4_lien_100 : decode cX4_lien 100 = .ok (.invokevirtual 186, 3) := dk_182 0 186 (dk_at dksX4_lien_4 5 rfl rfl)
theorem dX4_lien_103 : decode cX4_lien 103 = .ok (.pop, 1) := dk_87 (dk_at dksX4_lien_4 8 rfl rfl)
theorem dX4_lien_104 : decode cX4_lien 104 = .ok (.aload_n 0, 1) := dk_42 (dk_at dksX4_lien_4 9 rfl rfl)
theorem dX4_lien_105 : decode cX4_lien 105 = .ok (.getfield 33, 3) := dk_180 0 33 (dk_at dksX4_lien_4 10 rfl rfl)
theorem dX4_lien_108 : decode cX4_lien 108 = .ok (.invokevirtual 94, 3) := dk_182 0 94 (dk_at dksX4_lien_4 13 rfl rfl)
theorem dX4_lien_111 : decode cX4_lien 111 = .ok (.iconst 1, 1) := dk_4 (dk_at dksX4_lien_4 16 rfl rfl)
theorem dX4_lien_112 : decode cX4_lien 112 = .ok (.isub, 1) := dk_100 (dk_at dksX4_lien_4 17 rfl rfl)
theorem dX4_lien_113 : decode cX4_lien 113 = .ok (.ireturn, 1) := dk_172 (dk_at dksX4_lien_4 18 rfl rfl)
abbrev cX4_waive : ByteArray := prog_14_method_78_code
def yX4_waive : MethodName := ⟨RX4, "waive", "(I)I"⟩
def dkwX4_waive_2 : List UInt8 := [42, 44, 180, 1, 2, 182, 1, 14, 154, 0, 11, 42, 44, 180, 1, 2, 182, 1, 196, 29, 172]
abbrev dktX4_waive_2 : List UInt8 := dkwX4_waive_2 ++ []
def dkwX4_waive_1 : List UInt8 := [3, 172, 42, 180, 0, 33, 27, 182, 0, 108, 192, 1, 0, 77, 44, 180, 1, 6, 62, 44, 3, 181, 1, 6]
abbrev dktX4_waive_1 : List UInt8 := dkwX4_waive_1 ++ dktX4_waive_2
def dkwX4_waive_0 : List UInt8 := [42, 27, 133, 9, 42, 180, 0, 33, 182, 0, 94, 4, 100, 133, 184, 0, 100, 4, 182, 0, 104, 154, 0, 5]
abbrev dktX4_waive_0 : List UInt8 := dkwX4_waive_0 ++ dktX4_waive_1
theorem dksX4_waive_0 : cX4_waive.data.toList.drop 0 = dktX4_waive_0 := by decide +kernel
theorem dksX4_waive_1 : cX4_waive.data.toList.drop 24 = dktX4_waive_1 := dk_seg dksX4_waive_0 24 rfl rfl
theorem dksX4_waive_2 : cX4_waive.data.toList.drop 48 = dktX4_waive_2 := dk_seg dksX4_waive_1 24 rfl rfl
theorem dX4_waive_0 : decode cX4_waive 0 = .ok (.aload_n 0, 1) := dk_42 (dk_at dksX4_waive_0 0 rfl rfl)
theorem dX4_waive_1 : decode cX4_waive 1 = .ok (.iload_n 1, 1) := dk_27 (dk_at dksX4_waive_0 1 rfl rfl)
theorem dX4_waive_2 : decode cX4_waive 2 = .ok (.i2l, 1) := dk_133 (dk_at dksX4_waive_0 2 rfl rfl)
theorem dX4_waive_3 : decode cX4_waive 3 = .ok (.lconst 0, 1) := dk_9 (dk_at dksX4_waive_0 3 rfl rfl)
theorem dX4_waive_4 : decode cX4_waive 4 = .ok (.aload_n 0, 1) := dk_42 (dk_at dksX4_waive_0 4 rfl rfl)
theorem dX4_waive_5 : decode cX4_waive 5 = .ok (.getfield 33, 3) := dk_180 0 33 (dk_at dksX4_waive_0 5 rfl rfl)
theorem dX4_waive_8 : decode cX4_waive 8 = .ok (.invokevirtual 94, 3) := dk_182 0 94 (dk_at dksX4_waive_0 8 rfl rfl)
theorem dX4_waive_11 : decode cX4_waive 11 = .ok (.iconst 1, 1) := dk_4 (dk_at dksX4_waive_0 11 rfl rfl)
theorem dX4_waive_12 : decode cX4_waive 12 = .ok (.isub, 1) := dk_100 (dk_at dksX4_waive_0 12 rfl rfl)
theorem dX4_waive_13 : decode cX4_waive 13 = .ok (.i2l, 1) := dk_133 (dk_at dksX4_waive_0 13 rfl rfl)
theorem dX4_waive_14 : decode cX4_waive 14 = .ok (.invokestatic 100, 3) := dk_184 0 100 (dk_at dksX4_waive_0 14 rfl rfl)
theorem dX4_waive_17 : decode cX4_waive 17 = .ok (.iconst 1, 1) := dk_4 (dk_at dksX4_waive_0 17 rfl rfl)
theorem dX4_waive_18 : decode cX4_waive 18 = .ok (.invokevirtual 104, 3) := dk_182 0 104 (dk_at dksX4_waive_0 18 rfl rfl)
theorem dX4_waive_21 : decode cX4_waive 21 = .ok (.ifCond .ne 5, 3) := dk_154 0 5 (dk_at dksX4_waive_0 21 rfl rfl)
theorem dX4_waive_24 : decode cX4_waive 24 = .ok (.iconst 0, 1) := dk_3 (dk_at dksX4_waive_1 0 rfl rfl)
theorem dX4_waive_25 : decode cX4_waive 25 = .ok (.ireturn, 1) := dk_172 (dk_at dksX4_waive_1 1 rfl rfl)
theorem dX4_waive_26 : decode cX4_waive 26 = .ok (.aload_n 0, 1) := dk_42 (dk_at dksX4_waive_1 2 rfl rfl)
theorem dX4_waive_27 : decode cX4_waive 27 = .ok (.getfield 33, 3) := dk_180 0 33 (dk_at dksX4_waive_1 3 rfl rfl)
theorem dX4_waive_30 : decode cX4_waive 30 = .ok (.iload_n 1, 1) := dk_27 (dk_at dksX4_waive_1 6 rfl rfl)
theorem dX4_waive_31 : decode cX4_waive 31 = .ok (.invokevirtual 108, 3) := dk_182 0 108 (dk_at dksX4_waive_1 7 rfl rfl)
theorem dX4_waive_34 : decode cX4_waive 34 = .ok (.checkcast 256, 3) := dk_192 1 0 (dk_at dksX4_waive_1 10 rfl rfl)
theorem dX4_waive_37 : decode cX4_waive 37 = .ok (.astore_n 2, 1) := dk_77 (dk_at dksX4_waive_1 13 rfl rfl)
theorem dX4_waive_38 : decode cX4_waive 38 = .ok (.aload_n 2, 1) := dk_44 (dk_at dksX4_waive_1 14 rfl rfl)
theorem dX4_waive_39 : decode cX4_waive 39 = .ok (.getfield 262, 3) := dk_180 1 6 (dk_at dksX4_waive_1 15 rfl rfl)
theorem dX4_waive_42 : decode cX4_waive 42 = .ok (.istore_n 3, 1) := dk_62 (dk_at dksX4_waive_1 18 rfl rfl)
theorem dX4_waive_43 : decode cX4_waive 43 = .ok (.aload_n 2, 1) := dk_44 (dk_at dksX4_waive_1 19 rfl rfl)
theorem dX4_waive_44 : decode cX4_waive 44 = .ok (.iconst 0, 1) := dk_3 (dk_at dksX4_waive_1 20 rfl rfl)
theorem dX4_waive_45 : decode cX4_waive 45 = .ok (.putfield 262, 3) := dk_181 1 6 (dk_at dksX4_waive_1 21 rfl rfl)
theorem dX4_waive_48 : decode cX4_waive 48 = .ok (.aload_n 0, 1) := dk_42 (dk_at dksX4_waive_2 0 rfl rfl)
theorem dX4_waive_49 : decode cX4_waive 49 = .ok (.aload_n 2, 1) := dk_44 (dk_at dksX4_waive_2 1 rfl rfl)
theorem dX4_waive_50 : decode cX4_waive 50 = .ok (.getfield 258, 3) := dk_180 1 2 (dk_at dksX4_waive_2 2 rfl rfl)
theorem dX4_waive_53 : decode cX4_waive 53 = .ok (.invokevirtual 270, 3) := dk_182 1 14 (dk_at dksX4_waive_2 5 rfl rfl)
theorem dX4_waive_56 : decode cX4_waive 56 = .ok (.ifCond .ne 11, 3) := dk_154 0 11 (dk_at dksX4_waive_2 8 rfl rfl)
theorem dX4_waive_59 : decode cX4_waive 59 = .ok (.aload_n 0, 1) := dk_42 (dk_at dksX4_waive_2 11 rfl rfl)
theorem dX4_waive_60 : decode cX4_waive 60 = .ok (.aload_n 2, 1) := dk_44 (dk_at dksX4_waive_2 12 rfl rfl)
theorem dX4_waive_61 : decode cX4_waive 61 = .ok (.getfield 258, 3) := dk_180 1 2 (dk_at dksX4_waive_2 13 rfl rfl)
theorem dX4_waive_64 : decode cX4_waive 64 = .ok (.invokevirtual 452, 3) := dk_182 1 196 (dk_at dksX4_waive_2 16 rfl rfl)
theorem dX4_waive_67 : decode cX4_waive 67 = .ok (.iload_n 3, 1) := dk_29 (dk_at dksX4_waive_2 19 rfl rfl)
theorem dX4_waive_68 : decode cX4_waive 68 = .ok (.ireturn, 1) := dk_172 (dk_at dksX4_waive_2 20 rfl rfl)
abbrev cX4_end : ByteArray := prog_14_method_80_code
def yX4_end : MethodName := ⟨RX4, "end", "()J"⟩
def dkwX4_end_5 : List UInt8 := [181, 0, 76, 42, 8, 181, 0, 53, 42, 180, 0, 91, 173]
abbrev dktX4_end_5 : List UInt8 := dkwX4_end_5 ++ []
def dkwX4_end_4 : List UInt8 := [180, 0, 76, 42, 180, 0, 76, 42, 180, 1, 82, 133, 105, 20, 1, 44, 109, 101, 97, 181, 0, 91, 42, 9]
abbrev dktX4_end_4 : List UInt8 := dkwX4_end_4 ++ dktX4_end_5
def dkwX4_end_3 : List UInt8 := [180, 0, 76, 42, 180, 1, 82, 133, 105, 20, 1, 44, 109, 97, 181, 0, 88, 42, 89, 180, 0, 91, 42]
abbrev dktX4_end_3 : List UInt8 := dkwX4_end_3 ++ dktX4_end_4
def dkwX4_end_2 : List UInt8 := [167, 0, 4, 3, 60, 42, 27, 4, 182, 0, 104, 154, 0, 5, 9, 173, 42, 89, 180, 0, 88, 42]
abbrev dktX4_end_2 : List UInt8 := dkwX4_end_2 ++ dktX4_end_3
def dkwX4_end_1 : List UInt8 := [42, 42, 180, 0, 73, 182, 1, 173, 9, 148, 154, 0, 16, 42, 182, 1, 106, 9, 148, 154, 0, 7, 4]
abbrev dktX4_end_1 : List UInt8 := dkwX4_end_1 ++ dktX4_end_2
def dkwX4_end_0 : List UInt8 := [42, 180, 0, 53, 6, 160, 0, 45, 42, 4, 182, 1, 206, 154, 0, 37, 42, 5, 182, 1, 206, 154, 0, 29]
abbrev dktX4_end_0 : List UInt8 := dkwX4_end_0 ++ dktX4_end_1
theorem dksX4_end_0 : cX4_end.data.toList.drop 0 = dktX4_end_0 := by decide +kernel
theorem dksX4_end_1 : cX4_end.data.toList.drop 24 = dktX4_end_1 := dk_seg dksX4_end_0 24 rfl rfl
theorem dksX4_end_2 : cX4_end.data.toList.drop 47 = dktX4_end_2 := dk_seg dksX4_end_1 23 rfl rfl
theorem dksX4_end_3 : cX4_end.data.toList.drop 69 = dktX4_end_3 := dk_seg dksX4_end_2 22 rfl rfl
theorem dksX4_end_4 : cX4_end.data.toList.drop 92 = dktX4_end_4 := dk_seg dksX4_end_3 23 rfl rfl
theorem dksX4_end_5 : cX4_end.data.toList.drop 116 = dktX4_end_5 := dk_seg dksX4_end_4 24 rfl rfl
theorem dX4_end_0 : decode cX4_end 0 = .ok (.aload_n 0, 1) := dk_42 (dk_at dksX4_end_0 0 rfl rfl)
theorem dX4_end_1 : decode cX4_end 1 = .ok (.getfield 53, 3) := dk_180 0 53 (dk_at dksX4_end_0 1 rfl rfl)
theorem dX4_end_4 : decode cX4_end 4 = .ok (.iconst 3, 1) := dk_6 (dk_at dksX4_end_0 4 rfl rfl)
theorem dX4_end_5 : decode cX4_end 5 = .ok (.if_icmp .ne 45, 3) := dk_160 0 45 (dk_at dksX4_end_0 5 rfl rfl)
theorem dX4_end_8 : decode cX4_end 8 = .ok (.aload_n 0, 1) := dk_42 (dk_at dksX4_end_0 8 rfl rfl)
theorem dX4_end_9 : decode cX4_end 9 = .ok (.iconst 1, 1) := dk_4 (dk_at dksX4_end_0 9 rfl rfl)
theorem dX4_end_10 : decode cX4_end 10 = .ok (.invokevirtual 462, 3) := dk_182 1 206 (dk_at dksX4_end_0 10 rfl rfl)
theorem dX4_end_13 : decode cX4_end 13 = .ok (.ifCond .ne 37, 3) := dk_154 0 37 (dk_at dksX4_end_0 13 rfl rfl)
theorem dX4_end_16 : decode cX4_end 16 = .ok (.aload_n 0, 1) := dk_42 (dk_at dksX4_end_0 16 rfl rfl)
theorem dX4_end_17 : decode cX4_end 17 = .ok (.iconst 2, 1) := dk_5 (dk_at dksX4_end_0 17 rfl rfl)
theorem dX4_end_18 : decode cX4_end 18 = .ok (.invokevirtual 462, 3) := dk_182 1 206 (dk_at dksX4_end_0 18 rfl rfl)
theorem dX4_end_21 : decode cX4_end 21 = .ok (.ifCond .ne 29, 3) := dk_154 0 29 (dk_at dksX4_end_0 21 rfl rfl)
theorem dX4_end_24 : decode cX4_end 24 = .ok (.aload_n 0, 1) := dk_42 (dk_at dksX4_end_1 0 rfl rfl)
theorem dX4_end_25 : decode cX4_end 25 = .ok (.aload_n 0, 1) := dk_42 (dk_at dksX4_end_1 1 rfl rfl)
theorem dX4_end_26 : decode cX4_end 26 = .ok (.getfield 73, 3) := dk_180 0 73 (dk_at dksX4_end_1 2 rfl rfl)
theorem dX4_end_29 : decode cX4_end 29 = .ok (.invokevirtual 429, 3) := dk_182 1 173 (dk_at dksX4_end_1 5 rfl rfl)
theorem dX4_end_32 : decode cX4_end 32 = .ok (.lconst 0, 1) := dk_9 (dk_at dksX4_end_1 8 rfl rfl)
theorem dX4_end_33 : decode cX4_end 33 = .ok (.lcmp, 1) := dk_148 (dk_at dksX4_end_1 9 rfl rfl)
theorem dX4_end_34 : decode cX4_end 34 = .ok (.ifCond .ne 16, 3) := dk_154 0 16 (dk_at dksX4_end_1 10 rfl rfl)
theorem dX4_end_37 : decode cX4_end 37 = .ok (.aload_n 0, 1) := dk_42 (dk_at dksX4_end_1 13 rfl rfl)
theorem dX4_end_38 : decode cX4_end 38 = .ok (.invokevirtual 362, 3) := dk_182 1 106 (dk_at dksX4_end_1 14 rfl rfl)
theorem dX4_end_41 : decode cX4_end 41 = .ok (.lconst 0, 1) := dk_9 (dk_at dksX4_end_1 17 rfl rfl)
theorem dX4_end_42 : decode cX4_end 42 = .ok (.lcmp, 1) := dk_148 (dk_at dksX4_end_1 18 rfl rfl)
theorem dX4_end_43 : decode cX4_end 43 = .ok (.ifCond .ne 7, 3) := dk_154 0 7 (dk_at dksX4_end_1 19 rfl rfl)
theorem dX4_end_46 : decode cX4_end 46 = .ok (.iconst 1, 1) := dk_4 (dk_at dksX4_end_1 22 rfl rfl)
theorem dX4_end_47 : decode cX4_end 47 = .ok (.goto 4, 3) := dk_167 0 4 (dk_at dksX4_end_2 0 rfl rfl)
theorem dX4_end_50 : decode cX4_end 50 = .ok (.iconst 0, 1) := dk_3 (dk_at dksX4_end_2 3 rfl rfl)
theorem dX4_end_51 : decode cX4_end 51 = .ok (.istore_n 1, 1) := dk_60 (dk_at dksX4_end_2 4 rfl rfl)
theorem dX4_end_52 : decode cX4_end 52 = .ok (.aload_n 0, 1) := dk_42 (dk_at dksX4_end_2 5 rfl rfl)
theorem dX4_end_53 : decode cX4_end 53 = .ok (.iload_n 1, 1) := dk_27 (dk_at dksX4_end_2 6 rfl rfl)
theorem dX4_end_54 : decode cX4_end 54 = .ok (.iconst 1, 1) := dk_4 (dk_at dksX4_end_2 7 rfl rfl)
theorem dX4_end_55 : decode cX4_end 55 = .ok (.invokevirtual 104, 3) := dk_182 0 104 (dk_at dksX4_end_2 8 rfl rfl)
theorem dX4_end_58 : decode cX4_end 58 = .ok (.ifCond .ne 5, 3) := dk_154 0 5 (dk_at dksX4_end_2 11 rfl rfl)
theorem dX4_end_61 : decode cX4_end 61 = .ok (.lconst 0, 1) := dk_9 (dk_at dksX4_end_2 14 rfl rfl)
theorem dX4_end_62 : decode cX4_end 62 = .ok (.lreturn, 1) := dk_173 (dk_at dksX4_end_2 15 rfl rfl)
theorem dX4_end_63 : decode cX4_end 63 = .ok (.aload_n 0, 1) := dk_42 (dk_at dksX4_end_2 16 rfl rfl)
theorem dX4_end_64 : decode cX4_end 64 = .ok (.dup, 1) := dk_89 (dk_at dksX4_end_2 17 rfl rfl)
theorem dX4_end_65 : decode cX4_end 65 = .ok (.getfield 88, 3) := dk_180 0 88 (dk_at dksX4_end_2 18 rfl rfl)
theorem dX4_end_68 : decode cX4_end 68 = .ok (.aload_n 0, 1) := dk_42 (dk_at dksX4_end_2 21 rfl rfl)
theorem dX4_end_69 : decode cX4_end 69 = .ok (.getfield 76, 3) := dk_180 0 76 (dk_at dksX4_end_3 0 rfl rfl)
theorem dX4_end_72 : decode cX4_end 72 = .ok (.aload_n 0, 1) := dk_42 (dk_at dksX4_end_3 3 rfl rfl)
theorem dX4_end_73 : decode cX4_end 73 = .ok (.getfield 338, 3) := dk_180 1 82 (dk_at dksX4_end_3 4 rfl rfl)
theorem dX4_end_76 : decode cX4_end 76 = .ok (.i2l, 1) := dk_133 (dk_at dksX4_end_3 7 rfl rfl)
theorem dX4_end_77 : decode cX4_end 77 = .ok (.lmul, 1) := dk_105 (dk_at dksX4_end_3 8 rfl rfl)
theorem dX4_end_78 : decode cX4_end 78 = .ok (.ldc2_w 300, 3) := dk_20 1 44 (dk_at dksX4_end_3 9 rfl rfl)
theorem dX4_end_81 : decode cX4_end 81 = .ok (.ldiv, 1) := dk_109 (dk_at dksX4_end_3 12 rfl rfl)
theorem dX4_end_82 : decode cX4_end 82 = .ok (.ladd, 1) := dk_97 (dk_at dksX4_end_3 13 rfl rfl)
theorem dX4_end_83 : decode cX4_end 83 = .ok (.putfield 88, 3) := dk_181 0 88 (dk_at dksX4_end_3 14 rfl rfl)
theorem dX4_end_86 : decode cX4_end 86 = .ok (.aload_n 0, 1) := dk_42 (dk_at dksX4_end_3 17 rfl rfl)
theorem dX4_end_87 : decode cX4_end 87 = .ok (.dup, 1) := dk_89 (dk_at dksX4_end_3 18 rfl rfl)
theorem dX4_end_88 : decode cX4_end 88 = .ok (.getfield 91, 3) := dk_180 0 91 (dk_at dksX4_end_3 19 rfl rfl)
theorem dX4_end_91 : decode cX4_end 91 = .ok (.aload_n 0, 1) := dk_42 (dk_at dksX4_end_3 22 rfl rfl)
theorem dX4_end_92 : decode cX4_end 92 = .ok (.getfield 76, 3) := dk_180 0 76 (dk_at dksX4_end_4 0 rfl rfl)
theorem dX4_end_95 : decode cX4_end 95 = .ok (.aload_n 0, 1) := dk_42 (dk_at dksX4_end_4 3 rfl rfl)
theorem dX4_end_96 : decode cX4_end 96 = .ok (.getfield 76, 3) := dk_180 0 76 (dk_at dksX4_end_4 4 rfl rfl)
theorem dX4_end_99 : decode cX4_end 99 = .ok (.aload_n 0, 1) := dk_42 (dk_at dksX4_end_4 7 rfl rfl)
theorem dX4_end_100 : decode cX4_end 100 = .ok (.getfield 338, 3) := dk_180 1 82 (dk_at dksX4_end_4 8 rfl rfl)
theorem dX4_end_103 : decode cX4_end 103 = .ok (.i2l, 1) := dk_133 (dk_at dksX4_end_4 11 rfl rfl)
theorem dX4_end_104 : decode cX4_end 104 = .ok (.lmul, 1) := dk_105 (dk_at dksX4_end_4 12 rfl rfl)
theorem dX4_end_105 : decode cX4_end 105 = .ok (.ldc2_w 300, 3) := dk_20 1 44 (dk_at dksX4_end_4 13 rfl rfl)
theorem dX4_end_108 : decode cX4_end 108 = .ok (.ldiv, 1) := dk_109 (dk_at dksX4_end_4 16 rfl rfl)
theorem dX4_end_109 : decode cX4_end 109 = .ok (.lsub, 1) := dk_101 (dk_at dksX4_end_4 17 rfl rfl)
theorem dX4_end_110 : decode cX4_end 110 = .ok (.ladd, 1) := dk_97 (dk_at dksX4_end_4 18 rfl rfl)
theorem dX4_end_111 : decode cX4_end 111 = .ok (.putfield 91, 3) := dk_181 0 91 (dk_at dksX4_end_4 19 rfl rfl)
theorem dX4_end_114 : decode cX4_end 114 = .ok (.aload_n 0, 1) := dk_42 (dk_at dksX4_end_4 22 rfl rfl)
theorem dX4_end_115 : decode cX4_end 115 = .ok (.lconst 0, 1) := dk_9 (dk_at dksX4_end_4 23 rfl rfl)
theorem dX4_end_116 : decode cX4_end 116 = .ok (.putfield 76, 3) := dk_181 0 76 (dk_at dksX4_end_5 0 rfl rfl)
theorem dX4_end_119 : decode cX4_end 119 = .ok (.aload_n 0, 1) := dk_42 (dk_at dksX4_end_5 3 rfl rfl)
theorem dX4_end_120 : decode cX4_end 120 = .ok (.iconst 5, 1) := dk_8 (dk_at dksX4_end_5 4 rfl rfl)
theorem dX4_end_121 : decode cX4_end 121 = .ok (.putfield 53, 3) := dk_181 0 53 (dk_at dksX4_end_5 5 rfl rfl)
theorem dX4_end_124 : decode cX4_end 124 = .ok (.aload_n 0, 1) := dk_42 (dk_at dksX4_end_5 8 rfl rfl)
theorem dX4_end_125 : decode cX4_end 125 = .ok (.getfield 91, 3) := dk_180 0 91 (dk_at dksX4_end_5 9 rfl rfl)
theorem dX4_end_128 : decode cX4_end 128 = .ok (.lreturn, 1) := dk_173 (dk_at dksX4_end_5 12 rfl rfl)
abbrev cX4_in : ByteArray := prog_14_method_79_code
def yX4_in : MethodName := ⟨RX4, "in", "(I)I"⟩
def dkwX4_in_2 : List UInt8 := [172]
abbrev dktX4_in_2 : List UInt8 := dkwX4_in_2 ++ []
def dkwX4_in_1 : List UInt8 := [192, 0, 124, 180, 0, 126, 27, 160, 0, 7, 4, 167, 0, 4, 3, 96, 61, 132, 3, 1, 167, 255, 216, 28]
abbrev dktX4_in_1 : List UInt8 := dkwX4_in_1 ++ dktX4_in_2
def dkwX4_in_0 : List UInt8 := [3, 61, 3, 62, 29, 42, 180, 0, 30, 182, 0, 94, 162, 0, 35, 28, 42, 180, 0, 30, 29, 182, 0, 108]
abbrev dktX4_in_0 : List UInt8 := dkwX4_in_0 ++ dktX4_in_1
theorem dksX4_in_0 : cX4_in.data.toList.drop 0 = dktX4_in_0 := by decide +kernel
theorem dksX4_in_1 : cX4_in.data.toList.drop 24 = dktX4_in_1 := dk_seg dksX4_in_0 24 rfl rfl
theorem dksX4_in_2 : cX4_in.data.toList.drop 48 = dktX4_in_2 := dk_seg dksX4_in_1 24 rfl rfl
theorem dX4_in_0 : decode cX4_in 0 = .ok (.iconst 0, 1) := dk_3 (dk_at dksX4_in_0 0 rfl rfl)
theorem dX4_in_1 : decode cX4_in 1 = .ok (.istore_n 2, 1) := dk_61 (dk_at dksX4_in_0 1 rfl rfl)
theorem dX4_in_2 : decode cX4_in 2 = .ok (.iconst 0, 1) := dk_3 (dk_at dksX4_in_0 2 rfl rfl)
theorem dX4_in_3 : decode cX4_in 3 = .ok (.istore_n 3, 1) := dk_62 (dk_at dksX4_in_0 3 rfl rfl)
theorem dX4_in_4 : decode cX4_in 4 = .ok (.iload_n 3, 1) := dk_29 (dk_at dksX4_in_0 4 rfl rfl)
theorem dX4_in_5 : decode cX4_in 5 = .ok (.aload_n 0, 1) := dk_42 (dk_at dksX4_in_0 5 rfl rfl)
theorem dX4_in_6 : decode cX4_in 6 = .ok (.getfield 30, 3) := dk_180 0 30 (dk_at dksX4_in_0 6 rfl rfl)
theorem dX4_in_9 : decode cX4_in 9 = .ok (.invokevirtual 94, 3) := dk_182 0 94 (dk_at dksX4_in_0 9 rfl rfl)
theorem dX4_in_12 : decode cX4_in 12 = .ok (.if_icmp .ge 35, 3) := dk_162 0 35 (dk_at dksX4_in_0 12 rfl rfl)
theorem dX4_in_15 : decode cX4_in 15 = .ok (.iload_n 2, 1) := dk_28 (dk_at dksX4_in_0 15 rfl rfl)
theorem dX4_in_16 : decode cX4_in 16 = .ok (.aload_n 0, 1) := dk_42 (dk_at dksX4_in_0 16 rfl rfl)
theorem dX4_in_17 : decode cX4_in 17 = .ok (.getfield 30, 3) := dk_180 0 30 (dk_at dksX4_in_0 17 rfl rfl)
theorem dX4_in_20 : decode cX4_in 20 = .ok (.iload_n 3, 1) := dk_29 (dk_at dksX4_in_0 20 rfl rfl)
theorem dX4_in_21 : decode cX4_in 21 = .ok (.invokevirtual 108, 3) := dk_182 0 108 (dk_at dksX4_in_0 21 rfl rfl)
theorem dX4_in_24 : decode cX4_in 24 = .ok (.checkcast 124, 3) := dk_192 0 124 (dk_at dksX4_in_1 0 rfl rfl)
theorem dX4_in_27 : decode cX4_in 27 = .ok (.getfield 126, 3) := dk_180 0 126 (dk_at dksX4_in_1 3 rfl rfl)
theorem dX4_in_30 : decode cX4_in 30 = .ok (.iload_n 1, 1) := dk_27 (dk_at dksX4_in_1 6 rfl rfl)
theorem dX4_in_31 : decode cX4_in 31 = .ok (.if_icmp .ne 7, 3) := dk_160 0 7 (dk_at dksX4_in_1 7 rfl rfl)
theorem dX4_in_34 : decode cX4_in 34 = .ok (.iconst 1, 1) := dk_4 (dk_at dksX4_in_1 10 rfl rfl)
theorem dX4_in_35 : decode cX4_in 35 = .ok (.goto 4, 3) := dk_167 0 4 (dk_at dksX4_in_1 11 rfl rfl)
theorem dX4_in_38 : decode cX4_in 38 = .ok (.iconst 0, 1) := dk_3 (dk_at dksX4_in_1 14 rfl rfl)
theorem dX4_in_39 : decode cX4_in 39 = .ok (.iadd, 1) := dk_96 (dk_at dksX4_in_1 15 rfl rfl)
theorem dX4_in_40 : decode cX4_in 40 = .ok (.istore_n 2, 1) := dk_61 (dk_at dksX4_in_1 16 rfl rfl)
theorem dX4_in_41 : decode cX4_in 41 = .ok (.iinc 3 1, 3) := dk_132 3 1 (dk_at dksX4_in_1 17 rfl rfl)
theorem dX4_in_44 : decode cX4_in 44 = .ok (.goto (-40), 3) := dk_167 255 216 (dk_at dksX4_in_1 20 rfl rfl)
theorem dX4_in_47 : decode cX4_in 47 = .ok (.iload_n 2, 1) := dk_28 (dk_at dksX4_in_1 23 rfl rfl)
theorem dX4_in_48 : decode cX4_in 48 = .ok (.ireturn, 1) := dk_172 (dk_at dksX4_in_2 0 rfl rfl)
abbrev cX4_fundAt : ByteArray := prog_14_method_81_code
def yX4_fundAt : MethodName := ⟨RX4, "fundAt", "(I)J"⟩
def dkwX4_fundAt_5 : List UInt8 := [42, 42, 180, 0, 73, 182, 1, 173, 173, 42, 42, 180, 0, 73, 182, 1, 177, 173, 42, 182, 1, 216, 173]
abbrev dktX4_fundAt_5 : List UInt8 := dkwX4_fundAt_5 ++ []
def dkwX4_fundAt_4 : List UInt8 := [180, 0, 85, 173, 42, 182, 1, 211, 173, 42, 182, 1, 213, 173, 42, 180, 0, 88, 173, 42, 180, 0, 91, 173]
abbrev dktX4_fundAt_4 : List UInt8 := dkwX4_fundAt_4 ++ dktX4_fundAt_5
def dkwX4_fundAt_3 : List UInt8 := [162, 0, 19, 32, 42, 180, 0, 36, 21, 4, 47, 97, 65, 132, 4, 1, 167, 255, 236, 32, 173, 42]
abbrev dktX4_fundAt_3 : List UInt8 := dkwX4_fundAt_3 ++ dktX4_fundAt_4
def dkwX4_fundAt_2 : List UInt8 := [42, 180, 0, 76, 173, 42, 180, 0, 79, 173, 42, 180, 0, 82, 173, 9, 65, 3, 54, 4, 21, 4, 16, 6]
abbrev dktX4_fundAt_2 : List UInt8 := dkwX4_fundAt_2 ++ dktX4_fundAt_3
def dkwX4_fundAt_1 : List UInt8 := [170, 0, 0, 0, 0, 0, 0, 148, 0, 0, 0, 0, 0, 0, 0, 10, 0, 0, 0, 60, 0, 0, 0, 65, 0, 0, 0, 70, 0, 0, 0, 75, 0, 0, 0, 105, 0, 0, 0, 110, 0, 0, 0, 115, 0, 0, 0, 120, 0, 0, 0, 125, 0, 0, 0, 130, 0, 0, 0, 139]
abbrev dktX4_fundAt_1 : List UInt8 := dkwX4_fundAt_1 ++ dktX4_fundAt_2
def dkwX4_fundAt_0 : List UInt8 := [42, 27, 133, 9, 20, 1, 209, 184, 0, 100, 4, 182, 0, 104, 154, 0, 5, 9, 173, 27]
abbrev dktX4_fundAt_0 : List UInt8 := dkwX4_fundAt_0 ++ dktX4_fundAt_1
theorem dksX4_fundAt_0 : cX4_fundAt.data.toList.drop 0 = dktX4_fundAt_0 := by decide +kernel
theorem dksX4_fundAt_1 : cX4_fundAt.data.toList.drop 20 = dktX4_fundAt_1 := dk_seg dksX4_fundAt_0 20 rfl rfl
theorem dksX4_fundAt_2 : cX4_fundAt.data.toList.drop 80 = dktX4_fundAt_2 := dk_seg dksX4_fundAt_1 60 rfl rfl
theorem dksX4_fundAt_3 : cX4_fundAt.data.toList.drop 104 = dktX4_fundAt_3 := dk_seg dksX4_fundAt_2 24 rfl rfl
theorem dksX4_fundAt_4 : cX4_fundAt.data.toList.drop 126 = dktX4_fundAt_4 := dk_seg dksX4_fundAt_3 22 rfl rfl
theorem dksX4_fundAt_5 : cX4_fundAt.data.toList.drop 150 = dktX4_fundAt_5 := dk_seg dksX4_fundAt_4 24 rfl rfl
theorem dX4_fundAt_0 : decode cX4_fundAt 0 = .ok (.aload_n 0, 1) := dk_42 (dk_at dksX4_fundAt_0 0 rfl rfl)
theorem dX4_fundAt_1 : decode cX4_fundAt 1 = .ok (.iload_n 1, 1) := dk_27 (dk_at dksX4_fundAt_0 1 rfl rfl)
theorem dX4_fundAt_2 : decode cX4_fundAt 2 = .ok (.i2l, 1) := dk_133 (dk_at dksX4_fundAt_0 2 rfl rfl)
theorem dX4_fundAt_3 : decode cX4_fundAt 3 = .ok (.lconst 0, 1) := dk_9 (dk_at dksX4_fundAt_0 3 rfl rfl)
theorem dX4_fundAt_4 : decode cX4_fundAt 4 = .ok (.ldc2_w 465, 3) := dk_20 1 209 (dk_at dksX4_fundAt_0 4 rfl rfl)
theorem dX4_fundAt_7 : decode cX4_fundAt 7 = .ok (.invokestatic 100, 3) := dk_184 0 100 (dk_at dksX4_fundAt_0 7 rfl rfl)
theorem dX4_fundAt_10 : decode cX4_fundAt 10 = .ok (.iconst 1, 1) := dk_4 (dk_at dksX4_fundAt_0 10 rfl rfl)
theorem dX4_fundAt_11 : decode cX4_fundAt 11 = .ok (.invokevirtual 104, 3) := dk_182 0 104 (dk_at dksX4_fundAt_0 11 rfl rfl)
theorem dX4_fundAt_14 : decode cX4_fundAt 14 = .ok (.ifCond .ne 5, 3) := dk_154 0 5 (dk_at dksX4_fundAt_0 14 rfl rfl)
theorem dX4_fundAt_17 : decode cX4_fundAt 17 = .ok (.lconst 0, 1) := dk_9 (dk_at dksX4_fundAt_0 17 rfl rfl)
theorem dX4_fundAt_18 : decode cX4_fundAt 18 = .ok (.lreturn, 1) := dk_173 (dk_at dksX4_fundAt_0 18 rfl rfl)
theorem dX4_fundAt_19 : decode cX4_fundAt 19 = .ok (.iload_n 1, 1) := dk_27 (dk_at dksX4_fundAt_0 19 rfl rfl)
theorem dX4_fundAt_20 : decode cX4_fundAt 20 = .ok (.tableswitch 148 0 10 #[60, 65, 70, 75, 105, 110, 115, 120, 125, 130, 139], 60) := by decide +kernel
theorem dX4_fundAt_80 : decode cX4_fundAt 80 = .ok (.aload_n 0, 1) := dk_42 (dk_at dksX4_fundAt_2 0 rfl rfl)
theorem dX4_fundAt_81 : decode cX4_fundAt 81 = .ok (.getfield 76, 3) := dk_180 0 76 (dk_at dksX4_fundAt_2 1 rfl rfl)
theorem dX4_fundAt_84 : decode cX4_fundAt 84 = .ok (.lreturn, 1) := dk_173 (dk_at dksX4_fundAt_2 4 rfl rfl)
theorem dX4_fundAt_85 : decode cX4_fundAt 85 = .ok (.aload_n 0, 1) := dk_42 (dk_at dksX4_fundAt_2 5 rfl rfl)
theorem dX4_fundAt_86 : decode cX4_fundAt 86 = .ok (.getfield 79, 3) := dk_180 0 79 (dk_at dksX4_fundAt_2 6 rfl rfl)
theorem dX4_fundAt_89 : decode cX4_fundAt 89 = .ok (.lreturn, 1) := dk_173 (dk_at dksX4_fundAt_2 9 rfl rfl)
theorem dX4_fundAt_90 : decode cX4_fundAt 90 = .ok (.aload_n 0, 1) := dk_42 (dk_at dksX4_fundAt_2 10 rfl rfl)
theorem dX4_fundAt_91 : decode cX4_fundAt 91 = .ok (.getfield 82, 3) := dk_180 0 82 (dk_at dksX4_fundAt_2 11 rfl rfl)
theorem dX4_fundAt_94 : decode cX4_fundAt 94 = .ok (.lreturn, 1) := dk_173 (dk_at dksX4_fundAt_2 14 rfl rfl)
theorem dX4_fundAt_95 : decode cX4_fundAt 95 = .ok (.lconst 0, 1) := dk_9 (dk_at dksX4_fundAt_2 15 rfl rfl)
theorem dX4_fundAt_96 : decode cX4_fundAt 96 = .ok (.lstore_n 2, 1) := dk_65 (dk_at dksX4_fundAt_2 16 rfl rfl)
theorem dX4_fundAt_97 : decode cX4_fundAt 97 = .ok (.iconst 0, 1) := dk_3 (dk_at dksX4_fundAt_2 17 rfl rfl)
theorem dX4_fundAt_98 : decode cX4_fundAt 98 = .ok (.istore 4, 2) := dk_54 4 (dk_at dksX4_fundAt_2 18 rfl rfl)
theorem dX4_fundAt_100 : decode cX4_fundAt 100 = .ok (.iload 4, 2) := dk_21 4 (dk_at dksX4_fundAt_2 20 rfl rfl)
theorem dX4_fundAt_102 : decode cX4_fundAt 102 = .ok (.bipush 6, 2) := dk_16 6 (dk_at dksX4_fundAt_2 22 rfl rfl)
theorem dX4_fundAt_104 : decode cX4_fundAt 104 = .ok (.if_icmp .ge 19, 3) := dk_162 0 19 (dk_at dksX4_fundAt_3 0 rfl rfl)
theorem dX4_fundAt_107 : decode cX4_fundAt 107 = .ok (.lload_n 2, 1) := dk_32 (dk_at dksX4_fundAt_3 3 rfl rfl)
theorem dX4_fundAt_108 : decode cX4_fundAt 108 = .ok (.aload_n 0, 1) := dk_42 (dk_at dksX4_fundAt_3 4 rfl rfl)
theorem dX4_fundAt_109 : decode cX4_fundAt 109 = .ok (.getfield 36, 3) := dk_180 0 36 (dk_at dksX4_fundAt_3 5 rfl rfl)
theorem dX4_fundAt_112 : decode cX4_fundAt 112 = .ok (.iload 4, 2) := dk_21 4 (dk_at dksX4_fundAt_3 8 rfl rfl)
theorem dX4_fundAt_114 : decode cX4_fundAt 114 = .ok (.laload, 1) := dk_47 (dk_at dksX4_fundAt_3 10 rfl rfl)
theorem dX4_fundAt_115 : decode cX4_fundAt 115 = .ok (.ladd, 1) := dk_97 (dk_at dksX4_fundAt_3 11 rfl rfl)
theorem dX4_fundAt_116 : decode cX4_fundAt 116 = .ok (.lstore_n 2, 1) := dk_65 (dk_at dksX4_fundAt_3 12 rfl rfl)
theorem dX4_fundAt_117 : decode cX4_fundAt 117 = .ok (.iinc 4 1, 3) := dk_132 4 1 (dk_at dksX4_fundAt_3 13 rfl rfl)
theorem dX4_fundAt_120 : decode cX4_fundAt 120 = .ok (.goto (-20), 3) := dk_167 255 236 (dk_at dksX4_fundAt_3 16 rfl rfl)
theorem dX4_fundAt_123 : decode cX4_fundAt 123 = .ok (.lload_n 2, 1) := dk_32 (dk_at dksX4_fundAt_3 19 rfl rfl)
theorem dX4_fundAt_124 : decode cX4_fundAt 124 = .ok (.lreturn, 1) := dk_173 (dk_at dksX4_fundAt_3 20 rfl rfl)
theorem dX4_fundAt_125 : decode cX4_fundAt 125 = .ok (.aload_n 0, 1) := dk_42 (dk_at dksX4_fundAt_3 21 rfl rfl)
theorem dX4_fundAt_126 : decode cX4_fundAt 126 = .ok (.getfield 85, 3) := dk_180 0 85 (dk_at dksX4_fundAt_4 0 rfl rfl)
theorem dX4_fundAt_129 : decode cX4_fundAt 129 = .ok (.lreturn, 1) := dk_173 (dk_at dksX4_fundAt_4 3 rfl rfl)
theorem dX4_fundAt_130 : decode cX4_fundAt 130 = .ok (.aload_n 0, 1) := dk_42 (dk_at dksX4_fundAt_4 4 rfl rfl)
theorem dX4_fundAt_131 : decode cX4_fundAt 131 = .ok (.invokevirtual 467, 3) := dk_182 1 211 (dk_at dksX4_fundAt_4 5 rfl rfl)
theorem dX4_fundAt_134 : decode cX4_fundAt 134 = .ok (.lreturn, 1) := dk_173 (dk_at dksX4_fundAt_4 8 rfl rfl)
theorem dX4_fundAt_135 : decode cX4_fundAt 135 = .ok (.aload_n 0, 1) := dk_42 (dk_at dksX4_fundAt_4 9 rfl rfl)
theorem dX4_fundAt_136 : decode cX4_fundAt 136 = .ok (.invokevirtual 469, 3) := dk_182 1 213 (dk_at dksX4_fundAt_4 10 rfl rfl)
theorem dX4_fundAt_139 : decode cX4_fundAt 139 = .ok (.lreturn, 1) := dk_173 (dk_at dksX4_fundAt_4 13 rfl rfl)
theorem dX4_fundAt_140 : decode cX4_fundAt 140 = .ok (.aload_n 0, 1) := dk_42 (dk_at dksX4_fundAt_4 14 rfl rfl)
theorem dX4_fundAt_141 : decode cX4_fundAt 141 = .ok (.getfield 88, 3) := dk_180 0 88 (dk_at dksX4_fundAt_4 15 rfl rfl)
theorem dX4_fundAt_144 : decode cX4_fundAt 144 = .ok (.lreturn, 1) := dk_173 (dk_at dksX4_fundAt_4 18 rfl rfl)
theorem dX4_fundAt_145 : decode cX4_fundAt 145 = .ok (.aload_n 0, 1) := dk_42 (dk_at dksX4_fundAt_4 19 rfl rfl)
theorem dX4_fundAt_146 : decode cX4_fundAt 146 = .ok (.getfield 91, 3) := dk_180 0 91 (dk_at dksX4_fundAt_4 20 rfl rfl)
theorem dX4_fundAt_149 : decode cX4_fundAt 149 = .ok (.lreturn, 1) := dk_173 (dk_at dksX4_fundAt_4 23 rfl rfl)
theorem dX4_fundAt_150 : decode cX4_fundAt 150 = .ok (.aload_n 0, 1) := dk_42 (dk_at dksX4_fundAt_5 0 rfl rfl)
theorem dX4_fundAt_151 : decode cX4_fundAt 151 = .ok (.aload_n 0, 1) := dk_42 (dk_at dksX4_fundAt_5 1 rfl rfl)
theorem dX4_fundAt_152 : decode cX4_fundAt 152 = .ok (.getfield 73, 3) := dk_180 0 73 (dk_at dksX4_fundAt_5 2 rfl rfl)
theorem dX4_fundAt_155 : decode cX4_fundAt 155 = .ok (.invokevirtual 429, 3) := dk_182 1 173 (dk_at dksX4_fundAt_5 5 rfl rfl)
theorem dX4_fundAt_158 : decode cX4_fundAt 158 = .ok (.lreturn, 1) := dk_173 (dk_at dksX4_fundAt_5 8 rfl rfl)
theorem dX4_fundAt_159 : decode cX4_fundAt 159 = .ok (.aload_n 0, 1) := dk_42 (dk_at dksX4_fundAt_5 9 rfl rfl)
theorem dX4_fundAt_160 : decode cX4_fundAt 160 = .ok (.aload_n 0, 1) := dk_42 (dk_at dksX4_fundAt_5 10 rfl rfl)
theorem dX4_fundAt_161 : decode cX4_fundAt 161 = .ok (.getfield 73, 3) := dk_180 0 73 (dk_at dksX4_fundAt_5 11 rfl rfl)
theorem dX4_fundAt_164 : decode cX4_fundAt 164 = .ok (.invokevirtual 433, 3) := dk_182 1 177 (dk_at dksX4_fundAt_5 14 rfl rfl)
theorem dX4_fundAt_167 : decode cX4_fundAt 167 = .ok (.lreturn, 1) := dk_173 (dk_at dksX4_fundAt_5 17 rfl rfl)
theorem dX4_fundAt_168 : decode cX4_fundAt 168 = .ok (.aload_n 0, 1) := dk_42 (dk_at dksX4_fundAt_5 18 rfl rfl)
theorem dX4_fundAt_169 : decode cX4_fundAt 169 = .ok (.invokevirtual 472, 3) := dk_182 1 216 (dk_at dksX4_fundAt_5 19 rfl rfl)
theorem dX4_fundAt_172 : decode cX4_fundAt 172 = .ok (.lreturn, 1) := dk_173 (dk_at dksX4_fundAt_5 22 rfl rfl)
abbrev cX4_delivered : ByteArray := prog_14_method_82_code
def yX4_delivered : MethodName := ⟨RX4, "delivered", "()J"⟩
def dkwX4_delivered_1 : List UInt8 := [192, 0, 112, 180, 0, 147, 97, 64, 132, 3, 1, 167, 255, 225, 31, 173]
abbrev dktX4_delivered_1 : List UInt8 := dkwX4_delivered_1 ++ []
def dkwX4_delivered_0 : List UInt8 := [9, 64, 3, 62, 29, 42, 180, 0, 16, 182, 0, 94, 162, 0, 26, 31, 42, 180, 0, 16, 29, 182, 0, 108]
abbrev dktX4_delivered_0 : List UInt8 := dkwX4_delivered_0 ++ dktX4_delivered_1
theorem dksX4_delivered_0 : cX4_delivered.data.toList.drop 0 = dktX4_delivered_0 := by decide +kernel
theorem dksX4_delivered_1 : cX4_delivered.data.toList.drop 24 = dktX4_delivered_1 := dk_seg dksX4_delivered_0 24 rfl rfl
theorem dX4_delivered_0 : decode cX4_delivered 0 = .ok (.lconst 0, 1) := dk_9 (dk_at dksX4_delivered_0 0 rfl rfl)
theorem dX4_delivered_1 : decode cX4_delivered 1 = .ok (.lstore_n 1, 1) := dk_64 (dk_at dksX4_delivered_0 1 rfl rfl)
theorem dX4_delivered_2 : decode cX4_delivered 2 = .ok (.iconst 0, 1) := dk_3 (dk_at dksX4_delivered_0 2 rfl rfl)
theorem dX4_delivered_3 : decode cX4_delivered 3 = .ok (.istore_n 3, 1) := dk_62 (dk_at dksX4_delivered_0 3 rfl rfl)
theorem dX4_delivered_4 : decode cX4_delivered 4 = .ok (.iload_n 3, 1) := dk_29 (dk_at dksX4_delivered_0 4 rfl rfl)
theorem dX4_delivered_5 : decode cX4_delivered 5 = .ok (.aload_n 0, 1) := dk_42 (dk_at dksX4_delivered_0 5 rfl rfl)
theorem dX4_delivered_6 : decode cX4_delivered 6 = .ok (.getfield 16, 3) := dk_180 0 16 (dk_at dksX4_delivered_0 6 rfl rfl)
theorem dX4_delivered_9 : decode cX4_delivered 9 = .ok (.invokevirtual 94, 3) := dk_182 0 94 (dk_at dksX4_delivered_0 9 rfl rfl)
theorem dX4_delivered_12 : decode cX4_delivered 12 = .ok (.if_icmp .ge 26, 3) := dk_162 0 26 (dk_at dksX4_delivered_0 12 rfl rfl)
theorem dX4_delivered_15 : decode cX4_delivered 15 = .ok (.lload_n 1, 1) := dk_31 (dk_at dksX4_delivered_0 15 rfl rfl)
theorem dX4_delivered_16 : decode cX4_delivered 16 = .ok (.aload_n 0, 1) := dk_42 (dk_at dksX4_delivered_0 16 rfl rfl)
theorem dX4_delivered_17 : decode cX4_delivered 17 = .ok (.getfield 16, 3) := dk_180 0 16 (dk_at dksX4_delivered_0 17 rfl rfl)
theorem dX4_delivered_20 : decode cX4_delivered 20 = .ok (.iload_n 3, 1) := dk_29 (dk_at dksX4_delivered_0 20 rfl rfl)
theorem dX4_delivered_21 : decode cX4_delivered 21 = .ok (.invokevirtual 108, 3) := dk_182 0 108 (dk_at dksX4_delivered_0 21 rfl rfl)
theorem dX4_delivered_24 : decode cX4_delivered 24 = .ok (.checkcast 112, 3) := dk_192 0 112 (dk_at dksX4_delivered_1 0 rfl rfl)
theorem dX4_delivered_27 : decode cX4_delivered 27 = .ok (.getfield 147, 3) := dk_180 0 147 (dk_at dksX4_delivered_1 3 rfl rfl)
theorem dX4_delivered_30 : decode cX4_delivered 30 = .ok (.ladd, 1) := dk_97 (dk_at dksX4_delivered_1 6 rfl rfl)
theorem dX4_delivered_31 : decode cX4_delivered 31 = .ok (.lstore_n 1, 1) := dk_64 (dk_at dksX4_delivered_1 7 rfl rfl)
theorem dX4_delivered_32 : decode cX4_delivered 32 = .ok (.iinc 3 1, 3) := dk_132 3 1 (dk_at dksX4_delivered_1 8 rfl rfl)
theorem dX4_delivered_35 : decode cX4_delivered 35 = .ok (.goto (-31), 3) := dk_167 255 225 (dk_at dksX4_delivered_1 11 rfl rfl)
theorem dX4_delivered_38 : decode cX4_delivered 38 = .ok (.lload_n 1, 1) := dk_31 (dk_at dksX4_delivered_1 14 rfl rfl)
theorem dX4_delivered_39 : decode cX4_delivered 39 = .ok (.lreturn, 1) := dk_173 (dk_at dksX4_delivered_1 15 rfl rfl)
abbrev cX4_lies : ByteArray := prog_14_method_83_code
def yX4_lies : MethodName := ⟨RX4, "lies", "()J"⟩
def dkwX4_lies_2 : List UInt8 := [180, 0, 16, 29, 182, 0, 108, 192, 0, 112, 184, 0, 202, 97, 97, 64, 132, 3, 1, 167, 255, 195, 31, 173]
abbrev dktX4_lies_2 : List UInt8 := dkwX4_lies_2 ++ []
def dkwX4_lies_1 : List UInt8 := [192, 0, 112, 180, 0, 140, 42, 180, 0, 16, 29, 182, 0, 108, 192, 0, 112, 180, 1, 11, 97, 42]
abbrev dktX4_lies_1 : List UInt8 := dkwX4_lies_1 ++ dktX4_lies_2
def dkwX4_lies_0 : List UInt8 := [9, 64, 3, 62, 29, 42, 180, 0, 16, 182, 0, 94, 162, 0, 56, 31, 42, 180, 0, 16, 29, 182, 0, 108]
abbrev dktX4_lies_0 : List UInt8 := dkwX4_lies_0 ++ dktX4_lies_1
theorem dksX4_lies_0 : cX4_lies.data.toList.drop 0 = dktX4_lies_0 := by decide +kernel
theorem dksX4_lies_1 : cX4_lies.data.toList.drop 24 = dktX4_lies_1 := dk_seg dksX4_lies_0 24 rfl rfl
theorem dksX4_lies_2 : cX4_lies.data.toList.drop 46 = dktX4_lies_2 := dk_seg dksX4_lies_1 22 rfl rfl
theorem dX4_lies_0 : decode cX4_lies 0 = .ok (.lconst 0, 1) := dk_9 (dk_at dksX4_lies_0 0 rfl rfl)
theorem dX4_lies_1 : decode cX4_lies 1 = .ok (.lstore_n 1, 1) := dk_64 (dk_at dksX4_lies_0 1 rfl rfl)
theorem dX4_lies_2 : decode cX4_lies 2 = .ok (.iconst 0, 1) := dk_3 (dk_at dksX4_lies_0 2 rfl rfl)
theorem dX4_lies_3 : decode cX4_lies 3 = .ok (.istore_n 3, 1) := dk_62 (dk_at dksX4_lies_0 3 rfl rfl)
theorem dX4_lies_4 : decode cX4_lies 4 = .ok (.iload_n 3, 1) := dk_29 (dk_at dksX4_lies_0 4 rfl rfl)
theorem dX4_lies_5 : decode cX4_lies 5 = .ok (.aload_n 0, 1) := dk_42 (dk_at dksX4_lies_0 5 rfl rfl)
theorem dX4_lies_6 : decode cX4_lies 6 = .ok (.getfield 16, 3) := dk_180 0 16 (dk_at dksX4_lies_0 6 rfl rfl)
theorem dX4_lies_9 : decode cX4_lies 9 = .ok (.invokevirtual 94, 3) := dk_182 0 94 (dk_at dksX4_lies_0 9 rfl rfl)
theorem dX4_lies_12 : decode cX4_lies 12 = .ok (.if_icmp .ge 56, 3) := dk_162 0 56 (dk_at dksX4_lies_0 12 rfl rfl)
theorem dX4_lies_15 : decode cX4_lies 15 = .ok (.lload_n 1, 1) := dk_31 (dk_at dksX4_lies_0 15 rfl rfl)
theorem dX4_lies_16 : decode cX4_lies 16 = .ok (.aload_n 0, 1) := dk_42 (dk_at dksX4_lies_0 16 rfl rfl)
theorem dX4_lies_17 : decode cX4_lies 17 = .ok (.getfield 16, 3) := dk_180 0 16 (dk_at dksX4_lies_0 17 rfl rfl)
theorem dX4_lies_20 : decode cX4_lies 20 = .ok (.iload_n 3, 1) := dk_29 (dk_at dksX4_lies_0 20 rfl rfl)
theorem dX4_lies_21 : decode cX4_lies 21 = .ok (.invokevirtual 108, 3) := dk_182 0 108 (dk_at dksX4_lies_0 21 rfl rfl)
theorem dX4_lies_24 : decode cX4_lies 24 = .ok (.checkcast 112, 3) := dk_192 0 112 (dk_at dksX4_lies_1 0 rfl rfl)
theorem dX4_lies_27 : decode cX4_lies 27 = .ok (.getfield 140, 3) := dk_180 0 140 (dk_at dksX4_lies_1 3 rfl rfl)
theorem dX4_lies_30 : decode cX4_lies 30 = .ok (.aload_n 0, 1) := dk_42 (dk_at dksX4_lies_1 6 rfl rfl)
theorem dX4_lies_31 : decode cX4_lies 31 = .ok (.getfield 16, 3) := dk_180 0 16 (dk_at dksX4_lies_1 7 rfl rfl)
theorem dX4_lies_34 : decode cX4_lies 34 = .ok (.iload_n 3, 1) := dk_29 (dk_at dksX4_lies_1 10 rfl rfl)
theorem dX4_lies_35 : decode cX4_lies 35 = .ok (.invokevirtual 108, 3) := dk_182 0 108 (dk_at dksX4_lies_1 11 rfl rfl)
theorem dX4_lies_38 : decode cX4_lies 38 = .ok (.checkcast 112, 3) := dk_192 0 112 (dk_at dksX4_lies_1 14 rfl rfl)
theorem dX4_lies_41 : decode cX4_lies 41 = .ok (.getfield 267, 3) := dk_180 1 11 (dk_at dksX4_lies_1 17 rfl rfl)
theorem dX4_lies_44 : decode cX4_lies 44 = .ok (.ladd, 1) := dk_97 (dk_at dksX4_lies_1 20 rfl rfl)
theorem dX4_lies_45 : decode cX4_lies 45 = .ok (.aload_n 0, 1) := dk_42 (dk_at dksX4_lies_1 21 rfl rfl)
theorem dX4_lies_46 : decode cX4_lies 46 = .ok (.getfield 16, 3) := dk_180 0 16 (dk_at dksX4_lies_2 0 rfl rfl)
theorem dX4_lies_49 : decode cX4_lies 49 = .ok (.iload_n 3, 1) := dk_29 (dk_at dksX4_lies_2 3 rfl rfl)
theorem dX4_lies_50 : decode cX4_lies 50 = .ok (.invokevirtual 108, 3) := dk_182 0 108 (dk_at dksX4_lies_2 4 rfl rfl)
theorem dX4_lies_53 : decode cX4_lies 53 = .ok (.checkcast 112, 3) := dk_192 0 112 (dk_at dksX4_lies_2 7 rfl rfl)
theorem dX4_lies_56 : decode cX4_lies 56 = .ok (.invokestatic 202, 3) := dk_184 0 202 (dk_at dksX4_lies_2 10 rfl rfl)
theorem dX4_lies_59 : decode cX4_lies 59 = .ok (.ladd, 1) := dk_97 (dk_at dksX4_lies_2 13 rfl rfl)
theorem dX4_lies_60 : decode cX4_lies 60 = .ok (.ladd, 1) := dk_97 (dk_at dksX4_lies_2 14 rfl rfl)
theorem dX4_lies_61 : decode cX4_lies 61 = .ok (.lstore_n 1, 1) := dk_64 (dk_at dksX4_lies_2 15 rfl rfl)
theorem dX4_lies_62 : decode cX4_lies 62 = .ok (.iinc 3 1, 3) := dk_132 3 1 (dk_at dksX4_lies_2 16 rfl rfl)
theorem dX4_lies_65 : decode cX4_lies 65 = .ok (.goto (-61), 3) := dk_167 255 195 (dk_at dksX4_lies_2 19 rfl rfl)
theorem dX4_lies_68 : decode cX4_lies 68 = .ok (.lload_n 1, 1) := dk_31 (dk_at dksX4_lies_2 22 rfl rfl)
theorem dX4_lies_69 : decode cX4_lies 69 = .ok (.lreturn, 1) := dk_173 (dk_at dksX4_lies_2 23 rfl rfl)
abbrev cX4_apart : ByteArray := prog_14_method_84_code
def yX4_apart : MethodName := ⟨RX4, "apart", "()J"⟩
def dkwX4_apart_3 : List UInt8 := [167, 255, 189, 31, 173]
abbrev dktX4_apart_3 : List UInt8 := dkwX4_apart_3 ++ []
def dkwX4_apart_2 : List UInt8 := [133, 105, 20, 1, 44, 109, 25, 4, 180, 1, 150, 101, 184, 1, 219, 167, 0, 4, 9, 97, 64, 132, 3, 1]
abbrev dktX4_apart_2 : List UInt8 := dkwX4_apart_2 ++ dktX4_apart_3
def dkwX4_apart_1 : List UInt8 := [192, 0, 124, 58, 4, 31, 25, 4, 180, 0, 126, 154, 0, 31, 42, 25, 4, 182, 1, 146, 42, 180, 0, 73]
abbrev dktX4_apart_1 : List UInt8 := dkwX4_apart_1 ++ dktX4_apart_2
def dkwX4_apart_0 : List UInt8 := [9, 64, 3, 62, 29, 42, 180, 0, 30, 182, 0, 94, 162, 0, 62, 42, 180, 0, 30, 29, 182, 0, 108]
abbrev dktX4_apart_0 : List UInt8 := dkwX4_apart_0 ++ dktX4_apart_1
theorem dksX4_apart_0 : cX4_apart.data.toList.drop 0 = dktX4_apart_0 := by decide +kernel
theorem dksX4_apart_1 : cX4_apart.data.toList.drop 23 = dktX4_apart_1 := dk_seg dksX4_apart_0 23 rfl rfl
theorem dksX4_apart_2 : cX4_apart.data.toList.drop 47 = dktX4_apart_2 := dk_seg dksX4_apart_1 24 rfl rfl
theorem dksX4_apart_3 : cX4_apart.data.toList.drop 71 = dktX4_apart_3 := dk_seg dksX4_apart_2 24 rfl rfl
theorem dX4_apart_0 : decode cX4_apart 0 = .ok (.lconst 0, 1) := dk_9 (dk_at dksX4_apart_0 0 rfl rfl)
theorem dX4_apart_1 : decode cX4_apart 1 = .ok (.lstore_n 1, 1) := dk_64 (dk_at dksX4_apart_0 1 rfl rfl)
theorem dX4_apart_2 : decode cX4_apart 2 = .ok (.iconst 0, 1) := dk_3 (dk_at dksX4_apart_0 2 rfl rfl)
theorem dX4_apart_3 : decode cX4_apart 3 = .ok (.istore_n 3, 1) := dk_62 (dk_at dksX4_apart_0 3 rfl rfl)
theorem dX4_apart_4 : decode cX4_apart 4 = .ok (.iload_n 3, 1) := dk_29 (dk_at dksX4_apart_0 4 rfl rfl)
theorem dX4_apart_5 : decode cX4_apart 5 = .ok (.aload_n 0, 1) := dk_42 (dk_at dksX4_apart_0 5 rfl rfl)
theorem dX4_apart_6 : decode cX4_apart 6 = .ok (.getfield 30, 3) := dk_180 0 30 (dk_at dksX4_apart_0 6 rfl rfl)
theorem dX4_apart_9 : decode cX4_apart 9 = .ok (.invokevirtual 94, 3) := dk_182 0 94 (dk_at dksX4_apart_0 9 rfl rfl)
theorem dX4_apart_12 : decode cX4_apart 12 = .ok (.if_icmp .ge 62, 3) := dk_162 0 62 (dk_at dksX4_apart_0 12 rfl rfl)
theorem dX4_apart_15 : decode cX4_apart 15 = .ok (.aload_n 0, 1) := dk_42 (dk_at dksX4_apart_0 15 rfl rfl)
theorem dX4_apart_16 : decode cX4_apart 16 = .ok (.getfield 30, 3) := dk_180 0 30 (dk_at dksX4_apart_0 16 rfl rfl)
theorem dX4_apart_19 : decode cX4_apart 19 = .ok (.iload_n 3, 1) := dk_29 (dk_at dksX4_apart_0 19 rfl rfl)
theorem dX4_apart_20 : decode cX4_apart 20 = .ok (.invokevirtual 108, 3) := dk_182 0 108 (dk_at dksX4_apart_0 20 rfl rfl)
theorem dX4_apart_23 : decode cX4_apart 23 = .ok (.checkcast 124, 3) := dk_192 0 124 (dk_at dksX4_apart_1 0 rfl rfl)
theorem dX4_apart_26 : decode cX4_apart 26 = .ok (.astore 4, 2) := dk_58 4 (dk_at dksX4_apart_1 3 rfl rfl)
theorem dX4_apart_28 : decode cX4_apart 28 = .ok (.lload_n 1, 1) := dk_31 (dk_at dksX4_apart_1 5 rfl rfl)
theorem dX4_apart_29 : decode cX4_apart 29 = .ok (.aload 4, 2) := dk_25 4 (dk_at dksX4_apart_1 6 rfl rfl)
theorem dX4_apart_31 : decode cX4_apart 31 = .ok (.getfield 126, 3) := dk_180 0 126 (dk_at dksX4_apart_1 8 rfl rfl)
theorem dX4_apart_34 : decode cX4_apart 34 = .ok (.ifCond .ne 31, 3) := dk_154 0 31 (dk_at dksX4_apart_1 11 rfl rfl)
theorem dX4_apart_37 : decode cX4_apart 37 = .ok (.aload_n 0, 1) := dk_42 (dk_at dksX4_apart_1 14 rfl rfl)
theorem dX4_apart_38 : decode cX4_apart 38 = .ok (.aload 4, 2) := dk_25 4 (dk_at dksX4_apart_1 15 rfl rfl)
theorem dX4_apart_40 : decode cX4_apart 40 = .ok (.invokevirtual 402, 3) := dk_182 1 146 (dk_at dksX4_apart_1 17 rfl rfl)
theorem dX4_apart_43 : decode cX4_apart 43 = .ok (.aload_n 0, 1) := dk_42 (dk_at dksX4_apart_1 20 rfl rfl)
theorem dX4_apart_44 : decode cX4_apart 44 = .ok (.getfield 73, 3) := dk_180 0 73 (dk_at dksX4_apart_1 21 rfl rfl)
theorem dX4_apart_47 : decode cX4_apart 47 = .ok (.i2l, 1) := dk_133 (dk_at dksX4_apart_2 0 rfl rfl)
theorem dX4_apart_48 : decode cX4_apart 48 = .ok (.lmul, 1) := dk_105 (dk_at dksX4_apart_2 1 rfl rfl)
theorem dX4_apart_49 : decode cX4_apart 49 = .ok (.ldc2_w 300, 3) := dk_20 1 44 (dk_at dksX4_apart_2 2 rfl rfl)
theorem dX4_apart_52 : decode cX4_apart 52 = .ok (.ldiv, 1) := dk_109 (dk_at dksX4_apart_2 5 rfl rfl)
theorem dX4_apart_53 : decode cX4_apart 53 = .ok (.aload 4, 2) := dk_25 4 (dk_at dksX4_apart_2 6 rfl rfl)
theorem dX4_apart_55 : decode cX4_apart 55 = .ok (.getfield 406, 3) := dk_180 1 150 (dk_at dksX4_apart_2 8 rfl rfl)
theorem dX4_apart_58 : decode cX4_apart 58 = .ok (.lsub, 1) := dk_101 (dk_at dksX4_apart_2 11 rfl rfl)
theorem dX4_apart_59 : decode cX4_apart 59 = .ok (.invokestatic 475, 3) := dk_184 1 219 (dk_at dksX4_apart_2 12 rfl rfl)
theorem dX4_apart_62 : decode cX4_apart 62 = .ok (.goto 4, 3) := dk_167 0 4 (dk_at dksX4_apart_2 15 rfl rfl)
theorem dX4_apart_65 : decode cX4_apart 65 = .ok (.lconst 0, 1) := dk_9 (dk_at dksX4_apart_2 18 rfl rfl)
theorem dX4_apart_66 : decode cX4_apart 66 = .ok (.ladd, 1) := dk_97 (dk_at dksX4_apart_2 19 rfl rfl)
theorem dX4_apart_67 : decode cX4_apart 67 = .ok (.lstore_n 1, 1) := dk_64 (dk_at dksX4_apart_2 20 rfl rfl)
theorem dX4_apart_68 : decode cX4_apart 68 = .ok (.iinc 3 1, 3) := dk_132 3 1 (dk_at dksX4_apart_2 21 rfl rfl)
theorem dX4_apart_71 : decode cX4_apart 71 = .ok (.goto (-67), 3) := dk_167 255 189 (dk_at dksX4_apart_3 0 rfl rfl)
theorem dX4_apart_74 : decode cX4_apart 74 = .ok (.lload_n 1, 1) := dk_31 (dk_at dksX4_apart_3 3 rfl rfl)
theorem dX4_apart_75 : decode cX4_apart 75 = .ok (.lreturn, 1) := dk_173 (dk_at dksX4_apart_3 4 rfl rfl)
abbrev cX4_lawyerAt : ByteArray := prog_14_method_85_code
def yX4_lawyerAt : MethodName := ⟨RX4, "lawyerAt", "(I)J"⟩
def dkwX4_lawyerAt_1 : List UInt8 := [167, 0, 4, 9, 173]
abbrev dktX4_lawyerAt_1 : List UInt8 := dkwX4_lawyerAt_1 ++ []
def dkwX4_lawyerAt_0 : List UInt8 := [42, 27, 133, 9, 20, 0, 194, 184, 0, 100, 4, 182, 0, 104, 153, 0, 12, 42, 180, 0, 36, 27, 47]
abbrev dktX4_lawyerAt_0 : List UInt8 := dkwX4_lawyerAt_0 ++ dktX4_lawyerAt_1
theorem dksX4_lawyerAt_0 : cX4_lawyerAt.data.toList.drop 0 = dktX4_lawyerAt_0 := by decide +kernel
theorem dksX4_lawyerAt_1 : cX4_lawyerAt.data.toList.drop 23 = dktX4_lawyerAt_1 := dk_seg dksX4_lawyerAt_0 23 rfl rfl
theorem dX4_lawyerAt_0 : decode cX4_lawyerAt 0 = .ok (.aload_n 0, 1) := dk_42 (dk_at dksX4_lawyerAt_0 0 rfl rfl)
theorem dX4_lawyerAt_1 : decode cX4_lawyerAt 1 = .ok (.iload_n 1, 1) := dk_27 (dk_at dksX4_lawyerAt_0 1 rfl rfl)
theorem dX4_lawyerAt_2 : decode cX4_lawyerAt 2 = .ok (.i2l, 1) := dk_133 (dk_at dksX4_lawyerAt_0 2 rfl rfl)
theorem dX4_lawyerAt_3 : decode cX4_lawyerAt 3 = .ok (.lconst 0, 1) := dk_9 (dk_at dksX4_lawyerAt_0 3 rfl rfl)
theorem dX4_lawyerAt_4 : decode cX4_lawyerAt 4 = .ok (.ldc2_w 194, 3) := dk_20 0 194 (dk_at dksX4_lawyerAt_0 4 rfl rfl)
theorem dX4_lawyerAt_7 : decode cX4_lawyerAt 7 = .ok (.invokestatic 100, 3) := dk_184 0 100 (dk_at dksX4_lawyerAt_0 7 rfl rfl)
theorem dX4_lawyerAt_10 : decode cX4_lawyerAt 10 = .ok (.iconst 1, 1) := dk_4 (dk_at dksX4_lawyerAt_0 10 rfl rfl)
theorem dX4_lawyerAt_11 : decode cX4_lawyerAt 11 = .ok (.invokevirtual 104, 3) := dk_182 0 104 (dk_at dksX4_lawyerAt_0 11 rfl rfl)
theorem dX4_lawyerAt_14 : decode cX4_lawyerAt 14 = .ok (.ifCond .eq 12, 3) := dk_153 0 12 (dk_at dksX4_lawyerAt_0 14 rfl rfl)
theorem dX4_lawyerAt_17 : decode cX4_lawyerAt 17 = .ok (.aload_n 0, 1) := dk_42 (dk_at dksX4_lawyerAt_0 17 rfl rfl)
theorem dX4_lawyerAt_18 : decode cX4_lawyerAt 18 = .ok (.getfield 36, 3) := dk_180 0 36 (dk_at dksX4_lawyerAt_0 18 rfl rfl)
theorem dX4_lawyerAt_21 : decode cX4_lawyerAt 21 = .ok (.iload_n 1, 1) := dk_27 (dk_at dksX4_lawyerAt_0 21 rfl rfl)
theorem dX4_lawyerAt_22 : decode cX4_lawyerAt 22 = .ok (.laload, 1) := dk_47 (dk_at dksX4_lawyerAt_0 22 rfl rfl)
theorem dX4_lawyerAt_23 : decode cX4_lawyerAt 23 = .ok (.goto 4, 3) := dk_167 0 4 (dk_at dksX4_lawyerAt_1 0 rfl rfl)
theorem dX4_lawyerAt_26 : decode cX4_lawyerAt 26 = .ok (.lconst 0, 1) := dk_9 (dk_at dksX4_lawyerAt_1 3 rfl rfl)
theorem dX4_lawyerAt_27 : decode cX4_lawyerAt 27 = .ok (.lreturn, 1) := dk_173 (dk_at dksX4_lawyerAt_1 4 rfl rfl)
abbrev cX4_count : ByteArray := prog_14_method_86_code
def yX4_count : MethodName := ⟨RX4, "count", "(I)I"⟩
def dkwX4_count_6 : List UInt8 := [167, 255, 217, 28, 172]
abbrev dktX4_count_6 : List UInt8 := dkwX4_count_6 ++ []
def dkwX4_count_5 : List UInt8 := [29, 182, 0, 108, 192, 0, 112, 180, 0, 225, 153, 0, 7, 4, 167, 0, 4, 3, 96, 61, 132, 3, 1]
abbrev dktX4_count_5 : List UInt8 := dkwX4_count_5 ++ dktX4_count_6
def dkwX4_count_4 : List UInt8 := [182, 1, 206, 172, 3, 61, 3, 62, 29, 42, 180, 0, 16, 182, 0, 94, 162, 0, 34, 28, 42, 180, 0, 16]
abbrev dktX4_count_4 : List UInt8 := dkwX4_count_4 ++ dktX4_count_5
def dkwX4_count_3 : List UInt8 := [180, 0, 53, 172, 42, 180, 0, 30, 182, 0, 94, 172, 42, 180, 0, 73, 172, 42, 182, 1, 223, 172, 42, 5]
abbrev dktX4_count_3 : List UInt8 := dkwX4_count_3 ++ dktX4_count_4
def dkwX4_count_2 : List UInt8 := [42, 180, 0, 43, 172, 42, 180, 0, 16, 182, 0, 94, 172, 42, 182, 0, 235, 172, 42, 182, 1, 91, 172, 42]
abbrev dktX4_count_2 : List UInt8 := dkwX4_count_2 ++ dktX4_count_3
def dkwX4_count_1 : List UInt8 := [170, 0, 0, 0, 0, 0, 0, 104, 0, 0, 0, 0, 0, 0, 0, 8, 0, 0, 0, 52, 0, 0, 0, 57, 0, 0, 0, 65, 0, 0, 0, 70, 0, 0, 0, 75, 0, 0, 0, 80, 0, 0, 0, 88, 0, 0, 0, 93, 0, 0, 0, 98]
abbrev dktX4_count_1 : List UInt8 := dkwX4_count_1 ++ dktX4_count_2
def dkwX4_count_0 : List UInt8 := [42, 27, 133, 9, 20, 0, 169, 184, 0, 100, 4, 182, 0, 104, 154, 0, 5, 3, 172, 27]
abbrev dktX4_count_0 : List UInt8 := dkwX4_count_0 ++ dktX4_count_1
theorem dksX4_count_0 : cX4_count.data.toList.drop 0 = dktX4_count_0 := by decide +kernel
theorem dksX4_count_1 : cX4_count.data.toList.drop 20 = dktX4_count_1 := dk_seg dksX4_count_0 20 rfl rfl
theorem dksX4_count_2 : cX4_count.data.toList.drop 72 = dktX4_count_2 := dk_seg dksX4_count_1 52 rfl rfl
theorem dksX4_count_3 : cX4_count.data.toList.drop 96 = dktX4_count_3 := dk_seg dksX4_count_2 24 rfl rfl
theorem dksX4_count_4 : cX4_count.data.toList.drop 120 = dktX4_count_4 := dk_seg dksX4_count_3 24 rfl rfl
theorem dksX4_count_5 : cX4_count.data.toList.drop 144 = dktX4_count_5 := dk_seg dksX4_count_4 24 rfl rfl
theorem dksX4_count_6 : cX4_count.data.toList.drop 167 = dktX4_count_6 := dk_seg dksX4_count_5 23 rfl rfl
theorem dX4_count_0 : decode cX4_count 0 = .ok (.aload_n 0, 1) := dk_42 (dk_at dksX4_count_0 0 rfl rfl)
theorem dX4_count_1 : decode cX4_count 1 = .ok (.iload_n 1, 1) := dk_27 (dk_at dksX4_count_0 1 rfl rfl)
theorem dX4_count_2 : decode cX4_count 2 = .ok (.i2l, 1) := dk_133 (dk_at dksX4_count_0 2 rfl rfl)
theorem dX4_count_3 : decode cX4_count 3 = .ok (.lconst 0, 1) := dk_9 (dk_at dksX4_count_0 3 rfl rfl)
theorem dX4_count_4 : decode cX4_count 4 = .ok (.ldc2_w 169, 3) := dk_20 0 169 (dk_at dksX4_count_0 4 rfl rfl)
theorem dX4_count_7 : decode cX4_count 7 = .ok (.invokestatic 100, 3) := dk_184 0 100 (dk_at dksX4_count_0 7 rfl rfl)
theorem dX4_count_10 : decode cX4_count 10 = .ok (.iconst 1, 1) := dk_4 (dk_at dksX4_count_0 10 rfl rfl)
theorem dX4_count_11 : decode cX4_count 11 = .ok (.invokevirtual 104, 3) := dk_182 0 104 (dk_at dksX4_count_0 11 rfl rfl)
theorem dX4_count_14 : decode cX4_count 14 = .ok (.ifCond .ne 5, 3) := dk_154 0 5 (dk_at dksX4_count_0 14 rfl rfl)
theorem dX4_count_17 : decode cX4_count 17 = .ok (.iconst 0, 1) := dk_3 (dk_at dksX4_count_0 17 rfl rfl)
theorem dX4_count_18 : decode cX4_count 18 = .ok (.ireturn, 1) := dk_172 (dk_at dksX4_count_0 18 rfl rfl)
theorem dX4_count_19 : decode cX4_count 19 = .ok (.iload_n 1, 1) := dk_27 (dk_at dksX4_count_0 19 rfl rfl)
theorem dX4_count_20 : decode cX4_count 20 = .ok (.tableswitch 104 0 8 #[52, 57, 65, 70, 75, 80, 88, 93, 98], 52) := by decide +kernel
theorem dX4_count_72 : decode cX4_count 72 = .ok (.aload_n 0, 1) := dk_42 (dk_at dksX4_count_2 0 rfl rfl)
theorem dX4_count_73 : decode cX4_count 73 = .ok (.getfield 43, 3) := dk_180 0 43 (dk_at dksX4_count_2 1 rfl rfl)
theorem dX4_count_76 : decode cX4_count 76 = .ok (.ireturn, 1) := dk_172 (dk_at dksX4_count_2 4 rfl rfl)
theorem dX4_count_77 : decode cX4_count 77 = .ok (.aload_n 0, 1) := dk_42 (dk_at dksX4_count_2 5 rfl rfl)
theorem dX4_count_78 : decode cX4_count 78 = .ok (.getfield 16, 3) := dk_180 0 16 (dk_at dksX4_count_2 6 rfl rfl)
theorem dX4_count_81 : decode cX4_count 81 = .ok (.invokevirtual 94, 3) := dk_182 0 94 (dk_at dksX4_count_2 9 rfl rfl)
theorem dX4_count_84 : decode cX4_count 84 = .ok (.ireturn, 1) := dk_172 (dk_at dksX4_count_2 12 rfl rfl)
theorem dX4_count_85 : decode cX4_count 85 = .ok (.aload_n 0, 1) := dk_42 (dk_at dksX4_count_2 13 rfl rfl)
theorem dX4_count_86 : decode cX4_count 86 = .ok (.invokevirtual 235, 3) := dk_182 0 235 (dk_at dksX4_count_2 14 rfl rfl)
theorem dX4_count_89 : decode cX4_count 89 = .ok (.ireturn, 1) := dk_172 (dk_at dksX4_count_2 17 rfl rfl)
theorem dX4_count_90 : decode cX4_count 90 = .ok (.aload_n 0, 1) := dk_42 (dk_at dksX4_count_2 18 rfl rfl)
theorem dX4_count_91 : decode cX4_count 91 = .ok (.invokevirtual 347, 3) := dk_182 1 91 (dk_at dksX4_count_2 19 rfl rfl)
theorem dX4_count_94 : decode cX4_count 94 = .ok (.ireturn, 1) := dk_172 (dk_at dksX4_count_2 22 rfl rfl)
theorem dX4_count_95 : decode cX4_count 95 = .ok (.aload_n 0, 1) := dk_42 (dk_at dksX4_count_2 23 rfl rfl)
theorem dX4_count_96 : decode cX4_count 96 = .ok (.getfield 53, 3) := dk_180 0 53 (dk_at dksX4_count_3 0 rfl rfl)
theorem dX4_count_99 : decode cX4_count 99 = .ok (.ireturn, 1) := dk_172 (dk_at dksX4_count_3 3 rfl rfl)
theorem dX4_count_100 : decode cX4_count 100 = .ok (.aload_n 0, 1) := dk_42 (dk_at dksX4_count_3 4 rfl rfl)
theorem dX4_count_101 : decode cX4_count 101 = .ok (.getfield 30, 3) := dk_180 0 30 (dk_at dksX4_count_3 5 rfl rfl)
theorem dX4_count_104 : decode cX4_count 104 = .ok (.invokevirtual 94, 3) := dk_182 0 94 (dk_at dksX4_count_3 8 rfl rfl)
theorem dX4_count_107 : decode cX4_count 107 = .ok (.ireturn, 1) := dk_172 (dk_at dksX4_count_3 11 rfl rfl)
theorem dX4_count_108 : decode cX4_count 108 = .ok (.aload_n 0, 1) := dk_42 (dk_at dksX4_count_3 12 rfl rfl)
theorem dX4_count_109 : decode cX4_count 109 = .ok (.getfield 73, 3) := dk_180 0 73 (dk_at dksX4_count_3 13 rfl rfl)
theorem dX4_count_112 : decode cX4_count 112 = .ok (.ireturn, 1) := dk_172 (dk_at dksX4_count_3 16 rfl rfl)
theorem dX4_count_113 : decode cX4_count 113 = .ok (.aload_n 0, 1) := dk_42 (dk_at dksX4_count_3 17 rfl rfl)
theorem dX4_count_114 : decode cX4_count 114 = .ok (.invokevirtual 479, 3) := dk_182 1 223 (dk_at dksX4_count_3 18 rfl rfl)
theorem dX4_count_117 : decode cX4_count 117 = .ok (.ireturn, 1) := dk_172 (dk_at dksX4_count_3 21 rfl rfl)
theorem dX4_count_118 : decode cX4_count 118 = .ok (.aload_n 0, 1) := dk_42 (dk_at dksX4_count_3 22 rfl rfl)
theorem dX4_count_119 : decode cX4_count 119 = .ok (.iconst 2, 1) := dk_5 (dk_at dksX4_count_3 23 rfl rfl)
theorem dX4_count_120 : decode cX4_count 120 = .ok (.invokevirtual 462, 3) := dk_182 1 206 (dk_at dksX4_count_4 0 rfl rfl)
theorem dX4_count_123 : decode cX4_count 123 = .ok (.ireturn, 1) := dk_172 (dk_at dksX4_count_4 3 rfl rfl)
theorem dX4_count_124 : decode cX4_count 124 = .ok (.iconst 0, 1) := dk_3 (dk_at dksX4_count_4 4 rfl rfl)
theorem dX4_count_125 : decode cX4_count 125 = .ok (.istore_n 2, 1) := dk_61 (dk_at dksX4_count_4 5 rfl rfl)
theorem dX4_count_126 : decode cX4_count 126 = .ok (.iconst 0, 1) := dk_3 (dk_at dksX4_count_4 6 rfl rfl)
theorem dX4_count_127 : decode cX4_count 127 = .ok (.istore_n 3, 1) := dk_62 (dk_at dksX4_count_4 7 rfl rfl)
theorem dX4_count_128 : decode cX4_count 128 = .ok (.iload_n 3, 1) := dk_29 (dk_at dksX4_count_4 8 rfl rfl)
theorem dX4_count_129 : decode cX4_count 129 = .ok (.aload_n 0, 1) := dk_42 (dk_at dksX4_count_4 9 rfl rfl)
theorem dX4_count_130 : decode cX4_count 130 = .ok (.getfield 16, 3) := dk_180 0 16 (dk_at dksX4_count_4 10 rfl rfl)
theorem dX4_count_133 : decode cX4_count 133 = .ok (.invokevirtual 94, 3) := dk_182 0 94 (dk_at dksX4_count_4 13 rfl rfl)
theorem dX4_count_136 : decode cX4_count 136 = .ok (.if_icmp .ge 34, 3) := dk_162 0 34 (dk_at dksX4_count_4 16 rfl rfl)
theorem dX4_count_139 : decode cX4_count 139 = .ok (.iload_n 2, 1) := dk_28 (dk_at dksX4_count_4 19 rfl rfl)
theorem dX4_count_140 : decode cX4_count 140 = .ok (.aload_n 0, 1) := dk_42 (dk_at dksX4_count_4 20 rfl rfl)
theorem dX4_count_141 : decode cX4_count 141 = .ok (.getfield 16, 3) := dk_180 0 16 (dk_at dksX4_count_4 21 rfl rfl)
theorem dX4_count_144 : decode cX4_count 144 = .ok (.iload_n 3, 1) := dk_29 (dk_at dksX4_count_5 0 rfl rfl)
theorem dX4_count_145 : decode cX4_count 145 = .ok (.invokevirtual 108, 3) := dk_182 0 108 (dk_at dksX4_count_5 1 rfl rfl)
theorem dX4_count_148 : decode cX4_count 148 = .ok (.checkcast 112, 3) := dk_192 0 112 (dk_at dksX4_count_5 4 rfl rfl)
theorem dX4_count_151 : decode cX4_count 151 = .ok (.getfield 225, 3) := dk_180 0 225 (dk_at dksX4_count_5 7 rfl rfl)
theorem dX4_count_154 : decode cX4_count 154 = .ok (.ifCond .eq 7, 3) := dk_153 0 7 (dk_at dksX4_count_5 10 rfl rfl)
theorem dX4_count_157 : decode cX4_count 157 = .ok (.iconst 1, 1) := dk_4 (dk_at dksX4_count_5 13 rfl rfl)
theorem dX4_count_158 : decode cX4_count 158 = .ok (.goto 4, 3) := dk_167 0 4 (dk_at dksX4_count_5 14 rfl rfl)
theorem dX4_count_161 : decode cX4_count 161 = .ok (.iconst 0, 1) := dk_3 (dk_at dksX4_count_5 17 rfl rfl)
theorem dX4_count_162 : decode cX4_count 162 = .ok (.iadd, 1) := dk_96 (dk_at dksX4_count_5 18 rfl rfl)
theorem dX4_count_163 : decode cX4_count 163 = .ok (.istore_n 2, 1) := dk_61 (dk_at dksX4_count_5 19 rfl rfl)
theorem dX4_count_164 : decode cX4_count 164 = .ok (.iinc 3 1, 3) := dk_132 3 1 (dk_at dksX4_count_5 20 rfl rfl)
theorem dX4_count_167 : decode cX4_count 167 = .ok (.goto (-39), 3) := dk_167 255 217 (dk_at dksX4_count_6 0 rfl rfl)
theorem dX4_count_170 : decode cX4_count 170 = .ok (.iload_n 2, 1) := dk_28 (dk_at dksX4_count_6 3 rfl rfl)
theorem dX4_count_171 : decode cX4_count 171 = .ok (.ireturn, 1) := dk_172 (dk_at dksX4_count_6 4 rfl rfl)
abbrev cX4_openLiens : ByteArray := prog_14_method_76_code
def yX4_openLiens : MethodName := ⟨RX4, "openLiens", "()I"⟩
def dkwX4_openLiens_1 : List UInt8 := [192, 1, 0, 180, 1, 6, 158, 0, 7, 4, 167, 0, 4, 3, 96, 60, 132, 2, 1, 167, 255, 217, 27, 172]
abbrev dktX4_openLiens_1 : List UInt8 := dkwX4_openLiens_1 ++ []
def dkwX4_openLiens_0 : List UInt8 := [3, 60, 3, 61, 28, 42, 180, 0, 33, 182, 0, 94, 162, 0, 34, 27, 42, 180, 0, 33, 28, 182, 0, 108]
abbrev dktX4_openLiens_0 : List UInt8 := dkwX4_openLiens_0 ++ dktX4_openLiens_1
theorem dksX4_openLiens_0 : cX4_openLiens.data.toList.drop 0 = dktX4_openLiens_0 := by decide +kernel
theorem dksX4_openLiens_1 : cX4_openLiens.data.toList.drop 24 = dktX4_openLiens_1 := dk_seg dksX4_openLiens_0 24 rfl rfl
theorem dX4_openLiens_0 : decode cX4_openLiens 0 = .ok (.iconst 0, 1) := dk_3 (dk_at dksX4_openLiens_0 0 rfl rfl)
theorem dX4_openLiens_1 : decode cX4_openLiens 1 = .ok (.istore_n 1, 1) := dk_60 (dk_at dksX4_openLiens_0 1 rfl rfl)
theorem dX4_openLiens_2 : decode cX4_openLiens 2 = .ok (.iconst 0, 1) := dk_3 (dk_at dksX4_openLiens_0 2 rfl rfl)
theorem dX4_openLiens_3 : decode cX4_openLiens 3 = .ok (.istore_n 2, 1) := dk_61 (dk_at dksX4_openLiens_0 3 rfl rfl)
theorem dX4_openLiens_4 : decode cX4_openLiens 4 = .ok (.iload_n 2, 1) := dk_28 (dk_at dksX4_openLiens_0 4 rfl rfl)
theorem dX4_openLiens_5 : decode cX4_openLiens 5 = .ok (.aload_n 0, 1) := dk_42 (dk_at dksX4_openLiens_0 5 rfl rfl)
theorem dX4_openLiens_6 : decode cX4_openLiens 6 = .ok (.getfield 33, 3) := dk_180 0 33 (dk_at dksX4_openLiens_0 6 rfl rfl)
theorem dX4_openLiens_9 : decode cX4_openLiens 9 = .ok (.invokevirtual 94, 3) := dk_182 0 94 (dk_at dksX4_openLiens_0 9 rfl rfl)
theorem dX4_openLiens_12 : decode cX4_openLiens 12 = .ok (.if_icmp .ge 34, 3) := dk_162 0 34 (dk_at dksX4_openLiens_0 12 rfl rfl)
theorem dX4_openLiens_15 : decode cX4_openLiens 15 = .ok (.iload_n 1, 1) := dk_27 (dk_at dksX4_openLiens_0 15 rfl rfl)
theorem dX4_openLiens_16 : decode cX4_openLiens 16 = .ok (.aload_n 0, 1) := dk_42 (dk_at dksX4_openLiens_0 16 rfl rfl)
theorem dX4_openLiens_17 : decode cX4_openLiens 17 = .ok (.getfield 33, 3) := dk_180 0 33 (dk_at dksX4_openLiens_0 17 rfl rfl)
theorem dX4_openLiens_20 : decode cX4_openLiens 20 = .ok (.iload_n 2, 1) := dk_28 (dk_at dksX4_openLiens_0 20 rfl rfl)
theorem dX4_openLiens_21 : decode cX4_openLiens 21 = .ok (.invokevirtual 108, 3) := dk_182 0 108 (dk_at dksX4_openLiens_0 21 rfl rfl)
theorem dX4_openLiens_24 : decode cX4_openLiens 24 = .ok (.checkcast 256, 3) := dk_192 1 0 (dk_at dksX4_openLiens_1 0 rfl rfl)
theorem dX4_openLiens_27 : decode cX4_openLiens 27 = .ok (.getfield 262, 3) := dk_180 1 6 (dk_at dksX4_openLiens_1 3 rfl rfl)
theorem dX4_openLiens_30 : decode cX4_openLiens 30 = .ok (.ifCond .le 7, 3) := dk_158 0 7 (dk_at dksX4_openLiens_1 6 rfl rfl)
theorem dX4_openLiens_33 : decode cX4_openLiens 33 = .ok (.iconst 1, 1) := dk_4 (dk_at dksX4_openLiens_1 9 rfl rfl)
theorem dX4_openLiens_34 : decode cX4_openLiens 34 = .ok (.goto 4, 3) := dk_167 0 4 (dk_at dksX4_openLiens_1 10 rfl rfl)
theorem dX4_openLiens_37 : decode cX4_openLiens 37 = .ok (.iconst 0, 1) := dk_3 (dk_at dksX4_openLiens_1 13 rfl rfl)
theorem dX4_openLiens_38 : decode cX4_openLiens 38 = .ok (.iadd, 1) := dk_96 (dk_at dksX4_openLiens_1 14 rfl rfl)
theorem dX4_openLiens_39 : decode cX4_openLiens 39 = .ok (.istore_n 1, 1) := dk_60 (dk_at dksX4_openLiens_1 15 rfl rfl)
theorem dX4_openLiens_40 : decode cX4_openLiens 40 = .ok (.iinc 2 1, 3) := dk_132 2 1 (dk_at dksX4_openLiens_1 16 rfl rfl)
theorem dX4_openLiens_43 : decode cX4_openLiens 43 = .ok (.goto (-39), 3) := dk_167 255 217 (dk_at dksX4_openLiens_1 19 rfl rfl)
theorem dX4_openLiens_46 : decode cX4_openLiens 46 = .ok (.iload_n 1, 1) := dk_27 (dk_at dksX4_openLiens_1 22 rfl rfl)
theorem dX4_openLiens_47 : decode cX4_openLiens 47 = .ok (.ireturn, 1) := dk_172 (dk_at dksX4_openLiens_1 23 rfl rfl)
abbrev cX4_errors : ByteArray := prog_14_method_87_code
def yX4_errors : MethodName := ⟨RX4, "errors", "()I"⟩
def dkwX4_errors_0 : List UInt8 := [42, 3, 181, 0, 1, 3, 172]
abbrev dktX4_errors_0 : List UInt8 := dkwX4_errors_0 ++ []
theorem dksX4_errors_0 : cX4_errors.data.toList.drop 0 = dktX4_errors_0 := by decide +kernel
theorem dX4_errors_0 : decode cX4_errors 0 = .ok (.aload_n 0, 1) := dk_42 (dk_at dksX4_errors_0 0 rfl rfl)
theorem dX4_errors_1 : decode cX4_errors 1 = .ok (.iconst 0, 1) := dk_3 (dk_at dksX4_errors_0 1 rfl rfl)
theorem dX4_errors_2 : decode cX4_errors 2 = .ok (.putfield 1, 3) := dk_181 0 1 (dk_at dksX4_errors_0 2 rfl rfl)
theorem dX4_errors_5 : decode cX4_errors 5 = .ok (.iconst 0, 1) := dk_3 (dk_at dksX4_errors_0 5 rfl rfl)
theorem dX4_errors_6 : decode cX4_errors 6 = .ok (.ireturn, 1) := dk_172 (dk_at dksX4_errors_0 6 rfl rfl)
abbrev cX4_paidBits : ByteArray := prog_14_method_88_code
def yX4_paidBits : MethodName := ⟨RX4, "paidBits", "()I"⟩
def dkwX4_paidBits_3 : List UInt8 := [154, 0, 7, 3, 167, 0, 11, 31, 137, 33, 137, 110, 184, 1, 226, 172]
abbrev dktX4_paidBits_3 : List UInt8 := dkwX4_paidBits_3 ++ []
def dkwX4_paidBits_2 : List UInt8 := [21, 5, 182, 0, 108, 192, 0, 124, 182, 1, 146, 97, 66, 132, 5, 1, 167, 255, 204, 33, 9, 148]
abbrev dktX4_paidBits_2 : List UInt8 := dkwX4_paidBits_2 ++ dktX4_paidBits_3
def dkwX4_paidBits_1 : List UInt8 := [31, 42, 180, 0, 30, 21, 5, 182, 0, 108, 192, 0, 124, 180, 1, 150, 97, 64, 33, 42, 42, 180, 0, 30]
abbrev dktX4_paidBits_1 : List UInt8 := dkwX4_paidBits_1 ++ dktX4_paidBits_2
def dkwX4_paidBits_0 : List UInt8 := [42, 3, 181, 0, 1, 9, 64, 9, 66, 3, 54, 5, 21, 5, 42, 180, 0, 30, 182, 0, 94, 162, 0, 46]
abbrev dktX4_paidBits_0 : List UInt8 := dkwX4_paidBits_0 ++ dktX4_paidBits_1
theorem dksX4_paidBits_0 : cX4_paidBits.data.toList.drop 0 = dktX4_paidBits_0 := by decide +kernel
theorem dksX4_paidBits_1 : cX4_paidBits.data.toList.drop 24 = dktX4_paidBits_1 := dk_seg dksX4_paidBits_0 24 rfl rfl
theorem dksX4_paidBits_2 : cX4_paidBits.data.toList.drop 48 = dktX4_paidBits_2 := dk_seg dksX4_paidBits_1 24 rfl rfl
theorem dksX4_paidBits_3 : cX4_paidBits.data.toList.drop 70 = dktX4_paidBits_3 := dk_seg dksX4_paidBits_2 22 rfl rfl
theorem dX4_paidBits_0 : decode cX4_paidBits 0 = .ok (.aload_n 0, 1) := dk_42 (dk_at dksX4_paidBits_0 0 rfl rfl)
theorem dX4_paidBits_1 : decode cX4_paidBits 1 = .ok (.iconst 0, 1) := dk_3 (dk_at dksX4_paidBits_0 1 rfl rfl)
theorem dX4_paidBits_2 : decode cX4_paidBits 2 = .ok (.putfield 1, 3) := dk_181 0 1 (dk_at dksX4_paidBits_0 2 rfl rfl)
theorem dX4_paidBits_5 : decode cX4_paidBits 5 = .ok (.lconst 0, 1) := dk_9 (dk_at dksX4_paidBits_0 5 rfl rfl)
theorem dX4_paidBits_6 : decode cX4_paidBits 6 = .ok (.lstore_n 1, 1) := dk_64 (dk_at dksX4_paidBits_0 6 rfl rfl)
theorem dX4_paidBits_7 : decode cX4_paidBits 7 = .ok (.lconst 0, 1) := dk_9 (dk_at dksX4_paidBits_0 7 rfl rfl)
theorem dX4_paidBits_8 : decode cX4_paidBits 8 = .ok (.lstore_n 3, 1) := dk_66 (dk_at dksX4_paidBits_0 8 rfl rfl)
theorem dX4_paidBits_9 : decode cX4_paidBits 9 = .ok (.iconst 0, 1) := dk_3 (dk_at dksX4_paidBits_0 9 rfl rfl)
theorem dX4_paidBits_10 : decode cX4_paidBits 10 = .ok (.istore 5, 2) := dk_54 5 (dk_at dksX4_paidBits_0 10 rfl rfl)
theorem dX4_paidBits_12 : decode cX4_paidBits 12 = .ok (.iload 5, 2) := dk_21 5 (dk_at dksX4_paidBits_0 12 rfl rfl)
theorem dX4_paidBits_14 : decode cX4_paidBits 14 = .ok (.aload_n 0, 1) := dk_42 (dk_at dksX4_paidBits_0 14 rfl rfl)
theorem dX4_paidBits_15 : decode cX4_paidBits 15 = .ok (.getfield 30, 3) := dk_180 0 30 (dk_at dksX4_paidBits_0 15 rfl rfl)
theorem dX4_paidBits_18 : decode cX4_paidBits 18 = .ok (.invokevirtual 94, 3) := dk_182 0 94 (dk_at dksX4_paidBits_0 18 rfl rfl)
theorem dX4_paidBits_21 : decode cX4_paidBits 21 = .ok (.if_icmp .ge 46, 3) := dk_162 0 46 (dk_at dksX4_paidBits_0 21 rfl rfl)
theorem dX4_paidBits_24 : decode cX4_paidBits 24 = .ok (.lload_n 1, 1) := dk_31 (dk_at dksX4_paidBits_1 0 rfl rfl)
theorem dX4_paidBits_25 : decode cX4_paidBits 25 = .ok (.aload_n 0, 1) := dk_42 (dk_at dksX4_paidBits_1 1 rfl rfl)
theorem dX4_paidBits_26 : decode cX4_paidBits 26 = .ok (.getfield 30, 3) := dk_180 0 30 (dk_at dksX4_paidBits_1 2 rfl rfl)
theorem dX4_paidBits_29 : decode cX4_paidBits 29 = .ok (.iload 5, 2) := dk_21 5 (dk_at dksX4_paidBits_1 5 rfl rfl)
theorem dX4_paidBits_31 : decode cX4_paidBits 31 = .ok (.invokevirtual 108, 3) := dk_182 0 108 (dk_at dksX4_paidBits_1 7 rfl rfl)
theorem dX4_paidBits_34 : decode cX4_paidBits 34 = .ok (.checkcast 124, 3) := dk_192 0 124 (dk_at dksX4_paidBits_1 10 rfl rfl)
theorem dX4_paidBits_37 : decode cX4_paidBits 37 = .ok (.getfield 406, 3) := dk_180 1 150 (dk_at dksX4_paidBits_1 13 rfl rfl)
theorem dX4_paidBits_40 : decode cX4_paidBits 40 = .ok (.ladd, 1) := dk_97 (dk_at dksX4_paidBits_1 16 rfl rfl)
theorem dX4_paidBits_41 : decode cX4_paidBits 41 = .ok (.lstore_n 1, 1) := dk_64 (dk_at dksX4_paidBits_1 17 rfl rfl)
theorem dX4_paidBits_42 : decode cX4_paidBits 42 = .ok (.lload_n 3, 1) := dk_33 (dk_at dksX4_paidBits_1 18 rfl rfl)
theorem dX4_paidBits_43 : decode cX4_paidBits 43 = .ok (.aload_n 0, 1) := dk_42 (dk_at dksX4_paidBits_1 19 rfl rfl)
theorem dX4_paidBits_44 : decode cX4_paidBits 44 = .ok (.aload_n 0, 1) := dk_42 (dk_at dksX4_paidBits_1 20 rfl rfl)
theorem dX4_paidBits_45 : decode cX4_paidBits 45 = .ok (.getfield 30, 3) := dk_180 0 30 (dk_at dksX4_paidBits_1 21 rfl rfl)
theorem dX4_paidBits_48 : decode cX4_paidBits 48 = .ok (.iload 5, 2) := dk_21 5 (dk_at dksX4_paidBits_2 0 rfl rfl)
theorem dX4_paidBits_50 : decode cX4_paidBits 50 = .ok (.invokevirtual 108, 3) := dk_182 0 108 (dk_at dksX4_paidBits_2 2 rfl rfl)
theorem dX4_paidBits_53 : decode cX4_paidBits 53 = .ok (.checkcast 124, 3) := dk_192 0 124 (dk_at dksX4_paidBits_2 5 rfl rfl)
theorem dX4_paidBits_56 : decode cX4_paidBits 56 = .ok (.invokevirtual 402, 3) := dk_182 1 146 (dk_at dksX4_paidBits_2 8 rfl rfl)
theorem dX4_paidBits_59 : decode cX4_paidBits 59 = .ok (.ladd, 1) := dk_97 (dk_at dksX4_paidBits_2 11 rfl rfl)
theorem dX4_paidBits_60 : decode cX4_paidBits 60 = .ok (.lstore_n 3, 1) := dk_66 (dk_at dksX4_paidBits_2 12 rfl rfl)
theorem dX4_paidBits_61 : decode cX4_paidBits 61 = .ok (.iinc 5 1, 3) := dk_132 5 1 (dk_at dksX4_paidBits_2 13 rfl rfl)
theorem dX4_paidBits_64 : decode cX4_paidBits 64 = .ok (.goto (-52), 3) := dk_167 255 204 (dk_at dksX4_paidBits_2 16 rfl rfl)
theorem dX4_paidBits_67 : decode cX4_paidBits 67 = .ok (.lload_n 3, 1) := dk_33 (dk_at dksX4_paidBits_2 19 rfl rfl)
theorem dX4_paidBits_68 : decode cX4_paidBits 68 = .ok (.lconst 0, 1) := dk_9 (dk_at dksX4_paidBits_2 20 rfl rfl)
theorem dX4_paidBits_69 : decode cX4_paidBits 69 = .ok (.lcmp, 1) := dk_148 (dk_at dksX4_paidBits_2 21 rfl rfl)
theorem dX4_paidBits_70 : decode cX4_paidBits 70 = .ok (.ifCond .ne 7, 3) := dk_154 0 7 (dk_at dksX4_paidBits_3 0 rfl rfl)
theorem dX4_paidBits_73 : decode cX4_paidBits 73 = .ok (.iconst 0, 1) := dk_3 (dk_at dksX4_paidBits_3 3 rfl rfl)
theorem dX4_paidBits_74 : decode cX4_paidBits 74 = .ok (.goto 11, 3) := dk_167 0 11 (dk_at dksX4_paidBits_3 4 rfl rfl)
theorem dX4_paidBits_77 : decode cX4_paidBits 77 = .ok (.lload_n 1, 1) := dk_31 (dk_at dksX4_paidBits_3 7 rfl rfl)
theorem dX4_paidBits_78 : decode cX4_paidBits 78 = .ok (.l2f, 1) := dk_137 (dk_at dksX4_paidBits_3 8 rfl rfl)
theorem dX4_paidBits_79 : decode cX4_paidBits 79 = .ok (.lload_n 3, 1) := dk_33 (dk_at dksX4_paidBits_3 9 rfl rfl)
theorem dX4_paidBits_80 : decode cX4_paidBits 80 = .ok (.l2f, 1) := dk_137 (dk_at dksX4_paidBits_3 10 rfl rfl)
theorem dX4_paidBits_81 : decode cX4_paidBits 81 = .ok (.fdiv, 1) := dk_110 (dk_at dksX4_paidBits_3 11 rfl rfl)
theorem dX4_paidBits_82 : decode cX4_paidBits 82 = .ok (.invokestatic 482, 3) := dk_184 1 226 (dk_at dksX4_paidBits_3 12 rfl rfl)
theorem dX4_paidBits_85 : decode cX4_paidBits 85 = .ok (.ireturn, 1) := dk_172 (dk_at dksX4_paidBits_3 15 rfl rfl)
abbrev cX4_meanDelivered : ByteArray := prog_14_method_89_code
def yX4_meanDelivered : MethodName := ⟨RX4, "meanDelivered", "()D"⟩
def dkwX4_meanDelivered_1 : List UInt8 := [42, 180, 0, 30, 182, 0, 94, 135, 111, 175]
abbrev dktX4_meanDelivered_1 : List UInt8 := dkwX4_meanDelivered_1 ++ []
def dkwX4_meanDelivered_0 : List UInt8 := [42, 3, 181, 0, 1, 42, 180, 0, 30, 182, 1, 25, 153, 0, 7, 14, 167, 0, 17, 42, 182, 1, 211, 138]
abbrev dktX4_meanDelivered_0 : List UInt8 := dkwX4_meanDelivered_0 ++ dktX4_meanDelivered_1
theorem dksX4_meanDelivered_0 : cX4_meanDelivered.data.toList.drop 0 = dktX4_meanDelivered_0 := by decide +kernel
theorem dksX4_meanDelivered_1 : cX4_meanDelivered.data.toList.drop 24 = dktX4_meanDelivered_1 := dk_seg dksX4_meanDelivered_0 24 rfl rfl
theorem dX4_meanDelivered_0 : decode cX4_meanDelivered 0 = .ok (.aload_n 0, 1) := dk_42 (dk_at dksX4_meanDelivered_0 0 rfl rfl)
theorem dX4_meanDelivered_1 : decode cX4_meanDelivered 1 = .ok (.iconst 0, 1) := dk_3 (dk_at dksX4_meanDelivered_0 1 rfl rfl)
theorem dX4_meanDelivered_2 : decode cX4_meanDelivered 2 = .ok (.putfield 1, 3) := dk_181 0 1 (dk_at dksX4_meanDelivered_0 2 rfl rfl)
theorem dX4_meanDelivered_5 : decode cX4_meanDelivered 5 = .ok (.aload_n 0, 1) := dk_42 (dk_at dksX4_meanDelivered_0 5 rfl rfl)
theorem dX4_meanDelivered_6 : decode cX4_meanDelivered 6 = .ok (.getfield 30, 3) := dk_180 0 30 (dk_at dksX4_meanDelivered_0 6 rfl rfl)
theorem dX4_meanDelivered_9 : decode cX4_meanDelivered 9 = .ok (.invokevirtual 281, 3) := dk_182 1 25 (dk_at dksX4_meanDelivered_0 9 rfl rfl)
theorem dX4_meanDelivered_12 : decode cX4_meanDelivered 12 = .ok (.ifCond .eq 7, 3) := dk_153 0 7 (dk_at dksX4_meanDelivered_0 12 rfl rfl)
theorem dX4_meanDelivered_15 : decode cX4_meanDelivered 15 = .ok (.dconst 0, 1) := dk_14 (dk_at dksX4_meanDelivered_0 15 rfl rfl)
theorem dX4_meanDelivered_16 : decode cX4_meanDelivered 16 = .ok (.goto 17, 3) := dk_167 0 17 (dk_at dksX4_meanDelivered_0 16 rfl rfl)
theorem dX4_meanDelivered_19 : decode cX4_meanDelivered 19 = .ok (.aload_n 0, 1) := dk_42 (dk_at dksX4_meanDelivered_0 19 rfl rfl)
theorem dX4_meanDelivered_20 : decode cX4_meanDelivered 20 = .ok (.invokevirtual 467, 3) := dk_182 1 211 (dk_at dksX4_meanDelivered_0 20 rfl rfl)
theorem dX4_meanDelivered_23 : decode cX4_meanDelivered 23 = .ok (.l2d, 1) := dk_138 (dk_at dksX4_meanDelivered_0 23 rfl rfl)
theorem dX4_meanDelivered_24 : decode cX4_meanDelivered 24 = .ok (.aload_n 0, 1) := dk_42 (dk_at dksX4_meanDelivered_1 0 rfl rfl)
theorem dX4_meanDelivered_25 : decode cX4_meanDelivered 25 = .ok (.getfield 30, 3) := dk_180 0 30 (dk_at dksX4_meanDelivered_1 1 rfl rfl)
theorem dX4_meanDelivered_28 : decode cX4_meanDelivered 28 = .ok (.invokevirtual 94, 3) := dk_182 0 94 (dk_at dksX4_meanDelivered_1 4 rfl rfl)
theorem dX4_meanDelivered_31 : decode cX4_meanDelivered 31 = .ok (.i2d, 1) := dk_135 (dk_at dksX4_meanDelivered_1 7 rfl rfl)
theorem dX4_meanDelivered_32 : decode cX4_meanDelivered 32 = .ok (.ddiv, 1) := dk_111 (dk_at dksX4_meanDelivered_1 8 rfl rfl)
theorem dX4_meanDelivered_33 : decode cX4_meanDelivered 33 = .ok (.dreturn, 1) := dk_175 (dk_at dksX4_meanDelivered_1 9 rfl rfl)
theorem q71 : (Jvm.Cond.initialized "MassclaimModel") ∈ lw_all := lw_g (lw_at lw_m1 7 rfl) rfl
theorem q763 : (Jvm.Cond.selects "MassclaimModel" ({ cls := "java/lang/Object", name := "getClass", desc := "()Ljava/lang/Class;" } : Jvm.MethodName) ({ cls := "java/lang/Object", name := "getClass", desc := "()Ljava/lang/Class;" } : Jvm.MethodName)) ∈ lw_all := lw_g (lw_at lw_m3 219 rfl) rfl
theorem q1823 : (Jvm.Cond.instanceMethod ({ cls := "MassclaimModel", name := "thrown", desc := "()I" } : Jvm.MethodName)) ∈ lw_all := lw_g (lw_at lw_m8 79 rfl) rfl
theorem q1824 : (Jvm.Cond.selects "MassclaimModel" ({ cls := "MassclaimModel", name := "thrown", desc := "()I" } : Jvm.MethodName) ({ cls := "MassclaimModel", name := "thrown", desc := "()I" } : Jvm.MethodName)) ∈ lw_all := lw_g (lw_at lw_m8 80 rfl) rfl
theorem q1825 : (Jvm.Cond.code ({ cls := "MassclaimModel", name := "thrown", desc := "()I" } : Jvm.MethodName) prog_14_method_3_code (1 : Nat) (Option.some Jvm.ClassFile.FieldType.int)) ∈ lw_all := lw_g (lw_at lw_m8 81 rfl) rfl
theorem q1827 : (Jvm.Cond.instantiable "MassclaimModel" (29 : Nat)) ∈ lw_all := lw_g (lw_at lw_m8 83 rfl) rfl
theorem q1829 : (Jvm.Cond.instanceMethod ({ cls := "MassclaimModel", name := "<init>", desc := "()V" } : Jvm.MethodName)) ∈ lw_all := lw_g (lw_at lw_m8 85 rfl) rfl
theorem q1830 : (Jvm.Cond.code ({ cls := "MassclaimModel", name := "<init>", desc := "()V" } : Jvm.MethodName) prog_14_method_4_code (1 : Nat) (Option.none : Option Jvm.ClassFile.FieldType)) ∈ lw_all := lw_g (lw_at lw_m8 86 rfl) rfl
theorem q1831 : (Jvm.Cond.methodLink "MassclaimModel" (7 : Nat) ({ cls := "java/lang/Object", name := "<init>", desc := "()V" } : Jvm.MethodName)) ∈ lw_all := lw_g (lw_at lw_m8 87 rfl) rfl
theorem q1832 : (Jvm.Cond.classLink "MassclaimModel" (13 : Nat) "java/util/ArrayList") ∈ lw_all := lw_g (lw_at lw_m8 88 rfl) rfl
theorem q1833 : (Jvm.Cond.methodLink "MassclaimModel" (15 : Nat) ({ cls := "java/util/ArrayList", name := "<init>", desc := "()V" } : Jvm.MethodName)) ∈ lw_all := lw_g (lw_at lw_m8 89 rfl) rfl
theorem q1834 : (Jvm.Cond.methodLink "MassclaimModel" (40 : Nat) ({ cls := "MassclaimModel", name := "fresh", desc := "()V" } : Jvm.MethodName)) ∈ lw_all := lw_g (lw_at lw_m8 90 rfl) rfl
theorem q1835 : (Jvm.Cond.privateMethod ({ cls := "MassclaimModel", name := "fresh", desc := "()V" } : Jvm.MethodName)) ∈ lw_tbl := lw_at lw_m8 91 rfl
theorem q1836 : (Jvm.Cond.instanceMethod ({ cls := "MassclaimModel", name := "fresh", desc := "()V" } : Jvm.MethodName)) ∈ lw_all := lw_g (lw_at lw_m8 92 rfl) rfl
theorem q1837 : (Jvm.Cond.code ({ cls := "MassclaimModel", name := "fresh", desc := "()V" } : Jvm.MethodName) prog_14_method_5_code (3 : Nat) (Option.none : Option Jvm.ClassFile.FieldType)) ∈ lw_all := lw_g (lw_at lw_m8 93 rfl) rfl
theorem q1838 : (Jvm.Cond.methodLink "MassclaimModel" (46 : Nat) ({ cls := "java/util/ArrayList", name := "clear", desc := "()V" } : Jvm.MethodName)) ∈ lw_all := lw_g (lw_at lw_m8 94 rfl) rfl
theorem q1839 : (Jvm.Cond.constant "MassclaimModel" (63 : Nat) (1000000 : Int32)) ∈ lw_all := lw_g (lw_at lw_m8 95 rfl) rfl
theorem q1840 : (Jvm.Cond.fieldLink "MassclaimModel" (1 : Nat) "MassclaimModel" "thrown" "I") ∈ lw_all := lw_g (lw_at lw_m8 96 rfl) rfl
theorem q1841 : (Jvm.Cond.fieldLink "MassclaimModel" (43 : Nat) "MassclaimModel" "today" "I") ∈ lw_all := lw_g (lw_at lw_m8 97 rfl) rfl
theorem q1842 : (Jvm.Cond.fieldLink "MassclaimModel" (16 : Nat) "MassclaimModel" "persons" "Ljava/util/ArrayList;") ∈ lw_all := lw_g (lw_at lw_m8 98 rfl) rfl
theorem q1843 : (Jvm.Cond.fieldLink "MassclaimModel" (49 : Nat) "MassclaimModel" "isFiled" "Z") ∈ lw_all := lw_g (lw_at lw_m8 99 rfl) rfl
theorem q1844 : (Jvm.Cond.fieldLink "MassclaimModel" (213 : Nat) "MassclaimModel" "products" "I") ∈ lw_all := lw_g (lw_at lw_m8 100 rfl) rfl
theorem q1845 : (Jvm.Cond.fieldLink "MassclaimModel" (216 : Nat) "MassclaimModel" "states" "I") ∈ lw_all := lw_g (lw_at lw_m8 101 rfl) rfl
theorem q1846 : (Jvm.Cond.fieldLink "MassclaimModel" (219 : Nat) "MassclaimModel" "least" "I") ∈ lw_all := lw_g (lw_at lw_m8 102 rfl) rfl
theorem q1847 : (Jvm.Cond.fieldLink "MassclaimModel" (20 : Nat) "MassclaimModel" "subclasses" "Ljava/util/ArrayList;") ∈ lw_all := lw_g (lw_at lw_m8 103 rfl) rfl
theorem q1848 : (Jvm.Cond.fieldLink "MassclaimModel" (23 : Nat) "MassclaimModel" "defendants" "Ljava/util/ArrayList;") ∈ lw_all := lw_g (lw_at lw_m8 104 rfl) rfl
theorem q1849 : (Jvm.Cond.fieldLink "MassclaimModel" (53 : Nat) "MassclaimModel" "stage" "I") ∈ lw_all := lw_g (lw_at lw_m8 105 rfl) rfl
theorem q1850 : (Jvm.Cond.fieldLink "MassclaimModel" (56 : Nat) "MassclaimModel" "amount" "J") ∈ lw_all := lw_g (lw_at lw_m8 106 rfl) rfl
theorem q1851 : (Jvm.Cond.fieldLink "MassclaimModel" (335 : Nat) "MassclaimModel" "mostOut" "I") ∈ lw_all := lw_g (lw_at lw_m8 107 rfl) rfl
theorem q1852 : (Jvm.Cond.fieldLink "MassclaimModel" (338 : Nat) "MassclaimModel" "reversion" "I") ∈ lw_all := lw_g (lw_at lw_m8 108 rfl) rfl
theorem q1853 : (Jvm.Cond.fieldLink "MassclaimModel" (350 : Nat) "MassclaimModel" "begun" "I") ∈ lw_all := lw_g (lw_at lw_m8 109 rfl) rfl
theorem q1854 : (Jvm.Cond.fieldLink "MassclaimModel" (60 : Nat) "MassclaimModel" "isBought" "Z") ∈ lw_all := lw_g (lw_at lw_m8 110 rfl) rfl
theorem q1855 : (Jvm.Cond.fieldLink "MassclaimModel" (26 : Nat) "MassclaimModel" "grid" "[I") ∈ lw_all := lw_g (lw_at lw_m8 111 rfl) rfl
theorem q1856 : (Jvm.Cond.fieldLink "MassclaimModel" (64 : Nat) "MassclaimModel" "cap" "I") ∈ lw_all := lw_g (lw_at lw_m8 112 rfl) rfl
theorem q1857 : (Jvm.Cond.fieldLink "MassclaimModel" (67 : Nat) "MassclaimModel" "chance" "I") ∈ lw_all := lw_g (lw_at lw_m8 113 rfl) rfl
theorem q1858 : (Jvm.Cond.fieldLink "MassclaimModel" (70 : Nat) "MassclaimModel" "order" "I") ∈ lw_all := lw_g (lw_at lw_m8 114 rfl) rfl
theorem q1859 : (Jvm.Cond.fieldLink "MassclaimModel" (73 : Nat) "MassclaimModel" "percent" "I") ∈ lw_all := lw_g (lw_at lw_m8 115 rfl) rfl
theorem q1860 : (Jvm.Cond.fieldLink "MassclaimModel" (30 : Nat) "MassclaimModel" "claims" "Ljava/util/ArrayList;") ∈ lw_all := lw_g (lw_at lw_m8 116 rfl) rfl
theorem q1861 : (Jvm.Cond.fieldLink "MassclaimModel" (33 : Nat) "MassclaimModel" "liens" "Ljava/util/ArrayList;") ∈ lw_all := lw_g (lw_at lw_m8 117 rfl) rfl
theorem q1862 : (Jvm.Cond.fieldLink "MassclaimModel" (76 : Nat) "MassclaimModel" "fund" "J") ∈ lw_all := lw_g (lw_at lw_m8 118 rfl) rfl
theorem q1863 : (Jvm.Cond.fieldLink "MassclaimModel" (79 : Nat) "MassclaimModel" "paidIn" "J") ∈ lw_all := lw_g (lw_at lw_m8 119 rfl) rfl
theorem q1864 : (Jvm.Cond.fieldLink "MassclaimModel" (82 : Nat) "MassclaimModel" "common" "J") ∈ lw_all := lw_g (lw_at lw_m8 120 rfl) rfl
theorem q1865 : (Jvm.Cond.fieldLink "MassclaimModel" (36 : Nat) "MassclaimModel" "lawyers" "[J") ∈ lw_all := lw_g (lw_at lw_m8 121 rfl) rfl
theorem q1866 : (Jvm.Cond.fieldLink "MassclaimModel" (85 : Nat) "MassclaimModel" "toLiens" "J") ∈ lw_all := lw_g (lw_at lw_m8 122 rfl) rfl
theorem q1867 : (Jvm.Cond.fieldLink "MassclaimModel" (88 : Nat) "MassclaimModel" "back" "J") ∈ lw_all := lw_g (lw_at lw_m8 123 rfl) rfl
theorem q1868 : (Jvm.Cond.fieldLink "MassclaimModel" (91 : Nat) "MassclaimModel" "nextBest" "J") ∈ lw_all := lw_g (lw_at lw_m8 124 rfl) rfl
theorem q1869 : (Jvm.Cond.lays "MassclaimModel" "MassclaimModel" "thrown" "I") ∈ lw_all := lw_g (lw_at lw_m8 125 rfl) rfl
theorem q1870 : (Jvm.Cond.soleField "MassclaimModel" "thrown") ∈ lw_all := lw_g (lw_at lw_m8 126 rfl) rfl
theorem q1871 : (Jvm.Cond.lays "MassclaimModel" "MassclaimModel" "today" "I") ∈ lw_all := lw_g (lw_at lw_m8 127 rfl) rfl
theorem q1872 : (Jvm.Cond.soleField "MassclaimModel" "today") ∈ lw_all := lw_g (lw_at lw_m8 128 rfl) rfl
theorem q1873 : (Jvm.Cond.laysFinal "MassclaimModel" "MassclaimModel" "persons" "Ljava/util/ArrayList;") ∈ lw_all := lw_g (lw_at lw_m8 129 rfl) rfl
theorem q1874 : (Jvm.Cond.soleField "MassclaimModel" "persons") ∈ lw_all := lw_g (lw_at lw_m8 130 rfl) rfl
theorem q1875 : (Jvm.Cond.lays "MassclaimModel" "MassclaimModel" "isFiled" "Z") ∈ lw_all := lw_g (lw_at lw_m8 131 rfl) rfl
theorem q1876 : (Jvm.Cond.soleField "MassclaimModel" "isFiled") ∈ lw_all := lw_g (lw_at lw_m8 132 rfl) rfl
theorem q1877 : (Jvm.Cond.lays "MassclaimModel" "MassclaimModel" "products" "I") ∈ lw_all := lw_g (lw_at lw_m8 133 rfl) rfl
theorem q1878 : (Jvm.Cond.soleField "MassclaimModel" "products") ∈ lw_all := lw_g (lw_at lw_m8 134 rfl) rfl
theorem q1879 : (Jvm.Cond.lays "MassclaimModel" "MassclaimModel" "states" "I") ∈ lw_all := lw_g (lw_at lw_m8 135 rfl) rfl
theorem q1880 : (Jvm.Cond.soleField "MassclaimModel" "states") ∈ lw_all := lw_g (lw_at lw_m8 136 rfl) rfl
theorem q1881 : (Jvm.Cond.lays "MassclaimModel" "MassclaimModel" "least" "I") ∈ lw_all := lw_g (lw_at lw_m8 137 rfl) rfl
theorem q1882 : (Jvm.Cond.soleField "MassclaimModel" "least") ∈ lw_all := lw_g (lw_at lw_m8 138 rfl) rfl
theorem q1883 : (Jvm.Cond.laysFinal "MassclaimModel" "MassclaimModel" "subclasses" "Ljava/util/ArrayList;") ∈ lw_all := lw_g (lw_at lw_m8 139 rfl) rfl
theorem q1884 : (Jvm.Cond.soleField "MassclaimModel" "subclasses") ∈ lw_all := lw_g (lw_at lw_m8 140 rfl) rfl
theorem q1885 : (Jvm.Cond.laysFinal "MassclaimModel" "MassclaimModel" "defendants" "Ljava/util/ArrayList;") ∈ lw_all := lw_g (lw_at lw_m8 141 rfl) rfl
theorem q1886 : (Jvm.Cond.soleField "MassclaimModel" "defendants") ∈ lw_all := lw_g (lw_at lw_m8 142 rfl) rfl
theorem q1887 : (Jvm.Cond.lays "MassclaimModel" "MassclaimModel" "stage" "I") ∈ lw_all := lw_g (lw_at lw_m8 143 rfl) rfl
theorem q1888 : (Jvm.Cond.soleField "MassclaimModel" "stage") ∈ lw_all := lw_g (lw_at lw_m8 144 rfl) rfl
theorem q1889 : (Jvm.Cond.lays "MassclaimModel" "MassclaimModel" "amount" "J") ∈ lw_all := lw_g (lw_at lw_m8 145 rfl) rfl
theorem q1890 : (Jvm.Cond.soleField "MassclaimModel" "amount") ∈ lw_all := lw_g (lw_at lw_m8 146 rfl) rfl
theorem q1891 : (Jvm.Cond.lays "MassclaimModel" "MassclaimModel" "mostOut" "I") ∈ lw_all := lw_g (lw_at lw_m8 147 rfl) rfl
theorem q1892 : (Jvm.Cond.soleField "MassclaimModel" "mostOut") ∈ lw_all := lw_g (lw_at lw_m8 148 rfl) rfl
theorem q1893 : (Jvm.Cond.lays "MassclaimModel" "MassclaimModel" "reversion" "I") ∈ lw_all := lw_g (lw_at lw_m8 149 rfl) rfl
theorem q1894 : (Jvm.Cond.soleField "MassclaimModel" "reversion") ∈ lw_all := lw_g (lw_at lw_m8 150 rfl) rfl
theorem q1895 : (Jvm.Cond.lays "MassclaimModel" "MassclaimModel" "begun" "I") ∈ lw_all := lw_g (lw_at lw_m8 151 rfl) rfl
theorem q1896 : (Jvm.Cond.soleField "MassclaimModel" "begun") ∈ lw_all := lw_g (lw_at lw_m8 152 rfl) rfl
theorem q1897 : (Jvm.Cond.lays "MassclaimModel" "MassclaimModel" "isBought" "Z") ∈ lw_all := lw_g (lw_at lw_m8 153 rfl) rfl
theorem q1898 : (Jvm.Cond.soleField "MassclaimModel" "isBought") ∈ lw_all := lw_g (lw_at lw_m8 154 rfl) rfl
theorem q1899 : (Jvm.Cond.laysFinal "MassclaimModel" "MassclaimModel" "grid" "[I") ∈ lw_all := lw_g (lw_at lw_m8 155 rfl) rfl
theorem q1900 : (Jvm.Cond.soleField "MassclaimModel" "grid") ∈ lw_all := lw_g (lw_at lw_m8 156 rfl) rfl
theorem q1901 : (Jvm.Cond.lays "MassclaimModel" "MassclaimModel" "cap" "I") ∈ lw_all := lw_g (lw_at lw_m8 157 rfl) rfl
theorem q1902 : (Jvm.Cond.soleField "MassclaimModel" "cap") ∈ lw_all := lw_g (lw_at lw_m8 158 rfl) rfl
theorem q1903 : (Jvm.Cond.lays "MassclaimModel" "MassclaimModel" "chance" "I") ∈ lw_all := lw_g (lw_at lw_m8 159 rfl) rfl
theorem q1904 : (Jvm.Cond.soleField "MassclaimModel" "chance") ∈ lw_all := lw_g (lw_at lw_m8 160 rfl) rfl
theorem q1905 : (Jvm.Cond.lays "MassclaimModel" "MassclaimModel" "order" "I") ∈ lw_all := lw_g (lw_at lw_m8 161 rfl) rfl
theorem q1906 : (Jvm.Cond.soleField "MassclaimModel" "order") ∈ lw_all := lw_g (lw_at lw_m8 162 rfl) rfl
theorem q1907 : (Jvm.Cond.lays "MassclaimModel" "MassclaimModel" "percent" "I") ∈ lw_all := lw_g (lw_at lw_m8 163 rfl) rfl
theorem q1908 : (Jvm.Cond.soleField "MassclaimModel" "percent") ∈ lw_all := lw_g (lw_at lw_m8 164 rfl) rfl
theorem q1909 : (Jvm.Cond.laysFinal "MassclaimModel" "MassclaimModel" "claims" "Ljava/util/ArrayList;") ∈ lw_all := lw_g (lw_at lw_m8 165 rfl) rfl
theorem q1910 : (Jvm.Cond.soleField "MassclaimModel" "claims") ∈ lw_all := lw_g (lw_at lw_m8 166 rfl) rfl
theorem q1911 : (Jvm.Cond.laysFinal "MassclaimModel" "MassclaimModel" "liens" "Ljava/util/ArrayList;") ∈ lw_all := lw_g (lw_at lw_m8 167 rfl) rfl
theorem q1912 : (Jvm.Cond.soleField "MassclaimModel" "liens") ∈ lw_all := lw_g (lw_at lw_m8 168 rfl) rfl
theorem q1913 : (Jvm.Cond.lays "MassclaimModel" "MassclaimModel" "fund" "J") ∈ lw_all := lw_g (lw_at lw_m8 169 rfl) rfl
theorem q1914 : (Jvm.Cond.soleField "MassclaimModel" "fund") ∈ lw_all := lw_g (lw_at lw_m8 170 rfl) rfl
theorem q1915 : (Jvm.Cond.lays "MassclaimModel" "MassclaimModel" "paidIn" "J") ∈ lw_all := lw_g (lw_at lw_m8 171 rfl) rfl
theorem q1916 : (Jvm.Cond.soleField "MassclaimModel" "paidIn") ∈ lw_all := lw_g (lw_at lw_m8 172 rfl) rfl
theorem q1917 : (Jvm.Cond.lays "MassclaimModel" "MassclaimModel" "common" "J") ∈ lw_all := lw_g (lw_at lw_m8 173 rfl) rfl
theorem q1918 : (Jvm.Cond.soleField "MassclaimModel" "common") ∈ lw_all := lw_g (lw_at lw_m8 174 rfl) rfl
theorem q1919 : (Jvm.Cond.laysFinal "MassclaimModel" "MassclaimModel" "lawyers" "[J") ∈ lw_all := lw_g (lw_at lw_m8 175 rfl) rfl
theorem q1920 : (Jvm.Cond.soleField "MassclaimModel" "lawyers") ∈ lw_all := lw_g (lw_at lw_m8 176 rfl) rfl
theorem q1921 : (Jvm.Cond.lays "MassclaimModel" "MassclaimModel" "toLiens" "J") ∈ lw_all := lw_g (lw_at lw_m8 177 rfl) rfl
theorem q1922 : (Jvm.Cond.soleField "MassclaimModel" "toLiens") ∈ lw_all := lw_g (lw_at lw_m8 178 rfl) rfl
theorem q1923 : (Jvm.Cond.lays "MassclaimModel" "MassclaimModel" "back" "J") ∈ lw_all := lw_g (lw_at lw_m8 179 rfl) rfl
theorem q1924 : (Jvm.Cond.soleField "MassclaimModel" "back") ∈ lw_all := lw_g (lw_at lw_m8 180 rfl) rfl
theorem q1925 : (Jvm.Cond.lays "MassclaimModel" "MassclaimModel" "nextBest" "J") ∈ lw_all := lw_g (lw_at lw_m8 181 rfl) rfl
theorem q1926 : (Jvm.Cond.soleField "MassclaimModel" "nextBest") ∈ lw_all := lw_g (lw_at lw_m8 182 rfl) rfl
theorem q1927 : (Jvm.Cond.superclass "MassclaimModel" "java/lang/Object") ∈ lw_all := lw_g (lw_at lw_m8 183 rfl) rfl
theorem q1929 : (Jvm.Cond.instanceMethod ({ cls := "MassclaimModel", name := "begin", desc := "()I" } : Jvm.MethodName)) ∈ lw_all := lw_g (lw_at lw_m8 185 rfl) rfl
theorem q1930 : (Jvm.Cond.selects "MassclaimModel" ({ cls := "MassclaimModel", name := "begin", desc := "()I" } : Jvm.MethodName) ({ cls := "MassclaimModel", name := "begin", desc := "()I" } : Jvm.MethodName)) ∈ lw_all := lw_g (lw_at lw_m8 186 rfl) rfl
theorem q1931 : (Jvm.Cond.code ({ cls := "MassclaimModel", name := "begin", desc := "()I" } : Jvm.MethodName) prog_14_method_6_code (2 : Nat) (Option.some Jvm.ClassFile.FieldType.int)) ∈ lw_all := lw_g (lw_at lw_m8 187 rfl) rfl
theorem q1932 : (Jvm.Cond.methodLink "MassclaimModel" (94 : Nat) ({ cls := "java/util/ArrayList", name := "size", desc := "()I" } : Jvm.MethodName)) ∈ lw_all := lw_g (lw_at lw_m8 188 rfl) rfl
theorem q1934 : (Jvm.Cond.instanceMethod ({ cls := "MassclaimModel", name := "goOn", desc := "(I)I" } : Jvm.MethodName)) ∈ lw_all := lw_g (lw_at lw_m8 190 rfl) rfl
theorem q1935 : (Jvm.Cond.selects "MassclaimModel" ({ cls := "MassclaimModel", name := "goOn", desc := "(I)I" } : Jvm.MethodName) ({ cls := "MassclaimModel", name := "goOn", desc := "(I)I" } : Jvm.MethodName)) ∈ lw_all := lw_g (lw_at lw_m8 191 rfl) rfl
theorem q1936 : (Jvm.Cond.code ({ cls := "MassclaimModel", name := "goOn", desc := "(I)I" } : Jvm.MethodName) prog_14_method_8_code (5 : Nat) (Option.some Jvm.ClassFile.FieldType.int)) ∈ lw_all := lw_g (lw_at lw_m8 192 rfl) rfl
theorem q1937 : (Jvm.Cond.constantLong "MassclaimModel" (98 : Nat) (400 : Int64)) ∈ lw_all := lw_g (lw_at lw_m8 193 rfl) rfl
theorem q1938 : (Jvm.Cond.methodLink "MassclaimModel" (100 : Nat) ({ cls := "MassclaimModel", name := "isWithin", desc := "(JJJ)Z" } : Jvm.MethodName)) ∈ lw_all := lw_g (lw_at lw_m8 194 rfl) rfl
theorem q1939 : (Jvm.Cond.static ({ cls := "MassclaimModel", name := "isWithin", desc := "(JJJ)Z" } : Jvm.MethodName)) ∈ lw_all := lw_g (lw_at lw_m8 195 rfl) rfl
theorem q1940 : (Jvm.Cond.code ({ cls := "MassclaimModel", name := "isWithin", desc := "(JJJ)Z" } : Jvm.MethodName) prog_14_method_1_code (6 : Nat) (Option.some Jvm.ClassFile.FieldType.boolean)) ∈ lw_all := lw_g (lw_at lw_m8 196 rfl) rfl
theorem q1941 : (Jvm.Cond.methodLink "MassclaimModel" (104 : Nat) ({ cls := "MassclaimModel", name := "isGood", desc := "(ZI)Z" } : Jvm.MethodName)) ∈ lw_all := lw_g (lw_at lw_m8 197 rfl) rfl
theorem q1942 : (Jvm.Cond.privateMethod ({ cls := "MassclaimModel", name := "isGood", desc := "(ZI)Z" } : Jvm.MethodName)) ∈ lw_tbl := lw_at lw_m8 198 rfl
theorem q1943 : (Jvm.Cond.instanceMethod ({ cls := "MassclaimModel", name := "isGood", desc := "(ZI)Z" } : Jvm.MethodName)) ∈ lw_all := lw_g (lw_at lw_m8 199 rfl) rfl
theorem q1944 : (Jvm.Cond.code ({ cls := "MassclaimModel", name := "isGood", desc := "(ZI)Z" } : Jvm.MethodName) prog_14_method_2_code (3 : Nat) (Option.some Jvm.ClassFile.FieldType.boolean)) ∈ lw_all := lw_g (lw_at lw_m8 200 rfl) rfl
theorem q1945 : (Jvm.Cond.methodLink "MassclaimModel" (108 : Nat) ({ cls := "java/util/ArrayList", name := "get", desc := "(I)Ljava/lang/Object;" } : Jvm.MethodName)) ∈ lw_all := lw_g (lw_at lw_m8 201 rfl) rfl
theorem q1946 : (Jvm.Cond.classLink "MassclaimModel" (112 : Nat) "MassclaimModel$Person") ∈ lw_all := lw_g (lw_at lw_m8 202 rfl) rfl
theorem q1947 : (Jvm.Cond.methodLink "MassclaimModel" (120 : Nat) ({ cls := "MassclaimModel", name := "isIn", desc := "(LMassclaimModel$Person;)Z" } : Jvm.MethodName)) ∈ lw_all := lw_g (lw_at lw_m8 203 rfl) rfl
theorem q1948 : (Jvm.Cond.privateMethod ({ cls := "MassclaimModel", name := "isIn", desc := "(LMassclaimModel$Person;)Z" } : Jvm.MethodName)) ∈ lw_tbl := lw_at lw_m8 204 rfl
theorem q1949 : (Jvm.Cond.instanceMethod ({ cls := "MassclaimModel", name := "isIn", desc := "(LMassclaimModel$Person;)Z" } : Jvm.MethodName)) ∈ lw_all := lw_g (lw_at lw_m8 205 rfl) rfl
theorem q1950 : (Jvm.Cond.code ({ cls := "MassclaimModel", name := "isIn", desc := "(LMassclaimModel$Person;)Z" } : Jvm.MethodName) prog_14_method_17_code (2 : Nat) (Option.some Jvm.ClassFile.FieldType.boolean)) ∈ lw_all := lw_g (lw_at lw_m8 206 rfl) rfl
theorem q1951 : (Jvm.Cond.methodLink "MassclaimModel" (222 : Nat) ({ cls := "MassclaimModel", name := "fits", desc := "(LMassclaimModel$Person;)Z" } : Jvm.MethodName)) ∈ lw_all := lw_g (lw_at lw_m8 207 rfl) rfl
theorem q1952 : (Jvm.Cond.privateMethod ({ cls := "MassclaimModel", name := "fits", desc := "(LMassclaimModel$Person;)Z" } : Jvm.MethodName)) ∈ lw_tbl := lw_at lw_m8 208 rfl
theorem q1953 : (Jvm.Cond.instanceMethod ({ cls := "MassclaimModel", name := "fits", desc := "(LMassclaimModel$Person;)Z" } : Jvm.MethodName)) ∈ lw_all := lw_g (lw_at lw_m8 209 rfl) rfl
theorem q1954 : (Jvm.Cond.code ({ cls := "MassclaimModel", name := "fits", desc := "(LMassclaimModel$Person;)Z" } : Jvm.MethodName) prog_14_method_16_code (2 : Nat) (Option.some Jvm.ClassFile.FieldType.boolean)) ∈ lw_all := lw_g (lw_at lw_m8 210 rfl) rfl
theorem q1955 : (Jvm.Cond.classLink "MassclaimModel" (124 : Nat) "MassclaimModel$Claim") ∈ lw_all := lw_g (lw_at lw_m8 211 rfl) rfl
theorem q1956 : (Jvm.Cond.methodLink "MassclaimModel" (132 : Nat) ({ cls := "MassclaimModel", name := "free", desc := "(LMassclaimModel$Person;)V" } : Jvm.MethodName)) ∈ lw_all := lw_g (lw_at lw_m8 212 rfl) rfl
theorem q1957 : (Jvm.Cond.privateMethod ({ cls := "MassclaimModel", name := "free", desc := "(LMassclaimModel$Person;)V" } : Jvm.MethodName)) ∈ lw_tbl := lw_at lw_m8 213 rfl
theorem q1958 : (Jvm.Cond.instanceMethod ({ cls := "MassclaimModel", name := "free", desc := "(LMassclaimModel$Person;)V" } : Jvm.MethodName)) ∈ lw_all := lw_g (lw_at lw_m8 214 rfl) rfl
theorem q1959 : (Jvm.Cond.code ({ cls := "MassclaimModel", name := "free", desc := "(LMassclaimModel$Person;)V" } : Jvm.MethodName) prog_14_method_9_code (6 : Nat) (Option.none : Option Jvm.ClassFile.FieldType)) ∈ lw_all := lw_g (lw_at lw_m8 215 rfl) rfl
theorem q1960 : (Jvm.Cond.methodLink "MassclaimModel" (136 : Nat) ({ cls := "MassclaimModel$Person", name := "lives", desc := "()Z" } : Jvm.MethodName)) ∈ lw_all := lw_g (lw_at lw_m8 216 rfl) rfl
theorem q1964 : (Jvm.Cond.methodLink "MassclaimModel" (143 : Nat) ({ cls := "MassclaimModel$Person", name := "age", desc := "(I)I" } : Jvm.MethodName)) ∈ lw_all := lw_g (lw_at lw_m8 220 rfl) rfl
theorem q1971 : (Jvm.Cond.classLink "MassclaimModel" (153 : Nat) "MassclaimModel$Row") ∈ lw_all := lw_g (lw_at lw_m8 227 rfl) rfl
theorem q1973 : (Jvm.Cond.instanceMethod ({ cls := "MassclaimModel", name := "person", desc := "(IIII)I" } : Jvm.MethodName)) ∈ lw_all := lw_g (lw_at lw_m8 229 rfl) rfl
theorem q1974 : (Jvm.Cond.selects "MassclaimModel" ({ cls := "MassclaimModel", name := "person", desc := "(IIII)I" } : Jvm.MethodName) ({ cls := "MassclaimModel", name := "person", desc := "(IIII)I" } : Jvm.MethodName)) ∈ lw_all := lw_g (lw_at lw_m8 230 rfl) rfl
theorem q1975 : (Jvm.Cond.code ({ cls := "MassclaimModel", name := "person", desc := "(IIII)I" } : Jvm.MethodName) prog_14_method_11_code (7 : Nat) (Option.some Jvm.ClassFile.FieldType.int)) ∈ lw_all := lw_g (lw_at lw_m8 231 rfl) rfl
theorem q1976 : (Jvm.Cond.constantLong "MassclaimModel" (167 : Nat) (-30000 : Int64)) ∈ lw_all := lw_g (lw_at lw_m8 232 rfl) rfl
theorem q1977 : (Jvm.Cond.constantLong "MassclaimModel" (169 : Nat) (9 : Int64)) ∈ lw_all := lw_g (lw_at lw_m8 233 rfl) rfl
theorem q1978 : (Jvm.Cond.constantLong "MassclaimModel" (171 : Nat) (3 : Int64)) ∈ lw_all := lw_g (lw_at lw_m8 234 rfl) rfl
theorem q1979 : (Jvm.Cond.constantLong "MassclaimModel" (173 : Nat) (600 : Int64)) ∈ lw_all := lw_g (lw_at lw_m8 235 rfl) rfl
theorem q1981 : (Jvm.Cond.methodLinkNest "MassclaimModel" (175 : Nat) ({ cls := "MassclaimModel$Person", name := "<init>", desc := "()V" } : Jvm.MethodName) "MassclaimModel") ∈ lw_tbl := lw_at lw_m8 237 rfl
theorem q1988 : (Jvm.Cond.fieldLink "MassclaimModel" (176 : Nat) "MassclaimModel$Person" "birth" "I") ∈ lw_all := lw_g (lw_at lw_m9 4 rfl) rfl
theorem q1989 : (Jvm.Cond.fieldLink "MassclaimModel" (179 : Nat) "MassclaimModel$Person" "state" "I") ∈ lw_all := lw_g (lw_at lw_m9 5 rfl) rfl
theorem q1990 : (Jvm.Cond.fieldLink "MassclaimModel" (180 : Nat) "MassclaimModel$Person" "product" "I") ∈ lw_all := lw_g (lw_at lw_m9 6 rfl) rfl
theorem q1991 : (Jvm.Cond.fieldLink "MassclaimModel" (183 : Nat) "MassclaimModel$Person" "months" "I") ∈ lw_all := lw_g (lw_at lw_m9 7 rfl) rfl
theorem q1992 : (Jvm.Cond.fieldLink "MassclaimModel" (117 : Nat) "MassclaimModel$Person" "level" "I") ∈ lw_all := lw_g (lw_at lw_m9 8 rfl) rfl
theorem q1994 : (Jvm.Cond.fieldLink "MassclaimModel" (196 : Nat) "MassclaimModel$Person" "known" "I") ∈ lw_all := lw_g (lw_at lw_m9 10 rfl) rfl
theorem q1996 : (Jvm.Cond.fieldLink "MassclaimModel" (199 : Nat) "MassclaimModel$Person" "heirs" "I") ∈ lw_all := lw_g (lw_at lw_m9 12 rfl) rfl
theorem q1998 : (Jvm.Cond.fieldLink "MassclaimModel" (210 : Nat) "MassclaimModel$Person" "came" "[J") ∈ lw_all := lw_g (lw_at lw_m9 14 rfl) rfl
theorem q2000 : (Jvm.Cond.fieldLink "MassclaimModel" (275 : Nat) "MassclaimModel$Person" "isReached" "Z") ∈ lw_all := lw_g (lw_at lw_m9 16 rfl) rfl
theorem q2002 : (Jvm.Cond.fieldLink "MassclaimModel" (245 : Nat) "MassclaimModel$Person" "noticed" "I") ∈ lw_all := lw_g (lw_at lw_m9 18 rfl) rfl
theorem q2003 : (Jvm.Cond.fieldLink "MassclaimModel" (225 : Nat) "MassclaimModel$Person" "isOut" "Z") ∈ lw_all := lw_g (lw_at lw_m9 19 rfl) rfl
theorem q2004 : (Jvm.Cond.fieldLink "MassclaimModel" (114 : Nat) "MassclaimModel$Person" "ran" "I") ∈ lw_all := lw_g (lw_at lw_m9 20 rfl) rfl
theorem q2005 : (Jvm.Cond.fieldLink "MassclaimModel" (278 : Nat) "MassclaimModel$Person" "isDrawn" "Z") ∈ lw_all := lw_g (lw_at lw_m9 21 rfl) rfl
theorem q2007 : (Jvm.Cond.fieldLink "MassclaimModel" (284 : Nat) "MassclaimModel$Person" "verdict" "I") ∈ lw_all := lw_g (lw_at lw_m9 23 rfl) rfl
theorem q2008 : (Jvm.Cond.fieldLink "MassclaimModel" (287 : Nat) "MassclaimModel$Person" "verdictLevel" "I") ∈ lw_all := lw_g (lw_at lw_m9 24 rfl) rfl
theorem q2009 : (Jvm.Cond.fieldLink "MassclaimModel" (341 : Nat) "MassclaimModel$Person" "vote" "I") ∈ lw_all := lw_g (lw_at lw_m9 25 rfl) rfl
theorem q2010 : (Jvm.Cond.fieldLink "MassclaimModel" (344 : Nat) "MassclaimModel$Person" "objects" "Z") ∈ lw_all := lw_g (lw_at lw_m9 26 rfl) rfl
theorem q2011 : (Jvm.Cond.fieldLink "MassclaimModel" (248 : Nat) "MassclaimModel$Person" "claim" "LMassclaimModel$Claim;") ∈ lw_all := lw_g (lw_at lw_m9 27 rfl) rfl
theorem q2012 : (Jvm.Cond.fieldLink "MassclaimModel" (147 : Nat) "MassclaimModel$Person" "delivered" "J") ∈ lw_all := lw_g (lw_at lw_m9 28 rfl) rfl
theorem q2013 : (Jvm.Cond.fieldLink "MassclaimModel" (140 : Nat) "MassclaimModel$Person" "blocked" "J") ∈ lw_all := lw_g (lw_at lw_m9 29 rfl) rfl
theorem q2014 : (Jvm.Cond.fieldLink "MassclaimModel" (267 : Nat) "MassclaimModel$Person" "held" "J") ∈ lw_all := lw_g (lw_at lw_m9 30 rfl) rfl
theorem q2016 : (Jvm.Cond.fieldLink "MassclaimModel" (150 : Nat) "MassclaimModel$Person" "rows" "Ljava/util/ArrayList;") ∈ lw_all := lw_g (lw_at lw_m9 32 rfl) rfl
theorem q2062 : (Jvm.Cond.methodLink "MassclaimModel" (186 : Nat) ({ cls := "java/util/ArrayList", name := "add", desc := "(Ljava/lang/Object;)Z" } : Jvm.MethodName)) ∈ lw_all := lw_g (lw_at lw_m9 78 rfl) rfl
theorem q2064 : (Jvm.Cond.instanceMethod ({ cls := "MassclaimModel", name := "sick", desc := "(II)I" } : Jvm.MethodName)) ∈ lw_all := lw_g (lw_at lw_m9 80 rfl) rfl
theorem q2065 : (Jvm.Cond.selects "MassclaimModel" ({ cls := "MassclaimModel", name := "sick", desc := "(II)I" } : Jvm.MethodName) ({ cls := "MassclaimModel", name := "sick", desc := "(II)I" } : Jvm.MethodName)) ∈ lw_all := lw_g (lw_at lw_m9 81 rfl) rfl
theorem q2066 : (Jvm.Cond.code ({ cls := "MassclaimModel", name := "sick", desc := "(II)I" } : Jvm.MethodName) prog_14_method_12_code (5 : Nat) (Option.some Jvm.ClassFile.FieldType.int)) ∈ lw_all := lw_g (lw_at lw_m9 82 rfl) rfl
theorem q2067 : (Jvm.Cond.methodLink "MassclaimModel" (190 : Nat) ({ cls := "MassclaimModel", name := "isPerson", desc := "(I)Z" } : Jvm.MethodName)) ∈ lw_all := lw_g (lw_at lw_m9 83 rfl) rfl
theorem q2068 : (Jvm.Cond.privateMethod ({ cls := "MassclaimModel", name := "isPerson", desc := "(I)Z" } : Jvm.MethodName)) ∈ lw_tbl := lw_at lw_m9 84 rfl
theorem q2069 : (Jvm.Cond.instanceMethod ({ cls := "MassclaimModel", name := "isPerson", desc := "(I)Z" } : Jvm.MethodName)) ∈ lw_all := lw_g (lw_at lw_m9 85 rfl) rfl
theorem q2070 : (Jvm.Cond.code ({ cls := "MassclaimModel", name := "isPerson", desc := "(I)Z" } : Jvm.MethodName) prog_14_method_10_code (2 : Nat) (Option.some Jvm.ClassFile.FieldType.boolean)) ∈ lw_all := lw_g (lw_at lw_m9 86 rfl) rfl
theorem q2071 : (Jvm.Cond.constantLong "MassclaimModel" (194 : Nat) (5 : Int64)) ∈ lw_all := lw_g (lw_at lw_m9 87 rfl) rfl
theorem q2073 : (Jvm.Cond.instanceMethod ({ cls := "MassclaimModel", name := "die", desc := "(II)J" } : Jvm.MethodName)) ∈ lw_all := lw_g (lw_at lw_m9 89 rfl) rfl
theorem q2074 : (Jvm.Cond.selects "MassclaimModel" ({ cls := "MassclaimModel", name := "die", desc := "(II)J" } : Jvm.MethodName) ({ cls := "MassclaimModel", name := "die", desc := "(II)J" } : Jvm.MethodName)) ∈ lw_all := lw_g (lw_at lw_m9 90 rfl) rfl
theorem q2075 : (Jvm.Cond.code ({ cls := "MassclaimModel", name := "die", desc := "(II)J" } : Jvm.MethodName) prog_14_method_13_code (6 : Nat) (Option.some Jvm.ClassFile.FieldType.long)) ∈ lw_all := lw_g (lw_at lw_m9 91 rfl) rfl
theorem q2076 : (Jvm.Cond.methodLink "MassclaimModel" (202 : Nat) ({ cls := "MassclaimModel", name := "yearly", desc := "(LMassclaimModel$Person;)J" } : Jvm.MethodName)) ∈ lw_all := lw_g (lw_at lw_m9 92 rfl) rfl
theorem q2077 : (Jvm.Cond.static ({ cls := "MassclaimModel", name := "yearly", desc := "(LMassclaimModel$Person;)J" } : Jvm.MethodName)) ∈ lw_all := lw_g (lw_at lw_m9 93 rfl) rfl
theorem q2078 : (Jvm.Cond.code ({ cls := "MassclaimModel", name := "yearly", desc := "(LMassclaimModel$Person;)J" } : Jvm.MethodName) prog_14_method_14_code (4 : Nat) (Option.some Jvm.ClassFile.FieldType.long)) ∈ lw_all := lw_g (lw_at lw_m9 94 rfl) rfl
theorem q2079 : (Jvm.Cond.methodLink "MassclaimModel" (206 : Nat) ({ cls := "MassclaimModel", name := "toHeirs", desc := "(LMassclaimModel$Person;J)V" } : Jvm.MethodName)) ∈ lw_all := lw_g (lw_at lw_m9 95 rfl) rfl
theorem q2080 : (Jvm.Cond.static ({ cls := "MassclaimModel", name := "toHeirs", desc := "(LMassclaimModel$Person;J)V" } : Jvm.MethodName)) ∈ lw_all := lw_g (lw_at lw_m9 96 rfl) rfl
theorem q2081 : (Jvm.Cond.code ({ cls := "MassclaimModel", name := "toHeirs", desc := "(LMassclaimModel$Person;J)V" } : Jvm.MethodName) prog_14_method_15_code (6 : Nat) (Option.none : Option Jvm.ClassFile.FieldType)) ∈ lw_all := lw_g (lw_at lw_m9 97 rfl) rfl
theorem q2083 : (Jvm.Cond.instanceMethod ({ cls := "MassclaimModel", name := "define", desc := "(III)I" } : Jvm.MethodName)) ∈ lw_all := lw_g (lw_at lw_m9 99 rfl) rfl
theorem q2084 : (Jvm.Cond.selects "MassclaimModel" ({ cls := "MassclaimModel", name := "define", desc := "(III)I" } : Jvm.MethodName) ({ cls := "MassclaimModel", name := "define", desc := "(III)I" } : Jvm.MethodName)) ∈ lw_all := lw_g (lw_at lw_m9 100 rfl) rfl
theorem q2085 : (Jvm.Cond.code ({ cls := "MassclaimModel", name := "define", desc := "(III)I" } : Jvm.MethodName) prog_14_method_19_code (5 : Nat) (Option.some Jvm.ClassFile.FieldType.int)) ∈ lw_all := lw_g (lw_at lw_m9 101 rfl) rfl
theorem q2086 : (Jvm.Cond.constantLong "MassclaimModel" (228 : Nat) (15 : Int64)) ∈ lw_all := lw_g (lw_at lw_m9 102 rfl) rfl
theorem q2087 : (Jvm.Cond.constantLong "MassclaimModel" (230 : Nat) (1023 : Int64)) ∈ lw_all := lw_g (lw_at lw_m9 103 rfl) rfl
theorem q2088 : (Jvm.Cond.methodLink "MassclaimModel" (232 : Nat) ({ cls := "MassclaimModel", name := "isOver", desc := "()Z" } : Jvm.MethodName)) ∈ lw_all := lw_g (lw_at lw_m9 104 rfl) rfl
theorem q2089 : (Jvm.Cond.privateMethod ({ cls := "MassclaimModel", name := "isOver", desc := "()Z" } : Jvm.MethodName)) ∈ lw_tbl := lw_at lw_m9 105 rfl
theorem q2090 : (Jvm.Cond.instanceMethod ({ cls := "MassclaimModel", name := "isOver", desc := "()Z" } : Jvm.MethodName)) ∈ lw_all := lw_g (lw_at lw_m9 106 rfl) rfl
theorem q2091 : (Jvm.Cond.code ({ cls := "MassclaimModel", name := "isOver", desc := "()Z" } : Jvm.MethodName) prog_14_method_7_code (1 : Nat) (Option.some Jvm.ClassFile.FieldType.boolean)) ∈ lw_all := lw_g (lw_at lw_m9 107 rfl) rfl
theorem q2092 : (Jvm.Cond.methodLink "MassclaimModel" (235 : Nat) ({ cls := "MassclaimModel", name := "allIn", desc := "()I" } : Jvm.MethodName)) ∈ lw_all := lw_g (lw_at lw_m9 108 rfl) rfl
theorem q2093 : (Jvm.Cond.privateMethod ({ cls := "MassclaimModel", name := "allIn", desc := "()I" } : Jvm.MethodName)) ∈ lw_tbl := lw_at lw_m9 109 rfl
theorem q2094 : (Jvm.Cond.instanceMethod ({ cls := "MassclaimModel", name := "allIn", desc := "()I" } : Jvm.MethodName)) ∈ lw_all := lw_g (lw_at lw_m9 110 rfl) rfl
theorem q2095 : (Jvm.Cond.code ({ cls := "MassclaimModel", name := "allIn", desc := "()I" } : Jvm.MethodName) prog_14_method_18_code (3 : Nat) (Option.some Jvm.ClassFile.FieldType.int)) ∈ lw_all := lw_g (lw_at lw_m9 111 rfl) rfl
theorem q2097 : (Jvm.Cond.instanceMethod ({ cls := "MassclaimModel", name := "subclass", desc := "(IIZ)I" } : Jvm.MethodName)) ∈ lw_all := lw_g (lw_at lw_m9 113 rfl) rfl
theorem q2098 : (Jvm.Cond.selects "MassclaimModel" ({ cls := "MassclaimModel", name := "subclass", desc := "(IIZ)I" } : Jvm.MethodName) ({ cls := "MassclaimModel", name := "subclass", desc := "(IIZ)I" } : Jvm.MethodName)) ∈ lw_all := lw_g (lw_at lw_m9 114 rfl) rfl
theorem q2099 : (Jvm.Cond.code ({ cls := "MassclaimModel", name := "subclass", desc := "(IIZ)I" } : Jvm.MethodName) prog_14_method_20_code (4 : Nat) (Option.some Jvm.ClassFile.FieldType.int)) ∈ lw_all := lw_g (lw_at lw_m9 115 rfl) rfl
theorem q2101 : (Jvm.Cond.instanceMethod ({ cls := "MassclaimModel", name := "personAt", desc := "(II)I" } : Jvm.MethodName)) ∈ lw_all := lw_g (lw_at lw_m9 117 rfl) rfl
theorem q2102 : (Jvm.Cond.selects "MassclaimModel" ({ cls := "MassclaimModel", name := "personAt", desc := "(II)I" } : Jvm.MethodName) ({ cls := "MassclaimModel", name := "personAt", desc := "(II)I" } : Jvm.MethodName)) ∈ lw_all := lw_g (lw_at lw_m9 118 rfl) rfl
theorem q2103 : (Jvm.Cond.code ({ cls := "MassclaimModel", name := "personAt", desc := "(II)I" } : Jvm.MethodName) prog_14_method_22_code (4 : Nat) (Option.some Jvm.ClassFile.FieldType.int)) ∈ lw_all := lw_g (lw_at lw_m9 119 rfl) rfl
theorem q2104 : (Jvm.Cond.constantLong "MassclaimModel" (239 : Nat) (8 : Int64)) ∈ lw_all := lw_g (lw_at lw_m9 120 rfl) rfl
theorem q2105 : (Jvm.Cond.methodLink "MassclaimModel" (241 : Nat) ({ cls := "MassclaimModel", name := "subclassOf", desc := "(LMassclaimModel$Person;)I" } : Jvm.MethodName)) ∈ lw_all := lw_g (lw_at lw_m9 121 rfl) rfl
theorem q2106 : (Jvm.Cond.privateMethod ({ cls := "MassclaimModel", name := "subclassOf", desc := "(LMassclaimModel$Person;)I" } : Jvm.MethodName)) ∈ lw_tbl := lw_at lw_m9 122 rfl
theorem q2107 : (Jvm.Cond.instanceMethod ({ cls := "MassclaimModel", name := "subclassOf", desc := "(LMassclaimModel$Person;)I" } : Jvm.MethodName)) ∈ lw_all := lw_g (lw_at lw_m9 123 rfl) rfl
theorem q2108 : (Jvm.Cond.code ({ cls := "MassclaimModel", name := "subclassOf", desc := "(LMassclaimModel$Person;)I" } : Jvm.MethodName) prog_14_method_21_code (4 : Nat) (Option.some Jvm.ClassFile.FieldType.int)) ∈ lw_all := lw_g (lw_at lw_m9 124 rfl) rfl
theorem q2109 : (Jvm.Cond.classLink "MassclaimModel" (238 : Nat) "[I") ∈ lw_all := lw_g (lw_at lw_m9 125 rfl) rfl
theorem q2110 : (Jvm.Cond.methodLink "MassclaimModel" (252 : Nat) ({ cls := "java/util/ArrayList", name := "indexOf", desc := "(Ljava/lang/Object;)I" } : Jvm.MethodName)) ∈ lw_all := lw_g (lw_at lw_m9 126 rfl) rfl
theorem q2133 : (Jvm.Cond.selects "MassclaimModel" ({ cls := "java/lang/Object", name := "equals", desc := "(Ljava/lang/Object;)Z" } : Jvm.MethodName) ({ cls := "java/lang/Object", name := "equals", desc := "(Ljava/lang/Object;)Z" } : Jvm.MethodName)) ∈ lw_all := lw_g (lw_at lw_m9 149 rfl) rfl
theorem q2153 : (Jvm.Cond.instanceMethod ({ cls := "MassclaimModel", name := "moneyOf", desc := "(II)J" } : Jvm.MethodName)) ∈ lw_all := lw_g (lw_at lw_m9 169 rfl) rfl
theorem q2154 : (Jvm.Cond.selects "MassclaimModel" ({ cls := "MassclaimModel", name := "moneyOf", desc := "(II)J" } : Jvm.MethodName) ({ cls := "MassclaimModel", name := "moneyOf", desc := "(II)J" } : Jvm.MethodName)) ∈ lw_all := lw_g (lw_at lw_m9 170 rfl) rfl
theorem q2155 : (Jvm.Cond.code ({ cls := "MassclaimModel", name := "moneyOf", desc := "(II)J" } : Jvm.MethodName) prog_14_method_24_code (4 : Nat) (Option.some Jvm.ClassFile.FieldType.long)) ∈ lw_all := lw_g (lw_at lw_m9 171 rfl) rfl
theorem q2156 : (Jvm.Cond.constantLong "MassclaimModel" (265 : Nat) (4 : Int64)) ∈ lw_all := lw_g (lw_at lw_m9 172 rfl) rfl
theorem q2157 : (Jvm.Cond.methodLink "MassclaimModel" (270 : Nat) ({ cls := "MassclaimModel", name := "openOf", desc := "(LMassclaimModel$Person;)I" } : Jvm.MethodName)) ∈ lw_all := lw_g (lw_at lw_m9 173 rfl) rfl
theorem q2158 : (Jvm.Cond.privateMethod ({ cls := "MassclaimModel", name := "openOf", desc := "(LMassclaimModel$Person;)I" } : Jvm.MethodName)) ∈ lw_tbl := lw_at lw_m9 174 rfl
theorem q2159 : (Jvm.Cond.instanceMethod ({ cls := "MassclaimModel", name := "openOf", desc := "(LMassclaimModel$Person;)I" } : Jvm.MethodName)) ∈ lw_all := lw_g (lw_at lw_m9 175 rfl) rfl
theorem q2160 : (Jvm.Cond.code ({ cls := "MassclaimModel", name := "openOf", desc := "(LMassclaimModel$Person;)I" } : Jvm.MethodName) prog_14_method_23_code (4 : Nat) (Option.some Jvm.ClassFile.FieldType.int)) ∈ lw_all := lw_g (lw_at lw_m9 176 rfl) rfl
theorem q2161 : (Jvm.Cond.classLink "MassclaimModel" (256 : Nat) "MassclaimModel$Lien") ∈ lw_all := lw_g (lw_at lw_m9 177 rfl) rfl
theorem q2163 : (Jvm.Cond.instanceMethod ({ cls := "MassclaimModel", name := "heirAt", desc := "(II)J" } : Jvm.MethodName)) ∈ lw_all := lw_g (lw_at lw_m9 179 rfl) rfl
theorem q2164 : (Jvm.Cond.selects "MassclaimModel" ({ cls := "MassclaimModel", name := "heirAt", desc := "(II)J" } : Jvm.MethodName) ({ cls := "MassclaimModel", name := "heirAt", desc := "(II)J" } : Jvm.MethodName)) ∈ lw_all := lw_g (lw_at lw_m9 180 rfl) rfl
theorem q2165 : (Jvm.Cond.code ({ cls := "MassclaimModel", name := "heirAt", desc := "(II)J" } : Jvm.MethodName) prog_14_method_25_code (3 : Nat) (Option.some Jvm.ClassFile.FieldType.long)) ∈ lw_all := lw_g (lw_at lw_m9 181 rfl) rfl
theorem q2167 : (Jvm.Cond.instanceMethod ({ cls := "MassclaimModel", name := "notice", desc := "(II)I" } : Jvm.MethodName)) ∈ lw_all := lw_g (lw_at lw_m9 183 rfl) rfl
theorem q2168 : (Jvm.Cond.selects "MassclaimModel" ({ cls := "MassclaimModel", name := "notice", desc := "(II)I" } : Jvm.MethodName) ({ cls := "MassclaimModel", name := "notice", desc := "(II)I" } : Jvm.MethodName)) ∈ lw_all := lw_g (lw_at lw_m9 184 rfl) rfl
theorem q2169 : (Jvm.Cond.code ({ cls := "MassclaimModel", name := "notice", desc := "(II)I" } : Jvm.MethodName) prog_14_method_26_code (7 : Nat) (Option.some Jvm.ClassFile.FieldType.int)) ∈ lw_all := lw_g (lw_at lw_m9 185 rfl) rfl
theorem q2170 : (Jvm.Cond.constantLong "MassclaimModel" (273 : Nat) (2 : Int64)) ∈ lw_all := lw_g (lw_at lw_m9 186 rfl) rfl
theorem q2172 : (Jvm.Cond.instanceMethod ({ cls := "MassclaimModel", name := "address", desc := "(IZ)Z" } : Jvm.MethodName)) ∈ lw_all := lw_g (lw_at lw_m9 188 rfl) rfl
theorem q2173 : (Jvm.Cond.selects "MassclaimModel" ({ cls := "MassclaimModel", name := "address", desc := "(IZ)Z" } : Jvm.MethodName) ({ cls := "MassclaimModel", name := "address", desc := "(IZ)Z" } : Jvm.MethodName)) ∈ lw_all := lw_g (lw_at lw_m9 189 rfl) rfl
theorem q2174 : (Jvm.Cond.code ({ cls := "MassclaimModel", name := "address", desc := "(IZ)Z" } : Jvm.MethodName) prog_14_method_28_code (4 : Nat) (Option.some Jvm.ClassFile.FieldType.boolean)) ∈ lw_all := lw_g (lw_at lw_m9 190 rfl) rfl
theorem q2176 : (Jvm.Cond.instanceMethod ({ cls := "MassclaimModel", name := "optOut", desc := "(IZ)Z" } : Jvm.MethodName)) ∈ lw_all := lw_g (lw_at lw_m9 192 rfl) rfl
theorem q2177 : (Jvm.Cond.selects "MassclaimModel" ({ cls := "MassclaimModel", name := "optOut", desc := "(IZ)Z" } : Jvm.MethodName) ({ cls := "MassclaimModel", name := "optOut", desc := "(IZ)Z" } : Jvm.MethodName)) ∈ lw_all := lw_g (lw_at lw_m9 193 rfl) rfl
theorem q2178 : (Jvm.Cond.code ({ cls := "MassclaimModel", name := "optOut", desc := "(IZ)Z" } : Jvm.MethodName) prog_14_method_29_code (5 : Nat) (Option.some Jvm.ClassFile.FieldType.boolean)) ∈ lw_all := lw_g (lw_at lw_m9 194 rfl) rfl
theorem q2180 : (Jvm.Cond.instanceMethod ({ cls := "MassclaimModel", name := "optIn", desc := "(I)Z" } : Jvm.MethodName)) ∈ lw_all := lw_g (lw_at lw_m9 196 rfl) rfl
theorem q2181 : (Jvm.Cond.selects "MassclaimModel" ({ cls := "MassclaimModel", name := "optIn", desc := "(I)Z" } : Jvm.MethodName) ({ cls := "MassclaimModel", name := "optIn", desc := "(I)Z" } : Jvm.MethodName)) ∈ lw_all := lw_g (lw_at lw_m9 197 rfl) rfl
theorem q2182 : (Jvm.Cond.code ({ cls := "MassclaimModel", name := "optIn", desc := "(I)Z" } : Jvm.MethodName) prog_14_method_30_code (4 : Nat) (Option.some Jvm.ClassFile.FieldType.boolean)) ∈ lw_all := lw_g (lw_at lw_m9 198 rfl) rfl
theorem q2184 : (Jvm.Cond.instanceMethod ({ cls := "MassclaimModel", name := "draw", desc := "(I)I" } : Jvm.MethodName)) ∈ lw_all := lw_g (lw_at lw_m9 200 rfl) rfl
theorem q2185 : (Jvm.Cond.selects "MassclaimModel" ({ cls := "MassclaimModel", name := "draw", desc := "(I)I" } : Jvm.MethodName) ({ cls := "MassclaimModel", name := "draw", desc := "(I)I" } : Jvm.MethodName)) ∈ lw_all := lw_g (lw_at lw_m9 201 rfl) rfl
theorem q2186 : (Jvm.Cond.code ({ cls := "MassclaimModel", name := "draw", desc := "(I)I" } : Jvm.MethodName) prog_14_method_31_code (6 : Nat) (Option.some Jvm.ClassFile.FieldType.int)) ∈ lw_all := lw_g (lw_at lw_m9 202 rfl) rfl
theorem q2187 : (Jvm.Cond.methodLink "MassclaimModel" (281 : Nat) ({ cls := "java/util/ArrayList", name := "isEmpty", desc := "()Z" } : Jvm.MethodName)) ∈ lw_all := lw_g (lw_at lw_m9 203 rfl) rfl
theorem q2189 : (Jvm.Cond.instanceMethod ({ cls := "MassclaimModel", name := "verdict", desc := "(II)I" } : Jvm.MethodName)) ∈ lw_all := lw_g (lw_at lw_m9 205 rfl) rfl
theorem q2190 : (Jvm.Cond.selects "MassclaimModel" ({ cls := "MassclaimModel", name := "verdict", desc := "(II)I" } : Jvm.MethodName) ({ cls := "MassclaimModel", name := "verdict", desc := "(II)I" } : Jvm.MethodName)) ∈ lw_all := lw_g (lw_at lw_m9 206 rfl) rfl
theorem q2191 : (Jvm.Cond.code ({ cls := "MassclaimModel", name := "verdict", desc := "(II)I" } : Jvm.MethodName) prog_14_method_33_code (4 : Nat) (Option.some Jvm.ClassFile.FieldType.int)) ∈ lw_all := lw_g (lw_at lw_m9 207 rfl) rfl
theorem q2192 : (Jvm.Cond.constantLong "MassclaimModel" (290 : Nat) (10000000 : Int64)) ∈ lw_all := lw_g (lw_at lw_m9 208 rfl) rfl
theorem q2193 : (Jvm.Cond.methodLink "MassclaimModel" (292 : Nat) ({ cls := "MassclaimModel", name := "offerOf", desc := "(I)I" } : Jvm.MethodName)) ∈ lw_all := lw_g (lw_at lw_m9 209 rfl) rfl
theorem q2194 : (Jvm.Cond.privateMethod ({ cls := "MassclaimModel", name := "offerOf", desc := "(I)I" } : Jvm.MethodName)) ∈ lw_tbl := lw_at lw_m9 210 rfl
theorem q2195 : (Jvm.Cond.instanceMethod ({ cls := "MassclaimModel", name := "offerOf", desc := "(I)I" } : Jvm.MethodName)) ∈ lw_all := lw_g (lw_at lw_m9 211 rfl) rfl
theorem q2196 : (Jvm.Cond.code ({ cls := "MassclaimModel", name := "offerOf", desc := "(I)I" } : Jvm.MethodName) prog_14_method_32_code (8 : Nat) (Option.some Jvm.ClassFile.FieldType.int)) ∈ lw_all := lw_g (lw_at lw_m9 212 rfl) rfl
theorem q2198 : (Jvm.Cond.instanceMethod ({ cls := "MassclaimModel", name := "offer", desc := "(I)I" } : Jvm.MethodName)) ∈ lw_all := lw_g (lw_at lw_m9 214 rfl) rfl
theorem q2199 : (Jvm.Cond.selects "MassclaimModel" ({ cls := "MassclaimModel", name := "offer", desc := "(I)I" } : Jvm.MethodName) ({ cls := "MassclaimModel", name := "offer", desc := "(I)I" } : Jvm.MethodName)) ∈ lw_all := lw_g (lw_at lw_m9 215 rfl) rfl
theorem q2200 : (Jvm.Cond.code ({ cls := "MassclaimModel", name := "offer", desc := "(I)I" } : Jvm.MethodName) prog_14_method_34_code (2 : Nat) (Option.some Jvm.ClassFile.FieldType.int)) ∈ lw_all := lw_g (lw_at lw_m9 216 rfl) rfl
theorem q2202 : (Jvm.Cond.instanceMethod ({ cls := "MassclaimModel", name := "defendant", desc := "(II)I" } : Jvm.MethodName)) ∈ lw_all := lw_g (lw_at lw_m9 218 rfl) rfl
theorem q2203 : (Jvm.Cond.selects "MassclaimModel" ({ cls := "MassclaimModel", name := "defendant", desc := "(II)I" } : Jvm.MethodName) ({ cls := "MassclaimModel", name := "defendant", desc := "(II)I" } : Jvm.MethodName)) ∈ lw_all := lw_g (lw_at lw_m9 219 rfl) rfl
theorem q2204 : (Jvm.Cond.code ({ cls := "MassclaimModel", name := "defendant", desc := "(II)I" } : Jvm.MethodName) prog_14_method_36_code (5 : Nat) (Option.some Jvm.ClassFile.FieldType.int)) ∈ lw_all := lw_g (lw_at lw_m9 220 rfl) rfl
theorem q2205 : (Jvm.Cond.constantLong "MassclaimModel" (300 : Nat) (100 : Int64)) ∈ lw_all := lw_g (lw_at lw_m9 221 rfl) rfl
theorem q2206 : (Jvm.Cond.constantLong "MassclaimModel" (302 : Nat) (1000000000 : Int64)) ∈ lw_all := lw_g (lw_at lw_m9 222 rfl) rfl
theorem q2207 : (Jvm.Cond.methodLink "MassclaimModel" (304 : Nat) ({ cls := "MassclaimModel", name := "shares", desc := "()I" } : Jvm.MethodName)) ∈ lw_all := lw_g (lw_at lw_m9 223 rfl) rfl
theorem q2208 : (Jvm.Cond.privateMethod ({ cls := "MassclaimModel", name := "shares", desc := "()I" } : Jvm.MethodName)) ∈ lw_tbl := lw_at lw_m9 224 rfl
theorem q2209 : (Jvm.Cond.instanceMethod ({ cls := "MassclaimModel", name := "shares", desc := "()I" } : Jvm.MethodName)) ∈ lw_all := lw_g (lw_at lw_m9 225 rfl) rfl
theorem q2210 : (Jvm.Cond.code ({ cls := "MassclaimModel", name := "shares", desc := "()I" } : Jvm.MethodName) prog_14_method_35_code (3 : Nat) (Option.some Jvm.ClassFile.FieldType.int)) ∈ lw_all := lw_g (lw_at lw_m9 226 rfl) rfl
theorem q2211 : (Jvm.Cond.classLink "MassclaimModel" (295 : Nat) "MassclaimModel$Defendant") ∈ lw_all := lw_g (lw_at lw_m9 227 rfl) rfl
theorem q2213 : (Jvm.Cond.methodLinkNest "MassclaimModel" (307 : Nat) ({ cls := "MassclaimModel$Defendant", name := "<init>", desc := "()V" } : Jvm.MethodName) "MassclaimModel") ∈ lw_tbl := lw_at lw_m9 229 rfl
theorem q2217 : (Jvm.Cond.fieldLink "MassclaimModel" (297 : Nat) "MassclaimModel$Defendant" "share" "I") ∈ lw_all := lw_g (lw_at lw_m9 233 rfl) rfl
theorem q2218 : (Jvm.Cond.fieldLink "MassclaimModel" (308 : Nat) "MassclaimModel$Defendant" "wealth" "J") ∈ lw_all := lw_g (lw_at lw_m9 234 rfl) rfl
theorem q2219 : (Jvm.Cond.fieldLink "MassclaimModel" (317 : Nat) "MassclaimModel$Defendant" "owes" "J") ∈ lw_all := lw_g (lw_at lw_m9 235 rfl) rfl
theorem q2220 : (Jvm.Cond.fieldLink "MassclaimModel" (326 : Nat) "MassclaimModel$Defendant" "paid" "J") ∈ lw_all := lw_g (lw_at lw_m9 236 rfl) rfl
theorem q2221 : (Jvm.Cond.fieldLink "MassclaimModel" (314 : Nat) "MassclaimModel$Defendant" "hasFailed" "Z") ∈ lw_all := lw_g (lw_at lw_m9 237 rfl) rfl
theorem q2234 : (Jvm.Cond.instanceMethod ({ cls := "MassclaimModel", name := "payIn", desc := "(II)J" } : Jvm.MethodName)) ∈ lw_all := lw_g (lw_at lw_m10 10 rfl) rfl
theorem q2235 : (Jvm.Cond.selects "MassclaimModel" ({ cls := "MassclaimModel", name := "payIn", desc := "(II)J" } : Jvm.MethodName) ({ cls := "MassclaimModel", name := "payIn", desc := "(II)J" } : Jvm.MethodName)) ∈ lw_all := lw_g (lw_at lw_m10 11 rfl) rfl
theorem q2236 : (Jvm.Cond.code ({ cls := "MassclaimModel", name := "payIn", desc := "(II)J" } : Jvm.MethodName) prog_14_method_38_code (6 : Nat) (Option.some Jvm.ClassFile.FieldType.long)) ∈ lw_all := lw_g (lw_at lw_m10 12 rfl) rfl
theorem q2237 : (Jvm.Cond.methodLink "MassclaimModel" (311 : Nat) ({ cls := "MassclaimModel", name := "isDefendant", desc := "(I)Z" } : Jvm.MethodName)) ∈ lw_all := lw_g (lw_at lw_m10 13 rfl) rfl
theorem q2238 : (Jvm.Cond.privateMethod ({ cls := "MassclaimModel", name := "isDefendant", desc := "(I)Z" } : Jvm.MethodName)) ∈ lw_tbl := lw_at lw_m10 14 rfl
theorem q2239 : (Jvm.Cond.instanceMethod ({ cls := "MassclaimModel", name := "isDefendant", desc := "(I)Z" } : Jvm.MethodName)) ∈ lw_all := lw_g (lw_at lw_m10 15 rfl) rfl
theorem q2240 : (Jvm.Cond.code ({ cls := "MassclaimModel", name := "isDefendant", desc := "(I)Z" } : Jvm.MethodName) prog_14_method_37_code (2 : Nat) (Option.some Jvm.ClassFile.FieldType.boolean)) ∈ lw_all := lw_g (lw_at lw_m10 16 rfl) rfl
theorem q2241 : (Jvm.Cond.methodLink "MassclaimModel" (320 : Nat) ({ cls := "java/lang/Math", name := "min", desc := "(JJ)J" } : Jvm.MethodName)) ∈ lw_all := lw_g (lw_at lw_m10 17 rfl) rfl
theorem q2243 : (Jvm.Cond.instanceMethod ({ cls := "MassclaimModel", name := "fail", desc := "(I)J" } : Jvm.MethodName)) ∈ lw_all := lw_g (lw_at lw_m10 19 rfl) rfl
theorem q2244 : (Jvm.Cond.selects "MassclaimModel" ({ cls := "MassclaimModel", name := "fail", desc := "(I)J" } : Jvm.MethodName) ({ cls := "MassclaimModel", name := "fail", desc := "(I)J" } : Jvm.MethodName)) ∈ lw_all := lw_g (lw_at lw_m10 20 rfl) rfl
theorem q2245 : (Jvm.Cond.code ({ cls := "MassclaimModel", name := "fail", desc := "(I)J" } : Jvm.MethodName) prog_14_method_40_code (5 : Nat) (Option.some Jvm.ClassFile.FieldType.long)) ∈ lw_all := lw_g (lw_at lw_m10 21 rfl) rfl
theorem q2246 : (Jvm.Cond.methodLink "MassclaimModel" (329 : Nat) ({ cls := "MassclaimModel", name := "spread", desc := "(J)Z" } : Jvm.MethodName)) ∈ lw_all := lw_g (lw_at lw_m10 22 rfl) rfl
theorem q2247 : (Jvm.Cond.privateMethod ({ cls := "MassclaimModel", name := "spread", desc := "(J)Z" } : Jvm.MethodName)) ∈ lw_tbl := lw_at lw_m10 23 rfl
theorem q2248 : (Jvm.Cond.instanceMethod ({ cls := "MassclaimModel", name := "spread", desc := "(J)Z" } : Jvm.MethodName)) ∈ lw_all := lw_g (lw_at lw_m10 24 rfl) rfl
theorem q2249 : (Jvm.Cond.code ({ cls := "MassclaimModel", name := "spread", desc := "(J)Z" } : Jvm.MethodName) prog_14_method_39_code (11 : Nat) (Option.some Jvm.ClassFile.FieldType.boolean)) ∈ lw_all := lw_g (lw_at lw_m10 25 rfl) rfl
theorem q2251 : (Jvm.Cond.instanceMethod ({ cls := "MassclaimModel", name := "defendantAt", desc := "(II)J" } : Jvm.MethodName)) ∈ lw_all := lw_g (lw_at lw_m10 27 rfl) rfl
theorem q2252 : (Jvm.Cond.selects "MassclaimModel" ({ cls := "MassclaimModel", name := "defendantAt", desc := "(II)J" } : Jvm.MethodName) ({ cls := "MassclaimModel", name := "defendantAt", desc := "(II)J" } : Jvm.MethodName)) ∈ lw_all := lw_g (lw_at lw_m10 28 rfl) rfl
theorem q2253 : (Jvm.Cond.code ({ cls := "MassclaimModel", name := "defendantAt", desc := "(II)J" } : Jvm.MethodName) prog_14_method_41_code (4 : Nat) (Option.some Jvm.ClassFile.FieldType.long)) ∈ lw_all := lw_g (lw_at lw_m10 29 rfl) rfl
theorem q2255 : (Jvm.Cond.instanceMethod ({ cls := "MassclaimModel", name := "propose", desc := "(III)I" } : Jvm.MethodName)) ∈ lw_all := lw_g (lw_at lw_m10 31 rfl) rfl
theorem q2256 : (Jvm.Cond.selects "MassclaimModel" ({ cls := "MassclaimModel", name := "propose", desc := "(III)I" } : Jvm.MethodName) ({ cls := "MassclaimModel", name := "propose", desc := "(III)I" } : Jvm.MethodName)) ∈ lw_all := lw_g (lw_at lw_m10 32 rfl) rfl
theorem q2257 : (Jvm.Cond.code ({ cls := "MassclaimModel", name := "propose", desc := "(III)I" } : Jvm.MethodName) prog_14_method_43_code (6 : Nat) (Option.some Jvm.ClassFile.FieldType.int)) ∈ lw_all := lw_g (lw_at lw_m10 33 rfl) rfl
theorem q2258 : (Jvm.Cond.constantLong "MassclaimModel" (333 : Nat) (50 : Int64)) ∈ lw_all := lw_g (lw_at lw_m10 34 rfl) rfl
theorem q2260 : (Jvm.Cond.instanceMethod ({ cls := "MassclaimModel", name := "approve", desc := "()I" } : Jvm.MethodName)) ∈ lw_all := lw_g (lw_at lw_m10 36 rfl) rfl
theorem q2261 : (Jvm.Cond.selects "MassclaimModel" ({ cls := "MassclaimModel", name := "approve", desc := "()I" } : Jvm.MethodName) ({ cls := "MassclaimModel", name := "approve", desc := "()I" } : Jvm.MethodName)) ∈ lw_all := lw_g (lw_at lw_m10 37 rfl) rfl
theorem q2262 : (Jvm.Cond.code ({ cls := "MassclaimModel", name := "approve", desc := "()I" } : Jvm.MethodName) prog_14_method_44_code (2 : Nat) (Option.some Jvm.ClassFile.FieldType.int)) ∈ lw_all := lw_g (lw_at lw_m10 38 rfl) rfl
theorem q2263 : (Jvm.Cond.methodLink "MassclaimModel" (347 : Nat) ({ cls := "MassclaimModel", name := "reach", desc := "()I" } : Jvm.MethodName)) ∈ lw_all := lw_g (lw_at lw_m10 39 rfl) rfl
theorem q2264 : (Jvm.Cond.privateMethod ({ cls := "MassclaimModel", name := "reach", desc := "()I" } : Jvm.MethodName)) ∈ lw_tbl := lw_at lw_m10 40 rfl
theorem q2265 : (Jvm.Cond.instanceMethod ({ cls := "MassclaimModel", name := "reach", desc := "()I" } : Jvm.MethodName)) ∈ lw_all := lw_g (lw_at lw_m10 41 rfl) rfl
theorem q2266 : (Jvm.Cond.code ({ cls := "MassclaimModel", name := "reach", desc := "()I" } : Jvm.MethodName) prog_14_method_27_code (3 : Nat) (Option.some Jvm.ClassFile.FieldType.int)) ∈ lw_all := lw_g (lw_at lw_m10 42 rfl) rfl
theorem q2267 : (Jvm.Cond.methodLink "MassclaimModel" (353 : Nat) ({ cls := "MassclaimModel", name := "wayOf", desc := "()I" } : Jvm.MethodName)) ∈ lw_all := lw_g (lw_at lw_m10 43 rfl) rfl
theorem q2268 : (Jvm.Cond.privateMethod ({ cls := "MassclaimModel", name := "wayOf", desc := "()I" } : Jvm.MethodName)) ∈ lw_tbl := lw_at lw_m10 44 rfl
theorem q2269 : (Jvm.Cond.instanceMethod ({ cls := "MassclaimModel", name := "wayOf", desc := "()I" } : Jvm.MethodName)) ∈ lw_all := lw_g (lw_at lw_m10 45 rfl) rfl
theorem q2270 : (Jvm.Cond.code ({ cls := "MassclaimModel", name := "wayOf", desc := "()I" } : Jvm.MethodName) prog_14_method_45_code (4 : Nat) (Option.some Jvm.ClassFile.FieldType.int)) ∈ lw_all := lw_g (lw_at lw_m10 46 rfl) rfl
theorem q2271 : (Jvm.Cond.methodLink "MassclaimModel" (359 : Nat) ({ cls := "MassclaimModel", name := "isCarried", desc := "(I)Z" } : Jvm.MethodName)) ∈ lw_all := lw_g (lw_at lw_m10 47 rfl) rfl
theorem q2272 : (Jvm.Cond.privateMethod ({ cls := "MassclaimModel", name := "isCarried", desc := "(I)Z" } : Jvm.MethodName)) ∈ lw_tbl := lw_at lw_m10 48 rfl
theorem q2273 : (Jvm.Cond.instanceMethod ({ cls := "MassclaimModel", name := "isCarried", desc := "(I)Z" } : Jvm.MethodName)) ∈ lw_all := lw_g (lw_at lw_m10 49 rfl) rfl
theorem q2274 : (Jvm.Cond.code ({ cls := "MassclaimModel", name := "isCarried", desc := "(I)Z" } : Jvm.MethodName) prog_14_method_46_code (6 : Nat) (Option.some Jvm.ClassFile.FieldType.boolean)) ∈ lw_all := lw_g (lw_at lw_m10 50 rfl) rfl
theorem q2275 : (Jvm.Cond.methodLink "MassclaimModel" (356 : Nat) ({ cls := "MassclaimModel", name := "bind", desc := "()V" } : Jvm.MethodName)) ∈ lw_all := lw_g (lw_at lw_m10 51 rfl) rfl
theorem q2276 : (Jvm.Cond.privateMethod ({ cls := "MassclaimModel", name := "bind", desc := "()V" } : Jvm.MethodName)) ∈ lw_tbl := lw_at lw_m10 52 rfl
theorem q2277 : (Jvm.Cond.instanceMethod ({ cls := "MassclaimModel", name := "bind", desc := "()V" } : Jvm.MethodName)) ∈ lw_all := lw_g (lw_at lw_m10 53 rfl) rfl
theorem q2278 : (Jvm.Cond.code ({ cls := "MassclaimModel", name := "bind", desc := "()V" } : Jvm.MethodName) prog_14_method_47_code (6 : Nat) (Option.none : Option Jvm.ClassFile.FieldType)) ∈ lw_all := lw_g (lw_at lw_m10 54 rfl) rfl
theorem q2280 : (Jvm.Cond.instanceMethod ({ cls := "MassclaimModel", name := "vote", desc := "(IZ)I" } : Jvm.MethodName)) ∈ lw_all := lw_g (lw_at lw_m10 56 rfl) rfl
theorem q2281 : (Jvm.Cond.selects "MassclaimModel" ({ cls := "MassclaimModel", name := "vote", desc := "(IZ)I" } : Jvm.MethodName) ({ cls := "MassclaimModel", name := "vote", desc := "(IZ)I" } : Jvm.MethodName)) ∈ lw_all := lw_g (lw_at lw_m10 57 rfl) rfl
theorem q2282 : (Jvm.Cond.code ({ cls := "MassclaimModel", name := "vote", desc := "(IZ)I" } : Jvm.MethodName) prog_14_method_48_code (6 : Nat) (Option.some Jvm.ClassFile.FieldType.int)) ∈ lw_all := lw_g (lw_at lw_m10 58 rfl) rfl
theorem q2284 : (Jvm.Cond.instanceMethod ({ cls := "MassclaimModel", name := "object", desc := "(II)I" } : Jvm.MethodName)) ∈ lw_all := lw_g (lw_at lw_m10 60 rfl) rfl
theorem q2285 : (Jvm.Cond.selects "MassclaimModel" ({ cls := "MassclaimModel", name := "object", desc := "(II)I" } : Jvm.MethodName) ({ cls := "MassclaimModel", name := "object", desc := "(II)I" } : Jvm.MethodName)) ∈ lw_all := lw_g (lw_at lw_m10 61 rfl) rfl
theorem q2286 : (Jvm.Cond.code ({ cls := "MassclaimModel", name := "object", desc := "(II)I" } : Jvm.MethodName) prog_14_method_49_code (6 : Nat) (Option.some Jvm.ClassFile.FieldType.int)) ∈ lw_all := lw_g (lw_at lw_m10 62 rfl) rfl
theorem q2288 : (Jvm.Cond.instanceMethod ({ cls := "MassclaimModel", name := "raise", desc := "(I)J" } : Jvm.MethodName)) ∈ lw_all := lw_g (lw_at lw_m10 64 rfl) rfl
theorem q2289 : (Jvm.Cond.selects "MassclaimModel" ({ cls := "MassclaimModel", name := "raise", desc := "(I)J" } : Jvm.MethodName) ({ cls := "MassclaimModel", name := "raise", desc := "(I)J" } : Jvm.MethodName)) ∈ lw_all := lw_g (lw_at lw_m10 65 rfl) rfl
theorem q2290 : (Jvm.Cond.code ({ cls := "MassclaimModel", name := "raise", desc := "(I)J" } : Jvm.MethodName) prog_14_method_50_code (3 : Nat) (Option.some Jvm.ClassFile.FieldType.long)) ∈ lw_all := lw_g (lw_at lw_m10 66 rfl) rfl
theorem q2291 : (Jvm.Cond.methodLink "MassclaimModel" (362 : Nat) ({ cls := "MassclaimModel", name := "owed", desc := "()J" } : Jvm.MethodName)) ∈ lw_all := lw_g (lw_at lw_m10 67 rfl) rfl
theorem q2292 : (Jvm.Cond.privateMethod ({ cls := "MassclaimModel", name := "owed", desc := "()J" } : Jvm.MethodName)) ∈ lw_tbl := lw_at lw_m10 68 rfl
theorem q2293 : (Jvm.Cond.instanceMethod ({ cls := "MassclaimModel", name := "owed", desc := "()J" } : Jvm.MethodName)) ∈ lw_all := lw_g (lw_at lw_m10 69 rfl) rfl
theorem q2294 : (Jvm.Cond.code ({ cls := "MassclaimModel", name := "owed", desc := "()J" } : Jvm.MethodName) prog_14_method_42_code (4 : Nat) (Option.some Jvm.ClassFile.FieldType.long)) ∈ lw_all := lw_g (lw_at lw_m10 70 rfl) rfl
theorem q2296 : (Jvm.Cond.instanceMethod ({ cls := "MassclaimModel", name := "grid", desc := "(III)I" } : Jvm.MethodName)) ∈ lw_all := lw_g (lw_at lw_m10 72 rfl) rfl
theorem q2297 : (Jvm.Cond.selects "MassclaimModel" ({ cls := "MassclaimModel", name := "grid", desc := "(III)I" } : Jvm.MethodName) ({ cls := "MassclaimModel", name := "grid", desc := "(III)I" } : Jvm.MethodName)) ∈ lw_all := lw_g (lw_at lw_m10 73 rfl) rfl
theorem q2298 : (Jvm.Cond.code ({ cls := "MassclaimModel", name := "grid", desc := "(III)I" } : Jvm.MethodName) prog_14_method_52_code (6 : Nat) (Option.some Jvm.ClassFile.FieldType.int)) ∈ lw_all := lw_g (lw_at lw_m10 74 rfl) rfl
theorem q2299 : (Jvm.Cond.constantLong "MassclaimModel" (366 : Nat) (1000000 : Int64)) ∈ lw_all := lw_g (lw_at lw_m10 75 rfl) rfl
theorem q2301 : (Jvm.Cond.instanceMethod ({ cls := "MassclaimModel", name := "settings", desc := "(III)I" } : Jvm.MethodName)) ∈ lw_all := lw_g (lw_at lw_m10 77 rfl) rfl
theorem q2302 : (Jvm.Cond.selects "MassclaimModel" ({ cls := "MassclaimModel", name := "settings", desc := "(III)I" } : Jvm.MethodName) ({ cls := "MassclaimModel", name := "settings", desc := "(III)I" } : Jvm.MethodName)) ∈ lw_all := lw_g (lw_at lw_m10 78 rfl) rfl
theorem q2303 : (Jvm.Cond.code ({ cls := "MassclaimModel", name := "settings", desc := "(III)I" } : Jvm.MethodName) prog_14_method_53_code (6 : Nat) (Option.some Jvm.ClassFile.FieldType.int)) ∈ lw_all := lw_g (lw_at lw_m10 79 rfl) rfl
theorem q2305 : (Jvm.Cond.instanceMethod ({ cls := "MassclaimModel", name := "claim", desc := "(IIII)I" } : Jvm.MethodName)) ∈ lw_all := lw_g (lw_at lw_m10 81 rfl) rfl
theorem q2306 : (Jvm.Cond.selects "MassclaimModel" ({ cls := "MassclaimModel", name := "claim", desc := "(IIII)I" } : Jvm.MethodName) ({ cls := "MassclaimModel", name := "claim", desc := "(IIII)I" } : Jvm.MethodName)) ∈ lw_all := lw_g (lw_at lw_m10 82 rfl) rfl
theorem q2307 : (Jvm.Cond.code ({ cls := "MassclaimModel", name := "claim", desc := "(IIII)I" } : Jvm.MethodName) prog_14_method_55_code (9 : Nat) (Option.some Jvm.ClassFile.FieldType.int)) ∈ lw_all := lw_g (lw_at lw_m10 83 rfl) rfl
theorem q2309 : (Jvm.Cond.methodLinkNest "MassclaimModel" (379 : Nat) ({ cls := "MassclaimModel$Claim", name := "<init>", desc := "()V" } : Jvm.MethodName) "MassclaimModel") ∈ lw_tbl := lw_at lw_m10 85 rfl
theorem q2315 : (Jvm.Cond.fieldLink "MassclaimModel" (368 : Nat) "MassclaimModel$Claim" "of" "LMassclaimModel$Person;") ∈ lw_all := lw_g (lw_at lw_m10 91 rfl) rfl
theorem q2316 : (Jvm.Cond.fieldLink "MassclaimModel" (373 : Nat) "MassclaimModel$Claim" "grade" "I") ∈ lw_all := lw_g (lw_at lw_m10 92 rfl) rfl
theorem q2317 : (Jvm.Cond.fieldLink "MassclaimModel" (383 : Nat) "MassclaimModel$Claim" "fee" "I") ∈ lw_all := lw_g (lw_at lw_m10 93 rfl) rfl
theorem q2319 : (Jvm.Cond.fieldLink "MassclaimModel" (126 : Nat) "MassclaimModel$Claim" "state" "I") ∈ lw_all := lw_g (lw_at lw_m10 95 rfl) rfl
theorem q2320 : (Jvm.Cond.fieldLink "MassclaimModel" (392 : Nat) "MassclaimModel$Claim" "isAudited" "Z") ∈ lw_all := lw_g (lw_at lw_m10 96 rfl) rfl
theorem q2321 : (Jvm.Cond.fieldLink "MassclaimModel" (426 : Nat) "MassclaimModel$Claim" "isAppealed" "Z") ∈ lw_all := lw_g (lw_at lw_m10 97 rfl) rfl
theorem q2322 : (Jvm.Cond.fieldLink "MassclaimModel" (129 : Nat) "MassclaimModel$Claim" "deficient" "I") ∈ lw_all := lw_g (lw_at lw_m10 98 rfl) rfl
theorem q2324 : (Jvm.Cond.fieldLink "MassclaimModel" (423 : Nat) "MassclaimModel$Claim" "parts" "I") ∈ lw_all := lw_g (lw_at lw_m10 100 rfl) rfl
theorem q2325 : (Jvm.Cond.fieldLink "MassclaimModel" (406 : Nat) "MassclaimModel$Claim" "got" "J") ∈ lw_all := lw_g (lw_at lw_m10 101 rfl) rfl
theorem q2327 : (Jvm.Cond.fieldLink "MassclaimModel" (386 : Nat) "MassclaimModel$Claim" "lawyers" "Ljava/util/ArrayList;") ∈ lw_all := lw_g (lw_at lw_m10 103 rfl) rfl
theorem q2349 : (Jvm.Cond.methodLink "MassclaimModel" (380 : Nat) ({ cls := "java/lang/Math", name := "min", desc := "(II)I" } : Jvm.MethodName)) ∈ lw_all := lw_g (lw_at lw_m10 125 rfl) rfl
theorem q2350 : (Jvm.Cond.methodLink "MassclaimModel" (388 : Nat) ({ cls := "MassclaimModel", name := "ring", desc := "(LMassclaimModel$Claim;)V" } : Jvm.MethodName)) ∈ lw_all := lw_g (lw_at lw_m10 126 rfl) rfl
theorem q2351 : (Jvm.Cond.privateMethod ({ cls := "MassclaimModel", name := "ring", desc := "(LMassclaimModel$Claim;)V" } : Jvm.MethodName)) ∈ lw_tbl := lw_at lw_m10 127 rfl
theorem q2352 : (Jvm.Cond.instanceMethod ({ cls := "MassclaimModel", name := "ring", desc := "(LMassclaimModel$Claim;)V" } : Jvm.MethodName)) ∈ lw_all := lw_g (lw_at lw_m10 128 rfl) rfl
theorem q2353 : (Jvm.Cond.code ({ cls := "MassclaimModel", name := "ring", desc := "(LMassclaimModel$Claim;)V" } : Jvm.MethodName) prog_14_method_57_code (4 : Nat) (Option.none : Option Jvm.ClassFile.FieldType)) ∈ lw_all := lw_g (lw_at lw_m10 129 rfl) rfl
theorem q2354 : (Jvm.Cond.methodLink "MassclaimModel" (398 : Nat) ({ cls := "MassclaimModel", name := "isAlike", desc := "(LMassclaimModel$Claim;LMassclaimModel$Claim;)Z" } : Jvm.MethodName)) ∈ lw_all := lw_g (lw_at lw_m10 130 rfl) rfl
theorem q2355 : (Jvm.Cond.static ({ cls := "MassclaimModel", name := "isAlike", desc := "(LMassclaimModel$Claim;LMassclaimModel$Claim;)Z" } : Jvm.MethodName)) ∈ lw_all := lw_g (lw_at lw_m10 131 rfl) rfl
theorem q2356 : (Jvm.Cond.code ({ cls := "MassclaimModel", name := "isAlike", desc := "(LMassclaimModel$Claim;LMassclaimModel$Claim;)Z" } : Jvm.MethodName) prog_14_method_56_code (3 : Nat) (Option.some Jvm.ClassFile.FieldType.boolean)) ∈ lw_all := lw_g (lw_at lw_m10 132 rfl) rfl
theorem q2357 : (Jvm.Cond.methodLink "MassclaimModel" (395 : Nat) ({ cls := "MassclaimModel$Claim", name := "lawyer", desc := "()I" } : Jvm.MethodName)) ∈ lw_all := lw_g (lw_at lw_m10 133 rfl) rfl
theorem q2365 : (Jvm.Cond.instanceMethod ({ cls := "MassclaimModel", name := "claimAt", desc := "(II)I" } : Jvm.MethodName)) ∈ lw_all := lw_g (lw_at lw_m10 141 rfl) rfl
theorem q2366 : (Jvm.Cond.selects "MassclaimModel" ({ cls := "MassclaimModel", name := "claimAt", desc := "(II)I" } : Jvm.MethodName) ({ cls := "MassclaimModel", name := "claimAt", desc := "(II)I" } : Jvm.MethodName)) ∈ lw_all := lw_g (lw_at lw_m10 142 rfl) rfl
theorem q2367 : (Jvm.Cond.code ({ cls := "MassclaimModel", name := "claimAt", desc := "(II)I" } : Jvm.MethodName) prog_14_method_61_code (4 : Nat) (Option.some Jvm.ClassFile.FieldType.int)) ∈ lw_all := lw_g (lw_at lw_m10 143 rfl) rfl
theorem q2368 : (Jvm.Cond.methodLink "MassclaimModel" (416 : Nat) ({ cls := "MassclaimModel", name := "isClaim", desc := "(I)Z" } : Jvm.MethodName)) ∈ lw_all := lw_g (lw_at lw_m10 144 rfl) rfl
theorem q2369 : (Jvm.Cond.privateMethod ({ cls := "MassclaimModel", name := "isClaim", desc := "(I)Z" } : Jvm.MethodName)) ∈ lw_tbl := lw_at lw_m10 145 rfl
theorem q2370 : (Jvm.Cond.instanceMethod ({ cls := "MassclaimModel", name := "isClaim", desc := "(I)Z" } : Jvm.MethodName)) ∈ lw_all := lw_g (lw_at lw_m10 146 rfl) rfl
theorem q2371 : (Jvm.Cond.code ({ cls := "MassclaimModel", name := "isClaim", desc := "(I)Z" } : Jvm.MethodName) prog_14_method_58_code (2 : Nat) (Option.some Jvm.ClassFile.FieldType.boolean)) ∈ lw_all := lw_g (lw_at lw_m10 147 rfl) rfl
theorem q2372 : (Jvm.Cond.constantLong "MassclaimModel" (419 : Nat) (7 : Int64)) ∈ lw_all := lw_g (lw_at lw_m10 148 rfl) rfl
theorem q2373 : (Jvm.Cond.methodLink "MassclaimModel" (402 : Nat) ({ cls := "MassclaimModel", name := "value", desc := "(LMassclaimModel$Claim;)J" } : Jvm.MethodName)) ∈ lw_all := lw_g (lw_at lw_m10 149 rfl) rfl
theorem q2374 : (Jvm.Cond.privateMethod ({ cls := "MassclaimModel", name := "value", desc := "(LMassclaimModel$Claim;)J" } : Jvm.MethodName)) ∈ lw_tbl := lw_at lw_m10 150 rfl
theorem q2375 : (Jvm.Cond.instanceMethod ({ cls := "MassclaimModel", name := "value", desc := "(LMassclaimModel$Claim;)J" } : Jvm.MethodName)) ∈ lw_all := lw_g (lw_at lw_m10 151 rfl) rfl
theorem q2376 : (Jvm.Cond.code ({ cls := "MassclaimModel", name := "value", desc := "(LMassclaimModel$Claim;)J" } : Jvm.MethodName) prog_14_method_54_code (10 : Nat) (Option.some Jvm.ClassFile.FieldType.long)) ∈ lw_all := lw_g (lw_at lw_m10 152 rfl) rfl
theorem q2377 : (Jvm.Cond.constantLong "MassclaimModel" (369 : Nat) (75 : Int64)) ∈ lw_all := lw_g (lw_at lw_m10 153 rfl) rfl
theorem q2378 : (Jvm.Cond.constantLong "MassclaimModel" (371 : Nat) (120 : Int64)) ∈ lw_all := lw_g (lw_at lw_m10 154 rfl) rfl
theorem q2379 : (Jvm.Cond.methodLink "MassclaimModel" (376 : Nat) ({ cls := "MassclaimModel", name := "bandOf", desc := "(I)I" } : Jvm.MethodName)) ∈ lw_all := lw_g (lw_at lw_m10 155 rfl) rfl
theorem q2380 : (Jvm.Cond.static ({ cls := "MassclaimModel", name := "bandOf", desc := "(I)I" } : Jvm.MethodName)) ∈ lw_all := lw_g (lw_at lw_m10 156 rfl) rfl
theorem q2381 : (Jvm.Cond.code ({ cls := "MassclaimModel", name := "bandOf", desc := "(I)I" } : Jvm.MethodName) prog_14_method_51_code (1 : Nat) (Option.some Jvm.ClassFile.FieldType.int)) ∈ lw_all := lw_g (lw_at lw_m10 157 rfl) rfl
theorem q2382 : (Jvm.Cond.methodLink "MassclaimModel" (412 : Nat) ({ cls := "MassclaimModel", name := "due", desc := "(LMassclaimModel$Claim;I)J" } : Jvm.MethodName)) ∈ lw_all := lw_g (lw_at lw_m10 158 rfl) rfl
theorem q2383 : (Jvm.Cond.privateMethod ({ cls := "MassclaimModel", name := "due", desc := "(LMassclaimModel$Claim;I)J" } : Jvm.MethodName)) ∈ lw_tbl := lw_at lw_m10 159 rfl
theorem q2384 : (Jvm.Cond.instanceMethod ({ cls := "MassclaimModel", name := "due", desc := "(LMassclaimModel$Claim;I)J" } : Jvm.MethodName)) ∈ lw_all := lw_g (lw_at lw_m10 160 rfl) rfl
theorem q2385 : (Jvm.Cond.code ({ cls := "MassclaimModel", name := "due", desc := "(LMassclaimModel$Claim;I)J" } : Jvm.MethodName) prog_14_method_59_code (3 : Nat) (Option.some Jvm.ClassFile.FieldType.long)) ∈ lw_all := lw_g (lw_at lw_m10 161 rfl) rfl
theorem q2386 : (Jvm.Cond.methodLink "MassclaimModel" (409 : Nat) ({ cls := "java/lang/Math", name := "max", desc := "(JJ)J" } : Jvm.MethodName)) ∈ lw_all := lw_g (lw_at lw_m10 162 rfl) rfl
theorem q2388 : (Jvm.Cond.instanceMethod ({ cls := "MassclaimModel", name := "takeOver", desc := "(II)I" } : Jvm.MethodName)) ∈ lw_all := lw_g (lw_at lw_m10 164 rfl) rfl
theorem q2389 : (Jvm.Cond.selects "MassclaimModel" ({ cls := "MassclaimModel", name := "takeOver", desc := "(II)I" } : Jvm.MethodName) ({ cls := "MassclaimModel", name := "takeOver", desc := "(II)I" } : Jvm.MethodName)) ∈ lw_all := lw_g (lw_at lw_m10 165 rfl) rfl
theorem q2390 : (Jvm.Cond.code ({ cls := "MassclaimModel", name := "takeOver", desc := "(II)I" } : Jvm.MethodName) prog_14_method_62_code (5 : Nat) (Option.some Jvm.ClassFile.FieldType.int)) ∈ lw_all := lw_g (lw_at lw_m10 166 rfl) rfl
theorem q2392 : (Jvm.Cond.instanceMethod ({ cls := "MassclaimModel", name := "parts", desc := "(II)I" } : Jvm.MethodName)) ∈ lw_all := lw_g (lw_at lw_m10 168 rfl) rfl
theorem q2393 : (Jvm.Cond.selects "MassclaimModel" ({ cls := "MassclaimModel", name := "parts", desc := "(II)I" } : Jvm.MethodName) ({ cls := "MassclaimModel", name := "parts", desc := "(II)I" } : Jvm.MethodName)) ∈ lw_all := lw_g (lw_at lw_m10 169 rfl) rfl
theorem q2394 : (Jvm.Cond.code ({ cls := "MassclaimModel", name := "parts", desc := "(II)I" } : Jvm.MethodName) prog_14_method_63_code (4 : Nat) (Option.some Jvm.ClassFile.FieldType.int)) ∈ lw_all := lw_g (lw_at lw_m10 170 rfl) rfl
theorem q2395 : (Jvm.Cond.constantLong "MassclaimModel" (421 : Nat) (20 : Int64)) ∈ lw_all := lw_g (lw_at lw_m10 171 rfl) rfl
theorem q2397 : (Jvm.Cond.instanceMethod ({ cls := "MassclaimModel", name := "cure", desc := "(II)I" } : Jvm.MethodName)) ∈ lw_all := lw_g (lw_at lw_m10 173 rfl) rfl
theorem q2398 : (Jvm.Cond.selects "MassclaimModel" ({ cls := "MassclaimModel", name := "cure", desc := "(II)I" } : Jvm.MethodName) ({ cls := "MassclaimModel", name := "cure", desc := "(II)I" } : Jvm.MethodName)) ∈ lw_all := lw_g (lw_at lw_m10 174 rfl) rfl
theorem q2399 : (Jvm.Cond.code ({ cls := "MassclaimModel", name := "cure", desc := "(II)I" } : Jvm.MethodName) prog_14_method_64_code (4 : Nat) (Option.some Jvm.ClassFile.FieldType.int)) ∈ lw_all := lw_g (lw_at lw_m10 175 rfl) rfl
theorem q2400 : (Jvm.Cond.constantLong "MassclaimModel" (424 : Nat) (-1 : Int64)) ∈ lw_all := lw_g (lw_at lw_m10 176 rfl) rfl
theorem q2402 : (Jvm.Cond.instanceMethod ({ cls := "MassclaimModel", name := "sample", desc := "(I)I" } : Jvm.MethodName)) ∈ lw_all := lw_g (lw_at lw_m10 178 rfl) rfl
theorem q2403 : (Jvm.Cond.selects "MassclaimModel" ({ cls := "MassclaimModel", name := "sample", desc := "(I)I" } : Jvm.MethodName) ({ cls := "MassclaimModel", name := "sample", desc := "(I)I" } : Jvm.MethodName)) ∈ lw_all := lw_g (lw_at lw_m10 179 rfl) rfl
theorem q2404 : (Jvm.Cond.code ({ cls := "MassclaimModel", name := "sample", desc := "(I)I" } : Jvm.MethodName) prog_14_method_65_code (5 : Nat) (Option.some Jvm.ClassFile.FieldType.int)) ∈ lw_all := lw_g (lw_at lw_m10 180 rfl) rfl
theorem q2406 : (Jvm.Cond.instanceMethod ({ cls := "MassclaimModel", name := "audit", desc := "(IZ)I" } : Jvm.MethodName)) ∈ lw_all := lw_g (lw_at lw_m10 182 rfl) rfl
theorem q2407 : (Jvm.Cond.selects "MassclaimModel" ({ cls := "MassclaimModel", name := "audit", desc := "(IZ)I" } : Jvm.MethodName) ({ cls := "MassclaimModel", name := "audit", desc := "(IZ)I" } : Jvm.MethodName)) ∈ lw_all := lw_g (lw_at lw_m10 183 rfl) rfl
theorem q2408 : (Jvm.Cond.code ({ cls := "MassclaimModel", name := "audit", desc := "(IZ)I" } : Jvm.MethodName) prog_14_method_66_code (4 : Nat) (Option.some Jvm.ClassFile.FieldType.int)) ∈ lw_all := lw_g (lw_at lw_m10 184 rfl) rfl
theorem q2410 : (Jvm.Cond.instanceMethod ({ cls := "MassclaimModel", name := "appeal", desc := "(IZ)I" } : Jvm.MethodName)) ∈ lw_all := lw_g (lw_at lw_m10 186 rfl) rfl
theorem q2411 : (Jvm.Cond.selects "MassclaimModel" ({ cls := "MassclaimModel", name := "appeal", desc := "(IZ)I" } : Jvm.MethodName) ({ cls := "MassclaimModel", name := "appeal", desc := "(IZ)I" } : Jvm.MethodName)) ∈ lw_all := lw_g (lw_at lw_m10 187 rfl) rfl
theorem q2412 : (Jvm.Cond.code ({ cls := "MassclaimModel", name := "appeal", desc := "(IZ)I" } : Jvm.MethodName) prog_14_method_67_code (4 : Nat) (Option.some Jvm.ClassFile.FieldType.int)) ∈ lw_all := lw_g (lw_at lw_m10 188 rfl) rfl
theorem q2414 : (Jvm.Cond.instanceMethod ({ cls := "MassclaimModel", name := "percent", desc := "(I)Z" } : Jvm.MethodName)) ∈ lw_all := lw_g (lw_at lw_m10 190 rfl) rfl
theorem q2415 : (Jvm.Cond.selects "MassclaimModel" ({ cls := "MassclaimModel", name := "percent", desc := "(I)Z" } : Jvm.MethodName) ({ cls := "MassclaimModel", name := "percent", desc := "(I)Z" } : Jvm.MethodName)) ∈ lw_all := lw_g (lw_at lw_m10 191 rfl) rfl
theorem q2416 : (Jvm.Cond.code ({ cls := "MassclaimModel", name := "percent", desc := "(I)Z" } : Jvm.MethodName) prog_14_method_69_code (3 : Nat) (Option.some Jvm.ClassFile.FieldType.boolean)) ∈ lw_all := lw_g (lw_at lw_m10 192 rfl) rfl
theorem q2417 : (Jvm.Cond.methodLink "MassclaimModel" (429 : Nat) ({ cls := "MassclaimModel", name := "allDue", desc := "(I)J" } : Jvm.MethodName)) ∈ lw_all := lw_g (lw_at lw_m10 193 rfl) rfl
theorem q2418 : (Jvm.Cond.privateMethod ({ cls := "MassclaimModel", name := "allDue", desc := "(I)J" } : Jvm.MethodName)) ∈ lw_tbl := lw_at lw_m10 194 rfl
theorem q2419 : (Jvm.Cond.instanceMethod ({ cls := "MassclaimModel", name := "allDue", desc := "(I)J" } : Jvm.MethodName)) ∈ lw_all := lw_g (lw_at lw_m10 195 rfl) rfl
theorem q2420 : (Jvm.Cond.code ({ cls := "MassclaimModel", name := "allDue", desc := "(I)J" } : Jvm.MethodName) prog_14_method_60_code (5 : Nat) (Option.some Jvm.ClassFile.FieldType.long)) ∈ lw_all := lw_g (lw_at lw_m10 196 rfl) rfl
theorem q2421 : (Jvm.Cond.methodLink "MassclaimModel" (433 : Nat) ({ cls := "MassclaimModel", name := "reserve", desc := "(I)J" } : Jvm.MethodName)) ∈ lw_all := lw_g (lw_at lw_m10 197 rfl) rfl
theorem q2422 : (Jvm.Cond.privateMethod ({ cls := "MassclaimModel", name := "reserve", desc := "(I)J" } : Jvm.MethodName)) ∈ lw_tbl := lw_at lw_m10 198 rfl
theorem q2423 : (Jvm.Cond.instanceMethod ({ cls := "MassclaimModel", name := "reserve", desc := "(I)J" } : Jvm.MethodName)) ∈ lw_all := lw_g (lw_at lw_m10 199 rfl) rfl
theorem q2424 : (Jvm.Cond.code ({ cls := "MassclaimModel", name := "reserve", desc := "(I)J" } : Jvm.MethodName) prog_14_method_68_code (6 : Nat) (Option.some Jvm.ClassFile.FieldType.long)) ∈ lw_all := lw_g (lw_at lw_m10 200 rfl) rfl
theorem q2426 : (Jvm.Cond.instanceMethod ({ cls := "MassclaimModel", name := "pay", desc := "()J" } : Jvm.MethodName)) ∈ lw_all := lw_g (lw_at lw_m10 202 rfl) rfl
theorem q2427 : (Jvm.Cond.selects "MassclaimModel" ({ cls := "MassclaimModel", name := "pay", desc := "()J" } : Jvm.MethodName) ({ cls := "MassclaimModel", name := "pay", desc := "()J" } : Jvm.MethodName)) ∈ lw_all := lw_g (lw_at lw_m10 203 rfl) rfl
theorem q2428 : (Jvm.Cond.code ({ cls := "MassclaimModel", name := "pay", desc := "()J" } : Jvm.MethodName) prog_14_method_70_code (9 : Nat) (Option.some Jvm.ClassFile.FieldType.long)) ∈ lw_all := lw_g (lw_at lw_m10 204 rfl) rfl
theorem q2429 : (Jvm.Cond.methodLink "MassclaimModel" (436 : Nat) ({ cls := "MassclaimModel", name := "payOut", desc := "(LMassclaimModel$Claim;J)V" } : Jvm.MethodName)) ∈ lw_all := lw_g (lw_at lw_m10 205 rfl) rfl
theorem q2430 : (Jvm.Cond.privateMethod ({ cls := "MassclaimModel", name := "payOut", desc := "(LMassclaimModel$Claim;J)V" } : Jvm.MethodName)) ∈ lw_tbl := lw_at lw_m10 206 rfl
theorem q2431 : (Jvm.Cond.instanceMethod ({ cls := "MassclaimModel", name := "payOut", desc := "(LMassclaimModel$Claim;J)V" } : Jvm.MethodName)) ∈ lw_all := lw_g (lw_at lw_m10 207 rfl) rfl
theorem q2432 : (Jvm.Cond.code ({ cls := "MassclaimModel", name := "payOut", desc := "(LMassclaimModel$Claim;J)V" } : Jvm.MethodName) prog_14_method_71_code (12 : Nat) (Option.none : Option Jvm.ClassFile.FieldType)) ∈ lw_all := lw_g (lw_at lw_m10 208 rfl) rfl
theorem q2433 : (Jvm.Cond.constantLong "MassclaimModel" (440 : Nat) (6 : Int64)) ∈ lw_all := lw_g (lw_at lw_m10 209 rfl) rfl
theorem q2434 : (Jvm.Cond.methodLink "MassclaimModel" (442 : Nat) ({ cls := "MassclaimModel", name := "payLawyers", desc := "(LMassclaimModel$Claim;J)V" } : Jvm.MethodName)) ∈ lw_all := lw_g (lw_at lw_m10 210 rfl) rfl
theorem q2435 : (Jvm.Cond.privateMethod ({ cls := "MassclaimModel", name := "payLawyers", desc := "(LMassclaimModel$Claim;J)V" } : Jvm.MethodName)) ∈ lw_tbl := lw_at lw_m10 211 rfl
theorem q2436 : (Jvm.Cond.instanceMethod ({ cls := "MassclaimModel", name := "payLawyers", desc := "(LMassclaimModel$Claim;J)V" } : Jvm.MethodName)) ∈ lw_all := lw_g (lw_at lw_m10 212 rfl) rfl
theorem q2437 : (Jvm.Cond.code ({ cls := "MassclaimModel", name := "payLawyers", desc := "(LMassclaimModel$Claim;J)V" } : Jvm.MethodName) prog_14_method_72_code (12 : Nat) (Option.none : Option Jvm.ClassFile.FieldType)) ∈ lw_all := lw_g (lw_at lw_m10 213 rfl) rfl
theorem q2438 : (Jvm.Cond.methodLink "MassclaimModel" (445 : Nat) ({ cls := "MassclaimModel", name := "payLiens", desc := "(LMassclaimModel$Person;J)J" } : Jvm.MethodName)) ∈ lw_all := lw_g (lw_at lw_m10 214 rfl) rfl
theorem q2439 : (Jvm.Cond.privateMethod ({ cls := "MassclaimModel", name := "payLiens", desc := "(LMassclaimModel$Person;J)J" } : Jvm.MethodName)) ∈ lw_tbl := lw_at lw_m10 215 rfl
theorem q2440 : (Jvm.Cond.instanceMethod ({ cls := "MassclaimModel", name := "payLiens", desc := "(LMassclaimModel$Person;J)J" } : Jvm.MethodName)) ∈ lw_all := lw_g (lw_at lw_m10 216 rfl) rfl
theorem q2441 : (Jvm.Cond.code ({ cls := "MassclaimModel", name := "payLiens", desc := "(LMassclaimModel$Person;J)J" } : Jvm.MethodName) prog_14_method_73_code (10 : Nat) (Option.some Jvm.ClassFile.FieldType.long)) ∈ lw_all := lw_g (lw_at lw_m10 217 rfl) rfl
theorem q2442 : (Jvm.Cond.methodLink "MassclaimModel" (449 : Nat) ({ cls := "MassclaimModel", name := "deliver", desc := "(LMassclaimModel$Claim;J)V" } : Jvm.MethodName)) ∈ lw_all := lw_g (lw_at lw_m10 218 rfl) rfl
theorem q2443 : (Jvm.Cond.privateMethod ({ cls := "MassclaimModel", name := "deliver", desc := "(LMassclaimModel$Claim;J)V" } : Jvm.MethodName)) ∈ lw_tbl := lw_at lw_m10 219 rfl
theorem q2444 : (Jvm.Cond.instanceMethod ({ cls := "MassclaimModel", name := "deliver", desc := "(LMassclaimModel$Claim;J)V" } : Jvm.MethodName)) ∈ lw_all := lw_g (lw_at lw_m10 220 rfl) rfl
theorem q2445 : (Jvm.Cond.code ({ cls := "MassclaimModel", name := "deliver", desc := "(LMassclaimModel$Claim;J)V" } : Jvm.MethodName) prog_14_method_74_code (5 : Nat) (Option.none : Option Jvm.ClassFile.FieldType)) ∈ lw_all := lw_g (lw_at lw_m10 221 rfl) rfl
theorem q2447 : (Jvm.Cond.methodLink "MassclaimModel" (458 : Nat) ({ cls := "MassclaimModel$Row", name := "<init>", desc := "(JII)V" } : Jvm.MethodName)) ∈ lw_all := lw_g (lw_at lw_m10 223 rfl) rfl
theorem q2452 : (Jvm.Cond.fieldLink "MassclaimModel" (164 : Nat) "MassclaimModel$Row" "left" "J") ∈ lw_all := lw_g (lw_at lw_m10 228 rfl) rfl
theorem q2454 : (Jvm.Cond.fieldLink "MassclaimModel" (155 : Nat) "MassclaimModel$Row" "parts" "I") ∈ lw_all := lw_g (lw_at lw_m10 230 rfl) rfl
theorem q2456 : (Jvm.Cond.fieldLink "MassclaimModel" (158 : Nat) "MassclaimModel$Row" "day" "I") ∈ lw_all := lw_g (lw_at lw_m10 232 rfl) rfl
theorem q2457 : (Jvm.Cond.fieldLink "MassclaimModel" (161 : Nat) "MassclaimModel$Row" "years" "I") ∈ lw_all := lw_g (lw_at lw_m10 233 rfl) rfl
theorem q2467 : (Jvm.Cond.methodLink "MassclaimModel" (452 : Nat) ({ cls := "MassclaimModel", name := "freeHeld", desc := "(LMassclaimModel$Person;)V" } : Jvm.MethodName)) ∈ lw_all := lw_g (lw_at lw_m11 3 rfl) rfl
theorem q2468 : (Jvm.Cond.privateMethod ({ cls := "MassclaimModel", name := "freeHeld", desc := "(LMassclaimModel$Person;)V" } : Jvm.MethodName)) ∈ lw_tbl := lw_at lw_m11 4 rfl
theorem q2469 : (Jvm.Cond.instanceMethod ({ cls := "MassclaimModel", name := "freeHeld", desc := "(LMassclaimModel$Person;)V" } : Jvm.MethodName)) ∈ lw_all := lw_g (lw_at lw_m11 5 rfl) rfl
theorem q2470 : (Jvm.Cond.code ({ cls := "MassclaimModel", name := "freeHeld", desc := "(LMassclaimModel$Person;)V" } : Jvm.MethodName) prog_14_method_75_code (4 : Nat) (Option.none : Option Jvm.ClassFile.FieldType)) ∈ lw_all := lw_g (lw_at lw_m11 6 rfl) rfl
theorem q2472 : (Jvm.Cond.instanceMethod ({ cls := "MassclaimModel", name := "lien", desc := "(IIZ)I" } : Jvm.MethodName)) ∈ lw_all := lw_g (lw_at lw_m11 8 rfl) rfl
theorem q2473 : (Jvm.Cond.selects "MassclaimModel" ({ cls := "MassclaimModel", name := "lien", desc := "(IIZ)I" } : Jvm.MethodName) ({ cls := "MassclaimModel", name := "lien", desc := "(IIZ)I" } : Jvm.MethodName)) ∈ lw_all := lw_g (lw_at lw_m11 9 rfl) rfl
theorem q2474 : (Jvm.Cond.code ({ cls := "MassclaimModel", name := "lien", desc := "(IIZ)I" } : Jvm.MethodName) prog_14_method_77_code (5 : Nat) (Option.some Jvm.ClassFile.FieldType.int)) ∈ lw_all := lw_g (lw_at lw_m11 10 rfl) rfl
theorem q2476 : (Jvm.Cond.methodLinkNest "MassclaimModel" (461 : Nat) ({ cls := "MassclaimModel$Lien", name := "<init>", desc := "()V" } : Jvm.MethodName) "MassclaimModel") ∈ lw_tbl := lw_at lw_m11 12 rfl
theorem q2480 : (Jvm.Cond.fieldLink "MassclaimModel" (258 : Nat) "MassclaimModel$Lien" "of" "LMassclaimModel$Person;") ∈ lw_all := lw_g (lw_at lw_m11 16 rfl) rfl
theorem q2481 : (Jvm.Cond.fieldLink "MassclaimModel" (262 : Nat) "MassclaimModel$Lien" "open" "I") ∈ lw_all := lw_g (lw_at lw_m11 17 rfl) rfl
theorem q2482 : (Jvm.Cond.fieldLink "MassclaimModel" (455 : Nat) "MassclaimModel$Lien" "isState" "Z") ∈ lw_all := lw_g (lw_at lw_m11 18 rfl) rfl
theorem q2491 : (Jvm.Cond.instanceMethod ({ cls := "MassclaimModel", name := "waive", desc := "(I)I" } : Jvm.MethodName)) ∈ lw_all := lw_g (lw_at lw_m11 27 rfl) rfl
theorem q2492 : (Jvm.Cond.selects "MassclaimModel" ({ cls := "MassclaimModel", name := "waive", desc := "(I)I" } : Jvm.MethodName) ({ cls := "MassclaimModel", name := "waive", desc := "(I)I" } : Jvm.MethodName)) ∈ lw_all := lw_g (lw_at lw_m11 28 rfl) rfl
theorem q2493 : (Jvm.Cond.code ({ cls := "MassclaimModel", name := "waive", desc := "(I)I" } : Jvm.MethodName) prog_14_method_78_code (4 : Nat) (Option.some Jvm.ClassFile.FieldType.int)) ∈ lw_all := lw_g (lw_at lw_m11 29 rfl) rfl
theorem q2495 : (Jvm.Cond.instanceMethod ({ cls := "MassclaimModel", name := "end", desc := "()J" } : Jvm.MethodName)) ∈ lw_all := lw_g (lw_at lw_m11 31 rfl) rfl
theorem q2496 : (Jvm.Cond.selects "MassclaimModel" ({ cls := "MassclaimModel", name := "end", desc := "()J" } : Jvm.MethodName) ({ cls := "MassclaimModel", name := "end", desc := "()J" } : Jvm.MethodName)) ∈ lw_all := lw_g (lw_at lw_m11 32 rfl) rfl
theorem q2497 : (Jvm.Cond.code ({ cls := "MassclaimModel", name := "end", desc := "()J" } : Jvm.MethodName) prog_14_method_80_code (2 : Nat) (Option.some Jvm.ClassFile.FieldType.long)) ∈ lw_all := lw_g (lw_at lw_m11 33 rfl) rfl
theorem q2498 : (Jvm.Cond.methodLink "MassclaimModel" (462 : Nat) ({ cls := "MassclaimModel", name := "in", desc := "(I)I" } : Jvm.MethodName)) ∈ lw_all := lw_g (lw_at lw_m11 34 rfl) rfl
theorem q2499 : (Jvm.Cond.privateMethod ({ cls := "MassclaimModel", name := "in", desc := "(I)I" } : Jvm.MethodName)) ∈ lw_tbl := lw_at lw_m11 35 rfl
theorem q2500 : (Jvm.Cond.instanceMethod ({ cls := "MassclaimModel", name := "in", desc := "(I)I" } : Jvm.MethodName)) ∈ lw_all := lw_g (lw_at lw_m11 36 rfl) rfl
theorem q2501 : (Jvm.Cond.code ({ cls := "MassclaimModel", name := "in", desc := "(I)I" } : Jvm.MethodName) prog_14_method_79_code (4 : Nat) (Option.some Jvm.ClassFile.FieldType.int)) ∈ lw_all := lw_g (lw_at lw_m11 37 rfl) rfl
theorem q2503 : (Jvm.Cond.instanceMethod ({ cls := "MassclaimModel", name := "fundAt", desc := "(I)J" } : Jvm.MethodName)) ∈ lw_all := lw_g (lw_at lw_m11 39 rfl) rfl
theorem q2504 : (Jvm.Cond.selects "MassclaimModel" ({ cls := "MassclaimModel", name := "fundAt", desc := "(I)J" } : Jvm.MethodName) ({ cls := "MassclaimModel", name := "fundAt", desc := "(I)J" } : Jvm.MethodName)) ∈ lw_all := lw_g (lw_at lw_m11 40 rfl) rfl
theorem q2505 : (Jvm.Cond.code ({ cls := "MassclaimModel", name := "fundAt", desc := "(I)J" } : Jvm.MethodName) prog_14_method_81_code (5 : Nat) (Option.some Jvm.ClassFile.FieldType.long)) ∈ lw_all := lw_g (lw_at lw_m11 41 rfl) rfl
theorem q2506 : (Jvm.Cond.constantLong "MassclaimModel" (465 : Nat) (11 : Int64)) ∈ lw_all := lw_g (lw_at lw_m11 42 rfl) rfl
theorem q2507 : (Jvm.Cond.methodLink "MassclaimModel" (467 : Nat) ({ cls := "MassclaimModel", name := "delivered", desc := "()J" } : Jvm.MethodName)) ∈ lw_all := lw_g (lw_at lw_m11 43 rfl) rfl
theorem q2508 : (Jvm.Cond.privateMethod ({ cls := "MassclaimModel", name := "delivered", desc := "()J" } : Jvm.MethodName)) ∈ lw_tbl := lw_at lw_m11 44 rfl
theorem q2509 : (Jvm.Cond.instanceMethod ({ cls := "MassclaimModel", name := "delivered", desc := "()J" } : Jvm.MethodName)) ∈ lw_all := lw_g (lw_at lw_m11 45 rfl) rfl
theorem q2510 : (Jvm.Cond.code ({ cls := "MassclaimModel", name := "delivered", desc := "()J" } : Jvm.MethodName) prog_14_method_82_code (4 : Nat) (Option.some Jvm.ClassFile.FieldType.long)) ∈ lw_all := lw_g (lw_at lw_m11 46 rfl) rfl
theorem q2511 : (Jvm.Cond.methodLink "MassclaimModel" (469 : Nat) ({ cls := "MassclaimModel", name := "lies", desc := "()J" } : Jvm.MethodName)) ∈ lw_all := lw_g (lw_at lw_m11 47 rfl) rfl
theorem q2512 : (Jvm.Cond.privateMethod ({ cls := "MassclaimModel", name := "lies", desc := "()J" } : Jvm.MethodName)) ∈ lw_tbl := lw_at lw_m11 48 rfl
theorem q2513 : (Jvm.Cond.instanceMethod ({ cls := "MassclaimModel", name := "lies", desc := "()J" } : Jvm.MethodName)) ∈ lw_all := lw_g (lw_at lw_m11 49 rfl) rfl
theorem q2514 : (Jvm.Cond.code ({ cls := "MassclaimModel", name := "lies", desc := "()J" } : Jvm.MethodName) prog_14_method_83_code (4 : Nat) (Option.some Jvm.ClassFile.FieldType.long)) ∈ lw_all := lw_g (lw_at lw_m11 50 rfl) rfl
theorem q2515 : (Jvm.Cond.methodLink "MassclaimModel" (472 : Nat) ({ cls := "MassclaimModel", name := "apart", desc := "()J" } : Jvm.MethodName)) ∈ lw_all := lw_g (lw_at lw_m11 51 rfl) rfl
theorem q2516 : (Jvm.Cond.privateMethod ({ cls := "MassclaimModel", name := "apart", desc := "()J" } : Jvm.MethodName)) ∈ lw_tbl := lw_at lw_m11 52 rfl
theorem q2517 : (Jvm.Cond.instanceMethod ({ cls := "MassclaimModel", name := "apart", desc := "()J" } : Jvm.MethodName)) ∈ lw_all := lw_g (lw_at lw_m11 53 rfl) rfl
theorem q2518 : (Jvm.Cond.code ({ cls := "MassclaimModel", name := "apart", desc := "()J" } : Jvm.MethodName) prog_14_method_84_code (5 : Nat) (Option.some Jvm.ClassFile.FieldType.long)) ∈ lw_all := lw_g (lw_at lw_m11 54 rfl) rfl
theorem q2519 : (Jvm.Cond.methodLink "MassclaimModel" (475 : Nat) ({ cls := "java/lang/Math", name := "abs", desc := "(J)J" } : Jvm.MethodName)) ∈ lw_all := lw_g (lw_at lw_m11 55 rfl) rfl
theorem q2521 : (Jvm.Cond.instanceMethod ({ cls := "MassclaimModel", name := "lawyerAt", desc := "(I)J" } : Jvm.MethodName)) ∈ lw_all := lw_g (lw_at lw_m11 57 rfl) rfl
theorem q2522 : (Jvm.Cond.selects "MassclaimModel" ({ cls := "MassclaimModel", name := "lawyerAt", desc := "(I)J" } : Jvm.MethodName) ({ cls := "MassclaimModel", name := "lawyerAt", desc := "(I)J" } : Jvm.MethodName)) ∈ lw_all := lw_g (lw_at lw_m11 58 rfl) rfl
theorem q2523 : (Jvm.Cond.code ({ cls := "MassclaimModel", name := "lawyerAt", desc := "(I)J" } : Jvm.MethodName) prog_14_method_85_code (2 : Nat) (Option.some Jvm.ClassFile.FieldType.long)) ∈ lw_all := lw_g (lw_at lw_m11 59 rfl) rfl
theorem q2525 : (Jvm.Cond.instanceMethod ({ cls := "MassclaimModel", name := "count", desc := "(I)I" } : Jvm.MethodName)) ∈ lw_all := lw_g (lw_at lw_m11 61 rfl) rfl
theorem q2526 : (Jvm.Cond.selects "MassclaimModel" ({ cls := "MassclaimModel", name := "count", desc := "(I)I" } : Jvm.MethodName) ({ cls := "MassclaimModel", name := "count", desc := "(I)I" } : Jvm.MethodName)) ∈ lw_all := lw_g (lw_at lw_m11 62 rfl) rfl
theorem q2527 : (Jvm.Cond.code ({ cls := "MassclaimModel", name := "count", desc := "(I)I" } : Jvm.MethodName) prog_14_method_86_code (4 : Nat) (Option.some Jvm.ClassFile.FieldType.int)) ∈ lw_all := lw_g (lw_at lw_m11 63 rfl) rfl
theorem q2528 : (Jvm.Cond.methodLink "MassclaimModel" (479 : Nat) ({ cls := "MassclaimModel", name := "openLiens", desc := "()I" } : Jvm.MethodName)) ∈ lw_all := lw_g (lw_at lw_m11 64 rfl) rfl
theorem q2529 : (Jvm.Cond.privateMethod ({ cls := "MassclaimModel", name := "openLiens", desc := "()I" } : Jvm.MethodName)) ∈ lw_tbl := lw_at lw_m11 65 rfl
theorem q2530 : (Jvm.Cond.instanceMethod ({ cls := "MassclaimModel", name := "openLiens", desc := "()I" } : Jvm.MethodName)) ∈ lw_all := lw_g (lw_at lw_m11 66 rfl) rfl
theorem q2531 : (Jvm.Cond.code ({ cls := "MassclaimModel", name := "openLiens", desc := "()I" } : Jvm.MethodName) prog_14_method_76_code (3 : Nat) (Option.some Jvm.ClassFile.FieldType.int)) ∈ lw_all := lw_g (lw_at lw_m11 67 rfl) rfl
theorem q2533 : (Jvm.Cond.instanceMethod ({ cls := "MassclaimModel", name := "errors", desc := "()I" } : Jvm.MethodName)) ∈ lw_all := lw_g (lw_at lw_m11 69 rfl) rfl
theorem q2534 : (Jvm.Cond.selects "MassclaimModel" ({ cls := "MassclaimModel", name := "errors", desc := "()I" } : Jvm.MethodName) ({ cls := "MassclaimModel", name := "errors", desc := "()I" } : Jvm.MethodName)) ∈ lw_all := lw_g (lw_at lw_m11 70 rfl) rfl
theorem q2535 : (Jvm.Cond.code ({ cls := "MassclaimModel", name := "errors", desc := "()I" } : Jvm.MethodName) prog_14_method_87_code (1 : Nat) (Option.some Jvm.ClassFile.FieldType.int)) ∈ lw_all := lw_g (lw_at lw_m11 71 rfl) rfl
theorem q2537 : (Jvm.Cond.instanceMethod ({ cls := "MassclaimModel", name := "paidBits", desc := "()I" } : Jvm.MethodName)) ∈ lw_all := lw_g (lw_at lw_m11 73 rfl) rfl
theorem q2538 : (Jvm.Cond.selects "MassclaimModel" ({ cls := "MassclaimModel", name := "paidBits", desc := "()I" } : Jvm.MethodName) ({ cls := "MassclaimModel", name := "paidBits", desc := "()I" } : Jvm.MethodName)) ∈ lw_all := lw_g (lw_at lw_m11 74 rfl) rfl
theorem q2539 : (Jvm.Cond.code ({ cls := "MassclaimModel", name := "paidBits", desc := "()I" } : Jvm.MethodName) prog_14_method_88_code (6 : Nat) (Option.some Jvm.ClassFile.FieldType.int)) ∈ lw_all := lw_g (lw_at lw_m11 75 rfl) rfl
theorem q2540 : (Jvm.Cond.methodLink "MassclaimModel" (482 : Nat) ({ cls := "java/lang/Float", name := "floatToIntBits", desc := "(F)I" } : Jvm.MethodName)) ∈ lw_all := lw_g (lw_at lw_m11 76 rfl) rfl
theorem q2542 : (Jvm.Cond.instanceMethod ({ cls := "MassclaimModel", name := "meanDelivered", desc := "()D" } : Jvm.MethodName)) ∈ lw_all := lw_g (lw_at lw_m11 78 rfl) rfl
theorem q2543 : (Jvm.Cond.selects "MassclaimModel" ({ cls := "MassclaimModel", name := "meanDelivered", desc := "()D" } : Jvm.MethodName) ({ cls := "MassclaimModel", name := "meanDelivered", desc := "()D" } : Jvm.MethodName)) ∈ lw_all := lw_g (lw_at lw_m11 79 rfl) rfl
theorem q2544 : (Jvm.Cond.code ({ cls := "MassclaimModel", name := "meanDelivered", desc := "()D" } : Jvm.MethodName) prog_14_method_89_code (1 : Nat) (Option.some Jvm.ClassFile.FieldType.double)) ∈ lw_all := lw_g (lw_at lw_m11 80 rfl) rfl
theorem q2566 : (Jvm.Cond.castable "MassclaimModel" "java/lang/Object") ∈ lw_tbl := lw_at lw_m11 102 rfl
theorem in_X4 : ∀ w ∈ wsX40, w ∈ lw_all := lw_in wsX40 [1869, 1871, 1873, 1875, 1877, 1879, 1881, 1883, 1885, 1887, 1889, 1891, 1893, 1895, 1897, 1899, 1901, 1903, 1905, 1907, 1909, 1911, 1913, 1915, 1917, 1919, 1921, 1923, 1925] (by decide +kernel) (by decide +kernel)
