/-! Massclaim -/
set_option maxRecDepth 100000
def RX1 : String := "Massclaim"
def TX1 : u_T := fun k => match k with
  | 0 => ("Massclaim", "persons", "LMassclaim$Row;", true)
  | 1 => ("Massclaim", "subclasses", "LMassclaim$Row;", true)
  | 2 => ("Massclaim", "defendants", "LMassclaim$Row;", true)
  | 3 => ("Massclaim", "claims", "LMassclaim$Row;", true)
  | 4 => ("Massclaim", "liens", "LMassclaim$Row;", true)
  | 5 => ("Massclaim", "grid", "[[I", true)
  | 6 => ("Massclaim", "verdicts", "[J", true)
  | 7 => ("Massclaim", "verdictMany", "[I", true)
  | 8 => ("Massclaim", "out", "LMassclaim$Out;", false)
  | 9 => ("Massclaim", "deal", "LMassclaim$Deal;", false)
  | 10 => ("Massclaim", "products", "I", false)
  | 11 => ("Massclaim", "states", "I", false)
  | 12 => ("Massclaim", "least", "I", false)
  | 13 => ("Massclaim", "cap", "I", false)
  | 14 => ("Massclaim", "chance", "I", false)
  | 15 => ("Massclaim", "order", "I", false)
  | 16 => ("Massclaim", "percent", "I", false)
  | 17 => ("Massclaim", "fund", "J", false)
  | _ => ("Massclaim", "today", "I", false)
def tyX1 : Nat → FieldType := fun k => match k with
  | 0 => .object "Massclaim$Row"
  | 1 => .object "Massclaim$Row"
  | 2 => .object "Massclaim$Row"
  | 3 => .object "Massclaim$Row"
  | 4 => .object "Massclaim$Row"
  | 5 => .array (.array .int)
  | 6 => .array .long
  | 7 => .array .int
  | 8 => .object "Massclaim$Out"
  | 9 => .object "Massclaim$Deal"
  | 10 => .int
  | 11 => .int
  | 12 => .int
  | 13 => .int
  | 14 => .int
  | 15 => .int
  | 16 => .int
  | 17 => .long
  | _ => .int
abbrev wsX10 : List Cond := u_ws RX1 TX1 19
set_option maxRecDepth 100000 in
theorem nmX1 : ∀ a, a < 19 → ∀ b, b < 19 → a ≠ b → (TX1 a).2.1 ≠ (TX1 b).2.1 := by decide +kernel
set_option maxRecDepth 100000 in
theorem tyX1_ok : ∀ k, k < 19 → parseFieldDescriptor (TX1 k).2.2.1 = some (tyX1 k) := by decide +kernel
abbrev cX1_init : ByteArray := prog_1_method_9_code
def yX1_init : MethodName := ⟨RX1, "<init>", "()V"⟩
def dkwX1_init_4 : List UInt8 := [187, 0, 71, 89, 183, 0, 73, 181, 0, 74, 42, 182, 0, 78, 60, 177]
abbrev dktX1_init_4 : List UInt8 := dkwX1_init_4 ++ []
def dkwX1_init_3 : List UInt8 := [197, 0, 58, 2, 181, 0, 60, 42, 8, 188, 11, 181, 0, 63, 42, 8, 188, 10, 181, 0, 67, 42]
abbrev dktX1_init_3 : List UInt8 := dkwX1_init_3 ++ dktX1_init_4
def dkwX1_init_2 : List UInt8 := [16, 50, 183, 0, 41, 181, 0, 52, 42, 187, 0, 37, 89, 16, 20, 183, 0, 41, 181, 0, 55, 42, 8, 7]
abbrev dktX1_init_2 : List UInt8 := dkwX1_init_2 ++ dktX1_init_3
def dkwX1_init_1 : List UInt8 := [183, 0, 41, 181, 0, 46, 42, 187, 0, 37, 89, 7, 183, 0, 41, 181, 0, 49, 42, 187, 0, 37, 89]
abbrev dktX1_init_1 : List UInt8 := dkwX1_init_1 ++ dktX1_init_2
def dkwX1_init_0 : List UInt8 := [42, 183, 0, 34, 42, 187, 0, 37, 89, 16, 50, 183, 0, 41, 181, 0, 42, 42, 187, 0, 37, 89, 7]
abbrev dktX1_init_0 : List UInt8 := dkwX1_init_0 ++ dktX1_init_1
theorem dksX1_init_0 : cX1_init.data.toList.drop 0 = dktX1_init_0 := by decide +kernel
theorem dksX1_init_1 : cX1_init.data.toList.drop 23 = dktX1_init_1 := dk_seg dksX1_init_0 23 rfl rfl
theorem dksX1_init_2 : cX1_init.data.toList.drop 46 = dktX1_init_2 := dk_seg dksX1_init_1 23 rfl rfl
theorem dksX1_init_3 : cX1_init.data.toList.drop 70 = dktX1_init_3 := dk_seg dksX1_init_2 24 rfl rfl
theorem dksX1_init_4 : cX1_init.data.toList.drop 92 = dktX1_init_4 := dk_seg dksX1_init_3 22 rfl rfl
theorem dX1_init_0 : decode cX1_init 0 = .ok (.aload_n 0, 1) := dk_42 (dk_at dksX1_init_0 0 rfl rfl)
theorem dX1_init_1 : decode cX1_init 1 = .ok (.invokespecial 34, 3) := dk_183 0 34 (dk_at dksX1_init_0 1 rfl rfl)
theorem dX1_init_4 : decode cX1_init 4 = .ok (.aload_n 0, 1) := dk_42 (dk_at dksX1_init_0 4 rfl rfl)
theorem dX1_init_5 : decode cX1_init 5 = .ok (.new 37, 3) := dk_187 0 37 (dk_at dksX1_init_0 5 rfl rfl)
theorem dX1_init_8 : decode cX1_init 8 = .ok (.dup, 1) := dk_89 (dk_at dksX1_init_0 8 rfl rfl)
theorem dX1_init_9 : decode cX1_init 9 = .ok (.bipush 50, 2) := dk_16 50 (dk_at dksX1_init_0 9 rfl rfl)
theorem dX1_init_11 : decode cX1_init 11 = .ok (.invokespecial 41, 3) := dk_183 0 41 (dk_at dksX1_init_0 11 rfl rfl)
theorem dX1_init_14 : decode cX1_init 14 = .ok (.putfield 42, 3) := dk_181 0 42 (dk_at dksX1_init_0 14 rfl rfl)
theorem dX1_init_17 : decode cX1_init 17 = .ok (.aload_n 0, 1) := dk_42 (dk_at dksX1_init_0 17 rfl rfl)
theorem dX1_init_18 : decode cX1_init 18 = .ok (.new 37, 3) := dk_187 0 37 (dk_at dksX1_init_0 18 rfl rfl)
theorem dX1_init_21 : decode cX1_init 21 = .ok (.dup, 1) := dk_89 (dk_at dksX1_init_0 21 rfl rfl)
theorem dX1_init_22 : decode cX1_init 22 = .ok (.iconst 4, 1) := dk_7 (dk_at dksX1_init_0 22 rfl rfl)
theorem dX1_init_23 : decode cX1_init 23 = .ok (.invokespecial 41, 3) := dk_183 0 41 (dk_at dksX1_init_1 0 rfl rfl)
theorem dX1_init_26 : decode cX1_init 26 = .ok (.putfield 46, 3) := dk_181 0 46 (dk_at dksX1_init_1 3 rfl rfl)
theorem dX1_init_29 : decode cX1_init 29 = .ok (.aload_n 0, 1) := dk_42 (dk_at dksX1_init_1 6 rfl rfl)
theorem dX1_init_30 : decode cX1_init 30 = .ok (.new 37, 3) := dk_187 0 37 (dk_at dksX1_init_1 7 rfl rfl)
theorem dX1_init_33 : decode cX1_init 33 = .ok (.dup, 1) := dk_89 (dk_at dksX1_init_1 10 rfl rfl)
theorem dX1_init_34 : decode cX1_init 34 = .ok (.iconst 4, 1) := dk_7 (dk_at dksX1_init_1 11 rfl rfl)
theorem dX1_init_35 : decode cX1_init 35 = .ok (.invokespecial 41, 3) := dk_183 0 41 (dk_at dksX1_init_1 12 rfl rfl)
theorem dX1_init_38 : decode cX1_init 38 = .ok (.putfield 49, 3) := dk_181 0 49 (dk_at dksX1_init_1 15 rfl rfl)
theorem dX1_init_41 : decode cX1_init 41 = .ok (.aload_n 0, 1) := dk_42 (dk_at dksX1_init_1 18 rfl rfl)
theorem dX1_init_42 : decode cX1_init 42 = .ok (.new 37, 3) := dk_187 0 37 (dk_at dksX1_init_1 19 rfl rfl)
theorem dX1_init_45 : decode cX1_init 45 = .ok (.dup, 1) := dk_89 (dk_at dksX1_init_1 22 rfl rfl)
theorem dX1_init_46 : decode cX1_init 46 = .ok (.bipush 50, 2) := dk_16 50 (dk_at dksX1_init_2 0 rfl rfl)
theorem dX1_init_48 : decode cX1_init 48 = .ok (.invokespecial 41, 3) := dk_183 0 41 (dk_at dksX1_init_2 2 rfl rfl)
theorem dX1_init_51 : decode cX1_init 51 = .ok (.putfield 52, 3) := dk_181 0 52 (dk_at dksX1_init_2 5 rfl rfl)
theorem dX1_init_54 : decode cX1_init 54 = .ok (.aload_n 0, 1) := dk_42 (dk_at dksX1_init_2 8 rfl rfl)
theorem dX1_init_55 : decode cX1_init 55 = .ok (.new 37, 3) := dk_187 0 37 (dk_at dksX1_init_2 9 rfl rfl)
theorem dX1_init_58 : decode cX1_init 58 = .ok (.dup, 1) := dk_89 (dk_at dksX1_init_2 12 rfl rfl)
theorem dX1_init_59 : decode cX1_init 59 = .ok (.bipush 20, 2) := dk_16 20 (dk_at dksX1_init_2 13 rfl rfl)
theorem dX1_init_61 : decode cX1_init 61 = .ok (.invokespecial 41, 3) := dk_183 0 41 (dk_at dksX1_init_2 15 rfl rfl)
theorem dX1_init_64 : decode cX1_init 64 = .ok (.putfield 55, 3) := dk_181 0 55 (dk_at dksX1_init_2 18 rfl rfl)
theorem dX1_init_67 : decode cX1_init 67 = .ok (.aload_n 0, 1) := dk_42 (dk_at dksX1_init_2 21 rfl rfl)
theorem dX1_init_68 : decode cX1_init 68 = .ok (.iconst 5, 1) := dk_8 (dk_at dksX1_init_2 22 rfl rfl)
theorem dX1_init_69 : decode cX1_init 69 = .ok (.iconst 4, 1) := dk_7 (dk_at dksX1_init_2 23 rfl rfl)
theorem dX1_init_70 : decode cX1_init 70 = .ok (.multianewarray 58 2, 4) := by decide +kernel
theorem dX1_init_74 : decode cX1_init 74 = .ok (.putfield 60, 3) := dk_181 0 60 (dk_at dksX1_init_3 4 rfl rfl)
theorem dX1_init_77 : decode cX1_init 77 = .ok (.aload_n 0, 1) := dk_42 (dk_at dksX1_init_3 7 rfl rfl)
theorem dX1_init_78 : decode cX1_init 78 = .ok (.iconst 5, 1) := dk_8 (dk_at dksX1_init_3 8 rfl rfl)
theorem dX1_init_79 : decode cX1_init 79 = .ok (.newarray .long, 2) := dk_188_11 (dk_at dksX1_init_3 9 rfl rfl)
theorem dX1_init_81 : decode cX1_init 81 = .ok (.putfield 63, 3) := dk_181 0 63 (dk_at dksX1_init_3 11 rfl rfl)
theorem dX1_init_84 : decode cX1_init 84 = .ok (.aload_n 0, 1) := dk_42 (dk_at dksX1_init_3 14 rfl rfl)
theorem dX1_init_85 : decode cX1_init 85 = .ok (.iconst 5, 1) := dk_8 (dk_at dksX1_init_3 15 rfl rfl)
theorem dX1_init_86 : decode cX1_init 86 = .ok (.newarray .int, 2) := dk_188_10 (dk_at dksX1_init_3 16 rfl rfl)
theorem dX1_init_88 : decode cX1_init 88 = .ok (.putfield 67, 3) := dk_181 0 67 (dk_at dksX1_init_3 18 rfl rfl)
theorem dX1_init_91 : decode cX1_init 91 = .ok (.aload_n 0, 1) := dk_42 (dk_at dksX1_init_3 21 rfl rfl)
theorem dX1_init_92 : decode cX1_init 92 = .ok (.new 71, 3) := dk_187 0 71 (dk_at dksX1_init_4 0 rfl rfl)
theorem dX1_init_95 : decode cX1_init 95 = .ok (.dup, 1) := dk_89 (dk_at dksX1_init_4 3 rfl rfl)
theorem dX1_init_96 : decode cX1_init 96 = .ok (.invokespecial 73, 3) := dk_183 0 73 (dk_at dksX1_init_4 4 rfl rfl)
theorem dX1_init_99 : decode cX1_init 99 = .ok (.putfield 74, 3) := dk_181 0 74 (dk_at dksX1_init_4 7 rfl rfl)
theorem dX1_init_102 : decode cX1_init 102 = .ok (.aload_n 0, 1) := dk_42 (dk_at dksX1_init_4 10 rfl rfl)
theorem dX1_init_103 : decode cX1_init 103 = .ok (.invokevirtual 78, 3) := dk_182 0 78 (dk_at dksX1_init_4 11 rfl rfl)
theorem dX1_init_106 : decode cX1_init 106 = .ok (.istore_n 1, 1) := dk_60 (dk_at dksX1_init_4 14 rfl rfl)
theorem dX1_init_107 : decode cX1_init 107 = .ok (.return_, 1) := dk_177 (dk_at dksX1_init_4 15 rfl rfl)
abbrev cX1_restart : ByteArray := prog_1_method_10_code
def yX1_restart : MethodName := ⟨RX1, "restart", "()I"⟩
def dkwX1_restart_6 : List UInt8 := [181, 0, 108, 42, 9, 181, 0, 111, 42, 3, 181, 0, 115, 42, 180, 0, 42, 182, 0, 81, 172]
abbrev dktX1_restart_6 : List UInt8 := dkwX1_restart_6 ++ []
def dkwX1_restart_5 : List UInt8 := [181, 0, 95, 42, 18, 98, 181, 0, 99, 42, 16, 10, 181, 0, 102, 42, 3, 181, 0, 105, 42, 3]
abbrev dktX1_restart_5 : List UInt8 := dkwX1_restart_5 ++ dktX1_restart_6
def dkwX1_restart_4 : List UInt8 := [89, 183, 0, 73, 181, 0, 74, 42, 1, 181, 0, 84, 42, 3, 181, 0, 88, 42, 3, 181, 0, 92, 42, 3]
abbrev dktX1_restart_4 : List UInt8 := dkwX1_restart_4 ++ dktX1_restart_5
def dkwX1_restart_3 : List UInt8 := [4, 96, 104, 28, 4, 96, 104, 79, 132, 3, 1, 167, 255, 229, 132, 2, 1, 167, 255, 202, 42, 187, 0, 71]
abbrev dktX1_restart_3 : List UInt8 := dkwX1_restart_3 ++ dktX1_restart_4
def dkwX1_restart_2 : List UInt8 := [180, 0, 67, 28, 3, 79, 3, 62, 29, 7, 162, 0, 28, 42, 180, 0, 60, 28, 50, 29, 17, 3, 232, 28]
abbrev dktX1_restart_2 : List UInt8 := dkwX1_restart_2 ++ dktX1_restart_3
def dkwX1_restart_1 : List UInt8 := [180, 0, 55, 182, 0, 81, 96, 60, 3, 61, 28, 8, 162, 0, 55, 42, 180, 0, 63, 28, 9, 80, 42]
abbrev dktX1_restart_1 : List UInt8 := dkwX1_restart_1 ++ dktX1_restart_2
def dkwX1_restart_0 : List UInt8 := [42, 180, 0, 46, 182, 0, 81, 42, 180, 0, 49, 182, 0, 81, 96, 42, 180, 0, 52, 182, 0, 81, 96, 42]
abbrev dktX1_restart_0 : List UInt8 := dkwX1_restart_0 ++ dktX1_restart_1
theorem dksX1_restart_0 : cX1_restart.data.toList.drop 0 = dktX1_restart_0 := by decide +kernel
theorem dksX1_restart_1 : cX1_restart.data.toList.drop 24 = dktX1_restart_1 := dk_seg dksX1_restart_0 24 rfl rfl
theorem dksX1_restart_2 : cX1_restart.data.toList.drop 47 = dktX1_restart_2 := dk_seg dksX1_restart_1 23 rfl rfl
theorem dksX1_restart_3 : cX1_restart.data.toList.drop 71 = dktX1_restart_3 := dk_seg dksX1_restart_2 24 rfl rfl
theorem dksX1_restart_4 : cX1_restart.data.toList.drop 95 = dktX1_restart_4 := dk_seg dksX1_restart_3 24 rfl rfl
theorem dksX1_restart_5 : cX1_restart.data.toList.drop 119 = dktX1_restart_5 := dk_seg dksX1_restart_4 24 rfl rfl
theorem dksX1_restart_6 : cX1_restart.data.toList.drop 141 = dktX1_restart_6 := dk_seg dksX1_restart_5 22 rfl rfl
theorem dX1_restart_0 : decode cX1_restart 0 = .ok (.aload_n 0, 1) := dk_42 (dk_at dksX1_restart_0 0 rfl rfl)
theorem dX1_restart_1 : decode cX1_restart 1 = .ok (.getfield 46, 3) := dk_180 0 46 (dk_at dksX1_restart_0 1 rfl rfl)
theorem dX1_restart_4 : decode cX1_restart 4 = .ok (.invokevirtual 81, 3) := dk_182 0 81 (dk_at dksX1_restart_0 4 rfl rfl)
theorem dX1_restart_7 : decode cX1_restart 7 = .ok (.aload_n 0, 1) := dk_42 (dk_at dksX1_restart_0 7 rfl rfl)
theorem dX1_restart_8 : decode cX1_restart 8 = .ok (.getfield 49, 3) := dk_180 0 49 (dk_at dksX1_restart_0 8 rfl rfl)
theorem dX1_restart_11 : decode cX1_restart 11 = .ok (.invokevirtual 81, 3) := dk_182 0 81 (dk_at dksX1_restart_0 11 rfl rfl)
theorem dX1_restart_14 : decode cX1_restart 14 = .ok (.iadd, 1) := dk_96 (dk_at dksX1_restart_0 14 rfl rfl)
theorem dX1_restart_15 : decode cX1_restart 15 = .ok (.aload_n 0, 1) := dk_42 (dk_at dksX1_restart_0 15 rfl rfl)
theorem dX1_restart_16 : decode cX1_restart 16 = .ok (.getfield 52, 3) := dk_180 0 52 (dk_at dksX1_restart_0 16 rfl rfl)
theorem dX1_restart_19 : decode cX1_restart 19 = .ok (.invokevirtual 81, 3) := dk_182 0 81 (dk_at dksX1_restart_0 19 rfl rfl)
theorem dX1_restart_22 : decode cX1_restart 22 = .ok (.iadd, 1) := dk_96 (dk_at dksX1_restart_0 22 rfl rfl)
theorem dX1_restart_23 : decode cX1_restart 23 = .ok (.aload_n 0, 1) := dk_42 (dk_at dksX1_restart_0 23 rfl rfl)
theorem dX1_restart_24 : decode cX1_restart 24 = .ok (.getfield 55, 3) := dk_180 0 55 (dk_at dksX1_restart_1 0 rfl rfl)
theorem dX1_restart_27 : decode cX1_restart 27 = .ok (.invokevirtual 81, 3) := dk_182 0 81 (dk_at dksX1_restart_1 3 rfl rfl)
theorem dX1_restart_30 : decode cX1_restart 30 = .ok (.iadd, 1) := dk_96 (dk_at dksX1_restart_1 6 rfl rfl)
theorem dX1_restart_31 : decode cX1_restart 31 = .ok (.istore_n 1, 1) := dk_60 (dk_at dksX1_restart_1 7 rfl rfl)
theorem dX1_restart_32 : decode cX1_restart 32 = .ok (.iconst 0, 1) := dk_3 (dk_at dksX1_restart_1 8 rfl rfl)
theorem dX1_restart_33 : decode cX1_restart 33 = .ok (.istore_n 2, 1) := dk_61 (dk_at dksX1_restart_1 9 rfl rfl)
theorem dX1_restart_34 : decode cX1_restart 34 = .ok (.iload_n 2, 1) := dk_28 (dk_at dksX1_restart_1 10 rfl rfl)
theorem dX1_restart_35 : decode cX1_restart 35 = .ok (.iconst 5, 1) := dk_8 (dk_at dksX1_restart_1 11 rfl rfl)
theorem dX1_restart_36 : decode cX1_restart 36 = .ok (.if_icmp .ge 55, 3) := dk_162 0 55 (dk_at dksX1_restart_1 12 rfl rfl)
theorem dX1_restart_39 : decode cX1_restart 39 = .ok (.aload_n 0, 1) := dk_42 (dk_at dksX1_restart_1 15 rfl rfl)
theorem dX1_restart_40 : decode cX1_restart 40 = .ok (.getfield 63, 3) := dk_180 0 63 (dk_at dksX1_restart_1 16 rfl rfl)
theorem dX1_restart_43 : decode cX1_restart 43 = .ok (.iload_n 2, 1) := dk_28 (dk_at dksX1_restart_1 19 rfl rfl)
theorem dX1_restart_44 : decode cX1_restart 44 = .ok (.lconst 0, 1) := dk_9 (dk_at dksX1_restart_1 20 rfl rfl)
theorem dX1_restart_45 : decode cX1_restart 45 = .ok (.lastore, 1) := dk_80 (dk_at dksX1_restart_1 21 rfl rfl)
theorem dX1_restart_46 : decode cX1_restart 46 = .ok (.aload_n 0, 1) := dk_42 (dk_at dksX1_restart_1 22 rfl rfl)
theorem dX1_restart_47 : decode cX1_restart 47 = .ok (.getfield 67, 3) := dk_180 0 67 (dk_at dksX1_restart_2 0 rfl rfl)
theorem dX1_restart_50 : decode cX1_restart 50 = .ok (.iload_n 2, 1) := dk_28 (dk_at dksX1_restart_2 3 rfl rfl)
theorem dX1_restart_51 : decode cX1_restart 51 = .ok (.iconst 0, 1) := dk_3 (dk_at dksX1_restart_2 4 rfl rfl)
theorem dX1_restart_52 : decode cX1_restart 52 = .ok (.iastore, 1) := dk_79 (dk_at dksX1_restart_2 5 rfl rfl)
theorem dX1_restart_53 : decode cX1_restart 53 = .ok (.iconst 0, 1) := dk_3 (dk_at dksX1_restart_2 6 rfl rfl)
theorem dX1_restart_54 : decode cX1_restart 54 = .ok (.istore_n 3, 1) := dk_62 (dk_at dksX1_restart_2 7 rfl rfl)
theorem dX1_restart_55 : decode cX1_restart 55 = .ok (.iload_n 3, 1) := dk_29 (dk_at dksX1_restart_2 8 rfl rfl)
theorem dX1_restart_56 : decode cX1_restart 56 = .ok (.iconst 4, 1) := dk_7 (dk_at dksX1_restart_2 9 rfl rfl)
theorem dX1_restart_57 : decode cX1_restart 57 = .ok (.if_icmp .ge 28, 3) := dk_162 0 28 (dk_at dksX1_restart_2 10 rfl rfl)
theorem dX1_restart_60 : decode cX1_restart 60 = .ok (.aload_n 0, 1) := dk_42 (dk_at dksX1_restart_2 13 rfl rfl)
theorem dX1_restart_61 : decode cX1_restart 61 = .ok (.getfield 60, 3) := dk_180 0 60 (dk_at dksX1_restart_2 14 rfl rfl)
theorem dX1_restart_64 : decode cX1_restart 64 = .ok (.iload_n 2, 1) := dk_28 (dk_at dksX1_restart_2 17 rfl rfl)
theorem dX1_restart_65 : decode cX1_restart 65 = .ok (.aaload, 1) := dk_50 (dk_at dksX1_restart_2 18 rfl rfl)
theorem dX1_restart_66 : decode cX1_restart 66 = .ok (.iload_n 3, 1) := dk_29 (dk_at dksX1_restart_2 19 rfl rfl)
theorem dX1_restart_67 : decode cX1_restart 67 = .ok (.sipush 1000, 3) := dk_17 3 232 (dk_at dksX1_restart_2 20 rfl rfl)
theorem dX1_restart_70 : decode cX1_restart 70 = .ok (.iload_n 2, 1) := dk_28 (dk_at dksX1_restart_2 23 rfl rfl)
theorem dX1_restart_71 : decode cX1_restart 71 = .ok (.iconst 1, 1) := dk_4 (dk_at dksX1_restart_3 0 rfl rfl)
theorem dX1_restart_72 : decode cX1_restart 72 = .ok (.iadd, 1) := dk_96 (dk_at dksX1_restart_3 1 rfl rfl)
theorem dX1_restart_73 : decode cX1_restart 73 = .ok (.imul, 1) := dk_104 (dk_at dksX1_restart_3 2 rfl rfl)
theorem dX1_restart_74 : decode cX1_restart 74 = .ok (.iload_n 2, 1) := dk_28 (dk_at dksX1_restart_3 3 rfl rfl)
theorem dX1_restart_75 : decode cX1_restart 75 = .ok (.iconst 1, 1) := dk_4 (dk_at dksX1_restart_3 4 rfl rfl)
theorem dX1_restart_76 : decode cX1_restart 76 = .ok (.iadd, 1) := dk_96 (dk_at dksX1_restart_3 5 rfl rfl)
theorem dX1_restart_77 : decode cX1_restart 77 = .ok (.imul, 1) := dk_104 (dk_at dksX1_restart_3 6 rfl rfl)
theorem dX1_restart_78 : decode cX1_restart 78 = .ok (.iastore, 1) := dk_79 (dk_at dksX1_restart_3 7 rfl rfl)
theorem dX1_restart_79 : decode cX1_restart 79 = .ok (.iinc 3 1, 3) := dk_132 3 1 (dk_at dksX1_restart_3 8 rfl rfl)
theorem dX1_restart_82 : decode cX1_restart 82 = .ok (.goto (-27), 3) := dk_167 255 229 (dk_at dksX1_restart_3 11 rfl rfl)
theorem dX1_restart_85 : decode cX1_restart 85 = .ok (.iinc 2 1, 3) := dk_132 2 1 (dk_at dksX1_restart_3 14 rfl rfl)
theorem dX1_restart_88 : decode cX1_restart 88 = .ok (.goto (-54), 3) := dk_167 255 202 (dk_at dksX1_restart_3 17 rfl rfl)
theorem dX1_restart_91 : decode cX1_restart 91 = .ok (.aload_n 0, 1) := dk_42 (dk_at dksX1_restart_3 20 rfl rfl)
theorem dX1_restart_92 : decode cX1_restart 92 = .ok (.new 71, 3) := dk_187 0 71 (dk_at dksX1_restart_3 21 rfl rfl)
theorem dX1_restart_95 : decode cX1_restart 95 = .ok (.dup, 1) := dk_89 (dk_at dksX1_restart_4 0 rfl rfl)
theorem dX1_restart_96 : decode cX1_restart 96 = .ok (.invokespecial 73, 3) := dk_183 0 73 (dk_at dksX1_restart_4 1 rfl rfl)
theorem dX1_restart_99 : decode cX1_restart 99 = .ok (.putfield 74, 3) := dk_181 0 74 (dk_at dksX1_restart_4 4 rfl rfl)
theorem dX1_restart_102 : decode cX1_restart 102 = .ok (.aload_n 0, 1) := dk_42 (dk_at dksX1_restart_4 7 rfl rfl)
theorem dX1_restart_103 : decode cX1_restart 103 = .ok (.aconst_null, 1) := dk_1 (dk_at dksX1_restart_4 8 rfl rfl)
theorem dX1_restart_104 : decode cX1_restart 104 = .ok (.putfield 84, 3) := dk_181 0 84 (dk_at dksX1_restart_4 9 rfl rfl)
theorem dX1_restart_107 : decode cX1_restart 107 = .ok (.aload_n 0, 1) := dk_42 (dk_at dksX1_restart_4 12 rfl rfl)
theorem dX1_restart_108 : decode cX1_restart 108 = .ok (.iconst 0, 1) := dk_3 (dk_at dksX1_restart_4 13 rfl rfl)
theorem dX1_restart_109 : decode cX1_restart 109 = .ok (.putfield 88, 3) := dk_181 0 88 (dk_at dksX1_restart_4 14 rfl rfl)
theorem dX1_restart_112 : decode cX1_restart 112 = .ok (.aload_n 0, 1) := dk_42 (dk_at dksX1_restart_4 17 rfl rfl)
theorem dX1_restart_113 : decode cX1_restart 113 = .ok (.iconst 0, 1) := dk_3 (dk_at dksX1_restart_4 18 rfl rfl)
theorem dX1_restart_114 : decode cX1_restart 114 = .ok (.putfield 92, 3) := dk_181 0 92 (dk_at dksX1_restart_4 19 rfl rfl)
theorem dX1_restart_117 : decode cX1_restart 117 = .ok (.aload_n 0, 1) := dk_42 (dk_at dksX1_restart_4 22 rfl rfl)
theorem dX1_restart_118 : decode cX1_restart 118 = .ok (.iconst 0, 1) := dk_3 (dk_at dksX1_restart_4 23 rfl rfl)
theorem dX1_restart_119 : decode cX1_restart 119 = .ok (.putfield 95, 3) := dk_181 0 95 (dk_at dksX1_restart_5 0 rfl rfl)
theorem dX1_restart_122 : decode cX1_restart 122 = .ok (.aload_n 0, 1) := dk_42 (dk_at dksX1_restart_5 3 rfl rfl)
theorem dX1_restart_123 : decode cX1_restart 123 = .ok (.ldc 98, 2) := dk_18 98 (dk_at dksX1_restart_5 4 rfl rfl)
theorem dX1_restart_125 : decode cX1_restart 125 = .ok (.putfield 99, 3) := dk_181 0 99 (dk_at dksX1_restart_5 6 rfl rfl)
theorem dX1_restart_128 : decode cX1_restart 128 = .ok (.aload_n 0, 1) := dk_42 (dk_at dksX1_restart_5 9 rfl rfl)
theorem dX1_restart_129 : decode cX1_restart 129 = .ok (.bipush 10, 2) := dk_16 10 (dk_at dksX1_restart_5 10 rfl rfl)
theorem dX1_restart_131 : decode cX1_restart 131 = .ok (.putfield 102, 3) := dk_181 0 102 (dk_at dksX1_restart_5 12 rfl rfl)
theorem dX1_restart_134 : decode cX1_restart 134 = .ok (.aload_n 0, 1) := dk_42 (dk_at dksX1_restart_5 15 rfl rfl)
theorem dX1_restart_135 : decode cX1_restart 135 = .ok (.iconst 0, 1) := dk_3 (dk_at dksX1_restart_5 16 rfl rfl)
theorem dX1_restart_136 : decode cX1_restart 136 = .ok (.putfield 105, 3) := dk_181 0 105 (dk_at dksX1_restart_5 17 rfl rfl)
theorem dX1_restart_139 : decode cX1_restart 139 = .ok (.aload_n 0, 1) := dk_42 (dk_at dksX1_restart_5 20 rfl rfl)
theorem dX1_restart_140 : decode cX1_restart 140 = .ok (.iconst 0, 1) := dk_3 (dk_at dksX1_restart_5 21 rfl rfl)
theorem dX1_restart_141 : decode cX1_restart 141 = .ok (.putfield 108, 3) := dk_181 0 108 (dk_at dksX1_restart_6 0 rfl rfl)
theorem dX1_restart_144 : decode cX1_restart 144 = .ok (.aload_n 0, 1) := dk_42 (dk_at dksX1_restart_6 3 rfl rfl)
theorem dX1_restart_145 : decode cX1_restart 145 = .ok (.lconst 0, 1) := dk_9 (dk_at dksX1_restart_6 4 rfl rfl)
theorem dX1_restart_146 : decode cX1_restart 146 = .ok (.putfield 111, 3) := dk_181 0 111 (dk_at dksX1_restart_6 5 rfl rfl)
theorem dX1_restart_149 : decode cX1_restart 149 = .ok (.aload_n 0, 1) := dk_42 (dk_at dksX1_restart_6 8 rfl rfl)
theorem dX1_restart_150 : decode cX1_restart 150 = .ok (.iconst 0, 1) := dk_3 (dk_at dksX1_restart_6 9 rfl rfl)
theorem dX1_restart_151 : decode cX1_restart 151 = .ok (.putfield 115, 3) := dk_181 0 115 (dk_at dksX1_restart_6 10 rfl rfl)
theorem dX1_restart_154 : decode cX1_restart 154 = .ok (.aload_n 0, 1) := dk_42 (dk_at dksX1_restart_6 13 rfl rfl)
theorem dX1_restart_155 : decode cX1_restart 155 = .ok (.getfield 42, 3) := dk_180 0 42 (dk_at dksX1_restart_6 14 rfl rfl)
theorem dX1_restart_158 : decode cX1_restart 158 = .ok (.invokevirtual 81, 3) := dk_182 0 81 (dk_at dksX1_restart_6 17 rfl rfl)
theorem dX1_restart_161 : decode cX1_restart 161 = .ok (.ireturn, 1) := dk_172 (dk_at dksX1_restart_6 20 rfl rfl)
abbrev cX1_begin : ByteArray := prog_1_method_11_code
def yX1_begin : MethodName := ⟨RX1, "begin", "()I"⟩
theorem dX1_begin_0 : decode cX1_begin 0 = .ok (.aload_n 0, 1) := by decide +kernel
theorem dX1_begin_1 : decode cX1_begin 1 = .ok (.invokevirtual 78, 3) := by decide +kernel
theorem dX1_begin_4 : decode cX1_begin 4 = .ok (.ireturn, 1) := by decide +kernel
abbrev cX1_errors : ByteArray := prog_1_method_78_code
def yX1_errors : MethodName := ⟨RX1, "errors", "()I"⟩
def dkwX1_errors_4 : List UInt8 := [27, 172]
abbrev dktX1_errors_4 : List UInt8 := dkwX1_errors_4 ++ []
def dkwX1_errors_3 : List UInt8 := [180, 0, 108, 133, 20, 1, 60, 184, 1, 91, 148, 158, 0, 7, 4, 167, 0, 4, 3, 96, 60, 167, 255, 206]
abbrev dktX1_errors_3 : List UInt8 := dkwX1_errors_3 ++ dktX1_errors_4
def dkwX1_errors_2 : List UInt8 := [153, 0, 47, 44, 185, 0, 217, 1, 0, 192, 0, 155, 78, 27, 45, 180, 1, 184, 45, 180, 2, 15, 42]
abbrev dktX1_errors_2 : List UInt8 := dkwX1_errors_2 ++ dktX1_errors_3
def dkwX1_errors_1 : List UInt8 := [154, 0, 7, 3, 167, 0, 4, 4, 60, 42, 180, 0, 52, 182, 0, 208, 77, 44, 185, 0, 212, 1, 0]
abbrev dktX1_errors_1 : List UInt8 := dkwX1_errors_1 ++ dktX1_errors_2
def dkwX1_errors_0 : List UInt8 := [42, 182, 1, 246, 42, 180, 0, 111, 42, 180, 0, 74, 182, 2, 12, 97, 42, 182, 2, 2, 97, 148]
abbrev dktX1_errors_0 : List UInt8 := dkwX1_errors_0 ++ dktX1_errors_1
theorem dksX1_errors_0 : cX1_errors.data.toList.drop 0 = dktX1_errors_0 := by decide +kernel
theorem dksX1_errors_1 : cX1_errors.data.toList.drop 22 = dktX1_errors_1 := dk_seg dksX1_errors_0 22 rfl rfl
theorem dksX1_errors_2 : cX1_errors.data.toList.drop 45 = dktX1_errors_2 := dk_seg dksX1_errors_1 23 rfl rfl
theorem dksX1_errors_3 : cX1_errors.data.toList.drop 68 = dktX1_errors_3 := dk_seg dksX1_errors_2 23 rfl rfl
theorem dksX1_errors_4 : cX1_errors.data.toList.drop 92 = dktX1_errors_4 := dk_seg dksX1_errors_3 24 rfl rfl
theorem dX1_errors_0 : decode cX1_errors 0 = .ok (.aload_n 0, 1) := dk_42 (dk_at dksX1_errors_0 0 rfl rfl)
theorem dX1_errors_1 : decode cX1_errors 1 = .ok (.invokevirtual 502, 3) := dk_182 1 246 (dk_at dksX1_errors_0 1 rfl rfl)
theorem dX1_errors_4 : decode cX1_errors 4 = .ok (.aload_n 0, 1) := dk_42 (dk_at dksX1_errors_0 4 rfl rfl)
theorem dX1_errors_5 : decode cX1_errors 5 = .ok (.getfield 111, 3) := dk_180 0 111 (dk_at dksX1_errors_0 5 rfl rfl)
theorem dX1_errors_8 : decode cX1_errors 8 = .ok (.aload_n 0, 1) := dk_42 (dk_at dksX1_errors_0 8 rfl rfl)
theorem dX1_errors_9 : decode cX1_errors 9 = .ok (.getfield 74, 3) := dk_180 0 74 (dk_at dksX1_errors_0 9 rfl rfl)
theorem dX1_errors_12 : decode cX1_errors 12 = .ok (.invokevirtual 524, 3) := dk_182 2 12 (dk_at dksX1_errors_0 12 rfl rfl)
theorem dX1_errors_15 : decode cX1_errors 15 = .ok (.ladd, 1) := dk_97 (dk_at dksX1_errors_0 15 rfl rfl)
theorem dX1_errors_16 : decode cX1_errors 16 = .ok (.aload_n 0, 1) := dk_42 (dk_at dksX1_errors_0 16 rfl rfl)
theorem dX1_errors_17 : decode cX1_errors 17 = .ok (.invokevirtual 514, 3) := dk_182 2 2 (dk_at dksX1_errors_0 17 rfl rfl)
theorem dX1_errors_20 : decode cX1_errors 20 = .ok (.ladd, 1) := dk_97 (dk_at dksX1_errors_0 20 rfl rfl)
theorem dX1_errors_21 : decode cX1_errors 21 = .ok (.lcmp, 1) := dk_148 (dk_at dksX1_errors_0 21 rfl rfl)
theorem dX1_errors_22 : decode cX1_errors 22 = .ok (.ifCond .ne 7, 3) := dk_154 0 7 (dk_at dksX1_errors_1 0 rfl rfl)
theorem dX1_errors_25 : decode cX1_errors 25 = .ok (.iconst 0, 1) := dk_3 (dk_at dksX1_errors_1 3 rfl rfl)
theorem dX1_errors_26 : decode cX1_errors 26 = .ok (.goto 4, 3) := dk_167 0 4 (dk_at dksX1_errors_1 4 rfl rfl)
theorem dX1_errors_29 : decode cX1_errors 29 = .ok (.iconst 1, 1) := dk_4 (dk_at dksX1_errors_1 7 rfl rfl)
theorem dX1_errors_30 : decode cX1_errors 30 = .ok (.istore_n 1, 1) := dk_60 (dk_at dksX1_errors_1 8 rfl rfl)
theorem dX1_errors_31 : decode cX1_errors 31 = .ok (.aload_n 0, 1) := dk_42 (dk_at dksX1_errors_1 9 rfl rfl)
theorem dX1_errors_32 : decode cX1_errors 32 = .ok (.getfield 52, 3) := dk_180 0 52 (dk_at dksX1_errors_1 10 rfl rfl)
theorem dX1_errors_35 : decode cX1_errors 35 = .ok (.invokevirtual 208, 3) := dk_182 0 208 (dk_at dksX1_errors_1 13 rfl rfl)
theorem dX1_errors_38 : decode cX1_errors 38 = .ok (.astore_n 2, 1) := dk_77 (dk_at dksX1_errors_1 16 rfl rfl)
theorem dX1_errors_39 : decode cX1_errors 39 = .ok (.aload_n 2, 1) := dk_44 (dk_at dksX1_errors_1 17 rfl rfl)
theorem dX1_errors_40 : decode cX1_errors 40 = .ok (.invokeinterface 212 1, 5) := by decide +kernel
theorem dX1_errors_45 : decode cX1_errors 45 = .ok (.ifCond .eq 47, 3) := dk_153 0 47 (dk_at dksX1_errors_2 0 rfl rfl)
theorem dX1_errors_48 : decode cX1_errors 48 = .ok (.aload_n 2, 1) := dk_44 (dk_at dksX1_errors_2 3 rfl rfl)
theorem dX1_errors_49 : decode cX1_errors 49 = .ok (.invokeinterface 217 1, 5) := by decide +kernel
theorem dX1_errors_54 : decode cX1_errors 54 = .ok (.checkcast 155, 3) := dk_192 0 155 (dk_at dksX1_errors_2 9 rfl rfl)
theorem dX1_errors_57 : decode cX1_errors 57 = .ok (.astore_n 3, 1) := dk_78 (dk_at dksX1_errors_2 12 rfl rfl)
theorem dX1_errors_58 : decode cX1_errors 58 = .ok (.iload_n 1, 1) := dk_27 (dk_at dksX1_errors_2 13 rfl rfl)
theorem dX1_errors_59 : decode cX1_errors 59 = .ok (.aload_n 3, 1) := dk_45 (dk_at dksX1_errors_2 14 rfl rfl)
theorem dX1_errors_60 : decode cX1_errors 60 = .ok (.getfield 440, 3) := dk_180 1 184 (dk_at dksX1_errors_2 15 rfl rfl)
theorem dX1_errors_63 : decode cX1_errors 63 = .ok (.aload_n 3, 1) := dk_45 (dk_at dksX1_errors_2 18 rfl rfl)
theorem dX1_errors_64 : decode cX1_errors 64 = .ok (.getfield 527, 3) := dk_180 2 15 (dk_at dksX1_errors_2 19 rfl rfl)
theorem dX1_errors_67 : decode cX1_errors 67 = .ok (.aload_n 0, 1) := dk_42 (dk_at dksX1_errors_2 22 rfl rfl)
theorem dX1_errors_68 : decode cX1_errors 68 = .ok (.getfield 108, 3) := dk_180 0 108 (dk_at dksX1_errors_3 0 rfl rfl)
theorem dX1_errors_71 : decode cX1_errors 71 = .ok (.i2l, 1) := dk_133 (dk_at dksX1_errors_3 3 rfl rfl)
theorem dX1_errors_72 : decode cX1_errors 72 = .ok (.ldc2_w 316, 3) := dk_20 1 60 (dk_at dksX1_errors_3 4 rfl rfl)
theorem dX1_errors_75 : decode cX1_errors 75 = .ok (.invokestatic 347, 3) := dk_184 1 91 (dk_at dksX1_errors_3 7 rfl rfl)
theorem dX1_errors_78 : decode cX1_errors 78 = .ok (.lcmp, 1) := dk_148 (dk_at dksX1_errors_3 10 rfl rfl)
theorem dX1_errors_79 : decode cX1_errors 79 = .ok (.ifCond .le 7, 3) := dk_158 0 7 (dk_at dksX1_errors_3 11 rfl rfl)
theorem dX1_errors_82 : decode cX1_errors 82 = .ok (.iconst 1, 1) := dk_4 (dk_at dksX1_errors_3 14 rfl rfl)
theorem dX1_errors_83 : decode cX1_errors 83 = .ok (.goto 4, 3) := dk_167 0 4 (dk_at dksX1_errors_3 15 rfl rfl)
theorem dX1_errors_86 : decode cX1_errors 86 = .ok (.iconst 0, 1) := dk_3 (dk_at dksX1_errors_3 18 rfl rfl)
theorem dX1_errors_87 : decode cX1_errors 87 = .ok (.iadd, 1) := dk_96 (dk_at dksX1_errors_3 19 rfl rfl)
theorem dX1_errors_88 : decode cX1_errors 88 = .ok (.istore_n 1, 1) := dk_60 (dk_at dksX1_errors_3 20 rfl rfl)
theorem dX1_errors_89 : decode cX1_errors 89 = .ok (.goto (-50), 3) := dk_167 255 206 (dk_at dksX1_errors_3 21 rfl rfl)
theorem dX1_errors_92 : decode cX1_errors 92 = .ok (.iload_n 1, 1) := dk_27 (dk_at dksX1_errors_4 0 rfl rfl)
theorem dX1_errors_93 : decode cX1_errors 93 = .ok (.ireturn, 1) := dk_172 (dk_at dksX1_errors_4 1 rfl rfl)
abbrev cX1_paidIn : ByteArray := prog_1_method_72_code
def yX1_paidIn : MethodName := ⟨RX1, "paidIn", "()J"⟩
def dkwX1_paidIn_1 : List UInt8 := [185, 0, 217, 1, 0, 192, 1, 55, 58, 4, 31, 25, 4, 180, 1, 85, 97, 64, 167, 255, 228, 31, 173]
abbrev dktX1_paidIn_1 : List UInt8 := dkwX1_paidIn_1 ++ []
def dkwX1_paidIn_0 : List UInt8 := [9, 64, 42, 180, 0, 49, 182, 0, 208, 78, 45, 185, 0, 212, 1, 0, 153, 0, 25, 45]
abbrev dktX1_paidIn_0 : List UInt8 := dkwX1_paidIn_0 ++ dktX1_paidIn_1
theorem dksX1_paidIn_0 : cX1_paidIn.data.toList.drop 0 = dktX1_paidIn_0 := by decide +kernel
theorem dksX1_paidIn_1 : cX1_paidIn.data.toList.drop 20 = dktX1_paidIn_1 := dk_seg dksX1_paidIn_0 20 rfl rfl
theorem dX1_paidIn_0 : decode cX1_paidIn 0 = .ok (.lconst 0, 1) := dk_9 (dk_at dksX1_paidIn_0 0 rfl rfl)
theorem dX1_paidIn_1 : decode cX1_paidIn 1 = .ok (.lstore_n 1, 1) := dk_64 (dk_at dksX1_paidIn_0 1 rfl rfl)
theorem dX1_paidIn_2 : decode cX1_paidIn 2 = .ok (.aload_n 0, 1) := dk_42 (dk_at dksX1_paidIn_0 2 rfl rfl)
theorem dX1_paidIn_3 : decode cX1_paidIn 3 = .ok (.getfield 49, 3) := dk_180 0 49 (dk_at dksX1_paidIn_0 3 rfl rfl)
theorem dX1_paidIn_6 : decode cX1_paidIn 6 = .ok (.invokevirtual 208, 3) := dk_182 0 208 (dk_at dksX1_paidIn_0 6 rfl rfl)
theorem dX1_paidIn_9 : decode cX1_paidIn 9 = .ok (.astore_n 3, 1) := dk_78 (dk_at dksX1_paidIn_0 9 rfl rfl)
theorem dX1_paidIn_10 : decode cX1_paidIn 10 = .ok (.aload_n 3, 1) := dk_45 (dk_at dksX1_paidIn_0 10 rfl rfl)
theorem dX1_paidIn_11 : decode cX1_paidIn 11 = .ok (.invokeinterface 212 1, 5) := by decide +kernel
theorem dX1_paidIn_16 : decode cX1_paidIn 16 = .ok (.ifCond .eq 25, 3) := dk_153 0 25 (dk_at dksX1_paidIn_0 16 rfl rfl)
theorem dX1_paidIn_19 : decode cX1_paidIn 19 = .ok (.aload_n 3, 1) := dk_45 (dk_at dksX1_paidIn_0 19 rfl rfl)
theorem dX1_paidIn_20 : decode cX1_paidIn 20 = .ok (.invokeinterface 217 1, 5) := by decide +kernel
theorem dX1_paidIn_25 : decode cX1_paidIn 25 = .ok (.checkcast 311, 3) := dk_192 1 55 (dk_at dksX1_paidIn_1 5 rfl rfl)
theorem dX1_paidIn_28 : decode cX1_paidIn 28 = .ok (.astore 4, 2) := dk_58 4 (dk_at dksX1_paidIn_1 8 rfl rfl)
theorem dX1_paidIn_30 : decode cX1_paidIn 30 = .ok (.lload_n 1, 1) := dk_31 (dk_at dksX1_paidIn_1 10 rfl rfl)
theorem dX1_paidIn_31 : decode cX1_paidIn 31 = .ok (.aload 4, 2) := dk_25 4 (dk_at dksX1_paidIn_1 11 rfl rfl)
theorem dX1_paidIn_33 : decode cX1_paidIn 33 = .ok (.getfield 341, 3) := dk_180 1 85 (dk_at dksX1_paidIn_1 13 rfl rfl)
theorem dX1_paidIn_36 : decode cX1_paidIn 36 = .ok (.ladd, 1) := dk_97 (dk_at dksX1_paidIn_1 16 rfl rfl)
theorem dX1_paidIn_37 : decode cX1_paidIn 37 = .ok (.lstore_n 1, 1) := dk_64 (dk_at dksX1_paidIn_1 17 rfl rfl)
theorem dX1_paidIn_38 : decode cX1_paidIn 38 = .ok (.goto (-28), 3) := dk_167 255 228 (dk_at dksX1_paidIn_1 18 rfl rfl)
theorem dX1_paidIn_41 : decode cX1_paidIn 41 = .ok (.lload_n 1, 1) := dk_31 (dk_at dksX1_paidIn_1 21 rfl rfl)
theorem dX1_paidIn_42 : decode cX1_paidIn 42 = .ok (.lreturn, 1) := dk_173 (dk_at dksX1_paidIn_1 22 rfl rfl)
abbrev cX1_lying : ByteArray := prog_1_method_71_code
def yX1_lying : MethodName := ⟨RX1, "lying", "()J"⟩
def dkwX1_lying_2 : List UInt8 := [182, 0, 194, 97, 97, 64, 167, 255, 216, 31, 173]
abbrev dktX1_lying_2 : List UInt8 := dkwX1_lying_2 ++ []
def dkwX1_lying_1 : List UInt8 := [185, 0, 217, 1, 0, 192, 0, 140, 58, 4, 31, 25, 4, 180, 0, 191, 25, 4, 180, 1, 13, 97, 25, 4]
abbrev dktX1_lying_1 : List UInt8 := dkwX1_lying_1 ++ dktX1_lying_2
def dkwX1_lying_0 : List UInt8 := [9, 64, 42, 180, 0, 42, 182, 0, 208, 78, 45, 185, 0, 212, 1, 0, 153, 0, 37, 45]
abbrev dktX1_lying_0 : List UInt8 := dkwX1_lying_0 ++ dktX1_lying_1
theorem dksX1_lying_0 : cX1_lying.data.toList.drop 0 = dktX1_lying_0 := by decide +kernel
theorem dksX1_lying_1 : cX1_lying.data.toList.drop 20 = dktX1_lying_1 := dk_seg dksX1_lying_0 20 rfl rfl
theorem dksX1_lying_2 : cX1_lying.data.toList.drop 44 = dktX1_lying_2 := dk_seg dksX1_lying_1 24 rfl rfl
theorem dX1_lying_0 : decode cX1_lying 0 = .ok (.lconst 0, 1) := dk_9 (dk_at dksX1_lying_0 0 rfl rfl)
theorem dX1_lying_1 : decode cX1_lying 1 = .ok (.lstore_n 1, 1) := dk_64 (dk_at dksX1_lying_0 1 rfl rfl)
theorem dX1_lying_2 : decode cX1_lying 2 = .ok (.aload_n 0, 1) := dk_42 (dk_at dksX1_lying_0 2 rfl rfl)
theorem dX1_lying_3 : decode cX1_lying 3 = .ok (.getfield 42, 3) := dk_180 0 42 (dk_at dksX1_lying_0 3 rfl rfl)
theorem dX1_lying_6 : decode cX1_lying 6 = .ok (.invokevirtual 208, 3) := dk_182 0 208 (dk_at dksX1_lying_0 6 rfl rfl)
theorem dX1_lying_9 : decode cX1_lying 9 = .ok (.astore_n 3, 1) := dk_78 (dk_at dksX1_lying_0 9 rfl rfl)
theorem dX1_lying_10 : decode cX1_lying 10 = .ok (.aload_n 3, 1) := dk_45 (dk_at dksX1_lying_0 10 rfl rfl)
theorem dX1_lying_11 : decode cX1_lying 11 = .ok (.invokeinterface 212 1, 5) := by decide +kernel
theorem dX1_lying_16 : decode cX1_lying 16 = .ok (.ifCond .eq 37, 3) := dk_153 0 37 (dk_at dksX1_lying_0 16 rfl rfl)
theorem dX1_lying_19 : decode cX1_lying 19 = .ok (.aload_n 3, 1) := dk_45 (dk_at dksX1_lying_0 19 rfl rfl)
theorem dX1_lying_20 : decode cX1_lying 20 = .ok (.invokeinterface 217 1, 5) := by decide +kernel
theorem dX1_lying_25 : decode cX1_lying 25 = .ok (.checkcast 140, 3) := dk_192 0 140 (dk_at dksX1_lying_1 5 rfl rfl)
theorem dX1_lying_28 : decode cX1_lying 28 = .ok (.astore 4, 2) := dk_58 4 (dk_at dksX1_lying_1 8 rfl rfl)
theorem dX1_lying_30 : decode cX1_lying 30 = .ok (.lload_n 1, 1) := dk_31 (dk_at dksX1_lying_1 10 rfl rfl)
theorem dX1_lying_31 : decode cX1_lying 31 = .ok (.aload 4, 2) := dk_25 4 (dk_at dksX1_lying_1 11 rfl rfl)
theorem dX1_lying_33 : decode cX1_lying 33 = .ok (.getfield 191, 3) := dk_180 0 191 (dk_at dksX1_lying_1 13 rfl rfl)
theorem dX1_lying_36 : decode cX1_lying 36 = .ok (.aload 4, 2) := dk_25 4 (dk_at dksX1_lying_1 16 rfl rfl)
theorem dX1_lying_38 : decode cX1_lying 38 = .ok (.getfield 269, 3) := dk_180 1 13 (dk_at dksX1_lying_1 18 rfl rfl)
theorem dX1_lying_41 : decode cX1_lying 41 = .ok (.ladd, 1) := dk_97 (dk_at dksX1_lying_1 21 rfl rfl)
theorem dX1_lying_42 : decode cX1_lying 42 = .ok (.aload 4, 2) := dk_25 4 (dk_at dksX1_lying_1 22 rfl rfl)
theorem dX1_lying_44 : decode cX1_lying 44 = .ok (.invokevirtual 194, 3) := dk_182 0 194 (dk_at dksX1_lying_2 0 rfl rfl)
theorem dX1_lying_47 : decode cX1_lying 47 = .ok (.ladd, 1) := dk_97 (dk_at dksX1_lying_2 3 rfl rfl)
theorem dX1_lying_48 : decode cX1_lying 48 = .ok (.ladd, 1) := dk_97 (dk_at dksX1_lying_2 4 rfl rfl)
theorem dX1_lying_49 : decode cX1_lying 49 = .ok (.lstore_n 1, 1) := dk_64 (dk_at dksX1_lying_2 5 rfl rfl)
theorem dX1_lying_50 : decode cX1_lying 50 = .ok (.goto (-40), 3) := dk_167 255 216 (dk_at dksX1_lying_2 6 rfl rfl)
theorem dX1_lying_53 : decode cX1_lying 53 = .ok (.lload_n 1, 1) := dk_31 (dk_at dksX1_lying_2 9 rfl rfl)
theorem dX1_lying_54 : decode cX1_lying 54 = .ok (.lreturn, 1) := dk_173 (dk_at dksX1_lying_2 10 rfl rfl)
abbrev cX1_part : ByteArray := prog_1_method_5_code
def yX1_part : MethodName := ⟨RX1, "part", "(JJJ)J"⟩
def dkwX1_part_0 : List UInt8 := [30, 32, 105, 22, 4, 109, 173]
abbrev dktX1_part_0 : List UInt8 := dkwX1_part_0 ++ []
theorem dksX1_part_0 : cX1_part.data.toList.drop 0 = dktX1_part_0 := by decide +kernel
theorem dX1_part_0 : decode cX1_part 0 = .ok (.lload_n 0, 1) := dk_30 (dk_at dksX1_part_0 0 rfl rfl)
theorem dX1_part_1 : decode cX1_part 1 = .ok (.lload_n 2, 1) := dk_32 (dk_at dksX1_part_0 1 rfl rfl)
theorem dX1_part_2 : decode cX1_part 2 = .ok (.lmul, 1) := dk_105 (dk_at dksX1_part_0 2 rfl rfl)
theorem dX1_part_3 : decode cX1_part 3 = .ok (.lload 4, 2) := dk_22 4 (dk_at dksX1_part_0 3 rfl rfl)
theorem dX1_part_5 : decode cX1_part 5 = .ok (.ldiv, 1) := dk_109 (dk_at dksX1_part_0 5 rfl rfl)
theorem dX1_part_6 : decode cX1_part 6 = .ok (.lreturn, 1) := dk_173 (dk_at dksX1_part_0 6 rfl rfl)
abbrev cX1_paidBits : ByteArray := prog_1_method_79_code
def yX1_paidBits : MethodName := ⟨RX1, "paidBits", "()I"⟩
def dkwX1_paidBits_3 : List UInt8 := [184, 2, 18, 172]
abbrev dktX1_paidBits_3 : List UInt8 := dkwX1_paidBits_3 ++ []
def dkwX1_paidBits_2 : List UInt8 := [182, 1, 181, 133, 97, 66, 167, 255, 217, 33, 9, 148, 154, 0, 7, 3, 167, 0, 11, 31, 137, 33, 137, 110]
abbrev dktX1_paidBits_2 : List UInt8 := dkwX1_paidBits_2 ++ dktX1_paidBits_3
def dkwX1_paidBits_1 : List UInt8 := [25, 5, 185, 0, 217, 1, 0, 192, 0, 155, 58, 6, 31, 25, 6, 180, 1, 184, 97, 64, 33, 25, 6]
abbrev dktX1_paidBits_1 : List UInt8 := dkwX1_paidBits_1 ++ dktX1_paidBits_2
def dkwX1_paidBits_0 : List UInt8 := [9, 64, 9, 66, 42, 180, 0, 52, 182, 0, 208, 58, 5, 25, 5, 185, 0, 212, 1, 0, 153, 0, 35]
abbrev dktX1_paidBits_0 : List UInt8 := dkwX1_paidBits_0 ++ dktX1_paidBits_1
theorem dksX1_paidBits_0 : cX1_paidBits.data.toList.drop 0 = dktX1_paidBits_0 := by decide +kernel
theorem dksX1_paidBits_1 : cX1_paidBits.data.toList.drop 23 = dktX1_paidBits_1 := dk_seg dksX1_paidBits_0 23 rfl rfl
theorem dksX1_paidBits_2 : cX1_paidBits.data.toList.drop 46 = dktX1_paidBits_2 := dk_seg dksX1_paidBits_1 23 rfl rfl
theorem dksX1_paidBits_3 : cX1_paidBits.data.toList.drop 70 = dktX1_paidBits_3 := dk_seg dksX1_paidBits_2 24 rfl rfl
theorem dX1_paidBits_0 : decode cX1_paidBits 0 = .ok (.lconst 0, 1) := dk_9 (dk_at dksX1_paidBits_0 0 rfl rfl)
theorem dX1_paidBits_1 : decode cX1_paidBits 1 = .ok (.lstore_n 1, 1) := dk_64 (dk_at dksX1_paidBits_0 1 rfl rfl)
theorem dX1_paidBits_2 : decode cX1_paidBits 2 = .ok (.lconst 0, 1) := dk_9 (dk_at dksX1_paidBits_0 2 rfl rfl)
theorem dX1_paidBits_3 : decode cX1_paidBits 3 = .ok (.lstore_n 3, 1) := dk_66 (dk_at dksX1_paidBits_0 3 rfl rfl)
theorem dX1_paidBits_4 : decode cX1_paidBits 4 = .ok (.aload_n 0, 1) := dk_42 (dk_at dksX1_paidBits_0 4 rfl rfl)
theorem dX1_paidBits_5 : decode cX1_paidBits 5 = .ok (.getfield 52, 3) := dk_180 0 52 (dk_at dksX1_paidBits_0 5 rfl rfl)
theorem dX1_paidBits_8 : decode cX1_paidBits 8 = .ok (.invokevirtual 208, 3) := dk_182 0 208 (dk_at dksX1_paidBits_0 8 rfl rfl)
theorem dX1_paidBits_11 : decode cX1_paidBits 11 = .ok (.astore 5, 2) := dk_58 5 (dk_at dksX1_paidBits_0 11 rfl rfl)
theorem dX1_paidBits_13 : decode cX1_paidBits 13 = .ok (.aload 5, 2) := dk_25 5 (dk_at dksX1_paidBits_0 13 rfl rfl)
theorem dX1_paidBits_15 : decode cX1_paidBits 15 = .ok (.invokeinterface 212 1, 5) := by decide +kernel
theorem dX1_paidBits_20 : decode cX1_paidBits 20 = .ok (.ifCond .eq 35, 3) := dk_153 0 35 (dk_at dksX1_paidBits_0 20 rfl rfl)
theorem dX1_paidBits_23 : decode cX1_paidBits 23 = .ok (.aload 5, 2) := dk_25 5 (dk_at dksX1_paidBits_1 0 rfl rfl)
theorem dX1_paidBits_25 : decode cX1_paidBits 25 = .ok (.invokeinterface 217 1, 5) := by decide +kernel
theorem dX1_paidBits_30 : decode cX1_paidBits 30 = .ok (.checkcast 155, 3) := dk_192 0 155 (dk_at dksX1_paidBits_1 7 rfl rfl)
theorem dX1_paidBits_33 : decode cX1_paidBits 33 = .ok (.astore 6, 2) := dk_58 6 (dk_at dksX1_paidBits_1 10 rfl rfl)
theorem dX1_paidBits_35 : decode cX1_paidBits 35 = .ok (.lload_n 1, 1) := dk_31 (dk_at dksX1_paidBits_1 12 rfl rfl)
theorem dX1_paidBits_36 : decode cX1_paidBits 36 = .ok (.aload 6, 2) := dk_25 6 (dk_at dksX1_paidBits_1 13 rfl rfl)
theorem dX1_paidBits_38 : decode cX1_paidBits 38 = .ok (.getfield 440, 3) := dk_180 1 184 (dk_at dksX1_paidBits_1 15 rfl rfl)
theorem dX1_paidBits_41 : decode cX1_paidBits 41 = .ok (.ladd, 1) := dk_97 (dk_at dksX1_paidBits_1 18 rfl rfl)
theorem dX1_paidBits_42 : decode cX1_paidBits 42 = .ok (.lstore_n 1, 1) := dk_64 (dk_at dksX1_paidBits_1 19 rfl rfl)
theorem dX1_paidBits_43 : decode cX1_paidBits 43 = .ok (.lload_n 3, 1) := dk_33 (dk_at dksX1_paidBits_1 20 rfl rfl)
theorem dX1_paidBits_44 : decode cX1_paidBits 44 = .ok (.aload 6, 2) := dk_25 6 (dk_at dksX1_paidBits_1 21 rfl rfl)
theorem dX1_paidBits_46 : decode cX1_paidBits 46 = .ok (.invokevirtual 437, 3) := dk_182 1 181 (dk_at dksX1_paidBits_2 0 rfl rfl)
theorem dX1_paidBits_49 : decode cX1_paidBits 49 = .ok (.i2l, 1) := dk_133 (dk_at dksX1_paidBits_2 3 rfl rfl)
theorem dX1_paidBits_50 : decode cX1_paidBits 50 = .ok (.ladd, 1) := dk_97 (dk_at dksX1_paidBits_2 4 rfl rfl)
theorem dX1_paidBits_51 : decode cX1_paidBits 51 = .ok (.lstore_n 3, 1) := dk_66 (dk_at dksX1_paidBits_2 5 rfl rfl)
theorem dX1_paidBits_52 : decode cX1_paidBits 52 = .ok (.goto (-39), 3) := dk_167 255 217 (dk_at dksX1_paidBits_2 6 rfl rfl)
theorem dX1_paidBits_55 : decode cX1_paidBits 55 = .ok (.lload_n 3, 1) := dk_33 (dk_at dksX1_paidBits_2 9 rfl rfl)
theorem dX1_paidBits_56 : decode cX1_paidBits 56 = .ok (.lconst 0, 1) := dk_9 (dk_at dksX1_paidBits_2 10 rfl rfl)
theorem dX1_paidBits_57 : decode cX1_paidBits 57 = .ok (.lcmp, 1) := dk_148 (dk_at dksX1_paidBits_2 11 rfl rfl)
theorem dX1_paidBits_58 : decode cX1_paidBits 58 = .ok (.ifCond .ne 7, 3) := dk_154 0 7 (dk_at dksX1_paidBits_2 12 rfl rfl)
theorem dX1_paidBits_61 : decode cX1_paidBits 61 = .ok (.iconst 0, 1) := dk_3 (dk_at dksX1_paidBits_2 15 rfl rfl)
theorem dX1_paidBits_62 : decode cX1_paidBits 62 = .ok (.goto 11, 3) := dk_167 0 11 (dk_at dksX1_paidBits_2 16 rfl rfl)
theorem dX1_paidBits_65 : decode cX1_paidBits 65 = .ok (.lload_n 1, 1) := dk_31 (dk_at dksX1_paidBits_2 19 rfl rfl)
theorem dX1_paidBits_66 : decode cX1_paidBits 66 = .ok (.l2f, 1) := dk_137 (dk_at dksX1_paidBits_2 20 rfl rfl)
theorem dX1_paidBits_67 : decode cX1_paidBits 67 = .ok (.lload_n 3, 1) := dk_33 (dk_at dksX1_paidBits_2 21 rfl rfl)
theorem dX1_paidBits_68 : decode cX1_paidBits 68 = .ok (.l2f, 1) := dk_137 (dk_at dksX1_paidBits_2 22 rfl rfl)
theorem dX1_paidBits_69 : decode cX1_paidBits 69 = .ok (.fdiv, 1) := dk_110 (dk_at dksX1_paidBits_2 23 rfl rfl)
theorem dX1_paidBits_70 : decode cX1_paidBits 70 = .ok (.invokestatic 530, 3) := dk_184 2 18 (dk_at dksX1_paidBits_3 0 rfl rfl)
theorem dX1_paidBits_73 : decode cX1_paidBits 73 = .ok (.ireturn, 1) := dk_172 (dk_at dksX1_paidBits_3 3 rfl rfl)
abbrev cX1_band : ByteArray := prog_1_method_8_code
def yX1_band : MethodName := ⟨RX1, "band", "(I)I"⟩
def dkwX1_band_1 : List UInt8 := [162, 0, 7, 5, 167, 0, 4, 6, 172]
abbrev dktX1_band_1 : List UInt8 := dkwX1_band_1 ++ []
def dkwX1_band_0 : List UInt8 := [26, 16, 30, 162, 0, 7, 3, 167, 0, 24, 26, 16, 50, 162, 0, 7, 4, 167, 0, 14, 26, 16, 65]
abbrev dktX1_band_0 : List UInt8 := dkwX1_band_0 ++ dktX1_band_1
theorem dksX1_band_0 : cX1_band.data.toList.drop 0 = dktX1_band_0 := by decide +kernel
theorem dksX1_band_1 : cX1_band.data.toList.drop 23 = dktX1_band_1 := dk_seg dksX1_band_0 23 rfl rfl
theorem dX1_band_0 : decode cX1_band 0 = .ok (.iload_n 0, 1) := dk_26 (dk_at dksX1_band_0 0 rfl rfl)
theorem dX1_band_1 : decode cX1_band 1 = .ok (.bipush 30, 2) := dk_16 30 (dk_at dksX1_band_0 1 rfl rfl)
theorem dX1_band_3 : decode cX1_band 3 = .ok (.if_icmp .ge 7, 3) := dk_162 0 7 (dk_at dksX1_band_0 3 rfl rfl)
theorem dX1_band_6 : decode cX1_band 6 = .ok (.iconst 0, 1) := dk_3 (dk_at dksX1_band_0 6 rfl rfl)
theorem dX1_band_7 : decode cX1_band 7 = .ok (.goto 24, 3) := dk_167 0 24 (dk_at dksX1_band_0 7 rfl rfl)
theorem dX1_band_10 : decode cX1_band 10 = .ok (.iload_n 0, 1) := dk_26 (dk_at dksX1_band_0 10 rfl rfl)
theorem dX1_band_11 : decode cX1_band 11 = .ok (.bipush 50, 2) := dk_16 50 (dk_at dksX1_band_0 11 rfl rfl)
theorem dX1_band_13 : decode cX1_band 13 = .ok (.if_icmp .ge 7, 3) := dk_162 0 7 (dk_at dksX1_band_0 13 rfl rfl)
theorem dX1_band_16 : decode cX1_band 16 = .ok (.iconst 1, 1) := dk_4 (dk_at dksX1_band_0 16 rfl rfl)
theorem dX1_band_17 : decode cX1_band 17 = .ok (.goto 14, 3) := dk_167 0 14 (dk_at dksX1_band_0 17 rfl rfl)
theorem dX1_band_20 : decode cX1_band 20 = .ok (.iload_n 0, 1) := dk_26 (dk_at dksX1_band_0 20 rfl rfl)
theorem dX1_band_21 : decode cX1_band 21 = .ok (.bipush 65, 2) := dk_16 65 (dk_at dksX1_band_0 21 rfl rfl)
theorem dX1_band_23 : decode cX1_band 23 = .ok (.if_icmp .ge 7, 3) := dk_162 0 7 (dk_at dksX1_band_1 0 rfl rfl)
theorem dX1_band_26 : decode cX1_band 26 = .ok (.iconst 2, 1) := dk_5 (dk_at dksX1_band_1 3 rfl rfl)
theorem dX1_band_27 : decode cX1_band 27 = .ok (.goto 4, 3) := dk_167 0 4 (dk_at dksX1_band_1 4 rfl rfl)
theorem dX1_band_30 : decode cX1_band 30 = .ok (.iconst 3, 1) := dk_6 (dk_at dksX1_band_1 7 rfl rfl)
theorem dX1_band_31 : decode cX1_band 31 = .ok (.ireturn, 1) := dk_172 (dk_at dksX1_band_1 8 rfl rfl)
abbrev cX1_meanDelivered : ByteArray := prog_1_method_80_code
def yX1_meanDelivered : MethodName := ⟨RX1, "meanDelivered", "()D"⟩
def dkwX1_meanDelivered_1 : List UInt8 := [180, 0, 52, 182, 0, 135, 135, 111, 175]
abbrev dktX1_meanDelivered_1 : List UInt8 := dkwX1_meanDelivered_1 ++ []
def dkwX1_meanDelivered_0 : List UInt8 := [42, 180, 0, 52, 182, 0, 135, 154, 0, 7, 14, 167, 0, 20, 42, 180, 0, 74, 180, 2, 0, 138, 42]
abbrev dktX1_meanDelivered_0 : List UInt8 := dkwX1_meanDelivered_0 ++ dktX1_meanDelivered_1
theorem dksX1_meanDelivered_0 : cX1_meanDelivered.data.toList.drop 0 = dktX1_meanDelivered_0 := by decide +kernel
theorem dksX1_meanDelivered_1 : cX1_meanDelivered.data.toList.drop 23 = dktX1_meanDelivered_1 := dk_seg dksX1_meanDelivered_0 23 rfl rfl
theorem dX1_meanDelivered_0 : decode cX1_meanDelivered 0 = .ok (.aload_n 0, 1) := dk_42 (dk_at dksX1_meanDelivered_0 0 rfl rfl)
theorem dX1_meanDelivered_1 : decode cX1_meanDelivered 1 = .ok (.getfield 52, 3) := dk_180 0 52 (dk_at dksX1_meanDelivered_0 1 rfl rfl)
theorem dX1_meanDelivered_4 : decode cX1_meanDelivered 4 = .ok (.invokevirtual 135, 3) := dk_182 0 135 (dk_at dksX1_meanDelivered_0 4 rfl rfl)
theorem dX1_meanDelivered_7 : decode cX1_meanDelivered 7 = .ok (.ifCond .ne 7, 3) := dk_154 0 7 (dk_at dksX1_meanDelivered_0 7 rfl rfl)
theorem dX1_meanDelivered_10 : decode cX1_meanDelivered 10 = .ok (.dconst 0, 1) := dk_14 (dk_at dksX1_meanDelivered_0 10 rfl rfl)
theorem dX1_meanDelivered_11 : decode cX1_meanDelivered 11 = .ok (.goto 20, 3) := dk_167 0 20 (dk_at dksX1_meanDelivered_0 11 rfl rfl)
theorem dX1_meanDelivered_14 : decode cX1_meanDelivered 14 = .ok (.aload_n 0, 1) := dk_42 (dk_at dksX1_meanDelivered_0 14 rfl rfl)
theorem dX1_meanDelivered_15 : decode cX1_meanDelivered 15 = .ok (.getfield 74, 3) := dk_180 0 74 (dk_at dksX1_meanDelivered_0 15 rfl rfl)
theorem dX1_meanDelivered_18 : decode cX1_meanDelivered 18 = .ok (.getfield 512, 3) := dk_180 2 0 (dk_at dksX1_meanDelivered_0 18 rfl rfl)
theorem dX1_meanDelivered_21 : decode cX1_meanDelivered 21 = .ok (.l2d, 1) := dk_138 (dk_at dksX1_meanDelivered_0 21 rfl rfl)
theorem dX1_meanDelivered_22 : decode cX1_meanDelivered 22 = .ok (.aload_n 0, 1) := dk_42 (dk_at dksX1_meanDelivered_0 22 rfl rfl)
theorem dX1_meanDelivered_23 : decode cX1_meanDelivered 23 = .ok (.getfield 52, 3) := dk_180 0 52 (dk_at dksX1_meanDelivered_1 0 rfl rfl)
theorem dX1_meanDelivered_26 : decode cX1_meanDelivered 26 = .ok (.invokevirtual 135, 3) := dk_182 0 135 (dk_at dksX1_meanDelivered_1 3 rfl rfl)
theorem dX1_meanDelivered_29 : decode cX1_meanDelivered 29 = .ok (.i2d, 1) := dk_135 (dk_at dksX1_meanDelivered_1 6 rfl rfl)
theorem dX1_meanDelivered_30 : decode cX1_meanDelivered 30 = .ok (.ddiv, 1) := dk_111 (dk_at dksX1_meanDelivered_1 7 rfl rfl)
theorem dX1_meanDelivered_31 : decode cX1_meanDelivered 31 = .ok (.dreturn, 1) := dk_175 (dk_at dksX1_meanDelivered_1 8 rfl rfl)
abbrev cX1_goOn : ByteArray := prog_1_method_14_code
def yX1_goOn : MethodName := ⟨RX1, "goOn", "(I)I"⟩
def dkwX1_goOn_9 : List UInt8 := [132, 3, 1, 167, 255, 191, 132, 2, 1, 167, 255, 72, 42, 180, 0, 115, 172]
abbrev dktX1_goOn_9 : List UInt8 := dkwX1_goOn_9 ++ []
def dkwX1_goOn_8 : List UInt8 := [25, 4, 180, 0, 160, 100, 16, 90, 164, 0, 7, 6, 167, 0, 8, 25, 4, 180, 0, 157, 181, 0, 157]
abbrev dktX1_goOn_8 : List UInt8 := dkwX1_goOn_8 ++ dktX1_goOn_9
def dkwX1_goOn_7 : List UInt8 := [182, 0, 136, 192, 0, 155, 58, 4, 25, 4, 25, 4, 180, 0, 157, 4, 160, 0, 22, 42, 180, 0, 115]
abbrev dktX1_goOn_7 : List UInt8 := dkwX1_goOn_7 ++ dktX1_goOn_8
def dkwX1_goOn_6 : List UInt8 := [132, 3, 1, 167, 255, 228, 3, 62, 29, 42, 180, 0, 52, 182, 0, 135, 162, 0, 60, 42, 180, 0, 52, 29]
abbrev dktX1_goOn_6 : List UInt8 := dkwX1_goOn_6 ++ dktX1_goOn_7
def dkwX1_goOn_5 : List UInt8 := [180, 0, 42, 182, 0, 135, 162, 0, 23, 42, 180, 0, 42, 29, 182, 0, 136, 192, 0, 140, 182, 0, 152]
abbrev dktX1_goOn_5 : List UInt8 := dkwX1_goOn_5 ++ dktX1_goOn_6
def dkwX1_goOn_4 : List UInt8 := [96, 181, 0, 142, 132, 3, 1, 167, 255, 198, 42, 89, 180, 0, 115, 4, 96, 181, 0, 115, 3, 62, 29, 42]
abbrev dktX1_goOn_4 : List UInt8 := dkwX1_goOn_4 ++ dktX1_goOn_5
def dkwX1_goOn_3 : List UInt8 := [180, 0, 142, 25, 4, 180, 0, 145, 158, 0, 15, 25, 4, 182, 0, 148, 154, 0, 7, 4, 167, 0, 4, 3]
abbrev dktX1_goOn_3 : List UInt8 := dkwX1_goOn_3 ++ dktX1_goOn_4
def dkwX1_goOn_2 : List UInt8 := [182, 0, 135, 162, 0, 53, 42, 180, 0, 42, 29, 182, 0, 136, 192, 0, 140, 58, 4, 25, 4, 89]
abbrev dktX1_goOn_2 : List UInt8 := dkwX1_goOn_2 ++ dktX1_goOn_3
def dkwX1_goOn_1 : List UInt8 := [4, 167, 0, 4, 3, 184, 0, 131, 3, 61, 28, 27, 162, 0, 185, 3, 62, 29, 42, 180, 0, 42]
abbrev dktX1_goOn_1 : List UInt8 := dkwX1_goOn_1 ++ dktX1_goOn_2
def dkwX1_goOn_0 : List UInt8 := [27, 133, 10, 20, 0, 125, 184, 0, 127, 153, 0, 19, 42, 180, 0, 115, 27, 96, 17, 78, 32, 163, 0, 7]
abbrev dktX1_goOn_0 : List UInt8 := dkwX1_goOn_0 ++ dktX1_goOn_1
theorem dksX1_goOn_0 : cX1_goOn.data.toList.drop 0 = dktX1_goOn_0 := by decide +kernel
theorem dksX1_goOn_1 : cX1_goOn.data.toList.drop 24 = dktX1_goOn_1 := dk_seg dksX1_goOn_0 24 rfl rfl
theorem dksX1_goOn_2 : cX1_goOn.data.toList.drop 46 = dktX1_goOn_2 := dk_seg dksX1_goOn_1 22 rfl rfl
theorem dksX1_goOn_3 : cX1_goOn.data.toList.drop 68 = dktX1_goOn_3 := dk_seg dksX1_goOn_2 22 rfl rfl
theorem dksX1_goOn_4 : cX1_goOn.data.toList.drop 92 = dktX1_goOn_4 := dk_seg dksX1_goOn_3 24 rfl rfl
theorem dksX1_goOn_5 : cX1_goOn.data.toList.drop 116 = dktX1_goOn_5 := dk_seg dksX1_goOn_4 24 rfl rfl
theorem dksX1_goOn_6 : cX1_goOn.data.toList.drop 139 = dktX1_goOn_6 := dk_seg dksX1_goOn_5 23 rfl rfl
theorem dksX1_goOn_7 : cX1_goOn.data.toList.drop 163 = dktX1_goOn_7 := dk_seg dksX1_goOn_6 24 rfl rfl
theorem dksX1_goOn_8 : cX1_goOn.data.toList.drop 186 = dktX1_goOn_8 := dk_seg dksX1_goOn_7 23 rfl rfl
theorem dksX1_goOn_9 : cX1_goOn.data.toList.drop 209 = dktX1_goOn_9 := dk_seg dksX1_goOn_8 23 rfl rfl
theorem dX1_goOn_0 : decode cX1_goOn 0 = .ok (.iload_n 1, 1) := dk_27 (dk_at dksX1_goOn_0 0 rfl rfl)
theorem dX1_goOn_1 : decode cX1_goOn 1 = .ok (.i2l, 1) := dk_133 (dk_at dksX1_goOn_0 1 rfl rfl)
theorem dX1_goOn_2 : decode cX1_goOn 2 = .ok (.lconst 1, 1) := dk_10 (dk_at dksX1_goOn_0 2 rfl rfl)
theorem dX1_goOn_3 : decode cX1_goOn 3 = .ok (.ldc2_w 125, 3) := dk_20 0 125 (dk_at dksX1_goOn_0 3 rfl rfl)
theorem dX1_goOn_6 : decode cX1_goOn 6 = .ok (.invokestatic 127, 3) := dk_184 0 127 (dk_at dksX1_goOn_0 6 rfl rfl)
theorem dX1_goOn_9 : decode cX1_goOn 9 = .ok (.ifCond .eq 19, 3) := dk_153 0 19 (dk_at dksX1_goOn_0 9 rfl rfl)
theorem dX1_goOn_12 : decode cX1_goOn 12 = .ok (.aload_n 0, 1) := dk_42 (dk_at dksX1_goOn_0 12 rfl rfl)
theorem dX1_goOn_13 : decode cX1_goOn 13 = .ok (.getfield 115, 3) := dk_180 0 115 (dk_at dksX1_goOn_0 13 rfl rfl)
theorem dX1_goOn_16 : decode cX1_goOn 16 = .ok (.iload_n 1, 1) := dk_27 (dk_at dksX1_goOn_0 16 rfl rfl)
theorem dX1_goOn_17 : decode cX1_goOn 17 = .ok (.iadd, 1) := dk_96 (dk_at dksX1_goOn_0 17 rfl rfl)
theorem dX1_goOn_18 : decode cX1_goOn 18 = .ok (.sipush 20000, 3) := dk_17 78 32 (dk_at dksX1_goOn_0 18 rfl rfl)
theorem dX1_goOn_21 : decode cX1_goOn 21 = .ok (.if_icmp .gt 7, 3) := dk_163 0 7 (dk_at dksX1_goOn_0 21 rfl rfl)
theorem dX1_goOn_24 : decode cX1_goOn 24 = .ok (.iconst 1, 1) := dk_4 (dk_at dksX1_goOn_1 0 rfl rfl)
theorem dX1_goOn_25 : decode cX1_goOn 25 = .ok (.goto 4, 3) := dk_167 0 4 (dk_at dksX1_goOn_1 1 rfl rfl)
theorem dX1_goOn_28 : decode cX1_goOn 28 = .ok (.iconst 0, 1) := dk_3 (dk_at dksX1_goOn_1 4 rfl rfl)
theorem dX1_goOn_29 : decode cX1_goOn 29 = .ok (.invokestatic 131, 3) := dk_184 0 131 (dk_at dksX1_goOn_1 5 rfl rfl)
theorem dX1_goOn_32 : decode cX1_goOn 32 = .ok (.iconst 0, 1) := dk_3 (dk_at dksX1_goOn_1 8 rfl rfl)
theorem dX1_goOn_33 : decode cX1_goOn 33 = .ok (.istore_n 2, 1) := dk_61 (dk_at dksX1_goOn_1 9 rfl rfl)
theorem dX1_goOn_34 : decode cX1_goOn 34 = .ok (.iload_n 2, 1) := dk_28 (dk_at dksX1_goOn_1 10 rfl rfl)
theorem dX1_goOn_35 : decode cX1_goOn 35 = .ok (.iload_n 1, 1) := dk_27 (dk_at dksX1_goOn_1 11 rfl rfl)
theorem dX1_goOn_36 : decode cX1_goOn 36 = .ok (.if_icmp .ge 185, 3) := dk_162 0 185 (dk_at dksX1_goOn_1 12 rfl rfl)
theorem dX1_goOn_39 : decode cX1_goOn 39 = .ok (.iconst 0, 1) := dk_3 (dk_at dksX1_goOn_1 15 rfl rfl)
theorem dX1_goOn_40 : decode cX1_goOn 40 = .ok (.istore_n 3, 1) := dk_62 (dk_at dksX1_goOn_1 16 rfl rfl)
theorem dX1_goOn_41 : decode cX1_goOn 41 = .ok (.iload_n 3, 1) := dk_29 (dk_at dksX1_goOn_1 17 rfl rfl)
theorem dX1_goOn_42 : decode cX1_goOn 42 = .ok (.aload_n 0, 1) := dk_42 (dk_at dksX1_goOn_1 18 rfl rfl)
theorem dX1_goOn_43 : decode cX1_goOn 43 = .ok (.getfield 42, 3) := dk_180 0 42 (dk_at dksX1_goOn_1 19 rfl rfl)
theorem dX1_goOn_46 : decode cX1_goOn 46 = .ok (.invokevirtual 135, 3) := dk_182 0 135 (dk_at dksX1_goOn_2 0 rfl rfl)
theorem dX1_goOn_49 : decode cX1_goOn 49 = .ok (.if_icmp .ge 53, 3) := dk_162 0 53 (dk_at dksX1_goOn_2 3 rfl rfl)
theorem dX1_goOn_52 : decode cX1_goOn 52 = .ok (.aload_n 0, 1) := dk_42 (dk_at dksX1_goOn_2 6 rfl rfl)
theorem dX1_goOn_53 : decode cX1_goOn 53 = .ok (.getfield 42, 3) := dk_180 0 42 (dk_at dksX1_goOn_2 7 rfl rfl)
theorem dX1_goOn_56 : decode cX1_goOn 56 = .ok (.iload_n 3, 1) := dk_29 (dk_at dksX1_goOn_2 10 rfl rfl)
theorem dX1_goOn_57 : decode cX1_goOn 57 = .ok (.invokevirtual 136, 3) := dk_182 0 136 (dk_at dksX1_goOn_2 11 rfl rfl)
theorem dX1_goOn_60 : decode cX1_goOn 60 = .ok (.checkcast 140, 3) := dk_192 0 140 (dk_at dksX1_goOn_2 14 rfl rfl)
theorem dX1_goOn_63 : decode cX1_goOn 63 = .ok (.astore 4, 2) := dk_58 4 (dk_at dksX1_goOn_2 17 rfl rfl)
theorem dX1_goOn_65 : decode cX1_goOn 65 = .ok (.aload 4, 2) := dk_25 4 (dk_at dksX1_goOn_2 19 rfl rfl)
theorem dX1_goOn_67 : decode cX1_goOn 67 = .ok (.dup, 1) := dk_89 (dk_at dksX1_goOn_2 21 rfl rfl)
theorem dX1_goOn_68 : decode cX1_goOn 68 = .ok (.getfield 142, 3) := dk_180 0 142 (dk_at dksX1_goOn_3 0 rfl rfl)
theorem dX1_goOn_71 : decode cX1_goOn 71 = .ok (.aload 4, 2) := dk_25 4 (dk_at dksX1_goOn_3 3 rfl rfl)
theorem dX1_goOn_73 : decode cX1_goOn 73 = .ok (.getfield 145, 3) := dk_180 0 145 (dk_at dksX1_goOn_3 5 rfl rfl)
theorem dX1_goOn_76 : decode cX1_goOn 76 = .ok (.ifCond .le 15, 3) := dk_158 0 15 (dk_at dksX1_goOn_3 8 rfl rfl)
theorem dX1_goOn_79 : decode cX1_goOn 79 = .ok (.aload 4, 2) := dk_25 4 (dk_at dksX1_goOn_3 11 rfl rfl)
theorem dX1_goOn_81 : decode cX1_goOn 81 = .ok (.invokevirtual 148, 3) := dk_182 0 148 (dk_at dksX1_goOn_3 13 rfl rfl)
theorem dX1_goOn_84 : decode cX1_goOn 84 = .ok (.ifCond .ne 7, 3) := dk_154 0 7 (dk_at dksX1_goOn_3 16 rfl rfl)
theorem dX1_goOn_87 : decode cX1_goOn 87 = .ok (.iconst 1, 1) := dk_4 (dk_at dksX1_goOn_3 19 rfl rfl)
theorem dX1_goOn_88 : decode cX1_goOn 88 = .ok (.goto 4, 3) := dk_167 0 4 (dk_at dksX1_goOn_3 20 rfl rfl)
theorem dX1_goOn_91 : decode cX1_goOn 91 = .ok (.iconst 0, 1) := dk_3 (dk_at dksX1_goOn_3 23 rfl rfl)
theorem dX1_goOn_92 : decode cX1_goOn 92 = .ok (.iadd, 1) := dk_96 (dk_at dksX1_goOn_4 0 rfl rfl)
theorem dX1_goOn_93 : decode cX1_goOn 93 = .ok (.putfield 142, 3) := dk_181 0 142 (dk_at dksX1_goOn_4 1 rfl rfl)
theorem dX1_goOn_96 : decode cX1_goOn 96 = .ok (.iinc 3 1, 3) := dk_132 3 1 (dk_at dksX1_goOn_4 4 rfl rfl)
theorem dX1_goOn_99 : decode cX1_goOn 99 = .ok (.goto (-58), 3) := dk_167 255 198 (dk_at dksX1_goOn_4 7 rfl rfl)
theorem dX1_goOn_102 : decode cX1_goOn 102 = .ok (.aload_n 0, 1) := dk_42 (dk_at dksX1_goOn_4 10 rfl rfl)
theorem dX1_goOn_103 : decode cX1_goOn 103 = .ok (.dup, 1) := dk_89 (dk_at dksX1_goOn_4 11 rfl rfl)
theorem dX1_goOn_104 : decode cX1_goOn 104 = .ok (.getfield 115, 3) := dk_180 0 115 (dk_at dksX1_goOn_4 12 rfl rfl)
theorem dX1_goOn_107 : decode cX1_goOn 107 = .ok (.iconst 1, 1) := dk_4 (dk_at dksX1_goOn_4 15 rfl rfl)
theorem dX1_goOn_108 : decode cX1_goOn 108 = .ok (.iadd, 1) := dk_96 (dk_at dksX1_goOn_4 16 rfl rfl)
theorem dX1_goOn_109 : decode cX1_goOn 109 = .ok (.putfield 115, 3) := dk_181 0 115 (dk_at dksX1_goOn_4 17 rfl rfl)
theorem dX1_goOn_112 : decode cX1_goOn 112 = .ok (.iconst 0, 1) := dk_3 (dk_at dksX1_goOn_4 20 rfl rfl)
theorem dX1_goOn_113 : decode cX1_goOn 113 = .ok (.istore_n 3, 1) := dk_62 (dk_at dksX1_goOn_4 21 rfl rfl)
theorem dX1_goOn_114 : decode cX1_goOn 114 = .ok (.iload_n 3, 1) := dk_29 (dk_at dksX1_goOn_4 22 rfl rfl)
theorem dX1_goOn_115 : decode cX1_goOn 115 = .ok (.aload_n 0, 1) := dk_42 (dk_at dksX1_goOn_4 23 rfl rfl)
theorem dX1_goOn_116 : decode cX1_goOn 116 = .ok (.getfield 42, 3) := dk_180 0 42 (dk_at dksX1_goOn_5 0 rfl rfl)
theorem dX1_goOn_119 : decode cX1_goOn 119 = .ok (.invokevirtual 135, 3) := dk_182 0 135 (dk_at dksX1_goOn_5 3 rfl rfl)
theorem dX1_goOn_122 : decode cX1_goOn 122 = .ok (.if_icmp .ge 23, 3) := dk_162 0 23 (dk_at dksX1_goOn_5 6 rfl rfl)
theorem dX1_goOn_125 : decode cX1_goOn 125 = .ok (.aload_n 0, 1) := dk_42 (dk_at dksX1_goOn_5 9 rfl rfl)
theorem dX1_goOn_126 : decode cX1_goOn 126 = .ok (.getfield 42, 3) := dk_180 0 42 (dk_at dksX1_goOn_5 10 rfl rfl)
theorem dX1_goOn_129 : decode cX1_goOn 129 = .ok (.iload_n 3, 1) := dk_29 (dk_at dksX1_goOn_5 13 rfl rfl)
theorem dX1_goOn_130 : decode cX1_goOn 130 = .ok (.invokevirtual 136, 3) := dk_182 0 136 (dk_at dksX1_goOn_5 14 rfl rfl)
theorem dX1_goOn_133 : decode cX1_goOn 133 = .ok (.checkcast 140, 3) := dk_192 0 140 (dk_at dksX1_goOn_5 17 rfl rfl)
theorem dX1_goOn_136 : decode cX1_goOn 136 = .ok (.invokevirtual 152, 3) := dk_182 0 152 (dk_at dksX1_goOn_5 20 rfl rfl)
theorem dX1_goOn_139 : decode cX1_goOn 139 = .ok (.iinc 3 1, 3) := dk_132 3 1 (dk_at dksX1_goOn_6 0 rfl rfl)
theorem dX1_goOn_142 : decode cX1_goOn 142 = .ok (.goto (-28), 3) := dk_167 255 228 (dk_at dksX1_goOn_6 3 rfl rfl)
theorem dX1_goOn_145 : decode cX1_goOn 145 = .ok (.iconst 0, 1) := dk_3 (dk_at dksX1_goOn_6 6 rfl rfl)
theorem dX1_goOn_146 : decode cX1_goOn 146 = .ok (.istore_n 3, 1) := dk_62 (dk_at dksX1_goOn_6 7 rfl rfl)
theorem dX1_goOn_147 : decode cX1_goOn 147 = .ok (.iload_n 3, 1) := dk_29 (dk_at dksX1_goOn_6 8 rfl rfl)
theorem dX1_goOn_148 : decode cX1_goOn 148 = .ok (.aload_n 0, 1) := dk_42 (dk_at dksX1_goOn_6 9 rfl rfl)
theorem dX1_goOn_149 : decode cX1_goOn 149 = .ok (.getfield 52, 3) := dk_180 0 52 (dk_at dksX1_goOn_6 10 rfl rfl)
theorem dX1_goOn_152 : decode cX1_goOn 152 = .ok (.invokevirtual 135, 3) := dk_182 0 135 (dk_at dksX1_goOn_6 13 rfl rfl)
theorem dX1_goOn_155 : decode cX1_goOn 155 = .ok (.if_icmp .ge 60, 3) := dk_162 0 60 (dk_at dksX1_goOn_6 16 rfl rfl)
theorem dX1_goOn_158 : decode cX1_goOn 158 = .ok (.aload_n 0, 1) := dk_42 (dk_at dksX1_goOn_6 19 rfl rfl)
theorem dX1_goOn_159 : decode cX1_goOn 159 = .ok (.getfield 52, 3) := dk_180 0 52 (dk_at dksX1_goOn_6 20 rfl rfl)
theorem dX1_goOn_162 : decode cX1_goOn 162 = .ok (.iload_n 3, 1) := dk_29 (dk_at dksX1_goOn_6 23 rfl rfl)
theorem dX1_goOn_163 : decode cX1_goOn 163 = .ok (.invokevirtual 136, 3) := dk_182 0 136 (dk_at dksX1_goOn_7 0 rfl rfl)
theorem dX1_goOn_166 : decode cX1_goOn 166 = .ok (.checkcast 155, 3) := dk_192 0 155 (dk_at dksX1_goOn_7 3 rfl rfl)
theorem dX1_goOn_169 : decode cX1_goOn 169 = .ok (.astore 4, 2) := dk_58 4 (dk_at dksX1_goOn_7 6 rfl rfl)
theorem dX1_goOn_171 : decode cX1_goOn 171 = .ok (.aload 4, 2) := dk_25 4 (dk_at dksX1_goOn_7 8 rfl rfl)
theorem dX1_goOn_173 : decode cX1_goOn 173 = .ok (.aload 4, 2) := dk_25 4 (dk_at dksX1_goOn_7 10 rfl rfl)
theorem dX1_goOn_175 : decode cX1_goOn 175 = .ok (.getfield 157, 3) := dk_180 0 157 (dk_at dksX1_goOn_7 12 rfl rfl)
theorem dX1_goOn_178 : decode cX1_goOn 178 = .ok (.iconst 1, 1) := dk_4 (dk_at dksX1_goOn_7 15 rfl rfl)
theorem dX1_goOn_179 : decode cX1_goOn 179 = .ok (.if_icmp .ne 22, 3) := dk_160 0 22 (dk_at dksX1_goOn_7 16 rfl rfl)
theorem dX1_goOn_182 : decode cX1_goOn 182 = .ok (.aload_n 0, 1) := dk_42 (dk_at dksX1_goOn_7 19 rfl rfl)
theorem dX1_goOn_183 : decode cX1_goOn 183 = .ok (.getfield 115, 3) := dk_180 0 115 (dk_at dksX1_goOn_7 20 rfl rfl)
theorem dX1_goOn_186 : decode cX1_goOn 186 = .ok (.aload 4, 2) := dk_25 4 (dk_at dksX1_goOn_8 0 rfl rfl)
theorem dX1_goOn_188 : decode cX1_goOn 188 = .ok (.getfield 160, 3) := dk_180 0 160 (dk_at dksX1_goOn_8 2 rfl rfl)
theorem dX1_goOn_191 : decode cX1_goOn 191 = .ok (.isub, 1) := dk_100 (dk_at dksX1_goOn_8 5 rfl rfl)
theorem dX1_goOn_192 : decode cX1_goOn 192 = .ok (.bipush 90, 2) := dk_16 90 (dk_at dksX1_goOn_8 6 rfl rfl)
theorem dX1_goOn_194 : decode cX1_goOn 194 = .ok (.if_icmp .le 7, 3) := dk_164 0 7 (dk_at dksX1_goOn_8 8 rfl rfl)
theorem dX1_goOn_197 : decode cX1_goOn 197 = .ok (.iconst 3, 1) := dk_6 (dk_at dksX1_goOn_8 11 rfl rfl)
theorem dX1_goOn_198 : decode cX1_goOn 198 = .ok (.goto 8, 3) := dk_167 0 8 (dk_at dksX1_goOn_8 12 rfl rfl)
theorem dX1_goOn_201 : decode cX1_goOn 201 = .ok (.aload 4, 2) := dk_25 4 (dk_at dksX1_goOn_8 15 rfl rfl)
theorem dX1_goOn_203 : decode cX1_goOn 203 = .ok (.getfield 157, 3) := dk_180 0 157 (dk_at dksX1_goOn_8 17 rfl rfl)
theorem dX1_goOn_206 : decode cX1_goOn 206 = .ok (.putfield 157, 3) := dk_181 0 157 (dk_at dksX1_goOn_8 20 rfl rfl)
theorem dX1_goOn_209 : decode cX1_goOn 209 = .ok (.iinc 3 1, 3) := dk_132 3 1 (dk_at dksX1_goOn_9 0 rfl rfl)
theorem dX1_goOn_212 : decode cX1_goOn 212 = .ok (.goto (-65), 3) := dk_167 255 191 (dk_at dksX1_goOn_9 3 rfl rfl)
theorem dX1_goOn_215 : decode cX1_goOn 215 = .ok (.iinc 2 1, 3) := dk_132 2 1 (dk_at dksX1_goOn_9 6 rfl rfl)
theorem dX1_goOn_218 : decode cX1_goOn 218 = .ok (.goto (-184), 3) := dk_167 255 72 (dk_at dksX1_goOn_9 9 rfl rfl)
theorem dX1_goOn_221 : decode cX1_goOn 221 = .ok (.aload_n 0, 1) := dk_42 (dk_at dksX1_goOn_9 12 rfl rfl)
theorem dX1_goOn_222 : decode cX1_goOn 222 = .ok (.getfield 115, 3) := dk_180 0 115 (dk_at dksX1_goOn_9 13 rfl rfl)
theorem dX1_goOn_225 : decode cX1_goOn 225 = .ok (.ireturn, 1) := dk_172 (dk_at dksX1_goOn_9 16 rfl rfl)
abbrev cX1_isIn : ByteArray := prog_1_method_1_code
def yX1_isIn : MethodName := ⟨RX1, "isIn", "(JJJ)Z"⟩
def dkwX1_isIn_0 : List UInt8 := [30, 32, 148, 155, 0, 14, 30, 22, 4, 148, 157, 0, 7, 4, 167, 0, 4, 3, 172]
abbrev dktX1_isIn_0 : List UInt8 := dkwX1_isIn_0 ++ []
theorem dksX1_isIn_0 : cX1_isIn.data.toList.drop 0 = dktX1_isIn_0 := by decide +kernel
theorem dX1_isIn_0 : decode cX1_isIn 0 = .ok (.lload_n 0, 1) := dk_30 (dk_at dksX1_isIn_0 0 rfl rfl)
theorem dX1_isIn_1 : decode cX1_isIn 1 = .ok (.lload_n 2, 1) := dk_32 (dk_at dksX1_isIn_0 1 rfl rfl)
theorem dX1_isIn_2 : decode cX1_isIn 2 = .ok (.lcmp, 1) := dk_148 (dk_at dksX1_isIn_0 2 rfl rfl)
theorem dX1_isIn_3 : decode cX1_isIn 3 = .ok (.ifCond .lt 14, 3) := dk_155 0 14 (dk_at dksX1_isIn_0 3 rfl rfl)
theorem dX1_isIn_6 : decode cX1_isIn 6 = .ok (.lload_n 0, 1) := dk_30 (dk_at dksX1_isIn_0 6 rfl rfl)
theorem dX1_isIn_7 : decode cX1_isIn 7 = .ok (.lload 4, 2) := dk_22 4 (dk_at dksX1_isIn_0 7 rfl rfl)
theorem dX1_isIn_9 : decode cX1_isIn 9 = .ok (.lcmp, 1) := dk_148 (dk_at dksX1_isIn_0 9 rfl rfl)
theorem dX1_isIn_10 : decode cX1_isIn 10 = .ok (.ifCond .gt 7, 3) := dk_157 0 7 (dk_at dksX1_isIn_0 10 rfl rfl)
theorem dX1_isIn_13 : decode cX1_isIn 13 = .ok (.iconst 1, 1) := dk_4 (dk_at dksX1_isIn_0 13 rfl rfl)
theorem dX1_isIn_14 : decode cX1_isIn 14 = .ok (.goto 4, 3) := dk_167 0 4 (dk_at dksX1_isIn_0 14 rfl rfl)
theorem dX1_isIn_17 : decode cX1_isIn 17 = .ok (.iconst 0, 1) := dk_3 (dk_at dksX1_isIn_0 17 rfl rfl)
theorem dX1_isIn_18 : decode cX1_isIn 18 = .ok (.ireturn, 1) := dk_172 (dk_at dksX1_isIn_0 18 rfl rfl)
abbrev cX1_requireArgument : ByteArray := prog_1_method_3_code
def yX1_requireArgument : MethodName := ⟨RX1, "requireArgument", "(Z)V"⟩
def dkwX1_requireArgument_0 : List UInt8 := [26, 154, 0, 11, 187, 0, 7, 89, 183, 0, 9, 191, 177]
abbrev dktX1_requireArgument_0 : List UInt8 := dkwX1_requireArgument_0 ++ []
theorem dksX1_requireArgument_0 : cX1_requireArgument.data.toList.drop 0 = dktX1_requireArgument_0 := by decide +kernel
theorem dX1_requireArgument_0 : decode cX1_requireArgument 0 = .ok (.iload_n 0, 1) := dk_26 (dk_at dksX1_requireArgument_0 0 rfl rfl)
theorem dX1_requireArgument_1 : decode cX1_requireArgument 1 = .ok (.ifCond .ne 11, 3) := dk_154 0 11 (dk_at dksX1_requireArgument_0 1 rfl rfl)
theorem dX1_requireArgument_4 : decode cX1_requireArgument 4 = .ok (.new 7, 3) := dk_187 0 7 (dk_at dksX1_requireArgument_0 4 rfl rfl)
theorem dX1_requireArgument_7 : decode cX1_requireArgument 7 = .ok (.dup, 1) := dk_89 (dk_at dksX1_requireArgument_0 7 rfl rfl)
theorem dX1_requireArgument_8 : decode cX1_requireArgument 8 = .ok (.invokespecial 9, 3) := dk_183 0 9 (dk_at dksX1_requireArgument_0 8 rfl rfl)
theorem dX1_requireArgument_11 : decode cX1_requireArgument 11 = .ok (.athrow, 1) := dk_191 (dk_at dksX1_requireArgument_0 11 rfl rfl)
theorem dX1_requireArgument_12 : decode cX1_requireArgument 12 = .ok (.return_, 1) := dk_177 (dk_at dksX1_requireArgument_0 12 rfl rfl)
abbrev cX1_requireIndex : ByteArray := prog_1_method_2_code
def yX1_requireIndex : MethodName := ⟨RX1, "requireIndex", "(Z)V"⟩
def dkwX1_requireIndex_0 : List UInt8 := [26, 154, 0, 11, 187, 0, 1, 89, 183, 0, 3, 191, 177]
abbrev dktX1_requireIndex_0 : List UInt8 := dkwX1_requireIndex_0 ++ []
theorem dksX1_requireIndex_0 : cX1_requireIndex.data.toList.drop 0 = dktX1_requireIndex_0 := by decide +kernel
theorem dX1_requireIndex_0 : decode cX1_requireIndex 0 = .ok (.iload_n 0, 1) := dk_26 (dk_at dksX1_requireIndex_0 0 rfl rfl)
theorem dX1_requireIndex_1 : decode cX1_requireIndex 1 = .ok (.ifCond .ne 11, 3) := dk_154 0 11 (dk_at dksX1_requireIndex_0 1 rfl rfl)
theorem dX1_requireIndex_4 : decode cX1_requireIndex 4 = .ok (.new 1, 3) := dk_187 0 1 (dk_at dksX1_requireIndex_0 4 rfl rfl)
theorem dX1_requireIndex_7 : decode cX1_requireIndex 7 = .ok (.dup, 1) := dk_89 (dk_at dksX1_requireIndex_0 7 rfl rfl)
theorem dX1_requireIndex_8 : decode cX1_requireIndex 8 = .ok (.invokespecial 3, 3) := dk_183 0 3 (dk_at dksX1_requireIndex_0 8 rfl rfl)
theorem dX1_requireIndex_11 : decode cX1_requireIndex 11 = .ok (.athrow, 1) := dk_191 (dk_at dksX1_requireIndex_0 11 rfl rfl)
theorem dX1_requireIndex_12 : decode cX1_requireIndex 12 = .ok (.return_, 1) := dk_177 (dk_at dksX1_requireIndex_0 12 rfl rfl)
abbrev cX1_person : ByteArray := prog_1_method_15_code
def yX1_person : MethodName := ⟨RX1, "person", "(IIII)I"⟩
def dkwX1_person_3 : List UInt8 := [89, 42, 42, 180, 0, 42, 182, 0, 135, 27, 28, 29, 21, 4, 183, 0, 171, 182, 0, 174, 172]
abbrev dktX1_person_3 : List UInt8 := dkwX1_person_3 ++ []
def dkwX1_person_2 : List UInt8 := [20, 0, 169, 184, 0, 127, 153, 0, 7, 4, 167, 0, 4, 3, 184, 0, 131, 42, 180, 0, 42, 187, 0, 140]
abbrev dktX1_person_2 : List UInt8 := dkwX1_person_2 ++ dktX1_person_3
def dkwX1_person_1 : List UInt8 := [184, 0, 127, 153, 0, 32, 29, 133, 9, 20, 0, 167, 184, 0, 127, 153, 0, 20, 21, 4, 133, 9]
abbrev dktX1_person_1 : List UInt8 := dkwX1_person_1 ++ dktX1_person_2
def dkwX1_person_0 : List UInt8 := [27, 133, 20, 0, 163, 42, 180, 0, 115, 133, 184, 0, 127, 153, 0, 44, 28, 133, 9, 20, 0, 165]
abbrev dktX1_person_0 : List UInt8 := dkwX1_person_0 ++ dktX1_person_1
theorem dksX1_person_0 : cX1_person.data.toList.drop 0 = dktX1_person_0 := by decide +kernel
theorem dksX1_person_1 : cX1_person.data.toList.drop 22 = dktX1_person_1 := dk_seg dksX1_person_0 22 rfl rfl
theorem dksX1_person_2 : cX1_person.data.toList.drop 44 = dktX1_person_2 := dk_seg dksX1_person_1 22 rfl rfl
theorem dksX1_person_3 : cX1_person.data.toList.drop 68 = dktX1_person_3 := dk_seg dksX1_person_2 24 rfl rfl
theorem dX1_person_0 : decode cX1_person 0 = .ok (.iload_n 1, 1) := dk_27 (dk_at dksX1_person_0 0 rfl rfl)
theorem dX1_person_1 : decode cX1_person 1 = .ok (.i2l, 1) := dk_133 (dk_at dksX1_person_0 1 rfl rfl)
theorem dX1_person_2 : decode cX1_person 2 = .ok (.ldc2_w 163, 3) := dk_20 0 163 (dk_at dksX1_person_0 2 rfl rfl)
theorem dX1_person_5 : decode cX1_person 5 = .ok (.aload_n 0, 1) := dk_42 (dk_at dksX1_person_0 5 rfl rfl)
theorem dX1_person_6 : decode cX1_person 6 = .ok (.getfield 115, 3) := dk_180 0 115 (dk_at dksX1_person_0 6 rfl rfl)
theorem dX1_person_9 : decode cX1_person 9 = .ok (.i2l, 1) := dk_133 (dk_at dksX1_person_0 9 rfl rfl)
theorem dX1_person_10 : decode cX1_person 10 = .ok (.invokestatic 127, 3) := dk_184 0 127 (dk_at dksX1_person_0 10 rfl rfl)
theorem dX1_person_13 : decode cX1_person 13 = .ok (.ifCond .eq 44, 3) := dk_153 0 44 (dk_at dksX1_person_0 13 rfl rfl)
theorem dX1_person_16 : decode cX1_person 16 = .ok (.iload_n 2, 1) := dk_28 (dk_at dksX1_person_0 16 rfl rfl)
theorem dX1_person_17 : decode cX1_person 17 = .ok (.i2l, 1) := dk_133 (dk_at dksX1_person_0 17 rfl rfl)
theorem dX1_person_18 : decode cX1_person 18 = .ok (.lconst 0, 1) := dk_9 (dk_at dksX1_person_0 18 rfl rfl)
theorem dX1_person_19 : decode cX1_person 19 = .ok (.ldc2_w 165, 3) := dk_20 0 165 (dk_at dksX1_person_0 19 rfl rfl)
theorem dX1_person_22 : decode cX1_person 22 = .ok (.invokestatic 127, 3) := dk_184 0 127 (dk_at dksX1_person_1 0 rfl rfl)
theorem dX1_person_25 : decode cX1_person 25 = .ok (.ifCond .eq 32, 3) := dk_153 0 32 (dk_at dksX1_person_1 3 rfl rfl)
theorem dX1_person_28 : decode cX1_person 28 = .ok (.iload_n 3, 1) := dk_29 (dk_at dksX1_person_1 6 rfl rfl)
theorem dX1_person_29 : decode cX1_person 29 = .ok (.i2l, 1) := dk_133 (dk_at dksX1_person_1 7 rfl rfl)
theorem dX1_person_30 : decode cX1_person 30 = .ok (.lconst 0, 1) := dk_9 (dk_at dksX1_person_1 8 rfl rfl)
theorem dX1_person_31 : decode cX1_person 31 = .ok (.ldc2_w 167, 3) := dk_20 0 167 (dk_at dksX1_person_1 9 rfl rfl)
theorem dX1_person_34 : decode cX1_person 34 = .ok (.invokestatic 127, 3) := dk_184 0 127 (dk_at dksX1_person_1 12 rfl rfl)
theorem dX1_person_37 : decode cX1_person 37 = .ok (.ifCond .eq 20, 3) := dk_153 0 20 (dk_at dksX1_person_1 15 rfl rfl)
theorem dX1_person_40 : decode cX1_person 40 = .ok (.iload 4, 2) := dk_21 4 (dk_at dksX1_person_1 18 rfl rfl)
theorem dX1_person_42 : decode cX1_person 42 = .ok (.i2l, 1) := dk_133 (dk_at dksX1_person_1 20 rfl rfl)
theorem dX1_person_43 : decode cX1_person 43 = .ok (.lconst 0, 1) := dk_9 (dk_at dksX1_person_1 21 rfl rfl)
theorem dX1_person_44 : decode cX1_person 44 = .ok (.ldc2_w 169, 3) := dk_20 0 169 (dk_at dksX1_person_2 0 rfl rfl)
theorem dX1_person_47 : decode cX1_person 47 = .ok (.invokestatic 127, 3) := dk_184 0 127 (dk_at dksX1_person_2 3 rfl rfl)
theorem dX1_person_50 : decode cX1_person 50 = .ok (.ifCond .eq 7, 3) := dk_153 0 7 (dk_at dksX1_person_2 6 rfl rfl)
theorem dX1_person_53 : decode cX1_person 53 = .ok (.iconst 1, 1) := dk_4 (dk_at dksX1_person_2 9 rfl rfl)
theorem dX1_person_54 : decode cX1_person 54 = .ok (.goto 4, 3) := dk_167 0 4 (dk_at dksX1_person_2 10 rfl rfl)
theorem dX1_person_57 : decode cX1_person 57 = .ok (.iconst 0, 1) := dk_3 (dk_at dksX1_person_2 13 rfl rfl)
theorem dX1_person_58 : decode cX1_person 58 = .ok (.invokestatic 131, 3) := dk_184 0 131 (dk_at dksX1_person_2 14 rfl rfl)
theorem dX1_person_61 : decode cX1_person 61 = .ok (.aload_n 0, 1) := dk_42 (dk_at dksX1_person_2 17 rfl rfl)
theorem dX1_person_62 : decode cX1_person 62 = .ok (.getfield 42, 3) := dk_180 0 42 (dk_at dksX1_person_2 18 rfl rfl)
theorem dX1_person_65 : decode cX1_person 65 = .ok (.new 140, 3) := dk_187 0 140 (dk_at dksX1_person_2 21 rfl rfl)
theorem dX1_person_68 : decode cX1_person 68 = .ok (.dup, 1) := dk_89 (dk_at dksX1_person_3 0 rfl rfl)
theorem dX1_person_69 : decode cX1_person 69 = .ok (.aload_n 0, 1) := dk_42 (dk_at dksX1_person_3 1 rfl rfl)
theorem dX1_person_70 : decode cX1_person 70 = .ok (.aload_n 0, 1) := dk_42 (dk_at dksX1_person_3 2 rfl rfl)
theorem dX1_person_71 : decode cX1_person 71 = .ok (.getfield 42, 3) := dk_180 0 42 (dk_at dksX1_person_3 3 rfl rfl)
theorem dX1_person_74 : decode cX1_person 74 = .ok (.invokevirtual 135, 3) := dk_182 0 135 (dk_at dksX1_person_3 6 rfl rfl)
theorem dX1_person_77 : decode cX1_person 77 = .ok (.iload_n 1, 1) := dk_27 (dk_at dksX1_person_3 9 rfl rfl)
theorem dX1_person_78 : decode cX1_person 78 = .ok (.iload_n 2, 1) := dk_28 (dk_at dksX1_person_3 10 rfl rfl)
theorem dX1_person_79 : decode cX1_person 79 = .ok (.iload_n 3, 1) := dk_29 (dk_at dksX1_person_3 11 rfl rfl)
theorem dX1_person_80 : decode cX1_person 80 = .ok (.iload 4, 2) := dk_21 4 (dk_at dksX1_person_3 12 rfl rfl)
theorem dX1_person_82 : decode cX1_person 82 = .ok (.invokespecial 171, 3) := dk_183 0 171 (dk_at dksX1_person_3 14 rfl rfl)
theorem dX1_person_85 : decode cX1_person 85 = .ok (.invokevirtual 174, 3) := dk_182 0 174 (dk_at dksX1_person_3 17 rfl rfl)
theorem dX1_person_88 : decode cX1_person 88 = .ok (.ireturn, 1) := dk_172 (dk_at dksX1_person_3 20 rfl rfl)
abbrev cX1_requireState : ByteArray := prog_1_method_4_code
def yX1_requireState : MethodName := ⟨RX1, "requireState", "(Z)V"⟩
def dkwX1_requireState_0 : List UInt8 := [26, 154, 0, 11, 187, 0, 10, 89, 183, 0, 12, 191, 177]
abbrev dktX1_requireState_0 : List UInt8 := dkwX1_requireState_0 ++ []
theorem dksX1_requireState_0 : cX1_requireState.data.toList.drop 0 = dktX1_requireState_0 := by decide +kernel
theorem dX1_requireState_0 : decode cX1_requireState 0 = .ok (.iload_n 0, 1) := dk_26 (dk_at dksX1_requireState_0 0 rfl rfl)
theorem dX1_requireState_1 : decode cX1_requireState 1 = .ok (.ifCond .ne 11, 3) := dk_154 0 11 (dk_at dksX1_requireState_0 1 rfl rfl)
theorem dX1_requireState_4 : decode cX1_requireState 4 = .ok (.new 10, 3) := dk_187 0 10 (dk_at dksX1_requireState_0 4 rfl rfl)
theorem dX1_requireState_7 : decode cX1_requireState 7 = .ok (.dup, 1) := dk_89 (dk_at dksX1_requireState_0 7 rfl rfl)
theorem dX1_requireState_8 : decode cX1_requireState 8 = .ok (.invokespecial 12, 3) := dk_183 0 12 (dk_at dksX1_requireState_0 8 rfl rfl)
theorem dX1_requireState_11 : decode cX1_requireState 11 = .ok (.athrow, 1) := dk_191 (dk_at dksX1_requireState_0 11 rfl rfl)
theorem dX1_requireState_12 : decode cX1_requireState 12 = .ok (.return_, 1) := dk_177 (dk_at dksX1_requireState_0 12 rfl rfl)
abbrev cX1_sick : ByteArray := prog_1_method_16_code
def yX1_sick : MethodName := ⟨RX1, "sick", "(II)I"⟩
def dkwX1_sick_3 : List UInt8 := [181, 0, 185, 45, 28, 181, 0, 145, 21, 4, 172]
abbrev dktX1_sick_3 : List UInt8 := dkwX1_sick_3 ++ []
def dkwX1_sick_2 : List UInt8 := [180, 0, 145, 54, 4, 45, 21, 4, 154, 0, 10, 42, 180, 0, 115, 167, 0, 7, 45, 180, 0, 185]
abbrev dktX1_sick_2 : List UInt8 := dkwX1_sick_2 ++ dktX1_sick_3
def dkwX1_sick_1 : List UInt8 := [184, 0, 127, 184, 0, 131, 45, 182, 0, 179, 154, 0, 7, 4, 167, 0, 4, 3, 184, 0, 182, 45]
abbrev dktX1_sick_1 : List UInt8 := dkwX1_sick_1 ++ dktX1_sick_2
def dkwX1_sick_0 : List UInt8 := [42, 180, 0, 42, 27, 182, 0, 136, 192, 0, 140, 78, 28, 133, 45, 180, 0, 145, 4, 96, 133, 20, 0, 177]
abbrev dktX1_sick_0 : List UInt8 := dkwX1_sick_0 ++ dktX1_sick_1
theorem dksX1_sick_0 : cX1_sick.data.toList.drop 0 = dktX1_sick_0 := by decide +kernel
theorem dksX1_sick_1 : cX1_sick.data.toList.drop 24 = dktX1_sick_1 := dk_seg dksX1_sick_0 24 rfl rfl
theorem dksX1_sick_2 : cX1_sick.data.toList.drop 46 = dktX1_sick_2 := dk_seg dksX1_sick_1 22 rfl rfl
theorem dksX1_sick_3 : cX1_sick.data.toList.drop 68 = dktX1_sick_3 := dk_seg dksX1_sick_2 22 rfl rfl
theorem dX1_sick_0 : decode cX1_sick 0 = .ok (.aload_n 0, 1) := dk_42 (dk_at dksX1_sick_0 0 rfl rfl)
theorem dX1_sick_1 : decode cX1_sick 1 = .ok (.getfield 42, 3) := dk_180 0 42 (dk_at dksX1_sick_0 1 rfl rfl)
theorem dX1_sick_4 : decode cX1_sick 4 = .ok (.iload_n 1, 1) := dk_27 (dk_at dksX1_sick_0 4 rfl rfl)
theorem dX1_sick_5 : decode cX1_sick 5 = .ok (.invokevirtual 136, 3) := dk_182 0 136 (dk_at dksX1_sick_0 5 rfl rfl)
theorem dX1_sick_8 : decode cX1_sick 8 = .ok (.checkcast 140, 3) := dk_192 0 140 (dk_at dksX1_sick_0 8 rfl rfl)
theorem dX1_sick_11 : decode cX1_sick 11 = .ok (.astore_n 3, 1) := dk_78 (dk_at dksX1_sick_0 11 rfl rfl)
theorem dX1_sick_12 : decode cX1_sick 12 = .ok (.iload_n 2, 1) := dk_28 (dk_at dksX1_sick_0 12 rfl rfl)
theorem dX1_sick_13 : decode cX1_sick 13 = .ok (.i2l, 1) := dk_133 (dk_at dksX1_sick_0 13 rfl rfl)
theorem dX1_sick_14 : decode cX1_sick 14 = .ok (.aload_n 3, 1) := dk_45 (dk_at dksX1_sick_0 14 rfl rfl)
theorem dX1_sick_15 : decode cX1_sick 15 = .ok (.getfield 145, 3) := dk_180 0 145 (dk_at dksX1_sick_0 15 rfl rfl)
theorem dX1_sick_18 : decode cX1_sick 18 = .ok (.iconst 1, 1) := dk_4 (dk_at dksX1_sick_0 18 rfl rfl)
theorem dX1_sick_19 : decode cX1_sick 19 = .ok (.iadd, 1) := dk_96 (dk_at dksX1_sick_0 19 rfl rfl)
theorem dX1_sick_20 : decode cX1_sick 20 = .ok (.i2l, 1) := dk_133 (dk_at dksX1_sick_0 20 rfl rfl)
theorem dX1_sick_21 : decode cX1_sick 21 = .ok (.ldc2_w 177, 3) := dk_20 0 177 (dk_at dksX1_sick_0 21 rfl rfl)
theorem dX1_sick_24 : decode cX1_sick 24 = .ok (.invokestatic 127, 3) := dk_184 0 127 (dk_at dksX1_sick_1 0 rfl rfl)
theorem dX1_sick_27 : decode cX1_sick 27 = .ok (.invokestatic 131, 3) := dk_184 0 131 (dk_at dksX1_sick_1 3 rfl rfl)
theorem dX1_sick_30 : decode cX1_sick 30 = .ok (.aload_n 3, 1) := dk_45 (dk_at dksX1_sick_1 6 rfl rfl)
theorem dX1_sick_31 : decode cX1_sick 31 = .ok (.invokevirtual 179, 3) := dk_182 0 179 (dk_at dksX1_sick_1 7 rfl rfl)
theorem dX1_sick_34 : decode cX1_sick 34 = .ok (.ifCond .ne 7, 3) := dk_154 0 7 (dk_at dksX1_sick_1 10 rfl rfl)
theorem dX1_sick_37 : decode cX1_sick 37 = .ok (.iconst 1, 1) := dk_4 (dk_at dksX1_sick_1 13 rfl rfl)
theorem dX1_sick_38 : decode cX1_sick 38 = .ok (.goto 4, 3) := dk_167 0 4 (dk_at dksX1_sick_1 14 rfl rfl)
theorem dX1_sick_41 : decode cX1_sick 41 = .ok (.iconst 0, 1) := dk_3 (dk_at dksX1_sick_1 17 rfl rfl)
theorem dX1_sick_42 : decode cX1_sick 42 = .ok (.invokestatic 182, 3) := dk_184 0 182 (dk_at dksX1_sick_1 18 rfl rfl)
theorem dX1_sick_45 : decode cX1_sick 45 = .ok (.aload_n 3, 1) := dk_45 (dk_at dksX1_sick_1 21 rfl rfl)
theorem dX1_sick_46 : decode cX1_sick 46 = .ok (.getfield 145, 3) := dk_180 0 145 (dk_at dksX1_sick_2 0 rfl rfl)
theorem dX1_sick_49 : decode cX1_sick 49 = .ok (.istore 4, 2) := dk_54 4 (dk_at dksX1_sick_2 3 rfl rfl)
theorem dX1_sick_51 : decode cX1_sick 51 = .ok (.aload_n 3, 1) := dk_45 (dk_at dksX1_sick_2 5 rfl rfl)
theorem dX1_sick_52 : decode cX1_sick 52 = .ok (.iload 4, 2) := dk_21 4 (dk_at dksX1_sick_2 6 rfl rfl)
theorem dX1_sick_54 : decode cX1_sick 54 = .ok (.ifCond .ne 10, 3) := dk_154 0 10 (dk_at dksX1_sick_2 8 rfl rfl)
theorem dX1_sick_57 : decode cX1_sick 57 = .ok (.aload_n 0, 1) := dk_42 (dk_at dksX1_sick_2 11 rfl rfl)
theorem dX1_sick_58 : decode cX1_sick 58 = .ok (.getfield 115, 3) := dk_180 0 115 (dk_at dksX1_sick_2 12 rfl rfl)
theorem dX1_sick_61 : decode cX1_sick 61 = .ok (.goto 7, 3) := dk_167 0 7 (dk_at dksX1_sick_2 15 rfl rfl)
theorem dX1_sick_64 : decode cX1_sick 64 = .ok (.aload_n 3, 1) := dk_45 (dk_at dksX1_sick_2 18 rfl rfl)
theorem dX1_sick_65 : decode cX1_sick 65 = .ok (.getfield 185, 3) := dk_180 0 185 (dk_at dksX1_sick_2 19 rfl rfl)
theorem dX1_sick_68 : decode cX1_sick 68 = .ok (.putfield 185, 3) := dk_181 0 185 (dk_at dksX1_sick_3 0 rfl rfl)
theorem dX1_sick_71 : decode cX1_sick 71 = .ok (.aload_n 3, 1) := dk_45 (dk_at dksX1_sick_3 3 rfl rfl)
theorem dX1_sick_72 : decode cX1_sick 72 = .ok (.iload_n 2, 1) := dk_28 (dk_at dksX1_sick_3 4 rfl rfl)
theorem dX1_sick_73 : decode cX1_sick 73 = .ok (.putfield 145, 3) := dk_181 0 145 (dk_at dksX1_sick_3 5 rfl rfl)
theorem dX1_sick_76 : decode cX1_sick 76 = .ok (.iload 4, 2) := dk_21 4 (dk_at dksX1_sick_3 8 rfl rfl)
theorem dX1_sick_78 : decode cX1_sick 78 = .ok (.ireturn, 1) := dk_172 (dk_at dksX1_sick_3 10 rfl rfl)
abbrev cX1_die : ByteArray := prog_1_method_17_code
def yX1_die : MethodName := ⟨RX1, "die", "(II)J"⟩
def dkwX1_die_3 : List UInt8 := [45, 22, 4, 182, 0, 204, 22, 4, 173]
abbrev dktX1_die_3 : List UInt8 := dkwX1_die_3 ++ []
def dkwX1_die_2 : List UInt8 := [180, 0, 191, 45, 182, 0, 194, 97, 55, 4, 45, 9, 181, 0, 191, 45, 180, 0, 198, 185, 0, 202, 1, 0]
abbrev dktX1_die_2 : List UInt8 := dkwX1_die_2 ++ dktX1_die_3
def dkwX1_die_1 : List UInt8 := [45, 182, 0, 179, 154, 0, 7, 4, 167, 0, 4, 3, 184, 0, 182, 45, 28, 188, 11, 181, 0, 188, 45]
abbrev dktX1_die_1 : List UInt8 := dkwX1_die_1 ++ dktX1_die_2
def dkwX1_die_0 : List UInt8 := [42, 180, 0, 42, 27, 182, 0, 136, 192, 0, 140, 78, 28, 133, 10, 20, 0, 167, 184, 0, 127, 184, 0, 131]
abbrev dktX1_die_0 : List UInt8 := dkwX1_die_0 ++ dktX1_die_1
theorem dksX1_die_0 : cX1_die.data.toList.drop 0 = dktX1_die_0 := by decide +kernel
theorem dksX1_die_1 : cX1_die.data.toList.drop 24 = dktX1_die_1 := dk_seg dksX1_die_0 24 rfl rfl
theorem dksX1_die_2 : cX1_die.data.toList.drop 47 = dktX1_die_2 := dk_seg dksX1_die_1 23 rfl rfl
theorem dksX1_die_3 : cX1_die.data.toList.drop 71 = dktX1_die_3 := dk_seg dksX1_die_2 24 rfl rfl
theorem dX1_die_0 : decode cX1_die 0 = .ok (.aload_n 0, 1) := dk_42 (dk_at dksX1_die_0 0 rfl rfl)
theorem dX1_die_1 : decode cX1_die 1 = .ok (.getfield 42, 3) := dk_180 0 42 (dk_at dksX1_die_0 1 rfl rfl)
theorem dX1_die_4 : decode cX1_die 4 = .ok (.iload_n 1, 1) := dk_27 (dk_at dksX1_die_0 4 rfl rfl)
theorem dX1_die_5 : decode cX1_die 5 = .ok (.invokevirtual 136, 3) := dk_182 0 136 (dk_at dksX1_die_0 5 rfl rfl)
theorem dX1_die_8 : decode cX1_die 8 = .ok (.checkcast 140, 3) := dk_192 0 140 (dk_at dksX1_die_0 8 rfl rfl)
theorem dX1_die_11 : decode cX1_die 11 = .ok (.astore_n 3, 1) := dk_78 (dk_at dksX1_die_0 11 rfl rfl)
theorem dX1_die_12 : decode cX1_die 12 = .ok (.iload_n 2, 1) := dk_28 (dk_at dksX1_die_0 12 rfl rfl)
theorem dX1_die_13 : decode cX1_die 13 = .ok (.i2l, 1) := dk_133 (dk_at dksX1_die_0 13 rfl rfl)
theorem dX1_die_14 : decode cX1_die 14 = .ok (.lconst 1, 1) := dk_10 (dk_at dksX1_die_0 14 rfl rfl)
theorem dX1_die_15 : decode cX1_die 15 = .ok (.ldc2_w 167, 3) := dk_20 0 167 (dk_at dksX1_die_0 15 rfl rfl)
theorem dX1_die_18 : decode cX1_die 18 = .ok (.invokestatic 127, 3) := dk_184 0 127 (dk_at dksX1_die_0 18 rfl rfl)
theorem dX1_die_21 : decode cX1_die 21 = .ok (.invokestatic 131, 3) := dk_184 0 131 (dk_at dksX1_die_0 21 rfl rfl)
theorem dX1_die_24 : decode cX1_die 24 = .ok (.aload_n 3, 1) := dk_45 (dk_at dksX1_die_1 0 rfl rfl)
theorem dX1_die_25 : decode cX1_die 25 = .ok (.invokevirtual 179, 3) := dk_182 0 179 (dk_at dksX1_die_1 1 rfl rfl)
theorem dX1_die_28 : decode cX1_die 28 = .ok (.ifCond .ne 7, 3) := dk_154 0 7 (dk_at dksX1_die_1 4 rfl rfl)
theorem dX1_die_31 : decode cX1_die 31 = .ok (.iconst 1, 1) := dk_4 (dk_at dksX1_die_1 7 rfl rfl)
theorem dX1_die_32 : decode cX1_die 32 = .ok (.goto 4, 3) := dk_167 0 4 (dk_at dksX1_die_1 8 rfl rfl)
theorem dX1_die_35 : decode cX1_die 35 = .ok (.iconst 0, 1) := dk_3 (dk_at dksX1_die_1 11 rfl rfl)
theorem dX1_die_36 : decode cX1_die 36 = .ok (.invokestatic 182, 3) := dk_184 0 182 (dk_at dksX1_die_1 12 rfl rfl)
theorem dX1_die_39 : decode cX1_die 39 = .ok (.aload_n 3, 1) := dk_45 (dk_at dksX1_die_1 15 rfl rfl)
theorem dX1_die_40 : decode cX1_die 40 = .ok (.iload_n 2, 1) := dk_28 (dk_at dksX1_die_1 16 rfl rfl)
theorem dX1_die_41 : decode cX1_die 41 = .ok (.newarray .long, 2) := dk_188_11 (dk_at dksX1_die_1 17 rfl rfl)
theorem dX1_die_43 : decode cX1_die 43 = .ok (.putfield 188, 3) := dk_181 0 188 (dk_at dksX1_die_1 19 rfl rfl)
theorem dX1_die_46 : decode cX1_die 46 = .ok (.aload_n 3, 1) := dk_45 (dk_at dksX1_die_1 22 rfl rfl)
theorem dX1_die_47 : decode cX1_die 47 = .ok (.getfield 191, 3) := dk_180 0 191 (dk_at dksX1_die_2 0 rfl rfl)
theorem dX1_die_50 : decode cX1_die 50 = .ok (.aload_n 3, 1) := dk_45 (dk_at dksX1_die_2 3 rfl rfl)
theorem dX1_die_51 : decode cX1_die 51 = .ok (.invokevirtual 194, 3) := dk_182 0 194 (dk_at dksX1_die_2 4 rfl rfl)
theorem dX1_die_54 : decode cX1_die 54 = .ok (.ladd, 1) := dk_97 (dk_at dksX1_die_2 7 rfl rfl)
theorem dX1_die_55 : decode cX1_die 55 = .ok (.lstore 4, 2) := dk_55 4 (dk_at dksX1_die_2 8 rfl rfl)
theorem dX1_die_57 : decode cX1_die 57 = .ok (.aload_n 3, 1) := dk_45 (dk_at dksX1_die_2 10 rfl rfl)
theorem dX1_die_58 : decode cX1_die 58 = .ok (.lconst 0, 1) := dk_9 (dk_at dksX1_die_2 11 rfl rfl)
theorem dX1_die_59 : decode cX1_die 59 = .ok (.putfield 191, 3) := dk_181 0 191 (dk_at dksX1_die_2 12 rfl rfl)
theorem dX1_die_62 : decode cX1_die 62 = .ok (.aload_n 3, 1) := dk_45 (dk_at dksX1_die_2 15 rfl rfl)
theorem dX1_die_63 : decode cX1_die 63 = .ok (.getfield 198, 3) := dk_180 0 198 (dk_at dksX1_die_2 16 rfl rfl)
theorem dX1_die_66 : decode cX1_die 66 = .ok (.invokeinterface 202 1, 5) := by decide +kernel
theorem dX1_die_71 : decode cX1_die 71 = .ok (.aload_n 3, 1) := dk_45 (dk_at dksX1_die_3 0 rfl rfl)
theorem dX1_die_72 : decode cX1_die 72 = .ok (.lload 4, 2) := dk_22 4 (dk_at dksX1_die_3 1 rfl rfl)
theorem dX1_die_74 : decode cX1_die 74 = .ok (.invokevirtual 204, 3) := dk_182 0 204 (dk_at dksX1_die_3 3 rfl rfl)
theorem dX1_die_77 : decode cX1_die 77 = .ok (.lload 4, 2) := dk_22 4 (dk_at dksX1_die_3 6 rfl rfl)
theorem dX1_die_79 : decode cX1_die 79 = .ok (.lreturn, 1) := dk_173 (dk_at dksX1_die_3 8 rfl rfl)
abbrev cX1_define : ByteArray := prog_1_method_19_code
def yX1_define : MethodName := ⟨RX1, "define", "(III)I"⟩
def dkwX1_define_3 : List UInt8 := [181, 0, 95, 42, 182, 0, 228, 172]
abbrev dktX1_define_3 : List UInt8 := dkwX1_define_3 ++ []
def dkwX1_define_2 : List UInt8 := [154, 0, 7, 4, 167, 0, 4, 3, 184, 0, 182, 42, 27, 181, 0, 88, 42, 28, 181, 0, 92, 42, 29]
abbrev dktX1_define_2 : List UInt8 := dkwX1_define_2 ++ dktX1_define_3
def dkwX1_define_1 : List UInt8 := [29, 133, 9, 20, 0, 169, 184, 0, 127, 153, 0, 7, 4, 167, 0, 4, 3, 184, 0, 131, 42, 182, 0, 225]
abbrev dktX1_define_1 : List UInt8 := dkwX1_define_1 ++ dktX1_define_2
def dkwX1_define_0 : List UInt8 := [27, 133, 10, 20, 0, 221, 184, 0, 127, 153, 0, 31, 28, 133, 10, 20, 0, 223, 184, 0, 127, 153, 0, 19]
abbrev dktX1_define_0 : List UInt8 := dkwX1_define_0 ++ dktX1_define_1
theorem dksX1_define_0 : cX1_define.data.toList.drop 0 = dktX1_define_0 := by decide +kernel
theorem dksX1_define_1 : cX1_define.data.toList.drop 24 = dktX1_define_1 := dk_seg dksX1_define_0 24 rfl rfl
theorem dksX1_define_2 : cX1_define.data.toList.drop 48 = dktX1_define_2 := dk_seg dksX1_define_1 24 rfl rfl
theorem dksX1_define_3 : cX1_define.data.toList.drop 71 = dktX1_define_3 := dk_seg dksX1_define_2 23 rfl rfl
theorem dX1_define_0 : decode cX1_define 0 = .ok (.iload_n 1, 1) := dk_27 (dk_at dksX1_define_0 0 rfl rfl)
theorem dX1_define_1 : decode cX1_define 1 = .ok (.i2l, 1) := dk_133 (dk_at dksX1_define_0 1 rfl rfl)
theorem dX1_define_2 : decode cX1_define 2 = .ok (.lconst 1, 1) := dk_10 (dk_at dksX1_define_0 2 rfl rfl)
theorem dX1_define_3 : decode cX1_define 3 = .ok (.ldc2_w 221, 3) := dk_20 0 221 (dk_at dksX1_define_0 3 rfl rfl)
theorem dX1_define_6 : decode cX1_define 6 = .ok (.invokestatic 127, 3) := dk_184 0 127 (dk_at dksX1_define_0 6 rfl rfl)
theorem dX1_define_9 : decode cX1_define 9 = .ok (.ifCond .eq 31, 3) := dk_153 0 31 (dk_at dksX1_define_0 9 rfl rfl)
theorem dX1_define_12 : decode cX1_define 12 = .ok (.iload_n 2, 1) := dk_28 (dk_at dksX1_define_0 12 rfl rfl)
theorem dX1_define_13 : decode cX1_define 13 = .ok (.i2l, 1) := dk_133 (dk_at dksX1_define_0 13 rfl rfl)
theorem dX1_define_14 : decode cX1_define 14 = .ok (.lconst 1, 1) := dk_10 (dk_at dksX1_define_0 14 rfl rfl)
theorem dX1_define_15 : decode cX1_define 15 = .ok (.ldc2_w 223, 3) := dk_20 0 223 (dk_at dksX1_define_0 15 rfl rfl)
theorem dX1_define_18 : decode cX1_define 18 = .ok (.invokestatic 127, 3) := dk_184 0 127 (dk_at dksX1_define_0 18 rfl rfl)
theorem dX1_define_21 : decode cX1_define 21 = .ok (.ifCond .eq 19, 3) := dk_153 0 19 (dk_at dksX1_define_0 21 rfl rfl)
theorem dX1_define_24 : decode cX1_define 24 = .ok (.iload_n 3, 1) := dk_29 (dk_at dksX1_define_1 0 rfl rfl)
theorem dX1_define_25 : decode cX1_define 25 = .ok (.i2l, 1) := dk_133 (dk_at dksX1_define_1 1 rfl rfl)
theorem dX1_define_26 : decode cX1_define 26 = .ok (.lconst 0, 1) := dk_9 (dk_at dksX1_define_1 2 rfl rfl)
theorem dX1_define_27 : decode cX1_define 27 = .ok (.ldc2_w 169, 3) := dk_20 0 169 (dk_at dksX1_define_1 3 rfl rfl)
theorem dX1_define_30 : decode cX1_define 30 = .ok (.invokestatic 127, 3) := dk_184 0 127 (dk_at dksX1_define_1 6 rfl rfl)
theorem dX1_define_33 : decode cX1_define 33 = .ok (.ifCond .eq 7, 3) := dk_153 0 7 (dk_at dksX1_define_1 9 rfl rfl)
theorem dX1_define_36 : decode cX1_define 36 = .ok (.iconst 1, 1) := dk_4 (dk_at dksX1_define_1 12 rfl rfl)
theorem dX1_define_37 : decode cX1_define 37 = .ok (.goto 4, 3) := dk_167 0 4 (dk_at dksX1_define_1 13 rfl rfl)
theorem dX1_define_40 : decode cX1_define 40 = .ok (.iconst 0, 1) := dk_3 (dk_at dksX1_define_1 16 rfl rfl)
theorem dX1_define_41 : decode cX1_define 41 = .ok (.invokestatic 131, 3) := dk_184 0 131 (dk_at dksX1_define_1 17 rfl rfl)
theorem dX1_define_44 : decode cX1_define 44 = .ok (.aload_n 0, 1) := dk_42 (dk_at dksX1_define_1 20 rfl rfl)
theorem dX1_define_45 : decode cX1_define 45 = .ok (.invokevirtual 225, 3) := dk_182 0 225 (dk_at dksX1_define_1 21 rfl rfl)
theorem dX1_define_48 : decode cX1_define 48 = .ok (.ifCond .ne 7, 3) := dk_154 0 7 (dk_at dksX1_define_2 0 rfl rfl)
theorem dX1_define_51 : decode cX1_define 51 = .ok (.iconst 1, 1) := dk_4 (dk_at dksX1_define_2 3 rfl rfl)
theorem dX1_define_52 : decode cX1_define 52 = .ok (.goto 4, 3) := dk_167 0 4 (dk_at dksX1_define_2 4 rfl rfl)
theorem dX1_define_55 : decode cX1_define 55 = .ok (.iconst 0, 1) := dk_3 (dk_at dksX1_define_2 7 rfl rfl)
theorem dX1_define_56 : decode cX1_define 56 = .ok (.invokestatic 182, 3) := dk_184 0 182 (dk_at dksX1_define_2 8 rfl rfl)
theorem dX1_define_59 : decode cX1_define 59 = .ok (.aload_n 0, 1) := dk_42 (dk_at dksX1_define_2 11 rfl rfl)
theorem dX1_define_60 : decode cX1_define 60 = .ok (.iload_n 1, 1) := dk_27 (dk_at dksX1_define_2 12 rfl rfl)
theorem dX1_define_61 : decode cX1_define 61 = .ok (.putfield 88, 3) := dk_181 0 88 (dk_at dksX1_define_2 13 rfl rfl)
theorem dX1_define_64 : decode cX1_define 64 = .ok (.aload_n 0, 1) := dk_42 (dk_at dksX1_define_2 16 rfl rfl)
theorem dX1_define_65 : decode cX1_define 65 = .ok (.iload_n 2, 1) := dk_28 (dk_at dksX1_define_2 17 rfl rfl)
theorem dX1_define_66 : decode cX1_define 66 = .ok (.putfield 92, 3) := dk_181 0 92 (dk_at dksX1_define_2 18 rfl rfl)
theorem dX1_define_69 : decode cX1_define 69 = .ok (.aload_n 0, 1) := dk_42 (dk_at dksX1_define_2 21 rfl rfl)
theorem dX1_define_70 : decode cX1_define 70 = .ok (.iload_n 3, 1) := dk_29 (dk_at dksX1_define_2 22 rfl rfl)
theorem dX1_define_71 : decode cX1_define 71 = .ok (.putfield 95, 3) := dk_181 0 95 (dk_at dksX1_define_3 0 rfl rfl)
theorem dX1_define_74 : decode cX1_define 74 = .ok (.aload_n 0, 1) := dk_42 (dk_at dksX1_define_3 3 rfl rfl)
theorem dX1_define_75 : decode cX1_define 75 = .ok (.invokevirtual 228, 3) := dk_182 0 228 (dk_at dksX1_define_3 4 rfl rfl)
theorem dX1_define_78 : decode cX1_define 78 = .ok (.ireturn, 1) := dk_172 (dk_at dksX1_define_3 7 rfl rfl)
abbrev cX1_isDone : ByteArray := prog_1_method_13_code
def yX1_isDone : MethodName := ⟨RX1, "isDone", "()Z"⟩
def dkwX1_isDone_0 : List UInt8 := [42, 182, 0, 123, 6, 159, 0, 11, 42, 182, 0, 123, 8, 160, 0, 7, 4, 167, 0, 4, 3, 172]
abbrev dktX1_isDone_0 : List UInt8 := dkwX1_isDone_0 ++ []
theorem dksX1_isDone_0 : cX1_isDone.data.toList.drop 0 = dktX1_isDone_0 := by decide +kernel
theorem dX1_isDone_0 : decode cX1_isDone 0 = .ok (.aload_n 0, 1) := dk_42 (dk_at dksX1_isDone_0 0 rfl rfl)
theorem dX1_isDone_1 : decode cX1_isDone 1 = .ok (.invokevirtual 123, 3) := dk_182 0 123 (dk_at dksX1_isDone_0 1 rfl rfl)
theorem dX1_isDone_4 : decode cX1_isDone 4 = .ok (.iconst 3, 1) := dk_6 (dk_at dksX1_isDone_0 4 rfl rfl)
theorem dX1_isDone_5 : decode cX1_isDone 5 = .ok (.if_icmp .eq 11, 3) := dk_159 0 11 (dk_at dksX1_isDone_0 5 rfl rfl)
theorem dX1_isDone_8 : decode cX1_isDone 8 = .ok (.aload_n 0, 1) := dk_42 (dk_at dksX1_isDone_0 8 rfl rfl)
theorem dX1_isDone_9 : decode cX1_isDone 9 = .ok (.invokevirtual 123, 3) := dk_182 0 123 (dk_at dksX1_isDone_0 9 rfl rfl)
theorem dX1_isDone_12 : decode cX1_isDone 12 = .ok (.iconst 5, 1) := dk_8 (dk_at dksX1_isDone_0 12 rfl rfl)
theorem dX1_isDone_13 : decode cX1_isDone 13 = .ok (.if_icmp .ne 7, 3) := dk_160 0 7 (dk_at dksX1_isDone_0 13 rfl rfl)
theorem dX1_isDone_16 : decode cX1_isDone 16 = .ok (.iconst 1, 1) := dk_4 (dk_at dksX1_isDone_0 16 rfl rfl)
theorem dX1_isDone_17 : decode cX1_isDone 17 = .ok (.goto 4, 3) := dk_167 0 4 (dk_at dksX1_isDone_0 17 rfl rfl)
theorem dX1_isDone_20 : decode cX1_isDone 20 = .ok (.iconst 0, 1) := dk_3 (dk_at dksX1_isDone_0 20 rfl rfl)
theorem dX1_isDone_21 : decode cX1_isDone 21 = .ok (.ireturn, 1) := dk_172 (dk_at dksX1_isDone_0 21 rfl rfl)
abbrev cX1_stage : ByteArray := prog_1_method_12_code
def yX1_stage : MethodName := ⟨RX1, "stage", "()I"⟩
def dkwX1_stage_0 : List UInt8 := [42, 180, 0, 84, 199, 0, 7, 3, 167, 0, 10, 42, 180, 0, 84, 180, 0, 118, 172]
abbrev dktX1_stage_0 : List UInt8 := dkwX1_stage_0 ++ []
theorem dksX1_stage_0 : cX1_stage.data.toList.drop 0 = dktX1_stage_0 := by decide +kernel
theorem dX1_stage_0 : decode cX1_stage 0 = .ok (.aload_n 0, 1) := dk_42 (dk_at dksX1_stage_0 0 rfl rfl)
theorem dX1_stage_1 : decode cX1_stage 1 = .ok (.getfield 84, 3) := dk_180 0 84 (dk_at dksX1_stage_0 1 rfl rfl)
theorem dX1_stage_4 : decode cX1_stage 4 = .ok (.ifnonnull 7, 3) := dk_199 0 7 (dk_at dksX1_stage_0 4 rfl rfl)
theorem dX1_stage_7 : decode cX1_stage 7 = .ok (.iconst 0, 1) := dk_3 (dk_at dksX1_stage_0 7 rfl rfl)
theorem dX1_stage_8 : decode cX1_stage 8 = .ok (.goto 10, 3) := dk_167 0 10 (dk_at dksX1_stage_0 8 rfl rfl)
theorem dX1_stage_11 : decode cX1_stage 11 = .ok (.aload_n 0, 1) := dk_42 (dk_at dksX1_stage_0 11 rfl rfl)
theorem dX1_stage_12 : decode cX1_stage 12 = .ok (.getfield 84, 3) := dk_180 0 84 (dk_at dksX1_stage_0 12 rfl rfl)
theorem dX1_stage_15 : decode cX1_stage 15 = .ok (.getfield 118, 3) := dk_180 0 118 (dk_at dksX1_stage_0 15 rfl rfl)
theorem dX1_stage_18 : decode cX1_stage 18 = .ok (.ireturn, 1) := dk_172 (dk_at dksX1_stage_0 18 rfl rfl)
abbrev cX1_members : ByteArray := prog_1_method_18_code
def yX1_members : MethodName := ⟨RX1, "members", "()I"⟩
def dkwX1_members_2 : List UInt8 := [167, 255, 222, 27, 172]
abbrev dktX1_members_2 : List UInt8 := dkwX1_members_2 ++ []
def dkwX1_members_1 : List UInt8 := [185, 0, 217, 1, 0, 192, 0, 140, 78, 27, 45, 182, 0, 148, 153, 0, 7, 4, 167, 0, 4, 3, 96, 60]
abbrev dktX1_members_1 : List UInt8 := dkwX1_members_1 ++ dktX1_members_2
def dkwX1_members_0 : List UInt8 := [3, 60, 42, 180, 0, 42, 182, 0, 208, 77, 44, 185, 0, 212, 1, 0, 153, 0, 31, 44]
abbrev dktX1_members_0 : List UInt8 := dkwX1_members_0 ++ dktX1_members_1
theorem dksX1_members_0 : cX1_members.data.toList.drop 0 = dktX1_members_0 := by decide +kernel
theorem dksX1_members_1 : cX1_members.data.toList.drop 20 = dktX1_members_1 := dk_seg dksX1_members_0 20 rfl rfl
theorem dksX1_members_2 : cX1_members.data.toList.drop 44 = dktX1_members_2 := dk_seg dksX1_members_1 24 rfl rfl
theorem dX1_members_0 : decode cX1_members 0 = .ok (.iconst 0, 1) := dk_3 (dk_at dksX1_members_0 0 rfl rfl)
theorem dX1_members_1 : decode cX1_members 1 = .ok (.istore_n 1, 1) := dk_60 (dk_at dksX1_members_0 1 rfl rfl)
theorem dX1_members_2 : decode cX1_members 2 = .ok (.aload_n 0, 1) := dk_42 (dk_at dksX1_members_0 2 rfl rfl)
theorem dX1_members_3 : decode cX1_members 3 = .ok (.getfield 42, 3) := dk_180 0 42 (dk_at dksX1_members_0 3 rfl rfl)
theorem dX1_members_6 : decode cX1_members 6 = .ok (.invokevirtual 208, 3) := dk_182 0 208 (dk_at dksX1_members_0 6 rfl rfl)
theorem dX1_members_9 : decode cX1_members 9 = .ok (.astore_n 2, 1) := dk_77 (dk_at dksX1_members_0 9 rfl rfl)
theorem dX1_members_10 : decode cX1_members 10 = .ok (.aload_n 2, 1) := dk_44 (dk_at dksX1_members_0 10 rfl rfl)
theorem dX1_members_11 : decode cX1_members 11 = .ok (.invokeinterface 212 1, 5) := by decide +kernel
theorem dX1_members_16 : decode cX1_members 16 = .ok (.ifCond .eq 31, 3) := dk_153 0 31 (dk_at dksX1_members_0 16 rfl rfl)
theorem dX1_members_19 : decode cX1_members 19 = .ok (.aload_n 2, 1) := dk_44 (dk_at dksX1_members_0 19 rfl rfl)
theorem dX1_members_20 : decode cX1_members 20 = .ok (.invokeinterface 217 1, 5) := by decide +kernel
theorem dX1_members_25 : decode cX1_members 25 = .ok (.checkcast 140, 3) := dk_192 0 140 (dk_at dksX1_members_1 5 rfl rfl)
theorem dX1_members_28 : decode cX1_members 28 = .ok (.astore_n 3, 1) := dk_78 (dk_at dksX1_members_1 8 rfl rfl)
theorem dX1_members_29 : decode cX1_members 29 = .ok (.iload_n 1, 1) := dk_27 (dk_at dksX1_members_1 9 rfl rfl)
theorem dX1_members_30 : decode cX1_members 30 = .ok (.aload_n 3, 1) := dk_45 (dk_at dksX1_members_1 10 rfl rfl)
theorem dX1_members_31 : decode cX1_members 31 = .ok (.invokevirtual 148, 3) := dk_182 0 148 (dk_at dksX1_members_1 11 rfl rfl)
theorem dX1_members_34 : decode cX1_members 34 = .ok (.ifCond .eq 7, 3) := dk_153 0 7 (dk_at dksX1_members_1 14 rfl rfl)
theorem dX1_members_37 : decode cX1_members 37 = .ok (.iconst 1, 1) := dk_4 (dk_at dksX1_members_1 17 rfl rfl)
theorem dX1_members_38 : decode cX1_members 38 = .ok (.goto 4, 3) := dk_167 0 4 (dk_at dksX1_members_1 18 rfl rfl)
theorem dX1_members_41 : decode cX1_members 41 = .ok (.iconst 0, 1) := dk_3 (dk_at dksX1_members_1 21 rfl rfl)
theorem dX1_members_42 : decode cX1_members 42 = .ok (.iadd, 1) := dk_96 (dk_at dksX1_members_1 22 rfl rfl)
theorem dX1_members_43 : decode cX1_members 43 = .ok (.istore_n 1, 1) := dk_60 (dk_at dksX1_members_1 23 rfl rfl)
theorem dX1_members_44 : decode cX1_members 44 = .ok (.goto (-34), 3) := dk_167 255 222 (dk_at dksX1_members_2 0 rfl rfl)
theorem dX1_members_47 : decode cX1_members 47 = .ok (.iload_n 1, 1) := dk_27 (dk_at dksX1_members_2 3 rfl rfl)
theorem dX1_members_48 : decode cX1_members 48 = .ok (.ireturn, 1) := dk_172 (dk_at dksX1_members_2 4 rfl rfl)
abbrev cX1_subclass : ByteArray := prog_1_method_20_code
def yX1_subclass : MethodName := ⟨RX1, "subclass", "(IIZ)I"⟩
def dkwX1_subclass_2 : List UInt8 := [182, 0, 135, 27, 28, 29, 183, 0, 233, 182, 0, 174, 172]
abbrev dktX1_subclass_2 : List UInt8 := dkwX1_subclass_2 ++ []
def dkwX1_subclass_1 : List UInt8 := [153, 0, 7, 4, 167, 0, 4, 3, 184, 0, 131, 42, 180, 0, 46, 187, 0, 231, 89, 42, 180, 0, 46]
abbrev dktX1_subclass_1 : List UInt8 := dkwX1_subclass_1 ++ dktX1_subclass_2
def dkwX1_subclass_0 : List UInt8 := [27, 133, 9, 20, 0, 177, 184, 0, 127, 153, 0, 20, 28, 133, 27, 133, 20, 0, 177, 184, 0, 127]
abbrev dktX1_subclass_0 : List UInt8 := dkwX1_subclass_0 ++ dktX1_subclass_1
theorem dksX1_subclass_0 : cX1_subclass.data.toList.drop 0 = dktX1_subclass_0 := by decide +kernel
theorem dksX1_subclass_1 : cX1_subclass.data.toList.drop 22 = dktX1_subclass_1 := dk_seg dksX1_subclass_0 22 rfl rfl
theorem dksX1_subclass_2 : cX1_subclass.data.toList.drop 45 = dktX1_subclass_2 := dk_seg dksX1_subclass_1 23 rfl rfl
theorem dX1_subclass_0 : decode cX1_subclass 0 = .ok (.iload_n 1, 1) := dk_27 (dk_at dksX1_subclass_0 0 rfl rfl)
theorem dX1_subclass_1 : decode cX1_subclass 1 = .ok (.i2l, 1) := dk_133 (dk_at dksX1_subclass_0 1 rfl rfl)
theorem dX1_subclass_2 : decode cX1_subclass 2 = .ok (.lconst 0, 1) := dk_9 (dk_at dksX1_subclass_0 2 rfl rfl)
theorem dX1_subclass_3 : decode cX1_subclass 3 = .ok (.ldc2_w 177, 3) := dk_20 0 177 (dk_at dksX1_subclass_0 3 rfl rfl)
theorem dX1_subclass_6 : decode cX1_subclass 6 = .ok (.invokestatic 127, 3) := dk_184 0 127 (dk_at dksX1_subclass_0 6 rfl rfl)
theorem dX1_subclass_9 : decode cX1_subclass 9 = .ok (.ifCond .eq 20, 3) := dk_153 0 20 (dk_at dksX1_subclass_0 9 rfl rfl)
theorem dX1_subclass_12 : decode cX1_subclass 12 = .ok (.iload_n 2, 1) := dk_28 (dk_at dksX1_subclass_0 12 rfl rfl)
theorem dX1_subclass_13 : decode cX1_subclass 13 = .ok (.i2l, 1) := dk_133 (dk_at dksX1_subclass_0 13 rfl rfl)
theorem dX1_subclass_14 : decode cX1_subclass 14 = .ok (.iload_n 1, 1) := dk_27 (dk_at dksX1_subclass_0 14 rfl rfl)
theorem dX1_subclass_15 : decode cX1_subclass 15 = .ok (.i2l, 1) := dk_133 (dk_at dksX1_subclass_0 15 rfl rfl)
theorem dX1_subclass_16 : decode cX1_subclass 16 = .ok (.ldc2_w 177, 3) := dk_20 0 177 (dk_at dksX1_subclass_0 16 rfl rfl)
theorem dX1_subclass_19 : decode cX1_subclass 19 = .ok (.invokestatic 127, 3) := dk_184 0 127 (dk_at dksX1_subclass_0 19 rfl rfl)
theorem dX1_subclass_22 : decode cX1_subclass 22 = .ok (.ifCond .eq 7, 3) := dk_153 0 7 (dk_at dksX1_subclass_1 0 rfl rfl)
theorem dX1_subclass_25 : decode cX1_subclass 25 = .ok (.iconst 1, 1) := dk_4 (dk_at dksX1_subclass_1 3 rfl rfl)
theorem dX1_subclass_26 : decode cX1_subclass 26 = .ok (.goto 4, 3) := dk_167 0 4 (dk_at dksX1_subclass_1 4 rfl rfl)
theorem dX1_subclass_29 : decode cX1_subclass 29 = .ok (.iconst 0, 1) := dk_3 (dk_at dksX1_subclass_1 7 rfl rfl)
theorem dX1_subclass_30 : decode cX1_subclass 30 = .ok (.invokestatic 131, 3) := dk_184 0 131 (dk_at dksX1_subclass_1 8 rfl rfl)
theorem dX1_subclass_33 : decode cX1_subclass 33 = .ok (.aload_n 0, 1) := dk_42 (dk_at dksX1_subclass_1 11 rfl rfl)
theorem dX1_subclass_34 : decode cX1_subclass 34 = .ok (.getfield 46, 3) := dk_180 0 46 (dk_at dksX1_subclass_1 12 rfl rfl)
theorem dX1_subclass_37 : decode cX1_subclass 37 = .ok (.new 231, 3) := dk_187 0 231 (dk_at dksX1_subclass_1 15 rfl rfl)
theorem dX1_subclass_40 : decode cX1_subclass 40 = .ok (.dup, 1) := dk_89 (dk_at dksX1_subclass_1 18 rfl rfl)
theorem dX1_subclass_41 : decode cX1_subclass 41 = .ok (.aload_n 0, 1) := dk_42 (dk_at dksX1_subclass_1 19 rfl rfl)
theorem dX1_subclass_42 : decode cX1_subclass 42 = .ok (.getfield 46, 3) := dk_180 0 46 (dk_at dksX1_subclass_1 20 rfl rfl)
theorem dX1_subclass_45 : decode cX1_subclass 45 = .ok (.invokevirtual 135, 3) := dk_182 0 135 (dk_at dksX1_subclass_2 0 rfl rfl)
theorem dX1_subclass_48 : decode cX1_subclass 48 = .ok (.iload_n 1, 1) := dk_27 (dk_at dksX1_subclass_2 3 rfl rfl)
theorem dX1_subclass_49 : decode cX1_subclass 49 = .ok (.iload_n 2, 1) := dk_28 (dk_at dksX1_subclass_2 4 rfl rfl)
theorem dX1_subclass_50 : decode cX1_subclass 50 = .ok (.iload_n 3, 1) := dk_29 (dk_at dksX1_subclass_2 5 rfl rfl)
theorem dX1_subclass_51 : decode cX1_subclass 51 = .ok (.invokespecial 233, 3) := dk_183 0 233 (dk_at dksX1_subclass_2 6 rfl rfl)
theorem dX1_subclass_54 : decode cX1_subclass 54 = .ok (.invokevirtual 174, 3) := dk_182 0 174 (dk_at dksX1_subclass_2 9 rfl rfl)
theorem dX1_subclass_57 : decode cX1_subclass 57 = .ok (.ireturn, 1) := dk_172 (dk_at dksX1_subclass_2 12 rfl rfl)
abbrev cX1_personAt : ByteArray := prog_1_method_21_code
def yX1_personAt : MethodName := ⟨RX1, "personAt", "(II)I"⟩
def dkwX1_personAt_7 : List UInt8 := [45, 42, 180, 0, 115, 182, 1, 0, 167, 0, 15, 45, 180, 1, 4, 153, 0, 7, 4, 167, 0, 4, 3, 172]
abbrev dktX1_personAt_7 : List UInt8 := dkwX1_personAt_7 ++ []
def dkwX1_personAt_6 : List UInt8 := [167, 0, 47, 45, 180, 0, 251, 199, 0, 7, 2, 167, 0, 36, 45, 180, 0, 251, 180, 0, 255, 167, 0, 26]
abbrev dktX1_personAt_6 : List UInt8 := dkwX1_personAt_6 ++ dktX1_personAt_7
def dkwX1_personAt_5 : List UInt8 := [167, 0, 69, 45, 182, 0, 245, 153, 0, 7, 4, 167, 0, 58, 3, 167, 0, 54, 45, 180, 0, 248]
abbrev dktX1_personAt_5 : List UInt8 := dkwX1_personAt_5 ++ dktX1_personAt_6
def dkwX1_personAt_4 : List UInt8 := [182, 0, 238, 199, 0, 7, 2, 167, 0, 86, 45, 182, 0, 238, 180, 0, 242, 167, 0, 76, 45, 180, 0, 142]
abbrev dktX1_personAt_4 : List UInt8 := dkwX1_personAt_4 ++ dktX1_personAt_5
def dkwX1_personAt_3 : List UInt8 := [45, 180, 0, 145, 167, 0, 112, 45, 182, 0, 148, 153, 0, 7, 4, 167, 0, 101, 3, 167, 0, 97, 45]
abbrev dktX1_personAt_3 : List UInt8 := dkwX1_personAt_3 ++ dktX1_personAt_4
def dkwX1_personAt_2 : List UInt8 := [170, 0, 0, 0, 0, 0, 151, 0, 0, 0, 0, 0, 0, 0, 7, 0, 0, 0, 47, 0, 0, 0, 54, 0, 0, 0, 69, 0, 0, 0, 90, 0, 0, 0, 97, 0, 0, 0, 112, 0, 0, 0, 119, 0, 0, 0, 140]
abbrev dktX1_personAt_2 : List UInt8 := dkwX1_personAt_2 ++ dktX1_personAt_3
def dkwX1_personAt_1 : List UInt8 := [28]
abbrev dktX1_personAt_1 : List UInt8 := dkwX1_personAt_1 ++ dktX1_personAt_2
def dkwX1_personAt_0 : List UInt8 := [42, 180, 0, 42, 27, 182, 0, 136, 192, 0, 140, 78, 28, 133, 9, 20, 0, 236, 184, 0, 127, 184, 0, 131]
abbrev dktX1_personAt_0 : List UInt8 := dkwX1_personAt_0 ++ dktX1_personAt_1
theorem dksX1_personAt_0 : cX1_personAt.data.toList.drop 0 = dktX1_personAt_0 := by decide +kernel
theorem dksX1_personAt_1 : cX1_personAt.data.toList.drop 24 = dktX1_personAt_1 := dk_seg dksX1_personAt_0 24 rfl rfl
theorem dksX1_personAt_2 : cX1_personAt.data.toList.drop 25 = dktX1_personAt_2 := dk_seg dksX1_personAt_1 1 rfl rfl
theorem dksX1_personAt_3 : cX1_personAt.data.toList.drop 72 = dktX1_personAt_3 := dk_seg dksX1_personAt_2 47 rfl rfl
theorem dksX1_personAt_4 : cX1_personAt.data.toList.drop 95 = dktX1_personAt_4 := dk_seg dksX1_personAt_3 23 rfl rfl
theorem dksX1_personAt_5 : cX1_personAt.data.toList.drop 119 = dktX1_personAt_5 := dk_seg dksX1_personAt_4 24 rfl rfl
theorem dksX1_personAt_6 : cX1_personAt.data.toList.drop 141 = dktX1_personAt_6 := dk_seg dksX1_personAt_5 22 rfl rfl
theorem dksX1_personAt_7 : cX1_personAt.data.toList.drop 165 = dktX1_personAt_7 := dk_seg dksX1_personAt_6 24 rfl rfl
theorem dX1_personAt_0 : decode cX1_personAt 0 = .ok (.aload_n 0, 1) := dk_42 (dk_at dksX1_personAt_0 0 rfl rfl)
theorem dX1_personAt_1 : decode cX1_personAt 1 = .ok (.getfield 42, 3) := dk_180 0 42 (dk_at dksX1_personAt_0 1 rfl rfl)
theorem dX1_personAt_4 : decode cX1_personAt 4 = .ok (.iload_n 1, 1) := dk_27 (dk_at dksX1_personAt_0 4 rfl rfl)
theorem dX1_personAt_5 : decode cX1_personAt 5 = .ok (.invokevirtual 136, 3) := dk_182 0 136 (dk_at dksX1_personAt_0 5 rfl rfl)
theorem dX1_personAt_8 : decode cX1_personAt 8 = .ok (.checkcast 140, 3) := dk_192 0 140 (dk_at dksX1_personAt_0 8 rfl rfl)
theorem dX1_personAt_11 : decode cX1_personAt 11 = .ok (.astore_n 3, 1) := dk_78 (dk_at dksX1_personAt_0 11 rfl rfl)
theorem dX1_personAt_12 : decode cX1_personAt 12 = .ok (.iload_n 2, 1) := dk_28 (dk_at dksX1_personAt_0 12 rfl rfl)
theorem dX1_personAt_13 : decode cX1_personAt 13 = .ok (.i2l, 1) := dk_133 (dk_at dksX1_personAt_0 13 rfl rfl)
theorem dX1_personAt_14 : decode cX1_personAt 14 = .ok (.lconst 0, 1) := dk_9 (dk_at dksX1_personAt_0 14 rfl rfl)
theorem dX1_personAt_15 : decode cX1_personAt 15 = .ok (.ldc2_w 236, 3) := dk_20 0 236 (dk_at dksX1_personAt_0 15 rfl rfl)
theorem dX1_personAt_18 : decode cX1_personAt 18 = .ok (.invokestatic 127, 3) := dk_184 0 127 (dk_at dksX1_personAt_0 18 rfl rfl)
theorem dX1_personAt_21 : decode cX1_personAt 21 = .ok (.invokestatic 131, 3) := dk_184 0 131 (dk_at dksX1_personAt_0 21 rfl rfl)
theorem dX1_personAt_24 : decode cX1_personAt 24 = .ok (.iload_n 2, 1) := dk_28 (dk_at dksX1_personAt_1 0 rfl rfl)
theorem dX1_personAt_25 : decode cX1_personAt 25 = .ok (.tableswitch 151 0 7 #[47, 54, 69, 90, 97, 112, 119, 140], 47) := by decide +kernel
theorem dX1_personAt_72 : decode cX1_personAt 72 = .ok (.aload_n 3, 1) := dk_45 (dk_at dksX1_personAt_3 0 rfl rfl)
theorem dX1_personAt_73 : decode cX1_personAt 73 = .ok (.getfield 145, 3) := dk_180 0 145 (dk_at dksX1_personAt_3 1 rfl rfl)
theorem dX1_personAt_76 : decode cX1_personAt 76 = .ok (.goto 112, 3) := dk_167 0 112 (dk_at dksX1_personAt_3 4 rfl rfl)
theorem dX1_personAt_79 : decode cX1_personAt 79 = .ok (.aload_n 3, 1) := dk_45 (dk_at dksX1_personAt_3 7 rfl rfl)
theorem dX1_personAt_80 : decode cX1_personAt 80 = .ok (.invokevirtual 148, 3) := dk_182 0 148 (dk_at dksX1_personAt_3 8 rfl rfl)
theorem dX1_personAt_83 : decode cX1_personAt 83 = .ok (.ifCond .eq 7, 3) := dk_153 0 7 (dk_at dksX1_personAt_3 11 rfl rfl)
theorem dX1_personAt_86 : decode cX1_personAt 86 = .ok (.iconst 1, 1) := dk_4 (dk_at dksX1_personAt_3 14 rfl rfl)
theorem dX1_personAt_87 : decode cX1_personAt 87 = .ok (.goto 101, 3) := dk_167 0 101 (dk_at dksX1_personAt_3 15 rfl rfl)
theorem dX1_personAt_90 : decode cX1_personAt 90 = .ok (.iconst 0, 1) := dk_3 (dk_at dksX1_personAt_3 18 rfl rfl)
theorem dX1_personAt_91 : decode cX1_personAt 91 = .ok (.goto 97, 3) := dk_167 0 97 (dk_at dksX1_personAt_3 19 rfl rfl)
theorem dX1_personAt_94 : decode cX1_personAt 94 = .ok (.aload_n 3, 1) := dk_45 (dk_at dksX1_personAt_3 22 rfl rfl)
theorem dX1_personAt_95 : decode cX1_personAt 95 = .ok (.invokevirtual 238, 3) := dk_182 0 238 (dk_at dksX1_personAt_4 0 rfl rfl)
theorem dX1_personAt_98 : decode cX1_personAt 98 = .ok (.ifnonnull 7, 3) := dk_199 0 7 (dk_at dksX1_personAt_4 3 rfl rfl)
theorem dX1_personAt_101 : decode cX1_personAt 101 = .ok (.iconst (-1), 1) := dk_2 (dk_at dksX1_personAt_4 6 rfl rfl)
theorem dX1_personAt_102 : decode cX1_personAt 102 = .ok (.goto 86, 3) := dk_167 0 86 (dk_at dksX1_personAt_4 7 rfl rfl)
theorem dX1_personAt_105 : decode cX1_personAt 105 = .ok (.aload_n 3, 1) := dk_45 (dk_at dksX1_personAt_4 10 rfl rfl)
theorem dX1_personAt_106 : decode cX1_personAt 106 = .ok (.invokevirtual 238, 3) := dk_182 0 238 (dk_at dksX1_personAt_4 11 rfl rfl)
theorem dX1_personAt_109 : decode cX1_personAt 109 = .ok (.getfield 242, 3) := dk_180 0 242 (dk_at dksX1_personAt_4 14 rfl rfl)
theorem dX1_personAt_112 : decode cX1_personAt 112 = .ok (.goto 76, 3) := dk_167 0 76 (dk_at dksX1_personAt_4 17 rfl rfl)
theorem dX1_personAt_115 : decode cX1_personAt 115 = .ok (.aload_n 3, 1) := dk_45 (dk_at dksX1_personAt_4 20 rfl rfl)
theorem dX1_personAt_116 : decode cX1_personAt 116 = .ok (.getfield 142, 3) := dk_180 0 142 (dk_at dksX1_personAt_4 21 rfl rfl)
theorem dX1_personAt_119 : decode cX1_personAt 119 = .ok (.goto 69, 3) := dk_167 0 69 (dk_at dksX1_personAt_5 0 rfl rfl)
theorem dX1_personAt_122 : decode cX1_personAt 122 = .ok (.aload_n 3, 1) := dk_45 (dk_at dksX1_personAt_5 3 rfl rfl)
theorem dX1_personAt_123 : decode cX1_personAt 123 = .ok (.invokevirtual 245, 3) := dk_182 0 245 (dk_at dksX1_personAt_5 4 rfl rfl)
theorem dX1_personAt_126 : decode cX1_personAt 126 = .ok (.ifCond .eq 7, 3) := dk_153 0 7 (dk_at dksX1_personAt_5 7 rfl rfl)
theorem dX1_personAt_129 : decode cX1_personAt 129 = .ok (.iconst 1, 1) := dk_4 (dk_at dksX1_personAt_5 10 rfl rfl)
theorem dX1_personAt_130 : decode cX1_personAt 130 = .ok (.goto 58, 3) := dk_167 0 58 (dk_at dksX1_personAt_5 11 rfl rfl)
theorem dX1_personAt_133 : decode cX1_personAt 133 = .ok (.iconst 0, 1) := dk_3 (dk_at dksX1_personAt_5 14 rfl rfl)
theorem dX1_personAt_134 : decode cX1_personAt 134 = .ok (.goto 54, 3) := dk_167 0 54 (dk_at dksX1_personAt_5 15 rfl rfl)
theorem dX1_personAt_137 : decode cX1_personAt 137 = .ok (.aload_n 3, 1) := dk_45 (dk_at dksX1_personAt_5 18 rfl rfl)
theorem dX1_personAt_138 : decode cX1_personAt 138 = .ok (.getfield 248, 3) := dk_180 0 248 (dk_at dksX1_personAt_5 19 rfl rfl)
theorem dX1_personAt_141 : decode cX1_personAt 141 = .ok (.goto 47, 3) := dk_167 0 47 (dk_at dksX1_personAt_6 0 rfl rfl)
theorem dX1_personAt_144 : decode cX1_personAt 144 = .ok (.aload_n 3, 1) := dk_45 (dk_at dksX1_personAt_6 3 rfl rfl)
theorem dX1_personAt_145 : decode cX1_personAt 145 = .ok (.getfield 251, 3) := dk_180 0 251 (dk_at dksX1_personAt_6 4 rfl rfl)
theorem dX1_personAt_148 : decode cX1_personAt 148 = .ok (.ifnonnull 7, 3) := dk_199 0 7 (dk_at dksX1_personAt_6 7 rfl rfl)
theorem dX1_personAt_151 : decode cX1_personAt 151 = .ok (.iconst (-1), 1) := dk_2 (dk_at dksX1_personAt_6 10 rfl rfl)
theorem dX1_personAt_152 : decode cX1_personAt 152 = .ok (.goto 36, 3) := dk_167 0 36 (dk_at dksX1_personAt_6 11 rfl rfl)
theorem dX1_personAt_155 : decode cX1_personAt 155 = .ok (.aload_n 3, 1) := dk_45 (dk_at dksX1_personAt_6 14 rfl rfl)
theorem dX1_personAt_156 : decode cX1_personAt 156 = .ok (.getfield 251, 3) := dk_180 0 251 (dk_at dksX1_personAt_6 15 rfl rfl)
theorem dX1_personAt_159 : decode cX1_personAt 159 = .ok (.getfield 255, 3) := dk_180 0 255 (dk_at dksX1_personAt_6 18 rfl rfl)
theorem dX1_personAt_162 : decode cX1_personAt 162 = .ok (.goto 26, 3) := dk_167 0 26 (dk_at dksX1_personAt_6 21 rfl rfl)
theorem dX1_personAt_165 : decode cX1_personAt 165 = .ok (.aload_n 3, 1) := dk_45 (dk_at dksX1_personAt_7 0 rfl rfl)
theorem dX1_personAt_166 : decode cX1_personAt 166 = .ok (.aload_n 0, 1) := dk_42 (dk_at dksX1_personAt_7 1 rfl rfl)
theorem dX1_personAt_167 : decode cX1_personAt 167 = .ok (.getfield 115, 3) := dk_180 0 115 (dk_at dksX1_personAt_7 2 rfl rfl)
theorem dX1_personAt_170 : decode cX1_personAt 170 = .ok (.invokevirtual 256, 3) := dk_182 1 0 (dk_at dksX1_personAt_7 5 rfl rfl)
theorem dX1_personAt_173 : decode cX1_personAt 173 = .ok (.goto 15, 3) := dk_167 0 15 (dk_at dksX1_personAt_7 8 rfl rfl)
theorem dX1_personAt_176 : decode cX1_personAt 176 = .ok (.aload_n 3, 1) := dk_45 (dk_at dksX1_personAt_7 11 rfl rfl)
theorem dX1_personAt_177 : decode cX1_personAt 177 = .ok (.getfield 260, 3) := dk_180 1 4 (dk_at dksX1_personAt_7 12 rfl rfl)
theorem dX1_personAt_180 : decode cX1_personAt 180 = .ok (.ifCond .eq 7, 3) := dk_153 0 7 (dk_at dksX1_personAt_7 15 rfl rfl)
theorem dX1_personAt_183 : decode cX1_personAt 183 = .ok (.iconst 1, 1) := dk_4 (dk_at dksX1_personAt_7 18 rfl rfl)
theorem dX1_personAt_184 : decode cX1_personAt 184 = .ok (.goto 4, 3) := dk_167 0 4 (dk_at dksX1_personAt_7 19 rfl rfl)
theorem dX1_personAt_187 : decode cX1_personAt 187 = .ok (.iconst 0, 1) := dk_3 (dk_at dksX1_personAt_7 22 rfl rfl)
theorem dX1_personAt_188 : decode cX1_personAt 188 = .ok (.ireturn, 1) := dk_172 (dk_at dksX1_personAt_7 23 rfl rfl)
abbrev cX1_first : ByteArray := prog_1_method_6_code
def yX1_first : MethodName := ⟨RX1, "first", "(Ljava/util/List;)LMassclaim$Numbered;"⟩
def dkwX1_first_2 : List UInt8 := [192, 0, 23, 167, 0, 4, 43, 76, 132, 2, 1, 167, 255, 205, 43, 176]
abbrev dktX1_first_2 : List UInt8 := dkwX1_first_2 ++ []
def dkwX1_first_1 : List UInt8 := [185, 0, 19, 2, 0, 192, 0, 23, 43, 185, 0, 25, 2, 0, 156, 0, 16, 42, 28, 185, 0, 19, 2, 0]
abbrev dktX1_first_1 : List UInt8 := dkwX1_first_1 ++ dktX1_first_2
def dkwX1_first_0 : List UInt8 := [1, 76, 3, 61, 28, 42, 185, 0, 13, 1, 0, 162, 0, 47, 43, 198, 0, 22, 42, 28]
abbrev dktX1_first_0 : List UInt8 := dkwX1_first_0 ++ dktX1_first_1
theorem dksX1_first_0 : cX1_first.data.toList.drop 0 = dktX1_first_0 := by decide +kernel
theorem dksX1_first_1 : cX1_first.data.toList.drop 20 = dktX1_first_1 := dk_seg dksX1_first_0 20 rfl rfl
theorem dksX1_first_2 : cX1_first.data.toList.drop 44 = dktX1_first_2 := dk_seg dksX1_first_1 24 rfl rfl
theorem dX1_first_0 : decode cX1_first 0 = .ok (.aconst_null, 1) := dk_1 (dk_at dksX1_first_0 0 rfl rfl)
theorem dX1_first_1 : decode cX1_first 1 = .ok (.astore_n 1, 1) := dk_76 (dk_at dksX1_first_0 1 rfl rfl)
theorem dX1_first_2 : decode cX1_first 2 = .ok (.iconst 0, 1) := dk_3 (dk_at dksX1_first_0 2 rfl rfl)
theorem dX1_first_3 : decode cX1_first 3 = .ok (.istore_n 2, 1) := dk_61 (dk_at dksX1_first_0 3 rfl rfl)
theorem dX1_first_4 : decode cX1_first 4 = .ok (.iload_n 2, 1) := dk_28 (dk_at dksX1_first_0 4 rfl rfl)
theorem dX1_first_5 : decode cX1_first 5 = .ok (.aload_n 0, 1) := dk_42 (dk_at dksX1_first_0 5 rfl rfl)
theorem dX1_first_6 : decode cX1_first 6 = .ok (.invokeinterface 13 1, 5) := by decide +kernel
theorem dX1_first_11 : decode cX1_first 11 = .ok (.if_icmp .ge 47, 3) := dk_162 0 47 (dk_at dksX1_first_0 11 rfl rfl)
theorem dX1_first_14 : decode cX1_first 14 = .ok (.aload_n 1, 1) := dk_43 (dk_at dksX1_first_0 14 rfl rfl)
theorem dX1_first_15 : decode cX1_first 15 = .ok (.ifnull 22, 3) := dk_198 0 22 (dk_at dksX1_first_0 15 rfl rfl)
theorem dX1_first_18 : decode cX1_first 18 = .ok (.aload_n 0, 1) := dk_42 (dk_at dksX1_first_0 18 rfl rfl)
theorem dX1_first_19 : decode cX1_first 19 = .ok (.iload_n 2, 1) := dk_28 (dk_at dksX1_first_0 19 rfl rfl)
theorem dX1_first_20 : decode cX1_first 20 = .ok (.invokeinterface 19 2, 5) := by decide +kernel
theorem dX1_first_25 : decode cX1_first 25 = .ok (.checkcast 23, 3) := dk_192 0 23 (dk_at dksX1_first_1 5 rfl rfl)
theorem dX1_first_28 : decode cX1_first 28 = .ok (.aload_n 1, 1) := dk_43 (dk_at dksX1_first_1 8 rfl rfl)
theorem dX1_first_29 : decode cX1_first 29 = .ok (.invokeinterface 25 2, 5) := by decide +kernel
theorem dX1_first_34 : decode cX1_first 34 = .ok (.ifCond .ge 16, 3) := dk_156 0 16 (dk_at dksX1_first_1 14 rfl rfl)
theorem dX1_first_37 : decode cX1_first 37 = .ok (.aload_n 0, 1) := dk_42 (dk_at dksX1_first_1 17 rfl rfl)
theorem dX1_first_38 : decode cX1_first 38 = .ok (.iload_n 2, 1) := dk_28 (dk_at dksX1_first_1 18 rfl rfl)
theorem dX1_first_39 : decode cX1_first 39 = .ok (.invokeinterface 19 2, 5) := by decide +kernel
theorem dX1_first_44 : decode cX1_first 44 = .ok (.checkcast 23, 3) := dk_192 0 23 (dk_at dksX1_first_2 0 rfl rfl)
theorem dX1_first_47 : decode cX1_first 47 = .ok (.goto 4, 3) := dk_167 0 4 (dk_at dksX1_first_2 3 rfl rfl)
theorem dX1_first_50 : decode cX1_first 50 = .ok (.aload_n 1, 1) := dk_43 (dk_at dksX1_first_2 6 rfl rfl)
theorem dX1_first_51 : decode cX1_first 51 = .ok (.astore_n 1, 1) := dk_76 (dk_at dksX1_first_2 7 rfl rfl)
theorem dX1_first_52 : decode cX1_first 52 = .ok (.iinc 2 1, 3) := dk_132 2 1 (dk_at dksX1_first_2 8 rfl rfl)
theorem dX1_first_55 : decode cX1_first 55 = .ok (.goto (-51), 3) := dk_167 255 205 (dk_at dksX1_first_2 11 rfl rfl)
theorem dX1_first_58 : decode cX1_first 58 = .ok (.aload_n 1, 1) := dk_43 (dk_at dksX1_first_2 14 rfl rfl)
theorem dX1_first_59 : decode cX1_first 59 = .ok (.areturn, 1) := dk_176 (dk_at dksX1_first_2 15 rfl rfl)
abbrev cX1_moneyOf : ByteArray := prog_1_method_22_code
def yX1_moneyOf : MethodName := ⟨RX1, "moneyOf", "(II)J"⟩
def dkwX1_moneyOf_4 : List UInt8 := [182, 0, 194, 167, 0, 7, 45, 182, 1, 16, 173]
abbrev dktX1_moneyOf_4 : List UInt8 := dkwX1_moneyOf_4 ++ []
def dkwX1_moneyOf_3 : List UInt8 := [45, 180, 1, 10, 167, 0, 28, 45, 180, 0, 191, 167, 0, 21, 45, 180, 1, 13, 167, 0, 14, 45]
abbrev dktX1_moneyOf_3 : List UInt8 := dkwX1_moneyOf_3 ++ dktX1_moneyOf_4
def dkwX1_moneyOf_2 : List UInt8 := [170, 0, 0, 0, 0, 0, 59, 0, 0, 0, 0, 0, 0, 0, 3, 0, 0, 0, 31, 0, 0, 0, 38, 0, 0, 0, 45, 0, 0, 0, 52]
abbrev dktX1_moneyOf_2 : List UInt8 := dkwX1_moneyOf_2 ++ dktX1_moneyOf_3
def dkwX1_moneyOf_1 : List UInt8 := [28]
abbrev dktX1_moneyOf_1 : List UInt8 := dkwX1_moneyOf_1 ++ dktX1_moneyOf_2
def dkwX1_moneyOf_0 : List UInt8 := [42, 180, 0, 42, 27, 182, 0, 136, 192, 0, 140, 78, 28, 133, 9, 20, 1, 8, 184, 0, 127, 184, 0, 131]
abbrev dktX1_moneyOf_0 : List UInt8 := dkwX1_moneyOf_0 ++ dktX1_moneyOf_1
theorem dksX1_moneyOf_0 : cX1_moneyOf.data.toList.drop 0 = dktX1_moneyOf_0 := by decide +kernel
theorem dksX1_moneyOf_1 : cX1_moneyOf.data.toList.drop 24 = dktX1_moneyOf_1 := dk_seg dksX1_moneyOf_0 24 rfl rfl
theorem dksX1_moneyOf_2 : cX1_moneyOf.data.toList.drop 25 = dktX1_moneyOf_2 := dk_seg dksX1_moneyOf_1 1 rfl rfl
theorem dksX1_moneyOf_3 : cX1_moneyOf.data.toList.drop 56 = dktX1_moneyOf_3 := dk_seg dksX1_moneyOf_2 31 rfl rfl
theorem dksX1_moneyOf_4 : cX1_moneyOf.data.toList.drop 78 = dktX1_moneyOf_4 := dk_seg dksX1_moneyOf_3 22 rfl rfl
theorem dX1_moneyOf_0 : decode cX1_moneyOf 0 = .ok (.aload_n 0, 1) := dk_42 (dk_at dksX1_moneyOf_0 0 rfl rfl)
theorem dX1_moneyOf_1 : decode cX1_moneyOf 1 = .ok (.getfield 42, 3) := dk_180 0 42 (dk_at dksX1_moneyOf_0 1 rfl rfl)
theorem dX1_moneyOf_4 : decode cX1_moneyOf 4 = .ok (.iload_n 1, 1) := dk_27 (dk_at dksX1_moneyOf_0 4 rfl rfl)
theorem dX1_moneyOf_5 : decode cX1_moneyOf 5 = .ok (.invokevirtual 136, 3) := dk_182 0 136 (dk_at dksX1_moneyOf_0 5 rfl rfl)
theorem dX1_moneyOf_8 : decode cX1_moneyOf 8 = .ok (.checkcast 140, 3) := dk_192 0 140 (dk_at dksX1_moneyOf_0 8 rfl rfl)
theorem dX1_moneyOf_11 : decode cX1_moneyOf 11 = .ok (.astore_n 3, 1) := dk_78 (dk_at dksX1_moneyOf_0 11 rfl rfl)
theorem dX1_moneyOf_12 : decode cX1_moneyOf 12 = .ok (.iload_n 2, 1) := dk_28 (dk_at dksX1_moneyOf_0 12 rfl rfl)
theorem dX1_moneyOf_13 : decode cX1_moneyOf 13 = .ok (.i2l, 1) := dk_133 (dk_at dksX1_moneyOf_0 13 rfl rfl)
theorem dX1_moneyOf_14 : decode cX1_moneyOf 14 = .ok (.lconst 0, 1) := dk_9 (dk_at dksX1_moneyOf_0 14 rfl rfl)
theorem dX1_moneyOf_15 : decode cX1_moneyOf 15 = .ok (.ldc2_w 264, 3) := dk_20 1 8 (dk_at dksX1_moneyOf_0 15 rfl rfl)
theorem dX1_moneyOf_18 : decode cX1_moneyOf 18 = .ok (.invokestatic 127, 3) := dk_184 0 127 (dk_at dksX1_moneyOf_0 18 rfl rfl)
theorem dX1_moneyOf_21 : decode cX1_moneyOf 21 = .ok (.invokestatic 131, 3) := dk_184 0 131 (dk_at dksX1_moneyOf_0 21 rfl rfl)
theorem dX1_moneyOf_24 : decode cX1_moneyOf 24 = .ok (.iload_n 2, 1) := dk_28 (dk_at dksX1_moneyOf_1 0 rfl rfl)
theorem dX1_moneyOf_25 : decode cX1_moneyOf 25 = .ok (.tableswitch 59 0 3 #[31, 38, 45, 52], 31) := by decide +kernel
theorem dX1_moneyOf_56 : decode cX1_moneyOf 56 = .ok (.aload_n 3, 1) := dk_45 (dk_at dksX1_moneyOf_3 0 rfl rfl)
theorem dX1_moneyOf_57 : decode cX1_moneyOf 57 = .ok (.getfield 266, 3) := dk_180 1 10 (dk_at dksX1_moneyOf_3 1 rfl rfl)
theorem dX1_moneyOf_60 : decode cX1_moneyOf 60 = .ok (.goto 28, 3) := dk_167 0 28 (dk_at dksX1_moneyOf_3 4 rfl rfl)
theorem dX1_moneyOf_63 : decode cX1_moneyOf 63 = .ok (.aload_n 3, 1) := dk_45 (dk_at dksX1_moneyOf_3 7 rfl rfl)
theorem dX1_moneyOf_64 : decode cX1_moneyOf 64 = .ok (.getfield 191, 3) := dk_180 0 191 (dk_at dksX1_moneyOf_3 8 rfl rfl)
theorem dX1_moneyOf_67 : decode cX1_moneyOf 67 = .ok (.goto 21, 3) := dk_167 0 21 (dk_at dksX1_moneyOf_3 11 rfl rfl)
theorem dX1_moneyOf_70 : decode cX1_moneyOf 70 = .ok (.aload_n 3, 1) := dk_45 (dk_at dksX1_moneyOf_3 14 rfl rfl)
theorem dX1_moneyOf_71 : decode cX1_moneyOf 71 = .ok (.getfield 269, 3) := dk_180 1 13 (dk_at dksX1_moneyOf_3 15 rfl rfl)
theorem dX1_moneyOf_74 : decode cX1_moneyOf 74 = .ok (.goto 14, 3) := dk_167 0 14 (dk_at dksX1_moneyOf_3 18 rfl rfl)
theorem dX1_moneyOf_77 : decode cX1_moneyOf 77 = .ok (.aload_n 3, 1) := dk_45 (dk_at dksX1_moneyOf_3 21 rfl rfl)
theorem dX1_moneyOf_78 : decode cX1_moneyOf 78 = .ok (.invokevirtual 194, 3) := dk_182 0 194 (dk_at dksX1_moneyOf_4 0 rfl rfl)
theorem dX1_moneyOf_81 : decode cX1_moneyOf 81 = .ok (.goto 7, 3) := dk_167 0 7 (dk_at dksX1_moneyOf_4 3 rfl rfl)
theorem dX1_moneyOf_84 : decode cX1_moneyOf 84 = .ok (.aload_n 3, 1) := dk_45 (dk_at dksX1_moneyOf_4 6 rfl rfl)
theorem dX1_moneyOf_85 : decode cX1_moneyOf 85 = .ok (.invokevirtual 272, 3) := dk_182 1 16 (dk_at dksX1_moneyOf_4 7 rfl rfl)
theorem dX1_moneyOf_88 : decode cX1_moneyOf 88 = .ok (.lreturn, 1) := dk_173 (dk_at dksX1_moneyOf_4 10 rfl rfl)
abbrev cX1_heirAt : ByteArray := prog_1_method_23_code
def yX1_heirAt : MethodName := ⟨RX1, "heirAt", "(II)J"⟩
def dkwX1_heirAt_2 : List UInt8 := [182, 0, 179, 184, 0, 182, 45, 180, 0, 188, 28, 47, 173]
abbrev dktX1_heirAt_2 : List UInt8 := dkwX1_heirAt_2 ++ []
def dkwX1_heirAt_1 : List UInt8 := [180, 0, 188, 190, 4, 100, 133, 184, 0, 127, 153, 0, 7, 4, 167, 0, 4, 3, 184, 1, 19, 45]
abbrev dktX1_heirAt_1 : List UInt8 := dkwX1_heirAt_1 ++ dktX1_heirAt_2
def dkwX1_heirAt_0 : List UInt8 := [42, 180, 0, 42, 27, 182, 0, 136, 192, 0, 140, 78, 45, 182, 0, 179, 153, 0, 20, 28, 133, 9, 45]
abbrev dktX1_heirAt_0 : List UInt8 := dkwX1_heirAt_0 ++ dktX1_heirAt_1
theorem dksX1_heirAt_0 : cX1_heirAt.data.toList.drop 0 = dktX1_heirAt_0 := by decide +kernel
theorem dksX1_heirAt_1 : cX1_heirAt.data.toList.drop 23 = dktX1_heirAt_1 := dk_seg dksX1_heirAt_0 23 rfl rfl
theorem dksX1_heirAt_2 : cX1_heirAt.data.toList.drop 45 = dktX1_heirAt_2 := dk_seg dksX1_heirAt_1 22 rfl rfl
theorem dX1_heirAt_0 : decode cX1_heirAt 0 = .ok (.aload_n 0, 1) := dk_42 (dk_at dksX1_heirAt_0 0 rfl rfl)
theorem dX1_heirAt_1 : decode cX1_heirAt 1 = .ok (.getfield 42, 3) := dk_180 0 42 (dk_at dksX1_heirAt_0 1 rfl rfl)
theorem dX1_heirAt_4 : decode cX1_heirAt 4 = .ok (.iload_n 1, 1) := dk_27 (dk_at dksX1_heirAt_0 4 rfl rfl)
theorem dX1_heirAt_5 : decode cX1_heirAt 5 = .ok (.invokevirtual 136, 3) := dk_182 0 136 (dk_at dksX1_heirAt_0 5 rfl rfl)
theorem dX1_heirAt_8 : decode cX1_heirAt 8 = .ok (.checkcast 140, 3) := dk_192 0 140 (dk_at dksX1_heirAt_0 8 rfl rfl)
theorem dX1_heirAt_11 : decode cX1_heirAt 11 = .ok (.astore_n 3, 1) := dk_78 (dk_at dksX1_heirAt_0 11 rfl rfl)
theorem dX1_heirAt_12 : decode cX1_heirAt 12 = .ok (.aload_n 3, 1) := dk_45 (dk_at dksX1_heirAt_0 12 rfl rfl)
theorem dX1_heirAt_13 : decode cX1_heirAt 13 = .ok (.invokevirtual 179, 3) := dk_182 0 179 (dk_at dksX1_heirAt_0 13 rfl rfl)
theorem dX1_heirAt_16 : decode cX1_heirAt 16 = .ok (.ifCond .eq 20, 3) := dk_153 0 20 (dk_at dksX1_heirAt_0 16 rfl rfl)
theorem dX1_heirAt_19 : decode cX1_heirAt 19 = .ok (.iload_n 2, 1) := dk_28 (dk_at dksX1_heirAt_0 19 rfl rfl)
theorem dX1_heirAt_20 : decode cX1_heirAt 20 = .ok (.i2l, 1) := dk_133 (dk_at dksX1_heirAt_0 20 rfl rfl)
theorem dX1_heirAt_21 : decode cX1_heirAt 21 = .ok (.lconst 0, 1) := dk_9 (dk_at dksX1_heirAt_0 21 rfl rfl)
theorem dX1_heirAt_22 : decode cX1_heirAt 22 = .ok (.aload_n 3, 1) := dk_45 (dk_at dksX1_heirAt_0 22 rfl rfl)
theorem dX1_heirAt_23 : decode cX1_heirAt 23 = .ok (.getfield 188, 3) := dk_180 0 188 (dk_at dksX1_heirAt_1 0 rfl rfl)
theorem dX1_heirAt_26 : decode cX1_heirAt 26 = .ok (.arraylength, 1) := dk_190 (dk_at dksX1_heirAt_1 3 rfl rfl)
theorem dX1_heirAt_27 : decode cX1_heirAt 27 = .ok (.iconst 1, 1) := dk_4 (dk_at dksX1_heirAt_1 4 rfl rfl)
theorem dX1_heirAt_28 : decode cX1_heirAt 28 = .ok (.isub, 1) := dk_100 (dk_at dksX1_heirAt_1 5 rfl rfl)
theorem dX1_heirAt_29 : decode cX1_heirAt 29 = .ok (.i2l, 1) := dk_133 (dk_at dksX1_heirAt_1 6 rfl rfl)
theorem dX1_heirAt_30 : decode cX1_heirAt 30 = .ok (.invokestatic 127, 3) := dk_184 0 127 (dk_at dksX1_heirAt_1 7 rfl rfl)
theorem dX1_heirAt_33 : decode cX1_heirAt 33 = .ok (.ifCond .eq 7, 3) := dk_153 0 7 (dk_at dksX1_heirAt_1 10 rfl rfl)
theorem dX1_heirAt_36 : decode cX1_heirAt 36 = .ok (.iconst 1, 1) := dk_4 (dk_at dksX1_heirAt_1 13 rfl rfl)
theorem dX1_heirAt_37 : decode cX1_heirAt 37 = .ok (.goto 4, 3) := dk_167 0 4 (dk_at dksX1_heirAt_1 14 rfl rfl)
theorem dX1_heirAt_40 : decode cX1_heirAt 40 = .ok (.iconst 0, 1) := dk_3 (dk_at dksX1_heirAt_1 17 rfl rfl)
theorem dX1_heirAt_41 : decode cX1_heirAt 41 = .ok (.invokestatic 275, 3) := dk_184 1 19 (dk_at dksX1_heirAt_1 18 rfl rfl)
theorem dX1_heirAt_44 : decode cX1_heirAt 44 = .ok (.aload_n 3, 1) := dk_45 (dk_at dksX1_heirAt_1 21 rfl rfl)
theorem dX1_heirAt_45 : decode cX1_heirAt 45 = .ok (.invokevirtual 179, 3) := dk_182 0 179 (dk_at dksX1_heirAt_2 0 rfl rfl)
theorem dX1_heirAt_48 : decode cX1_heirAt 48 = .ok (.invokestatic 182, 3) := dk_184 0 182 (dk_at dksX1_heirAt_2 3 rfl rfl)
theorem dX1_heirAt_51 : decode cX1_heirAt 51 = .ok (.aload_n 3, 1) := dk_45 (dk_at dksX1_heirAt_2 6 rfl rfl)
theorem dX1_heirAt_52 : decode cX1_heirAt 52 = .ok (.getfield 188, 3) := dk_180 0 188 (dk_at dksX1_heirAt_2 7 rfl rfl)
theorem dX1_heirAt_55 : decode cX1_heirAt 55 = .ok (.iload_n 2, 1) := dk_28 (dk_at dksX1_heirAt_2 10 rfl rfl)
theorem dX1_heirAt_56 : decode cX1_heirAt 56 = .ok (.laload, 1) := dk_47 (dk_at dksX1_heirAt_2 11 rfl rfl)
theorem dX1_heirAt_57 : decode cX1_heirAt 57 = .ok (.lreturn, 1) := dk_173 (dk_at dksX1_heirAt_2 12 rfl rfl)
abbrev cX1_notice : ByteArray := prog_1_method_24_code
def yX1_notice : MethodName := ⟨RX1, "notice", "(II)I"⟩
def dkwX1_notice_7 : List UInt8 := [180, 0, 115, 181, 0, 248, 132, 3, 1, 167, 255, 141, 29, 172]
abbrev dktX1_notice_7 : List UInt8 := dkwX1_notice_7 ++ []
def dkwX1_notice_6 : List UInt8 := [153, 0, 32, 25, 5, 182, 0, 148, 153, 0, 24, 25, 5, 180, 0, 248, 2, 160, 0, 15, 25, 5, 42]
abbrev dktX1_notice_6 : List UInt8 := dkwX1_notice_6 ++ dktX1_notice_7
def dkwX1_notice_5 : List UInt8 := [25, 5, 42, 180, 0, 115, 182, 1, 0, 16, 50, 162, 0, 7, 4, 167, 0, 4, 3, 54, 6, 21, 6]
abbrev dktX1_notice_5 : List UInt8 := dkwX1_notice_5 ++ dktX1_notice_6
def dkwX1_notice_4 : List UInt8 := [160, 0, 24, 28, 25, 5, 180, 1, 27, 122, 4, 126, 4, 160, 0, 7, 4, 167, 0, 26, 3, 167, 0, 22]
abbrev dktX1_notice_4 : List UInt8 := dkwX1_notice_4 ++ dktX1_notice_5
def dkwX1_notice_3 : List UInt8 := [185, 0, 217, 1, 0, 192, 0, 140, 58, 5, 27, 154, 0, 11, 25, 5, 180, 1, 24, 167, 0, 48, 27, 4]
abbrev dktX1_notice_3 : List UInt8 := dkwX1_notice_3 ++ dktX1_notice_4
def dkwX1_notice_2 : List UInt8 := [62, 42, 180, 0, 42, 182, 0, 208, 58, 4, 25, 4, 185, 0, 212, 1, 0, 153, 0, 111, 25, 4]
abbrev dktX1_notice_2 : List UInt8 := dkwX1_notice_2 ++ dktX1_notice_3
def dkwX1_notice_1 : List UInt8 := [4, 167, 0, 4, 3, 184, 0, 131, 42, 180, 0, 88, 158, 0, 7, 4, 167, 0, 4, 3, 184, 0, 182, 3]
abbrev dktX1_notice_1 : List UInt8 := dkwX1_notice_1 ++ dktX1_notice_2
def dkwX1_notice_0 : List UInt8 := [27, 133, 9, 20, 1, 22, 184, 0, 127, 153, 0, 19, 28, 133, 10, 20, 0, 223, 184, 0, 127, 153, 0, 7]
abbrev dktX1_notice_0 : List UInt8 := dkwX1_notice_0 ++ dktX1_notice_1
theorem dksX1_notice_0 : cX1_notice.data.toList.drop 0 = dktX1_notice_0 := by decide +kernel
theorem dksX1_notice_1 : cX1_notice.data.toList.drop 24 = dktX1_notice_1 := dk_seg dksX1_notice_0 24 rfl rfl
theorem dksX1_notice_2 : cX1_notice.data.toList.drop 48 = dktX1_notice_2 := dk_seg dksX1_notice_1 24 rfl rfl
theorem dksX1_notice_3 : cX1_notice.data.toList.drop 70 = dktX1_notice_3 := dk_seg dksX1_notice_2 22 rfl rfl
theorem dksX1_notice_4 : cX1_notice.data.toList.drop 94 = dktX1_notice_4 := dk_seg dksX1_notice_3 24 rfl rfl
theorem dksX1_notice_5 : cX1_notice.data.toList.drop 118 = dktX1_notice_5 := dk_seg dksX1_notice_4 24 rfl rfl
theorem dksX1_notice_6 : cX1_notice.data.toList.drop 141 = dktX1_notice_6 := dk_seg dksX1_notice_5 23 rfl rfl
theorem dksX1_notice_7 : cX1_notice.data.toList.drop 164 = dktX1_notice_7 := dk_seg dksX1_notice_6 23 rfl rfl
theorem dX1_notice_0 : decode cX1_notice 0 = .ok (.iload_n 1, 1) := dk_27 (dk_at dksX1_notice_0 0 rfl rfl)
theorem dX1_notice_1 : decode cX1_notice 1 = .ok (.i2l, 1) := dk_133 (dk_at dksX1_notice_0 1 rfl rfl)
theorem dX1_notice_2 : decode cX1_notice 2 = .ok (.lconst 0, 1) := dk_9 (dk_at dksX1_notice_0 2 rfl rfl)
theorem dX1_notice_3 : decode cX1_notice 3 = .ok (.ldc2_w 278, 3) := dk_20 1 22 (dk_at dksX1_notice_0 3 rfl rfl)
theorem dX1_notice_6 : decode cX1_notice 6 = .ok (.invokestatic 127, 3) := dk_184 0 127 (dk_at dksX1_notice_0 6 rfl rfl)
theorem dX1_notice_9 : decode cX1_notice 9 = .ok (.ifCond .eq 19, 3) := dk_153 0 19 (dk_at dksX1_notice_0 9 rfl rfl)
theorem dX1_notice_12 : decode cX1_notice 12 = .ok (.iload_n 2, 1) := dk_28 (dk_at dksX1_notice_0 12 rfl rfl)
theorem dX1_notice_13 : decode cX1_notice 13 = .ok (.i2l, 1) := dk_133 (dk_at dksX1_notice_0 13 rfl rfl)
theorem dX1_notice_14 : decode cX1_notice 14 = .ok (.lconst 1, 1) := dk_10 (dk_at dksX1_notice_0 14 rfl rfl)
theorem dX1_notice_15 : decode cX1_notice 15 = .ok (.ldc2_w 223, 3) := dk_20 0 223 (dk_at dksX1_notice_0 15 rfl rfl)
theorem dX1_notice_18 : decode cX1_notice 18 = .ok (.invokestatic 127, 3) := dk_184 0 127 (dk_at dksX1_notice_0 18 rfl rfl)
theorem dX1_notice_21 : decode cX1_notice 21 = .ok (.ifCond .eq 7, 3) := dk_153 0 7 (dk_at dksX1_notice_0 21 rfl rfl)
theorem dX1_notice_24 : decode cX1_notice 24 = .ok (.iconst 1, 1) := dk_4 (dk_at dksX1_notice_1 0 rfl rfl)
theorem dX1_notice_25 : decode cX1_notice 25 = .ok (.goto 4, 3) := dk_167 0 4 (dk_at dksX1_notice_1 1 rfl rfl)
theorem dX1_notice_28 : decode cX1_notice 28 = .ok (.iconst 0, 1) := dk_3 (dk_at dksX1_notice_1 4 rfl rfl)
theorem dX1_notice_29 : decode cX1_notice 29 = .ok (.invokestatic 131, 3) := dk_184 0 131 (dk_at dksX1_notice_1 5 rfl rfl)
theorem dX1_notice_32 : decode cX1_notice 32 = .ok (.aload_n 0, 1) := dk_42 (dk_at dksX1_notice_1 8 rfl rfl)
theorem dX1_notice_33 : decode cX1_notice 33 = .ok (.getfield 88, 3) := dk_180 0 88 (dk_at dksX1_notice_1 9 rfl rfl)
theorem dX1_notice_36 : decode cX1_notice 36 = .ok (.ifCond .le 7, 3) := dk_158 0 7 (dk_at dksX1_notice_1 12 rfl rfl)
theorem dX1_notice_39 : decode cX1_notice 39 = .ok (.iconst 1, 1) := dk_4 (dk_at dksX1_notice_1 15 rfl rfl)
theorem dX1_notice_40 : decode cX1_notice 40 = .ok (.goto 4, 3) := dk_167 0 4 (dk_at dksX1_notice_1 16 rfl rfl)
theorem dX1_notice_43 : decode cX1_notice 43 = .ok (.iconst 0, 1) := dk_3 (dk_at dksX1_notice_1 19 rfl rfl)
theorem dX1_notice_44 : decode cX1_notice 44 = .ok (.invokestatic 182, 3) := dk_184 0 182 (dk_at dksX1_notice_1 20 rfl rfl)
theorem dX1_notice_47 : decode cX1_notice 47 = .ok (.iconst 0, 1) := dk_3 (dk_at dksX1_notice_1 23 rfl rfl)
theorem dX1_notice_48 : decode cX1_notice 48 = .ok (.istore_n 3, 1) := dk_62 (dk_at dksX1_notice_2 0 rfl rfl)
theorem dX1_notice_49 : decode cX1_notice 49 = .ok (.aload_n 0, 1) := dk_42 (dk_at dksX1_notice_2 1 rfl rfl)
theorem dX1_notice_50 : decode cX1_notice 50 = .ok (.getfield 42, 3) := dk_180 0 42 (dk_at dksX1_notice_2 2 rfl rfl)
theorem dX1_notice_53 : decode cX1_notice 53 = .ok (.invokevirtual 208, 3) := dk_182 0 208 (dk_at dksX1_notice_2 5 rfl rfl)
theorem dX1_notice_56 : decode cX1_notice 56 = .ok (.astore 4, 2) := dk_58 4 (dk_at dksX1_notice_2 8 rfl rfl)
theorem dX1_notice_58 : decode cX1_notice 58 = .ok (.aload 4, 2) := dk_25 4 (dk_at dksX1_notice_2 10 rfl rfl)
theorem dX1_notice_60 : decode cX1_notice 60 = .ok (.invokeinterface 212 1, 5) := by decide +kernel
theorem dX1_notice_65 : decode cX1_notice 65 = .ok (.ifCond .eq 111, 3) := dk_153 0 111 (dk_at dksX1_notice_2 17 rfl rfl)
theorem dX1_notice_68 : decode cX1_notice 68 = .ok (.aload 4, 2) := dk_25 4 (dk_at dksX1_notice_2 20 rfl rfl)
theorem dX1_notice_70 : decode cX1_notice 70 = .ok (.invokeinterface 217 1, 5) := by decide +kernel
theorem dX1_notice_75 : decode cX1_notice 75 = .ok (.checkcast 140, 3) := dk_192 0 140 (dk_at dksX1_notice_3 5 rfl rfl)
theorem dX1_notice_78 : decode cX1_notice 78 = .ok (.astore 5, 2) := dk_58 5 (dk_at dksX1_notice_3 8 rfl rfl)
theorem dX1_notice_80 : decode cX1_notice 80 = .ok (.iload_n 1, 1) := dk_27 (dk_at dksX1_notice_3 10 rfl rfl)
theorem dX1_notice_81 : decode cX1_notice 81 = .ok (.ifCond .ne 11, 3) := dk_154 0 11 (dk_at dksX1_notice_3 11 rfl rfl)
theorem dX1_notice_84 : decode cX1_notice 84 = .ok (.aload 5, 2) := dk_25 5 (dk_at dksX1_notice_3 14 rfl rfl)
theorem dX1_notice_86 : decode cX1_notice 86 = .ok (.getfield 280, 3) := dk_180 1 24 (dk_at dksX1_notice_3 16 rfl rfl)
theorem dX1_notice_89 : decode cX1_notice 89 = .ok (.goto 48, 3) := dk_167 0 48 (dk_at dksX1_notice_3 19 rfl rfl)
theorem dX1_notice_92 : decode cX1_notice 92 = .ok (.iload_n 1, 1) := dk_27 (dk_at dksX1_notice_3 22 rfl rfl)
theorem dX1_notice_93 : decode cX1_notice 93 = .ok (.iconst 1, 1) := dk_4 (dk_at dksX1_notice_3 23 rfl rfl)
theorem dX1_notice_94 : decode cX1_notice 94 = .ok (.if_icmp .ne 24, 3) := dk_160 0 24 (dk_at dksX1_notice_4 0 rfl rfl)
theorem dX1_notice_97 : decode cX1_notice 97 = .ok (.iload_n 2, 1) := dk_28 (dk_at dksX1_notice_4 3 rfl rfl)
theorem dX1_notice_98 : decode cX1_notice 98 = .ok (.aload 5, 2) := dk_25 5 (dk_at dksX1_notice_4 4 rfl rfl)
theorem dX1_notice_100 : decode cX1_notice 100 = .ok (.getfield 283, 3) := dk_180 1 27 (dk_at dksX1_notice_4 6 rfl rfl)
theorem dX1_notice_103 : decode cX1_notice 103 = .ok (.ishr, 1) := dk_122 (dk_at dksX1_notice_4 9 rfl rfl)
theorem dX1_notice_104 : decode cX1_notice 104 = .ok (.iconst 1, 1) := dk_4 (dk_at dksX1_notice_4 10 rfl rfl)
theorem dX1_notice_105 : decode cX1_notice 105 = .ok (.iand, 1) := dk_126 (dk_at dksX1_notice_4 11 rfl rfl)
theorem dX1_notice_106 : decode cX1_notice 106 = .ok (.iconst 1, 1) := dk_4 (dk_at dksX1_notice_4 12 rfl rfl)
theorem dX1_notice_107 : decode cX1_notice 107 = .ok (.if_icmp .ne 7, 3) := dk_160 0 7 (dk_at dksX1_notice_4 13 rfl rfl)
theorem dX1_notice_110 : decode cX1_notice 110 = .ok (.iconst 1, 1) := dk_4 (dk_at dksX1_notice_4 16 rfl rfl)
theorem dX1_notice_111 : decode cX1_notice 111 = .ok (.goto 26, 3) := dk_167 0 26 (dk_at dksX1_notice_4 17 rfl rfl)
theorem dX1_notice_114 : decode cX1_notice 114 = .ok (.iconst 0, 1) := dk_3 (dk_at dksX1_notice_4 20 rfl rfl)
theorem dX1_notice_115 : decode cX1_notice 115 = .ok (.goto 22, 3) := dk_167 0 22 (dk_at dksX1_notice_4 21 rfl rfl)
theorem dX1_notice_118 : decode cX1_notice 118 = .ok (.aload 5, 2) := dk_25 5 (dk_at dksX1_notice_5 0 rfl rfl)
theorem dX1_notice_120 : decode cX1_notice 120 = .ok (.aload_n 0, 1) := dk_42 (dk_at dksX1_notice_5 2 rfl rfl)
theorem dX1_notice_121 : decode cX1_notice 121 = .ok (.getfield 115, 3) := dk_180 0 115 (dk_at dksX1_notice_5 3 rfl rfl)
theorem dX1_notice_124 : decode cX1_notice 124 = .ok (.invokevirtual 256, 3) := dk_182 1 0 (dk_at dksX1_notice_5 6 rfl rfl)
theorem dX1_notice_127 : decode cX1_notice 127 = .ok (.bipush 50, 2) := dk_16 50 (dk_at dksX1_notice_5 9 rfl rfl)
theorem dX1_notice_129 : decode cX1_notice 129 = .ok (.if_icmp .ge 7, 3) := dk_162 0 7 (dk_at dksX1_notice_5 11 rfl rfl)
theorem dX1_notice_132 : decode cX1_notice 132 = .ok (.iconst 1, 1) := dk_4 (dk_at dksX1_notice_5 14 rfl rfl)
theorem dX1_notice_133 : decode cX1_notice 133 = .ok (.goto 4, 3) := dk_167 0 4 (dk_at dksX1_notice_5 15 rfl rfl)
theorem dX1_notice_136 : decode cX1_notice 136 = .ok (.iconst 0, 1) := dk_3 (dk_at dksX1_notice_5 18 rfl rfl)
theorem dX1_notice_137 : decode cX1_notice 137 = .ok (.istore 6, 2) := dk_54 6 (dk_at dksX1_notice_5 19 rfl rfl)
theorem dX1_notice_139 : decode cX1_notice 139 = .ok (.iload 6, 2) := dk_21 6 (dk_at dksX1_notice_5 21 rfl rfl)
theorem dX1_notice_141 : decode cX1_notice 141 = .ok (.ifCond .eq 32, 3) := dk_153 0 32 (dk_at dksX1_notice_6 0 rfl rfl)
theorem dX1_notice_144 : decode cX1_notice 144 = .ok (.aload 5, 2) := dk_25 5 (dk_at dksX1_notice_6 3 rfl rfl)
theorem dX1_notice_146 : decode cX1_notice 146 = .ok (.invokevirtual 148, 3) := dk_182 0 148 (dk_at dksX1_notice_6 5 rfl rfl)
theorem dX1_notice_149 : decode cX1_notice 149 = .ok (.ifCond .eq 24, 3) := dk_153 0 24 (dk_at dksX1_notice_6 8 rfl rfl)
theorem dX1_notice_152 : decode cX1_notice 152 = .ok (.aload 5, 2) := dk_25 5 (dk_at dksX1_notice_6 11 rfl rfl)
theorem dX1_notice_154 : decode cX1_notice 154 = .ok (.getfield 248, 3) := dk_180 0 248 (dk_at dksX1_notice_6 13 rfl rfl)
theorem dX1_notice_157 : decode cX1_notice 157 = .ok (.iconst (-1), 1) := dk_2 (dk_at dksX1_notice_6 16 rfl rfl)
theorem dX1_notice_158 : decode cX1_notice 158 = .ok (.if_icmp .ne 15, 3) := dk_160 0 15 (dk_at dksX1_notice_6 17 rfl rfl)
theorem dX1_notice_161 : decode cX1_notice 161 = .ok (.aload 5, 2) := dk_25 5 (dk_at dksX1_notice_6 20 rfl rfl)
theorem dX1_notice_163 : decode cX1_notice 163 = .ok (.aload_n 0, 1) := dk_42 (dk_at dksX1_notice_6 22 rfl rfl)
theorem dX1_notice_164 : decode cX1_notice 164 = .ok (.getfield 115, 3) := dk_180 0 115 (dk_at dksX1_notice_7 0 rfl rfl)
theorem dX1_notice_167 : decode cX1_notice 167 = .ok (.putfield 248, 3) := dk_181 0 248 (dk_at dksX1_notice_7 3 rfl rfl)
theorem dX1_notice_170 : decode cX1_notice 170 = .ok (.iinc 3 1, 3) := dk_132 3 1 (dk_at dksX1_notice_7 6 rfl rfl)
theorem dX1_notice_173 : decode cX1_notice 173 = .ok (.goto (-115), 3) := dk_167 255 141 (dk_at dksX1_notice_7 9 rfl rfl)
theorem dX1_notice_176 : decode cX1_notice 176 = .ok (.iload_n 3, 1) := dk_29 (dk_at dksX1_notice_7 12 rfl rfl)
theorem dX1_notice_177 : decode cX1_notice 177 = .ok (.ireturn, 1) := dk_172 (dk_at dksX1_notice_7 13 rfl rfl)
abbrev cX1_address : ByteArray := prog_1_method_26_code
def yX1_address : MethodName := ⟨RX1, "address", "(IZ)Z"⟩
def dkwX1_address_1 : List UInt8 := [21, 4, 172]
abbrev dktX1_address_1 : List UInt8 := dkwX1_address_1 ++ []
def dkwX1_address_0 : List UInt8 := [42, 180, 0, 42, 27, 182, 0, 136, 192, 0, 140, 78, 45, 180, 1, 24, 54, 4, 45, 28, 181, 1, 24]
abbrev dktX1_address_0 : List UInt8 := dkwX1_address_0 ++ dktX1_address_1
theorem dksX1_address_0 : cX1_address.data.toList.drop 0 = dktX1_address_0 := by decide +kernel
theorem dksX1_address_1 : cX1_address.data.toList.drop 23 = dktX1_address_1 := dk_seg dksX1_address_0 23 rfl rfl
theorem dX1_address_0 : decode cX1_address 0 = .ok (.aload_n 0, 1) := dk_42 (dk_at dksX1_address_0 0 rfl rfl)
theorem dX1_address_1 : decode cX1_address 1 = .ok (.getfield 42, 3) := dk_180 0 42 (dk_at dksX1_address_0 1 rfl rfl)
theorem dX1_address_4 : decode cX1_address 4 = .ok (.iload_n 1, 1) := dk_27 (dk_at dksX1_address_0 4 rfl rfl)
theorem dX1_address_5 : decode cX1_address 5 = .ok (.invokevirtual 136, 3) := dk_182 0 136 (dk_at dksX1_address_0 5 rfl rfl)
theorem dX1_address_8 : decode cX1_address 8 = .ok (.checkcast 140, 3) := dk_192 0 140 (dk_at dksX1_address_0 8 rfl rfl)
theorem dX1_address_11 : decode cX1_address 11 = .ok (.astore_n 3, 1) := dk_78 (dk_at dksX1_address_0 11 rfl rfl)
theorem dX1_address_12 : decode cX1_address 12 = .ok (.aload_n 3, 1) := dk_45 (dk_at dksX1_address_0 12 rfl rfl)
theorem dX1_address_13 : decode cX1_address 13 = .ok (.getfield 280, 3) := dk_180 1 24 (dk_at dksX1_address_0 13 rfl rfl)
theorem dX1_address_16 : decode cX1_address 16 = .ok (.istore 4, 2) := dk_54 4 (dk_at dksX1_address_0 16 rfl rfl)
theorem dX1_address_18 : decode cX1_address 18 = .ok (.aload_n 3, 1) := dk_45 (dk_at dksX1_address_0 18 rfl rfl)
theorem dX1_address_19 : decode cX1_address 19 = .ok (.iload_n 2, 1) := dk_28 (dk_at dksX1_address_0 19 rfl rfl)
theorem dX1_address_20 : decode cX1_address 20 = .ok (.putfield 280, 3) := dk_181 1 24 (dk_at dksX1_address_0 20 rfl rfl)
theorem dX1_address_23 : decode cX1_address 23 = .ok (.iload 4, 2) := dk_21 4 (dk_at dksX1_address_1 0 rfl rfl)
theorem dX1_address_25 : decode cX1_address 25 = .ok (.ireturn, 1) := dk_172 (dk_at dksX1_address_1 2 rfl rfl)
abbrev cX1_optOut : ByteArray := prog_1_method_27_code
def yX1_optOut : MethodName := ⟨RX1, "optOut", "(IZ)Z"⟩
def dkwX1_optOut_3 : List UInt8 := [154, 0, 8, 21, 4, 153, 0, 7, 4, 167, 0, 4, 3, 181, 1, 4, 21, 4, 172]
abbrev dktX1_optOut_3 : List UInt8 := dkwX1_optOut_3 ++ []
def dkwX1_optOut_2 : List UInt8 := [163, 0, 14, 42, 182, 0, 225, 154, 0, 7, 4, 167, 0, 4, 3, 54, 4, 45, 45, 180, 1, 4]
abbrev dktX1_optOut_2 : List UInt8 := dkwX1_optOut_2 ++ dktX1_optOut_3
def dkwX1_optOut_1 : List UInt8 := [159, 0, 37, 42, 180, 0, 115, 45, 180, 0, 248, 100, 28, 153, 0, 8, 16, 90, 167, 0, 5, 16, 60]
abbrev dktX1_optOut_1 : List UInt8 := dkwX1_optOut_1 ++ dktX1_optOut_2
def dkwX1_optOut_0 : List UInt8 := [42, 180, 0, 42, 27, 182, 0, 136, 192, 0, 140, 78, 45, 182, 0, 148, 153, 0, 45, 45, 180, 0, 248, 2]
abbrev dktX1_optOut_0 : List UInt8 := dkwX1_optOut_0 ++ dktX1_optOut_1
theorem dksX1_optOut_0 : cX1_optOut.data.toList.drop 0 = dktX1_optOut_0 := by decide +kernel
theorem dksX1_optOut_1 : cX1_optOut.data.toList.drop 24 = dktX1_optOut_1 := dk_seg dksX1_optOut_0 24 rfl rfl
theorem dksX1_optOut_2 : cX1_optOut.data.toList.drop 47 = dktX1_optOut_2 := dk_seg dksX1_optOut_1 23 rfl rfl
theorem dksX1_optOut_3 : cX1_optOut.data.toList.drop 69 = dktX1_optOut_3 := dk_seg dksX1_optOut_2 22 rfl rfl
theorem dX1_optOut_0 : decode cX1_optOut 0 = .ok (.aload_n 0, 1) := dk_42 (dk_at dksX1_optOut_0 0 rfl rfl)
theorem dX1_optOut_1 : decode cX1_optOut 1 = .ok (.getfield 42, 3) := dk_180 0 42 (dk_at dksX1_optOut_0 1 rfl rfl)
theorem dX1_optOut_4 : decode cX1_optOut 4 = .ok (.iload_n 1, 1) := dk_27 (dk_at dksX1_optOut_0 4 rfl rfl)
theorem dX1_optOut_5 : decode cX1_optOut 5 = .ok (.invokevirtual 136, 3) := dk_182 0 136 (dk_at dksX1_optOut_0 5 rfl rfl)
theorem dX1_optOut_8 : decode cX1_optOut 8 = .ok (.checkcast 140, 3) := dk_192 0 140 (dk_at dksX1_optOut_0 8 rfl rfl)
theorem dX1_optOut_11 : decode cX1_optOut 11 = .ok (.astore_n 3, 1) := dk_78 (dk_at dksX1_optOut_0 11 rfl rfl)
theorem dX1_optOut_12 : decode cX1_optOut 12 = .ok (.aload_n 3, 1) := dk_45 (dk_at dksX1_optOut_0 12 rfl rfl)
theorem dX1_optOut_13 : decode cX1_optOut 13 = .ok (.invokevirtual 148, 3) := dk_182 0 148 (dk_at dksX1_optOut_0 13 rfl rfl)
theorem dX1_optOut_16 : decode cX1_optOut 16 = .ok (.ifCond .eq 45, 3) := dk_153 0 45 (dk_at dksX1_optOut_0 16 rfl rfl)
theorem dX1_optOut_19 : decode cX1_optOut 19 = .ok (.aload_n 3, 1) := dk_45 (dk_at dksX1_optOut_0 19 rfl rfl)
theorem dX1_optOut_20 : decode cX1_optOut 20 = .ok (.getfield 248, 3) := dk_180 0 248 (dk_at dksX1_optOut_0 20 rfl rfl)
theorem dX1_optOut_23 : decode cX1_optOut 23 = .ok (.iconst (-1), 1) := dk_2 (dk_at dksX1_optOut_0 23 rfl rfl)
theorem dX1_optOut_24 : decode cX1_optOut 24 = .ok (.if_icmp .eq 37, 3) := dk_159 0 37 (dk_at dksX1_optOut_1 0 rfl rfl)
theorem dX1_optOut_27 : decode cX1_optOut 27 = .ok (.aload_n 0, 1) := dk_42 (dk_at dksX1_optOut_1 3 rfl rfl)
theorem dX1_optOut_28 : decode cX1_optOut 28 = .ok (.getfield 115, 3) := dk_180 0 115 (dk_at dksX1_optOut_1 4 rfl rfl)
theorem dX1_optOut_31 : decode cX1_optOut 31 = .ok (.aload_n 3, 1) := dk_45 (dk_at dksX1_optOut_1 7 rfl rfl)
theorem dX1_optOut_32 : decode cX1_optOut 32 = .ok (.getfield 248, 3) := dk_180 0 248 (dk_at dksX1_optOut_1 8 rfl rfl)
theorem dX1_optOut_35 : decode cX1_optOut 35 = .ok (.isub, 1) := dk_100 (dk_at dksX1_optOut_1 11 rfl rfl)
theorem dX1_optOut_36 : decode cX1_optOut 36 = .ok (.iload_n 2, 1) := dk_28 (dk_at dksX1_optOut_1 12 rfl rfl)
theorem dX1_optOut_37 : decode cX1_optOut 37 = .ok (.ifCond .eq 8, 3) := dk_153 0 8 (dk_at dksX1_optOut_1 13 rfl rfl)
theorem dX1_optOut_40 : decode cX1_optOut 40 = .ok (.bipush 90, 2) := dk_16 90 (dk_at dksX1_optOut_1 16 rfl rfl)
theorem dX1_optOut_42 : decode cX1_optOut 42 = .ok (.goto 5, 3) := dk_167 0 5 (dk_at dksX1_optOut_1 18 rfl rfl)
theorem dX1_optOut_45 : decode cX1_optOut 45 = .ok (.bipush 60, 2) := dk_16 60 (dk_at dksX1_optOut_1 21 rfl rfl)
theorem dX1_optOut_47 : decode cX1_optOut 47 = .ok (.if_icmp .gt 14, 3) := dk_163 0 14 (dk_at dksX1_optOut_2 0 rfl rfl)
theorem dX1_optOut_50 : decode cX1_optOut 50 = .ok (.aload_n 0, 1) := dk_42 (dk_at dksX1_optOut_2 3 rfl rfl)
theorem dX1_optOut_51 : decode cX1_optOut 51 = .ok (.invokevirtual 225, 3) := dk_182 0 225 (dk_at dksX1_optOut_2 4 rfl rfl)
theorem dX1_optOut_54 : decode cX1_optOut 54 = .ok (.ifCond .ne 7, 3) := dk_154 0 7 (dk_at dksX1_optOut_2 7 rfl rfl)
theorem dX1_optOut_57 : decode cX1_optOut 57 = .ok (.iconst 1, 1) := dk_4 (dk_at dksX1_optOut_2 10 rfl rfl)
theorem dX1_optOut_58 : decode cX1_optOut 58 = .ok (.goto 4, 3) := dk_167 0 4 (dk_at dksX1_optOut_2 11 rfl rfl)
theorem dX1_optOut_61 : decode cX1_optOut 61 = .ok (.iconst 0, 1) := dk_3 (dk_at dksX1_optOut_2 14 rfl rfl)
theorem dX1_optOut_62 : decode cX1_optOut 62 = .ok (.istore 4, 2) := dk_54 4 (dk_at dksX1_optOut_2 15 rfl rfl)
theorem dX1_optOut_64 : decode cX1_optOut 64 = .ok (.aload_n 3, 1) := dk_45 (dk_at dksX1_optOut_2 17 rfl rfl)
theorem dX1_optOut_65 : decode cX1_optOut 65 = .ok (.aload_n 3, 1) := dk_45 (dk_at dksX1_optOut_2 18 rfl rfl)
theorem dX1_optOut_66 : decode cX1_optOut 66 = .ok (.getfield 260, 3) := dk_180 1 4 (dk_at dksX1_optOut_2 19 rfl rfl)
theorem dX1_optOut_69 : decode cX1_optOut 69 = .ok (.ifCond .ne 8, 3) := dk_154 0 8 (dk_at dksX1_optOut_3 0 rfl rfl)
theorem dX1_optOut_72 : decode cX1_optOut 72 = .ok (.iload 4, 2) := dk_21 4 (dk_at dksX1_optOut_3 3 rfl rfl)
theorem dX1_optOut_74 : decode cX1_optOut 74 = .ok (.ifCond .eq 7, 3) := dk_153 0 7 (dk_at dksX1_optOut_3 5 rfl rfl)
theorem dX1_optOut_77 : decode cX1_optOut 77 = .ok (.iconst 1, 1) := dk_4 (dk_at dksX1_optOut_3 8 rfl rfl)
theorem dX1_optOut_78 : decode cX1_optOut 78 = .ok (.goto 4, 3) := dk_167 0 4 (dk_at dksX1_optOut_3 9 rfl rfl)
theorem dX1_optOut_81 : decode cX1_optOut 81 = .ok (.iconst 0, 1) := dk_3 (dk_at dksX1_optOut_3 12 rfl rfl)
theorem dX1_optOut_82 : decode cX1_optOut 82 = .ok (.putfield 260, 3) := dk_181 1 4 (dk_at dksX1_optOut_3 13 rfl rfl)
theorem dX1_optOut_85 : decode cX1_optOut 85 = .ok (.iload 4, 2) := dk_21 4 (dk_at dksX1_optOut_3 16 rfl rfl)
theorem dX1_optOut_87 : decode cX1_optOut 87 = .ok (.ireturn, 1) := dk_172 (dk_at dksX1_optOut_3 18 rfl rfl)
abbrev cX1_optIn : ByteArray := prog_1_method_28_code
def yX1_optIn : MethodName := ⟨RX1, "optIn", "(I)Z"⟩
def dkwX1_optIn_2 : List UInt8 := [167, 0, 4, 3, 181, 1, 4, 29, 172]
abbrev dktX1_optIn_2 : List UInt8 := dkwX1_optIn_2 ++ []
def dkwX1_optIn_1 : List UInt8 := [154, 0, 7, 4, 167, 0, 4, 3, 62, 44, 44, 180, 1, 4, 153, 0, 11, 29, 154, 0, 7, 4]
abbrev dktX1_optIn_1 : List UInt8 := dkwX1_optIn_1 ++ dktX1_optIn_2
def dkwX1_optIn_0 : List UInt8 := [42, 180, 0, 42, 27, 182, 0, 136, 192, 0, 140, 77, 44, 180, 1, 4, 153, 0, 14, 42, 182, 0, 225]
abbrev dktX1_optIn_0 : List UInt8 := dkwX1_optIn_0 ++ dktX1_optIn_1
theorem dksX1_optIn_0 : cX1_optIn.data.toList.drop 0 = dktX1_optIn_0 := by decide +kernel
theorem dksX1_optIn_1 : cX1_optIn.data.toList.drop 23 = dktX1_optIn_1 := dk_seg dksX1_optIn_0 23 rfl rfl
theorem dksX1_optIn_2 : cX1_optIn.data.toList.drop 45 = dktX1_optIn_2 := dk_seg dksX1_optIn_1 22 rfl rfl
theorem dX1_optIn_0 : decode cX1_optIn 0 = .ok (.aload_n 0, 1) := dk_42 (dk_at dksX1_optIn_0 0 rfl rfl)
theorem dX1_optIn_1 : decode cX1_optIn 1 = .ok (.getfield 42, 3) := dk_180 0 42 (dk_at dksX1_optIn_0 1 rfl rfl)
theorem dX1_optIn_4 : decode cX1_optIn 4 = .ok (.iload_n 1, 1) := dk_27 (dk_at dksX1_optIn_0 4 rfl rfl)
theorem dX1_optIn_5 : decode cX1_optIn 5 = .ok (.invokevirtual 136, 3) := dk_182 0 136 (dk_at dksX1_optIn_0 5 rfl rfl)
theorem dX1_optIn_8 : decode cX1_optIn 8 = .ok (.checkcast 140, 3) := dk_192 0 140 (dk_at dksX1_optIn_0 8 rfl rfl)
theorem dX1_optIn_11 : decode cX1_optIn 11 = .ok (.astore_n 2, 1) := dk_77 (dk_at dksX1_optIn_0 11 rfl rfl)
theorem dX1_optIn_12 : decode cX1_optIn 12 = .ok (.aload_n 2, 1) := dk_44 (dk_at dksX1_optIn_0 12 rfl rfl)
theorem dX1_optIn_13 : decode cX1_optIn 13 = .ok (.getfield 260, 3) := dk_180 1 4 (dk_at dksX1_optIn_0 13 rfl rfl)
theorem dX1_optIn_16 : decode cX1_optIn 16 = .ok (.ifCond .eq 14, 3) := dk_153 0 14 (dk_at dksX1_optIn_0 16 rfl rfl)
theorem dX1_optIn_19 : decode cX1_optIn 19 = .ok (.aload_n 0, 1) := dk_42 (dk_at dksX1_optIn_0 19 rfl rfl)
theorem dX1_optIn_20 : decode cX1_optIn 20 = .ok (.invokevirtual 225, 3) := dk_182 0 225 (dk_at dksX1_optIn_0 20 rfl rfl)
theorem dX1_optIn_23 : decode cX1_optIn 23 = .ok (.ifCond .ne 7, 3) := dk_154 0 7 (dk_at dksX1_optIn_1 0 rfl rfl)
theorem dX1_optIn_26 : decode cX1_optIn 26 = .ok (.iconst 1, 1) := dk_4 (dk_at dksX1_optIn_1 3 rfl rfl)
theorem dX1_optIn_27 : decode cX1_optIn 27 = .ok (.goto 4, 3) := dk_167 0 4 (dk_at dksX1_optIn_1 4 rfl rfl)
theorem dX1_optIn_30 : decode cX1_optIn 30 = .ok (.iconst 0, 1) := dk_3 (dk_at dksX1_optIn_1 7 rfl rfl)
theorem dX1_optIn_31 : decode cX1_optIn 31 = .ok (.istore_n 3, 1) := dk_62 (dk_at dksX1_optIn_1 8 rfl rfl)
theorem dX1_optIn_32 : decode cX1_optIn 32 = .ok (.aload_n 2, 1) := dk_44 (dk_at dksX1_optIn_1 9 rfl rfl)
theorem dX1_optIn_33 : decode cX1_optIn 33 = .ok (.aload_n 2, 1) := dk_44 (dk_at dksX1_optIn_1 10 rfl rfl)
theorem dX1_optIn_34 : decode cX1_optIn 34 = .ok (.getfield 260, 3) := dk_180 1 4 (dk_at dksX1_optIn_1 11 rfl rfl)
theorem dX1_optIn_37 : decode cX1_optIn 37 = .ok (.ifCond .eq 11, 3) := dk_153 0 11 (dk_at dksX1_optIn_1 14 rfl rfl)
theorem dX1_optIn_40 : decode cX1_optIn 40 = .ok (.iload_n 3, 1) := dk_29 (dk_at dksX1_optIn_1 17 rfl rfl)
theorem dX1_optIn_41 : decode cX1_optIn 41 = .ok (.ifCond .ne 7, 3) := dk_154 0 7 (dk_at dksX1_optIn_1 18 rfl rfl)
theorem dX1_optIn_44 : decode cX1_optIn 44 = .ok (.iconst 1, 1) := dk_4 (dk_at dksX1_optIn_1 21 rfl rfl)
theorem dX1_optIn_45 : decode cX1_optIn 45 = .ok (.goto 4, 3) := dk_167 0 4 (dk_at dksX1_optIn_2 0 rfl rfl)
theorem dX1_optIn_48 : decode cX1_optIn 48 = .ok (.iconst 0, 1) := dk_3 (dk_at dksX1_optIn_2 3 rfl rfl)
theorem dX1_optIn_49 : decode cX1_optIn 49 = .ok (.putfield 260, 3) := dk_181 1 4 (dk_at dksX1_optIn_2 4 rfl rfl)
theorem dX1_optIn_52 : decode cX1_optIn 52 = .ok (.iload_n 3, 1) := dk_29 (dk_at dksX1_optIn_2 7 rfl rfl)
theorem dX1_optIn_53 : decode cX1_optIn 53 = .ok (.ireturn, 1) := dk_172 (dk_at dksX1_optIn_2 8 rfl rfl)
abbrev cX1_draw : ByteArray := prog_1_method_29_code
def yX1_draw : MethodName := ⟨RX1, "draw", "(I)I"⟩
def dkwX1_draw_7 : List UInt8 := [181, 1, 31, 25, 4, 180, 1, 43, 172]
abbrev dktX1_draw_7 : List UInt8 := dkwX1_draw_7 ++ []
def dkwX1_draw_6 : List UInt8 := [185, 0, 13, 1, 0, 4, 100, 5, 108, 185, 0, 19, 2, 0, 192, 0, 140, 58, 4, 25, 4, 4]
abbrev dktX1_draw_6 : List UInt8 := dkwX1_draw_6 ++ dktX1_draw_7
def dkwX1_draw_5 : List UInt8 := [25, 5, 185, 1, 37, 3, 0, 167, 255, 164, 45, 185, 1, 40, 1, 0, 153, 0, 5, 2, 172, 45, 45]
abbrev dktX1_draw_5 : List UInt8 := dkwX1_draw_5 ++ dktX1_draw_6
def dkwX1_draw_4 : List UInt8 := [192, 0, 140, 180, 1, 34, 25, 5, 180, 1, 34, 164, 0, 9, 132, 6, 255, 167, 255, 224, 45, 21, 6]
abbrev dktX1_draw_4 : List UInt8 := dkwX1_draw_4 ++ dktX1_draw_5
def dkwX1_draw_3 : List UInt8 := [185, 0, 13, 1, 0, 54, 6, 21, 6, 158, 0, 33, 45, 21, 6, 4, 100, 185, 0, 19, 2, 0]
abbrev dktX1_draw_3 : List UInt8 := dkwX1_draw_3 ++ dktX1_draw_4
def dkwX1_draw_2 : List UInt8 := [192, 0, 140, 58, 5, 25, 5, 182, 0, 238, 44, 166, 0, 64, 25, 5, 180, 1, 31, 154, 0, 56, 45]
abbrev dktX1_draw_2 : List UInt8 := dkwX1_draw_2 ++ dktX1_draw_3
def dkwX1_draw_1 : List UInt8 := [182, 0, 208, 58, 4, 25, 4, 185, 0, 212, 1, 0, 153, 0, 88, 25, 4, 185, 0, 217, 1, 0]
abbrev dktX1_draw_1 : List UInt8 := dkwX1_draw_1 ++ dktX1_draw_2
def dkwX1_draw_0 : List UInt8 := [42, 180, 0, 46, 27, 182, 0, 136, 192, 0, 231, 77, 187, 1, 28, 89, 183, 1, 30, 78, 42, 180, 0, 42]
abbrev dktX1_draw_0 : List UInt8 := dkwX1_draw_0 ++ dktX1_draw_1
theorem dksX1_draw_0 : cX1_draw.data.toList.drop 0 = dktX1_draw_0 := by decide +kernel
theorem dksX1_draw_1 : cX1_draw.data.toList.drop 24 = dktX1_draw_1 := dk_seg dksX1_draw_0 24 rfl rfl
theorem dksX1_draw_2 : cX1_draw.data.toList.drop 46 = dktX1_draw_2 := dk_seg dksX1_draw_1 22 rfl rfl
theorem dksX1_draw_3 : cX1_draw.data.toList.drop 69 = dktX1_draw_3 := dk_seg dksX1_draw_2 23 rfl rfl
theorem dksX1_draw_4 : cX1_draw.data.toList.drop 91 = dktX1_draw_4 := dk_seg dksX1_draw_3 22 rfl rfl
theorem dksX1_draw_5 : cX1_draw.data.toList.drop 114 = dktX1_draw_5 := dk_seg dksX1_draw_4 23 rfl rfl
theorem dksX1_draw_6 : cX1_draw.data.toList.drop 137 = dktX1_draw_6 := dk_seg dksX1_draw_5 23 rfl rfl
theorem dksX1_draw_7 : cX1_draw.data.toList.drop 159 = dktX1_draw_7 := dk_seg dksX1_draw_6 22 rfl rfl
theorem dX1_draw_0 : decode cX1_draw 0 = .ok (.aload_n 0, 1) := dk_42 (dk_at dksX1_draw_0 0 rfl rfl)
theorem dX1_draw_1 : decode cX1_draw 1 = .ok (.getfield 46, 3) := dk_180 0 46 (dk_at dksX1_draw_0 1 rfl rfl)
theorem dX1_draw_4 : decode cX1_draw 4 = .ok (.iload_n 1, 1) := dk_27 (dk_at dksX1_draw_0 4 rfl rfl)
theorem dX1_draw_5 : decode cX1_draw 5 = .ok (.invokevirtual 136, 3) := dk_182 0 136 (dk_at dksX1_draw_0 5 rfl rfl)
theorem dX1_draw_8 : decode cX1_draw 8 = .ok (.checkcast 231, 3) := dk_192 0 231 (dk_at dksX1_draw_0 8 rfl rfl)
theorem dX1_draw_11 : decode cX1_draw 11 = .ok (.astore_n 2, 1) := dk_77 (dk_at dksX1_draw_0 11 rfl rfl)
theorem dX1_draw_12 : decode cX1_draw 12 = .ok (.new 284, 3) := dk_187 1 28 (dk_at dksX1_draw_0 12 rfl rfl)
theorem dX1_draw_15 : decode cX1_draw 15 = .ok (.dup, 1) := dk_89 (dk_at dksX1_draw_0 15 rfl rfl)
theorem dX1_draw_16 : decode cX1_draw 16 = .ok (.invokespecial 286, 3) := dk_183 1 30 (dk_at dksX1_draw_0 16 rfl rfl)
theorem dX1_draw_19 : decode cX1_draw 19 = .ok (.astore_n 3, 1) := dk_78 (dk_at dksX1_draw_0 19 rfl rfl)
theorem dX1_draw_20 : decode cX1_draw 20 = .ok (.aload_n 0, 1) := dk_42 (dk_at dksX1_draw_0 20 rfl rfl)
theorem dX1_draw_21 : decode cX1_draw 21 = .ok (.getfield 42, 3) := dk_180 0 42 (dk_at dksX1_draw_0 21 rfl rfl)
theorem dX1_draw_24 : decode cX1_draw 24 = .ok (.invokevirtual 208, 3) := dk_182 0 208 (dk_at dksX1_draw_1 0 rfl rfl)
theorem dX1_draw_27 : decode cX1_draw 27 = .ok (.astore 4, 2) := dk_58 4 (dk_at dksX1_draw_1 3 rfl rfl)
theorem dX1_draw_29 : decode cX1_draw 29 = .ok (.aload 4, 2) := dk_25 4 (dk_at dksX1_draw_1 5 rfl rfl)
theorem dX1_draw_31 : decode cX1_draw 31 = .ok (.invokeinterface 212 1, 5) := by decide +kernel
theorem dX1_draw_36 : decode cX1_draw 36 = .ok (.ifCond .eq 88, 3) := dk_153 0 88 (dk_at dksX1_draw_1 12 rfl rfl)
theorem dX1_draw_39 : decode cX1_draw 39 = .ok (.aload 4, 2) := dk_25 4 (dk_at dksX1_draw_1 15 rfl rfl)
theorem dX1_draw_41 : decode cX1_draw 41 = .ok (.invokeinterface 217 1, 5) := by decide +kernel
theorem dX1_draw_46 : decode cX1_draw 46 = .ok (.checkcast 140, 3) := dk_192 0 140 (dk_at dksX1_draw_2 0 rfl rfl)
theorem dX1_draw_49 : decode cX1_draw 49 = .ok (.astore 5, 2) := dk_58 5 (dk_at dksX1_draw_2 3 rfl rfl)
theorem dX1_draw_51 : decode cX1_draw 51 = .ok (.aload 5, 2) := dk_25 5 (dk_at dksX1_draw_2 5 rfl rfl)
theorem dX1_draw_53 : decode cX1_draw 53 = .ok (.invokevirtual 238, 3) := dk_182 0 238 (dk_at dksX1_draw_2 7 rfl rfl)
theorem dX1_draw_56 : decode cX1_draw 56 = .ok (.aload_n 2, 1) := dk_44 (dk_at dksX1_draw_2 10 rfl rfl)
theorem dX1_draw_57 : decode cX1_draw 57 = .ok (.if_acmp .ne 64, 3) := dk_166 0 64 (dk_at dksX1_draw_2 11 rfl rfl)
theorem dX1_draw_60 : decode cX1_draw 60 = .ok (.aload 5, 2) := dk_25 5 (dk_at dksX1_draw_2 14 rfl rfl)
theorem dX1_draw_62 : decode cX1_draw 62 = .ok (.getfield 287, 3) := dk_180 1 31 (dk_at dksX1_draw_2 16 rfl rfl)
theorem dX1_draw_65 : decode cX1_draw 65 = .ok (.ifCond .ne 56, 3) := dk_154 0 56 (dk_at dksX1_draw_2 19 rfl rfl)
theorem dX1_draw_68 : decode cX1_draw 68 = .ok (.aload_n 3, 1) := dk_45 (dk_at dksX1_draw_2 22 rfl rfl)
theorem dX1_draw_69 : decode cX1_draw 69 = .ok (.invokeinterface 13 1, 5) := by decide +kernel
theorem dX1_draw_74 : decode cX1_draw 74 = .ok (.istore 6, 2) := dk_54 6 (dk_at dksX1_draw_3 5 rfl rfl)
theorem dX1_draw_76 : decode cX1_draw 76 = .ok (.iload 6, 2) := dk_21 6 (dk_at dksX1_draw_3 7 rfl rfl)
theorem dX1_draw_78 : decode cX1_draw 78 = .ok (.ifCond .le 33, 3) := dk_158 0 33 (dk_at dksX1_draw_3 9 rfl rfl)
theorem dX1_draw_81 : decode cX1_draw 81 = .ok (.aload_n 3, 1) := dk_45 (dk_at dksX1_draw_3 12 rfl rfl)
theorem dX1_draw_82 : decode cX1_draw 82 = .ok (.iload 6, 2) := dk_21 6 (dk_at dksX1_draw_3 13 rfl rfl)
theorem dX1_draw_84 : decode cX1_draw 84 = .ok (.iconst 1, 1) := dk_4 (dk_at dksX1_draw_3 15 rfl rfl)
theorem dX1_draw_85 : decode cX1_draw 85 = .ok (.isub, 1) := dk_100 (dk_at dksX1_draw_3 16 rfl rfl)
theorem dX1_draw_86 : decode cX1_draw 86 = .ok (.invokeinterface 19 2, 5) := by decide +kernel
theorem dX1_draw_91 : decode cX1_draw 91 = .ok (.checkcast 140, 3) := dk_192 0 140 (dk_at dksX1_draw_4 0 rfl rfl)
theorem dX1_draw_94 : decode cX1_draw 94 = .ok (.getfield 290, 3) := dk_180 1 34 (dk_at dksX1_draw_4 3 rfl rfl)
theorem dX1_draw_97 : decode cX1_draw 97 = .ok (.aload 5, 2) := dk_25 5 (dk_at dksX1_draw_4 6 rfl rfl)
theorem dX1_draw_99 : decode cX1_draw 99 = .ok (.getfield 290, 3) := dk_180 1 34 (dk_at dksX1_draw_4 8 rfl rfl)
theorem dX1_draw_102 : decode cX1_draw 102 = .ok (.if_icmp .le 9, 3) := dk_164 0 9 (dk_at dksX1_draw_4 11 rfl rfl)
theorem dX1_draw_105 : decode cX1_draw 105 = .ok (.iinc 6 (-1), 3) := dk_132 6 255 (dk_at dksX1_draw_4 14 rfl rfl)
theorem dX1_draw_108 : decode cX1_draw 108 = .ok (.goto (-32), 3) := dk_167 255 224 (dk_at dksX1_draw_4 17 rfl rfl)
theorem dX1_draw_111 : decode cX1_draw 111 = .ok (.aload_n 3, 1) := dk_45 (dk_at dksX1_draw_4 20 rfl rfl)
theorem dX1_draw_112 : decode cX1_draw 112 = .ok (.iload 6, 2) := dk_21 6 (dk_at dksX1_draw_4 21 rfl rfl)
theorem dX1_draw_114 : decode cX1_draw 114 = .ok (.aload 5, 2) := dk_25 5 (dk_at dksX1_draw_5 0 rfl rfl)
theorem dX1_draw_116 : decode cX1_draw 116 = .ok (.invokeinterface 293 3, 5) := by decide +kernel
theorem dX1_draw_121 : decode cX1_draw 121 = .ok (.goto (-92), 3) := dk_167 255 164 (dk_at dksX1_draw_5 7 rfl rfl)
theorem dX1_draw_124 : decode cX1_draw 124 = .ok (.aload_n 3, 1) := dk_45 (dk_at dksX1_draw_5 10 rfl rfl)
theorem dX1_draw_125 : decode cX1_draw 125 = .ok (.invokeinterface 296 1, 5) := by decide +kernel
theorem dX1_draw_130 : decode cX1_draw 130 = .ok (.ifCond .eq 5, 3) := dk_153 0 5 (dk_at dksX1_draw_5 16 rfl rfl)
theorem dX1_draw_133 : decode cX1_draw 133 = .ok (.iconst (-1), 1) := dk_2 (dk_at dksX1_draw_5 19 rfl rfl)
theorem dX1_draw_134 : decode cX1_draw 134 = .ok (.ireturn, 1) := dk_172 (dk_at dksX1_draw_5 20 rfl rfl)
theorem dX1_draw_135 : decode cX1_draw 135 = .ok (.aload_n 3, 1) := dk_45 (dk_at dksX1_draw_5 21 rfl rfl)
theorem dX1_draw_136 : decode cX1_draw 136 = .ok (.aload_n 3, 1) := dk_45 (dk_at dksX1_draw_5 22 rfl rfl)
theorem dX1_draw_137 : decode cX1_draw 137 = .ok (.invokeinterface 13 1, 5) := by decide +kernel
theorem dX1_draw_142 : decode cX1_draw 142 = .ok (.iconst 1, 1) := dk_4 (dk_at dksX1_draw_6 5 rfl rfl)
theorem dX1_draw_143 : decode cX1_draw 143 = .ok (.isub, 1) := dk_100 (dk_at dksX1_draw_6 6 rfl rfl)
theorem dX1_draw_144 : decode cX1_draw 144 = .ok (.iconst 2, 1) := dk_5 (dk_at dksX1_draw_6 7 rfl rfl)
theorem dX1_draw_145 : decode cX1_draw 145 = .ok (.idiv, 1) := dk_108 (dk_at dksX1_draw_6 8 rfl rfl)
theorem dX1_draw_146 : decode cX1_draw 146 = .ok (.invokeinterface 19 2, 5) := by decide +kernel
theorem dX1_draw_151 : decode cX1_draw 151 = .ok (.checkcast 140, 3) := dk_192 0 140 (dk_at dksX1_draw_6 14 rfl rfl)
theorem dX1_draw_154 : decode cX1_draw 154 = .ok (.astore 4, 2) := dk_58 4 (dk_at dksX1_draw_6 17 rfl rfl)
theorem dX1_draw_156 : decode cX1_draw 156 = .ok (.aload 4, 2) := dk_25 4 (dk_at dksX1_draw_6 19 rfl rfl)
theorem dX1_draw_158 : decode cX1_draw 158 = .ok (.iconst 1, 1) := dk_4 (dk_at dksX1_draw_6 21 rfl rfl)
theorem dX1_draw_159 : decode cX1_draw 159 = .ok (.putfield 287, 3) := dk_181 1 31 (dk_at dksX1_draw_7 0 rfl rfl)
theorem dX1_draw_162 : decode cX1_draw 162 = .ok (.aload 4, 2) := dk_25 4 (dk_at dksX1_draw_7 3 rfl rfl)
theorem dX1_draw_164 : decode cX1_draw 164 = .ok (.getfield 299, 3) := dk_180 1 43 (dk_at dksX1_draw_7 5 rfl rfl)
theorem dX1_draw_167 : decode cX1_draw 167 = .ok (.ireturn, 1) := dk_172 (dk_at dksX1_draw_7 8 rfl rfl)
abbrev cX1_verdict : ByteArray := prog_1_method_30_code
def yX1_verdict : MethodName := ⟨RX1, "verdict", "(II)I"⟩
def dkwX1_verdict_4 : List UInt8 := [182, 1, 49, 172]
abbrev dktX1_verdict_4 : List UInt8 := dkwX1_verdict_4 ++ []
def dkwX1_verdict_3 : List UInt8 := [28, 133, 97, 80, 42, 180, 0, 67, 45, 180, 0, 145, 4, 100, 92, 46, 4, 96, 79, 42, 45, 180, 0, 145]
abbrev dktX1_verdict_3 : List UInt8 := dkwX1_verdict_3 ++ dktX1_verdict_4
def dkwX1_verdict_2 : List UInt8 := [167, 0, 4, 3, 184, 0, 182, 45, 4, 181, 1, 46, 42, 180, 0, 63, 45, 180, 0, 145, 4, 100, 92, 47]
abbrev dktX1_verdict_2 : List UInt8 := dkwX1_verdict_2 ++ dktX1_verdict_3
def dkwX1_verdict_1 : List UInt8 := [45, 180, 1, 31, 153, 0, 21, 45, 180, 1, 46, 154, 0, 14, 45, 180, 0, 145, 158, 0, 7, 4]
abbrev dktX1_verdict_1 : List UInt8 := dkwX1_verdict_1 ++ dktX1_verdict_2
def dkwX1_verdict_0 : List UInt8 := [42, 180, 0, 42, 27, 182, 0, 136, 192, 0, 140, 78, 28, 133, 9, 20, 1, 44, 184, 0, 127, 184, 0, 131]
abbrev dktX1_verdict_0 : List UInt8 := dkwX1_verdict_0 ++ dktX1_verdict_1
theorem dksX1_verdict_0 : cX1_verdict.data.toList.drop 0 = dktX1_verdict_0 := by decide +kernel
theorem dksX1_verdict_1 : cX1_verdict.data.toList.drop 24 = dktX1_verdict_1 := dk_seg dksX1_verdict_0 24 rfl rfl
theorem dksX1_verdict_2 : cX1_verdict.data.toList.drop 46 = dktX1_verdict_2 := dk_seg dksX1_verdict_1 22 rfl rfl
theorem dksX1_verdict_3 : cX1_verdict.data.toList.drop 70 = dktX1_verdict_3 := dk_seg dksX1_verdict_2 24 rfl rfl
theorem dksX1_verdict_4 : cX1_verdict.data.toList.drop 94 = dktX1_verdict_4 := dk_seg dksX1_verdict_3 24 rfl rfl
theorem dX1_verdict_0 : decode cX1_verdict 0 = .ok (.aload_n 0, 1) := dk_42 (dk_at dksX1_verdict_0 0 rfl rfl)
theorem dX1_verdict_1 : decode cX1_verdict 1 = .ok (.getfield 42, 3) := dk_180 0 42 (dk_at dksX1_verdict_0 1 rfl rfl)
theorem dX1_verdict_4 : decode cX1_verdict 4 = .ok (.iload_n 1, 1) := dk_27 (dk_at dksX1_verdict_0 4 rfl rfl)
theorem dX1_verdict_5 : decode cX1_verdict 5 = .ok (.invokevirtual 136, 3) := dk_182 0 136 (dk_at dksX1_verdict_0 5 rfl rfl)
theorem dX1_verdict_8 : decode cX1_verdict 8 = .ok (.checkcast 140, 3) := dk_192 0 140 (dk_at dksX1_verdict_0 8 rfl rfl)
theorem dX1_verdict_11 : decode cX1_verdict 11 = .ok (.astore_n 3, 1) := dk_78 (dk_at dksX1_verdict_0 11 rfl rfl)
theorem dX1_verdict_12 : decode cX1_verdict 12 = .ok (.iload_n 2, 1) := dk_28 (dk_at dksX1_verdict_0 12 rfl rfl)
theorem dX1_verdict_13 : decode cX1_verdict 13 = .ok (.i2l, 1) := dk_133 (dk_at dksX1_verdict_0 13 rfl rfl)
theorem dX1_verdict_14 : decode cX1_verdict 14 = .ok (.lconst 0, 1) := dk_9 (dk_at dksX1_verdict_0 14 rfl rfl)
theorem dX1_verdict_15 : decode cX1_verdict 15 = .ok (.ldc2_w 300, 3) := dk_20 1 44 (dk_at dksX1_verdict_0 15 rfl rfl)
theorem dX1_verdict_18 : decode cX1_verdict 18 = .ok (.invokestatic 127, 3) := dk_184 0 127 (dk_at dksX1_verdict_0 18 rfl rfl)
theorem dX1_verdict_21 : decode cX1_verdict 21 = .ok (.invokestatic 131, 3) := dk_184 0 131 (dk_at dksX1_verdict_0 21 rfl rfl)
theorem dX1_verdict_24 : decode cX1_verdict 24 = .ok (.aload_n 3, 1) := dk_45 (dk_at dksX1_verdict_1 0 rfl rfl)
theorem dX1_verdict_25 : decode cX1_verdict 25 = .ok (.getfield 287, 3) := dk_180 1 31 (dk_at dksX1_verdict_1 1 rfl rfl)
theorem dX1_verdict_28 : decode cX1_verdict 28 = .ok (.ifCond .eq 21, 3) := dk_153 0 21 (dk_at dksX1_verdict_1 4 rfl rfl)
theorem dX1_verdict_31 : decode cX1_verdict 31 = .ok (.aload_n 3, 1) := dk_45 (dk_at dksX1_verdict_1 7 rfl rfl)
theorem dX1_verdict_32 : decode cX1_verdict 32 = .ok (.getfield 302, 3) := dk_180 1 46 (dk_at dksX1_verdict_1 8 rfl rfl)
theorem dX1_verdict_35 : decode cX1_verdict 35 = .ok (.ifCond .ne 14, 3) := dk_154 0 14 (dk_at dksX1_verdict_1 11 rfl rfl)
theorem dX1_verdict_38 : decode cX1_verdict 38 = .ok (.aload_n 3, 1) := dk_45 (dk_at dksX1_verdict_1 14 rfl rfl)
theorem dX1_verdict_39 : decode cX1_verdict 39 = .ok (.getfield 145, 3) := dk_180 0 145 (dk_at dksX1_verdict_1 15 rfl rfl)
theorem dX1_verdict_42 : decode cX1_verdict 42 = .ok (.ifCond .le 7, 3) := dk_158 0 7 (dk_at dksX1_verdict_1 18 rfl rfl)
theorem dX1_verdict_45 : decode cX1_verdict 45 = .ok (.iconst 1, 1) := dk_4 (dk_at dksX1_verdict_1 21 rfl rfl)
theorem dX1_verdict_46 : decode cX1_verdict 46 = .ok (.goto 4, 3) := dk_167 0 4 (dk_at dksX1_verdict_2 0 rfl rfl)
theorem dX1_verdict_49 : decode cX1_verdict 49 = .ok (.iconst 0, 1) := dk_3 (dk_at dksX1_verdict_2 3 rfl rfl)
theorem dX1_verdict_50 : decode cX1_verdict 50 = .ok (.invokestatic 182, 3) := dk_184 0 182 (dk_at dksX1_verdict_2 4 rfl rfl)
theorem dX1_verdict_53 : decode cX1_verdict 53 = .ok (.aload_n 3, 1) := dk_45 (dk_at dksX1_verdict_2 7 rfl rfl)
theorem dX1_verdict_54 : decode cX1_verdict 54 = .ok (.iconst 1, 1) := dk_4 (dk_at dksX1_verdict_2 8 rfl rfl)
theorem dX1_verdict_55 : decode cX1_verdict 55 = .ok (.putfield 302, 3) := dk_181 1 46 (dk_at dksX1_verdict_2 9 rfl rfl)
theorem dX1_verdict_58 : decode cX1_verdict 58 = .ok (.aload_n 0, 1) := dk_42 (dk_at dksX1_verdict_2 12 rfl rfl)
theorem dX1_verdict_59 : decode cX1_verdict 59 = .ok (.getfield 63, 3) := dk_180 0 63 (dk_at dksX1_verdict_2 13 rfl rfl)
theorem dX1_verdict_62 : decode cX1_verdict 62 = .ok (.aload_n 3, 1) := dk_45 (dk_at dksX1_verdict_2 16 rfl rfl)
theorem dX1_verdict_63 : decode cX1_verdict 63 = .ok (.getfield 145, 3) := dk_180 0 145 (dk_at dksX1_verdict_2 17 rfl rfl)
theorem dX1_verdict_66 : decode cX1_verdict 66 = .ok (.iconst 1, 1) := dk_4 (dk_at dksX1_verdict_2 20 rfl rfl)
theorem dX1_verdict_67 : decode cX1_verdict 67 = .ok (.isub, 1) := dk_100 (dk_at dksX1_verdict_2 21 rfl rfl)
theorem dX1_verdict_68 : decode cX1_verdict 68 = .ok (.dup2, 1) := dk_92 (dk_at dksX1_verdict_2 22 rfl rfl)
theorem dX1_verdict_69 : decode cX1_verdict 69 = .ok (.laload, 1) := dk_47 (dk_at dksX1_verdict_2 23 rfl rfl)
theorem dX1_verdict_70 : decode cX1_verdict 70 = .ok (.iload_n 2, 1) := dk_28 (dk_at dksX1_verdict_3 0 rfl rfl)
theorem dX1_verdict_71 : decode cX1_verdict 71 = .ok (.i2l, 1) := dk_133 (dk_at dksX1_verdict_3 1 rfl rfl)
theorem dX1_verdict_72 : decode cX1_verdict 72 = .ok (.ladd, 1) := dk_97 (dk_at dksX1_verdict_3 2 rfl rfl)
theorem dX1_verdict_73 : decode cX1_verdict 73 = .ok (.lastore, 1) := dk_80 (dk_at dksX1_verdict_3 3 rfl rfl)
theorem dX1_verdict_74 : decode cX1_verdict 74 = .ok (.aload_n 0, 1) := dk_42 (dk_at dksX1_verdict_3 4 rfl rfl)
theorem dX1_verdict_75 : decode cX1_verdict 75 = .ok (.getfield 67, 3) := dk_180 0 67 (dk_at dksX1_verdict_3 5 rfl rfl)
theorem dX1_verdict_78 : decode cX1_verdict 78 = .ok (.aload_n 3, 1) := dk_45 (dk_at dksX1_verdict_3 8 rfl rfl)
theorem dX1_verdict_79 : decode cX1_verdict 79 = .ok (.getfield 145, 3) := dk_180 0 145 (dk_at dksX1_verdict_3 9 rfl rfl)
theorem dX1_verdict_82 : decode cX1_verdict 82 = .ok (.iconst 1, 1) := dk_4 (dk_at dksX1_verdict_3 12 rfl rfl)
theorem dX1_verdict_83 : decode cX1_verdict 83 = .ok (.isub, 1) := dk_100 (dk_at dksX1_verdict_3 13 rfl rfl)
theorem dX1_verdict_84 : decode cX1_verdict 84 = .ok (.dup2, 1) := dk_92 (dk_at dksX1_verdict_3 14 rfl rfl)
theorem dX1_verdict_85 : decode cX1_verdict 85 = .ok (.iaload, 1) := dk_46 (dk_at dksX1_verdict_3 15 rfl rfl)
theorem dX1_verdict_86 : decode cX1_verdict 86 = .ok (.iconst 1, 1) := dk_4 (dk_at dksX1_verdict_3 16 rfl rfl)
theorem dX1_verdict_87 : decode cX1_verdict 87 = .ok (.iadd, 1) := dk_96 (dk_at dksX1_verdict_3 17 rfl rfl)
theorem dX1_verdict_88 : decode cX1_verdict 88 = .ok (.iastore, 1) := dk_79 (dk_at dksX1_verdict_3 18 rfl rfl)
theorem dX1_verdict_89 : decode cX1_verdict 89 = .ok (.aload_n 0, 1) := dk_42 (dk_at dksX1_verdict_3 19 rfl rfl)
theorem dX1_verdict_90 : decode cX1_verdict 90 = .ok (.aload_n 3, 1) := dk_45 (dk_at dksX1_verdict_3 20 rfl rfl)
theorem dX1_verdict_91 : decode cX1_verdict 91 = .ok (.getfield 145, 3) := dk_180 0 145 (dk_at dksX1_verdict_3 21 rfl rfl)
theorem dX1_verdict_94 : decode cX1_verdict 94 = .ok (.invokevirtual 305, 3) := dk_182 1 49 (dk_at dksX1_verdict_4 0 rfl rfl)
theorem dX1_verdict_97 : decode cX1_verdict 97 = .ok (.ireturn, 1) := dk_172 (dk_at dksX1_verdict_4 3 rfl rfl)
abbrev cX1_offered : ByteArray := prog_1_method_31_code
def yX1_offered : MethodName := ⟨RX1, "offered", "(I)I"⟩
def dkwX1_offered_1 : List UInt8 := [167, 0, 15, 42, 180, 0, 63, 27, 4, 100, 47, 28, 133, 109, 136, 172]
abbrev dktX1_offered_1 : List UInt8 := dkwX1_offered_1 ++ []
def dkwX1_offered_0 : List UInt8 := [42, 180, 0, 67, 27, 4, 100, 46, 61, 28, 154, 0, 16, 42, 180, 0, 60, 27, 4, 100, 50, 4, 46]
abbrev dktX1_offered_0 : List UInt8 := dkwX1_offered_0 ++ dktX1_offered_1
theorem dksX1_offered_0 : cX1_offered.data.toList.drop 0 = dktX1_offered_0 := by decide +kernel
theorem dksX1_offered_1 : cX1_offered.data.toList.drop 23 = dktX1_offered_1 := dk_seg dksX1_offered_0 23 rfl rfl
theorem dX1_offered_0 : decode cX1_offered 0 = .ok (.aload_n 0, 1) := dk_42 (dk_at dksX1_offered_0 0 rfl rfl)
theorem dX1_offered_1 : decode cX1_offered 1 = .ok (.getfield 67, 3) := dk_180 0 67 (dk_at dksX1_offered_0 1 rfl rfl)
theorem dX1_offered_4 : decode cX1_offered 4 = .ok (.iload_n 1, 1) := dk_27 (dk_at dksX1_offered_0 4 rfl rfl)
theorem dX1_offered_5 : decode cX1_offered 5 = .ok (.iconst 1, 1) := dk_4 (dk_at dksX1_offered_0 5 rfl rfl)
theorem dX1_offered_6 : decode cX1_offered 6 = .ok (.isub, 1) := dk_100 (dk_at dksX1_offered_0 6 rfl rfl)
theorem dX1_offered_7 : decode cX1_offered 7 = .ok (.iaload, 1) := dk_46 (dk_at dksX1_offered_0 7 rfl rfl)
theorem dX1_offered_8 : decode cX1_offered 8 = .ok (.istore_n 2, 1) := dk_61 (dk_at dksX1_offered_0 8 rfl rfl)
theorem dX1_offered_9 : decode cX1_offered 9 = .ok (.iload_n 2, 1) := dk_28 (dk_at dksX1_offered_0 9 rfl rfl)
theorem dX1_offered_10 : decode cX1_offered 10 = .ok (.ifCond .ne 16, 3) := dk_154 0 16 (dk_at dksX1_offered_0 10 rfl rfl)
theorem dX1_offered_13 : decode cX1_offered 13 = .ok (.aload_n 0, 1) := dk_42 (dk_at dksX1_offered_0 13 rfl rfl)
theorem dX1_offered_14 : decode cX1_offered 14 = .ok (.getfield 60, 3) := dk_180 0 60 (dk_at dksX1_offered_0 14 rfl rfl)
theorem dX1_offered_17 : decode cX1_offered 17 = .ok (.iload_n 1, 1) := dk_27 (dk_at dksX1_offered_0 17 rfl rfl)
theorem dX1_offered_18 : decode cX1_offered 18 = .ok (.iconst 1, 1) := dk_4 (dk_at dksX1_offered_0 18 rfl rfl)
theorem dX1_offered_19 : decode cX1_offered 19 = .ok (.isub, 1) := dk_100 (dk_at dksX1_offered_0 19 rfl rfl)
theorem dX1_offered_20 : decode cX1_offered 20 = .ok (.aaload, 1) := dk_50 (dk_at dksX1_offered_0 20 rfl rfl)
theorem dX1_offered_21 : decode cX1_offered 21 = .ok (.iconst 1, 1) := dk_4 (dk_at dksX1_offered_0 21 rfl rfl)
theorem dX1_offered_22 : decode cX1_offered 22 = .ok (.iaload, 1) := dk_46 (dk_at dksX1_offered_0 22 rfl rfl)
theorem dX1_offered_23 : decode cX1_offered 23 = .ok (.goto 15, 3) := dk_167 0 15 (dk_at dksX1_offered_1 0 rfl rfl)
theorem dX1_offered_26 : decode cX1_offered 26 = .ok (.aload_n 0, 1) := dk_42 (dk_at dksX1_offered_1 3 rfl rfl)
theorem dX1_offered_27 : decode cX1_offered 27 = .ok (.getfield 63, 3) := dk_180 0 63 (dk_at dksX1_offered_1 4 rfl rfl)
theorem dX1_offered_30 : decode cX1_offered 30 = .ok (.iload_n 1, 1) := dk_27 (dk_at dksX1_offered_1 7 rfl rfl)
theorem dX1_offered_31 : decode cX1_offered 31 = .ok (.iconst 1, 1) := dk_4 (dk_at dksX1_offered_1 8 rfl rfl)
theorem dX1_offered_32 : decode cX1_offered 32 = .ok (.isub, 1) := dk_100 (dk_at dksX1_offered_1 9 rfl rfl)
theorem dX1_offered_33 : decode cX1_offered 33 = .ok (.laload, 1) := dk_47 (dk_at dksX1_offered_1 10 rfl rfl)
theorem dX1_offered_34 : decode cX1_offered 34 = .ok (.iload_n 2, 1) := dk_28 (dk_at dksX1_offered_1 11 rfl rfl)
theorem dX1_offered_35 : decode cX1_offered 35 = .ok (.i2l, 1) := dk_133 (dk_at dksX1_offered_1 12 rfl rfl)
theorem dX1_offered_36 : decode cX1_offered 36 = .ok (.ldiv, 1) := dk_109 (dk_at dksX1_offered_1 13 rfl rfl)
theorem dX1_offered_37 : decode cX1_offered 37 = .ok (.l2i, 1) := dk_136 (dk_at dksX1_offered_1 14 rfl rfl)
theorem dX1_offered_38 : decode cX1_offered 38 = .ok (.ireturn, 1) := dk_172 (dk_at dksX1_offered_1 15 rfl rfl)
abbrev cX1_offer : ByteArray := prog_1_method_33_code
def yX1_offer : MethodName := ⟨RX1, "offer", "(I)I"⟩
def dkwX1_offer_0 : List UInt8 := [27, 184, 1, 52, 42, 27, 182, 1, 49, 172]
abbrev dktX1_offer_0 : List UInt8 := dkwX1_offer_0 ++ []
theorem dksX1_offer_0 : cX1_offer.data.toList.drop 0 = dktX1_offer_0 := by decide +kernel
theorem dX1_offer_0 : decode cX1_offer 0 = .ok (.iload_n 1, 1) := dk_27 (dk_at dksX1_offer_0 0 rfl rfl)
theorem dX1_offer_1 : decode cX1_offer 1 = .ok (.invokestatic 308, 3) := dk_184 1 52 (dk_at dksX1_offer_0 1 rfl rfl)
theorem dX1_offer_4 : decode cX1_offer 4 = .ok (.aload_n 0, 1) := dk_42 (dk_at dksX1_offer_0 4 rfl rfl)
theorem dX1_offer_5 : decode cX1_offer 5 = .ok (.iload_n 1, 1) := dk_27 (dk_at dksX1_offer_0 5 rfl rfl)
theorem dX1_offer_6 : decode cX1_offer 6 = .ok (.invokevirtual 305, 3) := dk_182 1 49 (dk_at dksX1_offer_0 6 rfl rfl)
theorem dX1_offer_9 : decode cX1_offer 9 = .ok (.ireturn, 1) := dk_172 (dk_at dksX1_offer_0 9 rfl rfl)
abbrev cX1_requireLevel : ByteArray := prog_1_method_32_code
def yX1_requireLevel : MethodName := ⟨RX1, "requireLevel", "(I)V"⟩
def dkwX1_requireLevel_0 : List UInt8 := [26, 133, 10, 20, 0, 177, 184, 0, 127, 184, 1, 19, 177]
abbrev dktX1_requireLevel_0 : List UInt8 := dkwX1_requireLevel_0 ++ []
theorem dksX1_requireLevel_0 : cX1_requireLevel.data.toList.drop 0 = dktX1_requireLevel_0 := by decide +kernel
theorem dX1_requireLevel_0 : decode cX1_requireLevel 0 = .ok (.iload_n 0, 1) := dk_26 (dk_at dksX1_requireLevel_0 0 rfl rfl)
theorem dX1_requireLevel_1 : decode cX1_requireLevel 1 = .ok (.i2l, 1) := dk_133 (dk_at dksX1_requireLevel_0 1 rfl rfl)
theorem dX1_requireLevel_2 : decode cX1_requireLevel 2 = .ok (.lconst 1, 1) := dk_10 (dk_at dksX1_requireLevel_0 2 rfl rfl)
theorem dX1_requireLevel_3 : decode cX1_requireLevel 3 = .ok (.ldc2_w 177, 3) := dk_20 0 177 (dk_at dksX1_requireLevel_0 3 rfl rfl)
theorem dX1_requireLevel_6 : decode cX1_requireLevel 6 = .ok (.invokestatic 127, 3) := dk_184 0 127 (dk_at dksX1_requireLevel_0 6 rfl rfl)
theorem dX1_requireLevel_9 : decode cX1_requireLevel 9 = .ok (.invokestatic 275, 3) := dk_184 1 19 (dk_at dksX1_requireLevel_0 9 rfl rfl)
theorem dX1_requireLevel_12 : decode cX1_requireLevel 12 = .ok (.return_, 1) := dk_177 (dk_at dksX1_requireLevel_0 12 rfl rfl)
abbrev cX1_defendant : ByteArray := prog_1_method_35_code
def yX1_defendant : MethodName := ⟨RX1, "defendant", "(II)I"⟩
def dkwX1_defendant_3 : List UInt8 := [182, 0, 135, 27, 28, 183, 1, 67, 182, 0, 174, 172]
abbrev dktX1_defendant_3 : List UInt8 := dkwX1_defendant_3 ++ []
def dkwX1_defendant_2 : List UInt8 := [154, 0, 7, 4, 167, 0, 4, 3, 184, 0, 182, 42, 180, 0, 49, 187, 1, 55, 89, 42, 180, 0, 49]
abbrev dktX1_defendant_2 : List UInt8 := dkwX1_defendant_2 ++ dktX1_defendant_3
def dkwX1_defendant_1 : List UInt8 := [133, 9, 20, 1, 65, 184, 0, 127, 153, 0, 7, 4, 167, 0, 4, 3, 184, 0, 131, 42, 182, 0, 225]
abbrev dktX1_defendant_1 : List UInt8 := dkwX1_defendant_1 ++ dktX1_defendant_2
def dkwX1_defendant_0 : List UInt8 := [27, 133, 10, 20, 1, 60, 184, 0, 127, 153, 0, 30, 27, 42, 182, 1, 62, 96, 16, 100, 163, 0, 19, 28]
abbrev dktX1_defendant_0 : List UInt8 := dkwX1_defendant_0 ++ dktX1_defendant_1
theorem dksX1_defendant_0 : cX1_defendant.data.toList.drop 0 = dktX1_defendant_0 := by decide +kernel
theorem dksX1_defendant_1 : cX1_defendant.data.toList.drop 24 = dktX1_defendant_1 := dk_seg dksX1_defendant_0 24 rfl rfl
theorem dksX1_defendant_2 : cX1_defendant.data.toList.drop 47 = dktX1_defendant_2 := dk_seg dksX1_defendant_1 23 rfl rfl
theorem dksX1_defendant_3 : cX1_defendant.data.toList.drop 70 = dktX1_defendant_3 := dk_seg dksX1_defendant_2 23 rfl rfl
theorem dX1_defendant_0 : decode cX1_defendant 0 = .ok (.iload_n 1, 1) := dk_27 (dk_at dksX1_defendant_0 0 rfl rfl)
theorem dX1_defendant_1 : decode cX1_defendant 1 = .ok (.i2l, 1) := dk_133 (dk_at dksX1_defendant_0 1 rfl rfl)
theorem dX1_defendant_2 : decode cX1_defendant 2 = .ok (.lconst 1, 1) := dk_10 (dk_at dksX1_defendant_0 2 rfl rfl)
theorem dX1_defendant_3 : decode cX1_defendant 3 = .ok (.ldc2_w 316, 3) := dk_20 1 60 (dk_at dksX1_defendant_0 3 rfl rfl)
theorem dX1_defendant_6 : decode cX1_defendant 6 = .ok (.invokestatic 127, 3) := dk_184 0 127 (dk_at dksX1_defendant_0 6 rfl rfl)
theorem dX1_defendant_9 : decode cX1_defendant 9 = .ok (.ifCond .eq 30, 3) := dk_153 0 30 (dk_at dksX1_defendant_0 9 rfl rfl)
theorem dX1_defendant_12 : decode cX1_defendant 12 = .ok (.iload_n 1, 1) := dk_27 (dk_at dksX1_defendant_0 12 rfl rfl)
theorem dX1_defendant_13 : decode cX1_defendant 13 = .ok (.aload_n 0, 1) := dk_42 (dk_at dksX1_defendant_0 13 rfl rfl)
theorem dX1_defendant_14 : decode cX1_defendant 14 = .ok (.invokevirtual 318, 3) := dk_182 1 62 (dk_at dksX1_defendant_0 14 rfl rfl)
theorem dX1_defendant_17 : decode cX1_defendant 17 = .ok (.iadd, 1) := dk_96 (dk_at dksX1_defendant_0 17 rfl rfl)
theorem dX1_defendant_18 : decode cX1_defendant 18 = .ok (.bipush 100, 2) := dk_16 100 (dk_at dksX1_defendant_0 18 rfl rfl)
theorem dX1_defendant_20 : decode cX1_defendant 20 = .ok (.if_icmp .gt 19, 3) := dk_163 0 19 (dk_at dksX1_defendant_0 20 rfl rfl)
theorem dX1_defendant_23 : decode cX1_defendant 23 = .ok (.iload_n 2, 1) := dk_28 (dk_at dksX1_defendant_0 23 rfl rfl)
theorem dX1_defendant_24 : decode cX1_defendant 24 = .ok (.i2l, 1) := dk_133 (dk_at dksX1_defendant_1 0 rfl rfl)
theorem dX1_defendant_25 : decode cX1_defendant 25 = .ok (.lconst 0, 1) := dk_9 (dk_at dksX1_defendant_1 1 rfl rfl)
theorem dX1_defendant_26 : decode cX1_defendant 26 = .ok (.ldc2_w 321, 3) := dk_20 1 65 (dk_at dksX1_defendant_1 2 rfl rfl)
theorem dX1_defendant_29 : decode cX1_defendant 29 = .ok (.invokestatic 127, 3) := dk_184 0 127 (dk_at dksX1_defendant_1 5 rfl rfl)
theorem dX1_defendant_32 : decode cX1_defendant 32 = .ok (.ifCond .eq 7, 3) := dk_153 0 7 (dk_at dksX1_defendant_1 8 rfl rfl)
theorem dX1_defendant_35 : decode cX1_defendant 35 = .ok (.iconst 1, 1) := dk_4 (dk_at dksX1_defendant_1 11 rfl rfl)
theorem dX1_defendant_36 : decode cX1_defendant 36 = .ok (.goto 4, 3) := dk_167 0 4 (dk_at dksX1_defendant_1 12 rfl rfl)
theorem dX1_defendant_39 : decode cX1_defendant 39 = .ok (.iconst 0, 1) := dk_3 (dk_at dksX1_defendant_1 15 rfl rfl)
theorem dX1_defendant_40 : decode cX1_defendant 40 = .ok (.invokestatic 131, 3) := dk_184 0 131 (dk_at dksX1_defendant_1 16 rfl rfl)
theorem dX1_defendant_43 : decode cX1_defendant 43 = .ok (.aload_n 0, 1) := dk_42 (dk_at dksX1_defendant_1 19 rfl rfl)
theorem dX1_defendant_44 : decode cX1_defendant 44 = .ok (.invokevirtual 225, 3) := dk_182 0 225 (dk_at dksX1_defendant_1 20 rfl rfl)
theorem dX1_defendant_47 : decode cX1_defendant 47 = .ok (.ifCond .ne 7, 3) := dk_154 0 7 (dk_at dksX1_defendant_2 0 rfl rfl)
theorem dX1_defendant_50 : decode cX1_defendant 50 = .ok (.iconst 1, 1) := dk_4 (dk_at dksX1_defendant_2 3 rfl rfl)
theorem dX1_defendant_51 : decode cX1_defendant 51 = .ok (.goto 4, 3) := dk_167 0 4 (dk_at dksX1_defendant_2 4 rfl rfl)
theorem dX1_defendant_54 : decode cX1_defendant 54 = .ok (.iconst 0, 1) := dk_3 (dk_at dksX1_defendant_2 7 rfl rfl)
theorem dX1_defendant_55 : decode cX1_defendant 55 = .ok (.invokestatic 182, 3) := dk_184 0 182 (dk_at dksX1_defendant_2 8 rfl rfl)
theorem dX1_defendant_58 : decode cX1_defendant 58 = .ok (.aload_n 0, 1) := dk_42 (dk_at dksX1_defendant_2 11 rfl rfl)
theorem dX1_defendant_59 : decode cX1_defendant 59 = .ok (.getfield 49, 3) := dk_180 0 49 (dk_at dksX1_defendant_2 12 rfl rfl)
theorem dX1_defendant_62 : decode cX1_defendant 62 = .ok (.new 311, 3) := dk_187 1 55 (dk_at dksX1_defendant_2 15 rfl rfl)
theorem dX1_defendant_65 : decode cX1_defendant 65 = .ok (.dup, 1) := dk_89 (dk_at dksX1_defendant_2 18 rfl rfl)
theorem dX1_defendant_66 : decode cX1_defendant 66 = .ok (.aload_n 0, 1) := dk_42 (dk_at dksX1_defendant_2 19 rfl rfl)
theorem dX1_defendant_67 : decode cX1_defendant 67 = .ok (.getfield 49, 3) := dk_180 0 49 (dk_at dksX1_defendant_2 20 rfl rfl)
theorem dX1_defendant_70 : decode cX1_defendant 70 = .ok (.invokevirtual 135, 3) := dk_182 0 135 (dk_at dksX1_defendant_3 0 rfl rfl)
theorem dX1_defendant_73 : decode cX1_defendant 73 = .ok (.iload_n 1, 1) := dk_27 (dk_at dksX1_defendant_3 3 rfl rfl)
theorem dX1_defendant_74 : decode cX1_defendant 74 = .ok (.iload_n 2, 1) := dk_28 (dk_at dksX1_defendant_3 4 rfl rfl)
theorem dX1_defendant_75 : decode cX1_defendant 75 = .ok (.invokespecial 323, 3) := dk_183 1 67 (dk_at dksX1_defendant_3 5 rfl rfl)
theorem dX1_defendant_78 : decode cX1_defendant 78 = .ok (.invokevirtual 174, 3) := dk_182 0 174 (dk_at dksX1_defendant_3 8 rfl rfl)
theorem dX1_defendant_81 : decode cX1_defendant 81 = .ok (.ireturn, 1) := dk_172 (dk_at dksX1_defendant_3 11 rfl rfl)
abbrev cX1_shares : ByteArray := prog_1_method_34_code
def yX1_shares : MethodName := ⟨RX1, "shares", "()I"⟩
def dkwX1_shares_1 : List UInt8 := [185, 0, 217, 1, 0, 192, 1, 55, 78, 27, 45, 180, 1, 57, 96, 60, 167, 255, 230, 27, 172]
abbrev dktX1_shares_1 : List UInt8 := dkwX1_shares_1 ++ []
def dkwX1_shares_0 : List UInt8 := [3, 60, 42, 180, 0, 49, 182, 0, 208, 77, 44, 185, 0, 212, 1, 0, 153, 0, 23, 44]
abbrev dktX1_shares_0 : List UInt8 := dkwX1_shares_0 ++ dktX1_shares_1
theorem dksX1_shares_0 : cX1_shares.data.toList.drop 0 = dktX1_shares_0 := by decide +kernel
theorem dksX1_shares_1 : cX1_shares.data.toList.drop 20 = dktX1_shares_1 := dk_seg dksX1_shares_0 20 rfl rfl
theorem dX1_shares_0 : decode cX1_shares 0 = .ok (.iconst 0, 1) := dk_3 (dk_at dksX1_shares_0 0 rfl rfl)
theorem dX1_shares_1 : decode cX1_shares 1 = .ok (.istore_n 1, 1) := dk_60 (dk_at dksX1_shares_0 1 rfl rfl)
theorem dX1_shares_2 : decode cX1_shares 2 = .ok (.aload_n 0, 1) := dk_42 (dk_at dksX1_shares_0 2 rfl rfl)
theorem dX1_shares_3 : decode cX1_shares 3 = .ok (.getfield 49, 3) := dk_180 0 49 (dk_at dksX1_shares_0 3 rfl rfl)
theorem dX1_shares_6 : decode cX1_shares 6 = .ok (.invokevirtual 208, 3) := dk_182 0 208 (dk_at dksX1_shares_0 6 rfl rfl)
theorem dX1_shares_9 : decode cX1_shares 9 = .ok (.astore_n 2, 1) := dk_77 (dk_at dksX1_shares_0 9 rfl rfl)
theorem dX1_shares_10 : decode cX1_shares 10 = .ok (.aload_n 2, 1) := dk_44 (dk_at dksX1_shares_0 10 rfl rfl)
theorem dX1_shares_11 : decode cX1_shares 11 = .ok (.invokeinterface 212 1, 5) := by decide +kernel
theorem dX1_shares_16 : decode cX1_shares 16 = .ok (.ifCond .eq 23, 3) := dk_153 0 23 (dk_at dksX1_shares_0 16 rfl rfl)
theorem dX1_shares_19 : decode cX1_shares 19 = .ok (.aload_n 2, 1) := dk_44 (dk_at dksX1_shares_0 19 rfl rfl)
theorem dX1_shares_20 : decode cX1_shares 20 = .ok (.invokeinterface 217 1, 5) := by decide +kernel
theorem dX1_shares_25 : decode cX1_shares 25 = .ok (.checkcast 311, 3) := dk_192 1 55 (dk_at dksX1_shares_1 5 rfl rfl)
theorem dX1_shares_28 : decode cX1_shares 28 = .ok (.astore_n 3, 1) := dk_78 (dk_at dksX1_shares_1 8 rfl rfl)
theorem dX1_shares_29 : decode cX1_shares 29 = .ok (.iload_n 1, 1) := dk_27 (dk_at dksX1_shares_1 9 rfl rfl)
theorem dX1_shares_30 : decode cX1_shares 30 = .ok (.aload_n 3, 1) := dk_45 (dk_at dksX1_shares_1 10 rfl rfl)
theorem dX1_shares_31 : decode cX1_shares 31 = .ok (.getfield 313, 3) := dk_180 1 57 (dk_at dksX1_shares_1 11 rfl rfl)
theorem dX1_shares_34 : decode cX1_shares 34 = .ok (.iadd, 1) := dk_96 (dk_at dksX1_shares_1 14 rfl rfl)
theorem dX1_shares_35 : decode cX1_shares 35 = .ok (.istore_n 1, 1) := dk_60 (dk_at dksX1_shares_1 15 rfl rfl)
theorem dX1_shares_36 : decode cX1_shares 36 = .ok (.goto (-26), 3) := dk_167 255 230 (dk_at dksX1_shares_1 16 rfl rfl)
theorem dX1_shares_39 : decode cX1_shares 39 = .ok (.iload_n 1, 1) := dk_27 (dk_at dksX1_shares_1 19 rfl rfl)
theorem dX1_shares_40 : decode cX1_shares 40 = .ok (.ireturn, 1) := dk_172 (dk_at dksX1_shares_1 20 rfl rfl)
abbrev cX1_payIn : ByteArray := prog_1_method_36_code
def yX1_payIn : MethodName := ⟨RX1, "payIn", "(II)J"⟩
def dkwX1_payIn_4 : List UInt8 := [180, 0, 111, 22, 4, 97, 181, 0, 111, 22, 4, 173]
abbrev dktX1_payIn_4 : List UInt8 := dkwX1_payIn_4 ++ []
def dkwX1_payIn_3 : List UInt8 := [89, 180, 1, 76, 22, 4, 136, 100, 181, 1, 76, 45, 89, 180, 1, 85, 22, 4, 97, 181, 1, 85, 42, 89]
abbrev dktX1_payIn_3 : List UInt8 := dkwX1_payIn_3 ++ dktX1_payIn_4
def dkwX1_payIn_2 : List UInt8 := [180, 1, 76, 133, 184, 1, 79, 184, 1, 79, 55, 4, 45, 89, 180, 1, 73, 22, 4, 101, 181, 1, 73, 45]
abbrev dktX1_payIn_2 : List UInt8 := dkwX1_payIn_2 ++ dktX1_payIn_3
def dkwX1_payIn_1 : List UInt8 := [45, 180, 1, 70, 154, 0, 7, 4, 167, 0, 4, 3, 184, 0, 182, 28, 133, 45, 180, 1, 73, 45]
abbrev dktX1_payIn_1 : List UInt8 := dkwX1_payIn_1 ++ dktX1_payIn_2
def dkwX1_payIn_0 : List UInt8 := [42, 180, 0, 49, 27, 182, 0, 136, 192, 1, 55, 78, 28, 133, 10, 20, 1, 65, 184, 0, 127, 184, 0, 131]
abbrev dktX1_payIn_0 : List UInt8 := dkwX1_payIn_0 ++ dktX1_payIn_1
theorem dksX1_payIn_0 : cX1_payIn.data.toList.drop 0 = dktX1_payIn_0 := by decide +kernel
theorem dksX1_payIn_1 : cX1_payIn.data.toList.drop 24 = dktX1_payIn_1 := dk_seg dksX1_payIn_0 24 rfl rfl
theorem dksX1_payIn_2 : cX1_payIn.data.toList.drop 46 = dktX1_payIn_2 := dk_seg dksX1_payIn_1 22 rfl rfl
theorem dksX1_payIn_3 : cX1_payIn.data.toList.drop 70 = dktX1_payIn_3 := dk_seg dksX1_payIn_2 24 rfl rfl
theorem dksX1_payIn_4 : cX1_payIn.data.toList.drop 94 = dktX1_payIn_4 := dk_seg dksX1_payIn_3 24 rfl rfl
theorem dX1_payIn_0 : decode cX1_payIn 0 = .ok (.aload_n 0, 1) := dk_42 (dk_at dksX1_payIn_0 0 rfl rfl)
theorem dX1_payIn_1 : decode cX1_payIn 1 = .ok (.getfield 49, 3) := dk_180 0 49 (dk_at dksX1_payIn_0 1 rfl rfl)
theorem dX1_payIn_4 : decode cX1_payIn 4 = .ok (.iload_n 1, 1) := dk_27 (dk_at dksX1_payIn_0 4 rfl rfl)
theorem dX1_payIn_5 : decode cX1_payIn 5 = .ok (.invokevirtual 136, 3) := dk_182 0 136 (dk_at dksX1_payIn_0 5 rfl rfl)
theorem dX1_payIn_8 : decode cX1_payIn 8 = .ok (.checkcast 311, 3) := dk_192 1 55 (dk_at dksX1_payIn_0 8 rfl rfl)
theorem dX1_payIn_11 : decode cX1_payIn 11 = .ok (.astore_n 3, 1) := dk_78 (dk_at dksX1_payIn_0 11 rfl rfl)
theorem dX1_payIn_12 : decode cX1_payIn 12 = .ok (.iload_n 2, 1) := dk_28 (dk_at dksX1_payIn_0 12 rfl rfl)
theorem dX1_payIn_13 : decode cX1_payIn 13 = .ok (.i2l, 1) := dk_133 (dk_at dksX1_payIn_0 13 rfl rfl)
theorem dX1_payIn_14 : decode cX1_payIn 14 = .ok (.lconst 1, 1) := dk_10 (dk_at dksX1_payIn_0 14 rfl rfl)
theorem dX1_payIn_15 : decode cX1_payIn 15 = .ok (.ldc2_w 321, 3) := dk_20 1 65 (dk_at dksX1_payIn_0 15 rfl rfl)
theorem dX1_payIn_18 : decode cX1_payIn 18 = .ok (.invokestatic 127, 3) := dk_184 0 127 (dk_at dksX1_payIn_0 18 rfl rfl)
theorem dX1_payIn_21 : decode cX1_payIn 21 = .ok (.invokestatic 131, 3) := dk_184 0 131 (dk_at dksX1_payIn_0 21 rfl rfl)
theorem dX1_payIn_24 : decode cX1_payIn 24 = .ok (.aload_n 3, 1) := dk_45 (dk_at dksX1_payIn_1 0 rfl rfl)
theorem dX1_payIn_25 : decode cX1_payIn 25 = .ok (.getfield 326, 3) := dk_180 1 70 (dk_at dksX1_payIn_1 1 rfl rfl)
theorem dX1_payIn_28 : decode cX1_payIn 28 = .ok (.ifCond .ne 7, 3) := dk_154 0 7 (dk_at dksX1_payIn_1 4 rfl rfl)
theorem dX1_payIn_31 : decode cX1_payIn 31 = .ok (.iconst 1, 1) := dk_4 (dk_at dksX1_payIn_1 7 rfl rfl)
theorem dX1_payIn_32 : decode cX1_payIn 32 = .ok (.goto 4, 3) := dk_167 0 4 (dk_at dksX1_payIn_1 8 rfl rfl)
theorem dX1_payIn_35 : decode cX1_payIn 35 = .ok (.iconst 0, 1) := dk_3 (dk_at dksX1_payIn_1 11 rfl rfl)
theorem dX1_payIn_36 : decode cX1_payIn 36 = .ok (.invokestatic 182, 3) := dk_184 0 182 (dk_at dksX1_payIn_1 12 rfl rfl)
theorem dX1_payIn_39 : decode cX1_payIn 39 = .ok (.iload_n 2, 1) := dk_28 (dk_at dksX1_payIn_1 15 rfl rfl)
theorem dX1_payIn_40 : decode cX1_payIn 40 = .ok (.i2l, 1) := dk_133 (dk_at dksX1_payIn_1 16 rfl rfl)
theorem dX1_payIn_41 : decode cX1_payIn 41 = .ok (.aload_n 3, 1) := dk_45 (dk_at dksX1_payIn_1 17 rfl rfl)
theorem dX1_payIn_42 : decode cX1_payIn 42 = .ok (.getfield 329, 3) := dk_180 1 73 (dk_at dksX1_payIn_1 18 rfl rfl)
theorem dX1_payIn_45 : decode cX1_payIn 45 = .ok (.aload_n 3, 1) := dk_45 (dk_at dksX1_payIn_1 21 rfl rfl)
theorem dX1_payIn_46 : decode cX1_payIn 46 = .ok (.getfield 332, 3) := dk_180 1 76 (dk_at dksX1_payIn_2 0 rfl rfl)
theorem dX1_payIn_49 : decode cX1_payIn 49 = .ok (.i2l, 1) := dk_133 (dk_at dksX1_payIn_2 3 rfl rfl)
theorem dX1_payIn_50 : decode cX1_payIn 50 = .ok (.invokestatic 335, 3) := dk_184 1 79 (dk_at dksX1_payIn_2 4 rfl rfl)
theorem dX1_payIn_53 : decode cX1_payIn 53 = .ok (.invokestatic 335, 3) := dk_184 1 79 (dk_at dksX1_payIn_2 7 rfl rfl)
theorem dX1_payIn_56 : decode cX1_payIn 56 = .ok (.lstore 4, 2) := dk_55 4 (dk_at dksX1_payIn_2 10 rfl rfl)
theorem dX1_payIn_58 : decode cX1_payIn 58 = .ok (.aload_n 3, 1) := dk_45 (dk_at dksX1_payIn_2 12 rfl rfl)
theorem dX1_payIn_59 : decode cX1_payIn 59 = .ok (.dup, 1) := dk_89 (dk_at dksX1_payIn_2 13 rfl rfl)
theorem dX1_payIn_60 : decode cX1_payIn 60 = .ok (.getfield 329, 3) := dk_180 1 73 (dk_at dksX1_payIn_2 14 rfl rfl)
theorem dX1_payIn_63 : decode cX1_payIn 63 = .ok (.lload 4, 2) := dk_22 4 (dk_at dksX1_payIn_2 17 rfl rfl)
theorem dX1_payIn_65 : decode cX1_payIn 65 = .ok (.lsub, 1) := dk_101 (dk_at dksX1_payIn_2 19 rfl rfl)
theorem dX1_payIn_66 : decode cX1_payIn 66 = .ok (.putfield 329, 3) := dk_181 1 73 (dk_at dksX1_payIn_2 20 rfl rfl)
theorem dX1_payIn_69 : decode cX1_payIn 69 = .ok (.aload_n 3, 1) := dk_45 (dk_at dksX1_payIn_2 23 rfl rfl)
theorem dX1_payIn_70 : decode cX1_payIn 70 = .ok (.dup, 1) := dk_89 (dk_at dksX1_payIn_3 0 rfl rfl)
theorem dX1_payIn_71 : decode cX1_payIn 71 = .ok (.getfield 332, 3) := dk_180 1 76 (dk_at dksX1_payIn_3 1 rfl rfl)
theorem dX1_payIn_74 : decode cX1_payIn 74 = .ok (.lload 4, 2) := dk_22 4 (dk_at dksX1_payIn_3 4 rfl rfl)
theorem dX1_payIn_76 : decode cX1_payIn 76 = .ok (.l2i, 1) := dk_136 (dk_at dksX1_payIn_3 6 rfl rfl)
theorem dX1_payIn_77 : decode cX1_payIn 77 = .ok (.isub, 1) := dk_100 (dk_at dksX1_payIn_3 7 rfl rfl)
theorem dX1_payIn_78 : decode cX1_payIn 78 = .ok (.putfield 332, 3) := dk_181 1 76 (dk_at dksX1_payIn_3 8 rfl rfl)
theorem dX1_payIn_81 : decode cX1_payIn 81 = .ok (.aload_n 3, 1) := dk_45 (dk_at dksX1_payIn_3 11 rfl rfl)
theorem dX1_payIn_82 : decode cX1_payIn 82 = .ok (.dup, 1) := dk_89 (dk_at dksX1_payIn_3 12 rfl rfl)
theorem dX1_payIn_83 : decode cX1_payIn 83 = .ok (.getfield 341, 3) := dk_180 1 85 (dk_at dksX1_payIn_3 13 rfl rfl)
theorem dX1_payIn_86 : decode cX1_payIn 86 = .ok (.lload 4, 2) := dk_22 4 (dk_at dksX1_payIn_3 16 rfl rfl)
theorem dX1_payIn_88 : decode cX1_payIn 88 = .ok (.ladd, 1) := dk_97 (dk_at dksX1_payIn_3 18 rfl rfl)
theorem dX1_payIn_89 : decode cX1_payIn 89 = .ok (.putfield 341, 3) := dk_181 1 85 (dk_at dksX1_payIn_3 19 rfl rfl)
theorem dX1_payIn_92 : decode cX1_payIn 92 = .ok (.aload_n 0, 1) := dk_42 (dk_at dksX1_payIn_3 22 rfl rfl)
theorem dX1_payIn_93 : decode cX1_payIn 93 = .ok (.dup, 1) := dk_89 (dk_at dksX1_payIn_3 23 rfl rfl)
theorem dX1_payIn_94 : decode cX1_payIn 94 = .ok (.getfield 111, 3) := dk_180 0 111 (dk_at dksX1_payIn_4 0 rfl rfl)
theorem dX1_payIn_97 : decode cX1_payIn 97 = .ok (.lload 4, 2) := dk_22 4 (dk_at dksX1_payIn_4 3 rfl rfl)
theorem dX1_payIn_99 : decode cX1_payIn 99 = .ok (.ladd, 1) := dk_97 (dk_at dksX1_payIn_4 5 rfl rfl)
theorem dX1_payIn_100 : decode cX1_payIn 100 = .ok (.putfield 111, 3) := dk_181 0 111 (dk_at dksX1_payIn_4 6 rfl rfl)
theorem dX1_payIn_103 : decode cX1_payIn 103 = .ok (.lload 4, 2) := dk_22 4 (dk_at dksX1_payIn_4 9 rfl rfl)
theorem dX1_payIn_105 : decode cX1_payIn 105 = .ok (.lreturn, 1) := dk_173 (dk_at dksX1_payIn_4 11 rfl rfl)
abbrev cX1_fail : ByteArray := prog_1_method_38_code
def yX1_fail : MethodName := ⟨RX1, "fail", "(I)J"⟩
def dkwX1_fail_2 : List UInt8 := [42, 33, 182, 1, 99, 153, 0, 7, 4, 167, 0, 4, 3, 54, 5, 33, 173]
abbrev dktX1_fail_2 : List UInt8 := dkwX1_fail_2 ++ []
def dkwX1_fail_1 : List UInt8 := [184, 0, 182, 44, 180, 1, 73, 66, 44, 4, 181, 1, 70, 44, 9, 181, 1, 73, 33, 9, 148, 158, 0, 15]
abbrev dktX1_fail_1 : List UInt8 := dkwX1_fail_1 ++ dktX1_fail_2
def dkwX1_fail_0 : List UInt8 := [42, 180, 0, 49, 27, 182, 0, 136, 192, 1, 55, 77, 44, 180, 1, 70, 154, 0, 7, 4, 167, 0, 4, 3]
abbrev dktX1_fail_0 : List UInt8 := dkwX1_fail_0 ++ dktX1_fail_1
theorem dksX1_fail_0 : cX1_fail.data.toList.drop 0 = dktX1_fail_0 := by decide +kernel
theorem dksX1_fail_1 : cX1_fail.data.toList.drop 24 = dktX1_fail_1 := dk_seg dksX1_fail_0 24 rfl rfl
theorem dksX1_fail_2 : cX1_fail.data.toList.drop 48 = dktX1_fail_2 := dk_seg dksX1_fail_1 24 rfl rfl
theorem dX1_fail_0 : decode cX1_fail 0 = .ok (.aload_n 0, 1) := dk_42 (dk_at dksX1_fail_0 0 rfl rfl)
theorem dX1_fail_1 : decode cX1_fail 1 = .ok (.getfield 49, 3) := dk_180 0 49 (dk_at dksX1_fail_0 1 rfl rfl)
theorem dX1_fail_4 : decode cX1_fail 4 = .ok (.iload_n 1, 1) := dk_27 (dk_at dksX1_fail_0 4 rfl rfl)
theorem dX1_fail_5 : decode cX1_fail 5 = .ok (.invokevirtual 136, 3) := dk_182 0 136 (dk_at dksX1_fail_0 5 rfl rfl)
theorem dX1_fail_8 : decode cX1_fail 8 = .ok (.checkcast 311, 3) := dk_192 1 55 (dk_at dksX1_fail_0 8 rfl rfl)
theorem dX1_fail_11 : decode cX1_fail 11 = .ok (.astore_n 2, 1) := dk_77 (dk_at dksX1_fail_0 11 rfl rfl)
theorem dX1_fail_12 : decode cX1_fail 12 = .ok (.aload_n 2, 1) := dk_44 (dk_at dksX1_fail_0 12 rfl rfl)
theorem dX1_fail_13 : decode cX1_fail 13 = .ok (.getfield 326, 3) := dk_180 1 70 (dk_at dksX1_fail_0 13 rfl rfl)
theorem dX1_fail_16 : decode cX1_fail 16 = .ok (.ifCond .ne 7, 3) := dk_154 0 7 (dk_at dksX1_fail_0 16 rfl rfl)
theorem dX1_fail_19 : decode cX1_fail 19 = .ok (.iconst 1, 1) := dk_4 (dk_at dksX1_fail_0 19 rfl rfl)
theorem dX1_fail_20 : decode cX1_fail 20 = .ok (.goto 4, 3) := dk_167 0 4 (dk_at dksX1_fail_0 20 rfl rfl)
theorem dX1_fail_23 : decode cX1_fail 23 = .ok (.iconst 0, 1) := dk_3 (dk_at dksX1_fail_0 23 rfl rfl)
theorem dX1_fail_24 : decode cX1_fail 24 = .ok (.invokestatic 182, 3) := dk_184 0 182 (dk_at dksX1_fail_1 0 rfl rfl)
theorem dX1_fail_27 : decode cX1_fail 27 = .ok (.aload_n 2, 1) := dk_44 (dk_at dksX1_fail_1 3 rfl rfl)
theorem dX1_fail_28 : decode cX1_fail 28 = .ok (.getfield 329, 3) := dk_180 1 73 (dk_at dksX1_fail_1 4 rfl rfl)
theorem dX1_fail_31 : decode cX1_fail 31 = .ok (.lstore_n 3, 1) := dk_66 (dk_at dksX1_fail_1 7 rfl rfl)
theorem dX1_fail_32 : decode cX1_fail 32 = .ok (.aload_n 2, 1) := dk_44 (dk_at dksX1_fail_1 8 rfl rfl)
theorem dX1_fail_33 : decode cX1_fail 33 = .ok (.iconst 1, 1) := dk_4 (dk_at dksX1_fail_1 9 rfl rfl)
theorem dX1_fail_34 : decode cX1_fail 34 = .ok (.putfield 326, 3) := dk_181 1 70 (dk_at dksX1_fail_1 10 rfl rfl)
theorem dX1_fail_37 : decode cX1_fail 37 = .ok (.aload_n 2, 1) := dk_44 (dk_at dksX1_fail_1 13 rfl rfl)
theorem dX1_fail_38 : decode cX1_fail 38 = .ok (.lconst 0, 1) := dk_9 (dk_at dksX1_fail_1 14 rfl rfl)
theorem dX1_fail_39 : decode cX1_fail 39 = .ok (.putfield 329, 3) := dk_181 1 73 (dk_at dksX1_fail_1 15 rfl rfl)
theorem dX1_fail_42 : decode cX1_fail 42 = .ok (.lload_n 3, 1) := dk_33 (dk_at dksX1_fail_1 18 rfl rfl)
theorem dX1_fail_43 : decode cX1_fail 43 = .ok (.lconst 0, 1) := dk_9 (dk_at dksX1_fail_1 19 rfl rfl)
theorem dX1_fail_44 : decode cX1_fail 44 = .ok (.lcmp, 1) := dk_148 (dk_at dksX1_fail_1 20 rfl rfl)
theorem dX1_fail_45 : decode cX1_fail 45 = .ok (.ifCond .le 15, 3) := dk_158 0 15 (dk_at dksX1_fail_1 21 rfl rfl)
theorem dX1_fail_48 : decode cX1_fail 48 = .ok (.aload_n 0, 1) := dk_42 (dk_at dksX1_fail_2 0 rfl rfl)
theorem dX1_fail_49 : decode cX1_fail 49 = .ok (.lload_n 3, 1) := dk_33 (dk_at dksX1_fail_2 1 rfl rfl)
theorem dX1_fail_50 : decode cX1_fail 50 = .ok (.invokevirtual 355, 3) := dk_182 1 99 (dk_at dksX1_fail_2 2 rfl rfl)
theorem dX1_fail_53 : decode cX1_fail 53 = .ok (.ifCond .eq 7, 3) := dk_153 0 7 (dk_at dksX1_fail_2 5 rfl rfl)
theorem dX1_fail_56 : decode cX1_fail 56 = .ok (.iconst 1, 1) := dk_4 (dk_at dksX1_fail_2 8 rfl rfl)
theorem dX1_fail_57 : decode cX1_fail 57 = .ok (.goto 4, 3) := dk_167 0 4 (dk_at dksX1_fail_2 9 rfl rfl)
theorem dX1_fail_60 : decode cX1_fail 60 = .ok (.iconst 0, 1) := dk_3 (dk_at dksX1_fail_2 12 rfl rfl)
theorem dX1_fail_61 : decode cX1_fail 61 = .ok (.istore 5, 2) := dk_54 5 (dk_at dksX1_fail_2 13 rfl rfl)
theorem dX1_fail_63 : decode cX1_fail 63 = .ok (.lload_n 3, 1) := dk_33 (dk_at dksX1_fail_2 15 rfl rfl)
theorem dX1_fail_64 : decode cX1_fail 64 = .ok (.lreturn, 1) := dk_173 (dk_at dksX1_fail_2 16 rfl rfl)
abbrev cX1_bears : ByteArray := prog_1_method_37_code
def yX1_bears : MethodName := ⟨RX1, "bears", "(J)Z"⟩
def dkwX1_bears_8 : List UInt8 := [181, 1, 73, 4, 172]
abbrev dktX1_bears_8 : List UInt8 := dkwX1_bears_8 ++ []
def dkwX1_bears_7 : List UInt8 := [55, 5, 132, 7, 1, 167, 255, 190, 45, 184, 1, 95, 192, 1, 55, 89, 180, 1, 73, 22, 5, 97]
abbrev dktX1_bears_7 : List UInt8 := dkwX1_bears_7 ++ dktX1_bears_8
def dkwX1_bears_6 : List UInt8 := [185, 0, 19, 2, 0, 192, 1, 55, 89, 180, 1, 73, 22, 8, 97, 181, 1, 73, 22, 5, 22, 8, 101]
abbrev dktX1_bears_6 : List UInt8 := dkwX1_bears_6 ++ dktX1_bears_7
def dkwX1_bears_5 : List UInt8 := [185, 0, 19, 2, 0, 192, 1, 55, 180, 1, 57, 133, 21, 4, 133, 184, 1, 91, 55, 8, 45, 21, 7]
abbrev dktX1_bears_5 : List UInt8 := dkwX1_bears_5 ++ dktX1_bears_6
def dkwX1_bears_4 : List UInt8 := [3, 172, 31, 55, 5, 3, 54, 7, 21, 7, 45, 185, 0, 13, 1, 0, 162, 0, 61, 31, 45, 21, 7]
abbrev dktX1_bears_4 : List UInt8 := dkwX1_bears_4 ++ dktX1_bears_5
def dkwX1_bears_3 : List UInt8 := [54, 7, 21, 4, 25, 6, 180, 1, 57, 96, 54, 4, 167, 255, 196, 45, 185, 1, 40, 1, 0, 153, 0, 5]
abbrev dktX1_bears_3 : List UInt8 := dkwX1_bears_3 ++ dktX1_bears_4
def dkwX1_bears_2 : List UInt8 := [180, 1, 70, 154, 0, 33, 25, 6, 180, 1, 73, 9, 148, 158, 0, 23, 45, 25, 6, 185, 1, 88, 2, 0]
abbrev dktX1_bears_2 : List UInt8 := dkwX1_bears_2 ++ dktX1_bears_3
def dkwX1_bears_1 : List UInt8 := [185, 0, 212, 1, 0, 153, 0, 56, 25, 5, 185, 0, 217, 1, 0, 192, 1, 55, 58, 6, 25, 6]
abbrev dktX1_bears_1 : List UInt8 := dkwX1_bears_1 ++ dktX1_bears_2
def dkwX1_bears_0 : List UInt8 := [187, 1, 28, 89, 183, 1, 30, 78, 3, 54, 4, 42, 180, 0, 49, 182, 0, 208, 58, 5, 25, 5]
abbrev dktX1_bears_0 : List UInt8 := dkwX1_bears_0 ++ dktX1_bears_1
theorem dksX1_bears_0 : cX1_bears.data.toList.drop 0 = dktX1_bears_0 := by decide +kernel
theorem dksX1_bears_1 : cX1_bears.data.toList.drop 22 = dktX1_bears_1 := dk_seg dksX1_bears_0 22 rfl rfl
theorem dksX1_bears_2 : cX1_bears.data.toList.drop 44 = dktX1_bears_2 := dk_seg dksX1_bears_1 22 rfl rfl
theorem dksX1_bears_3 : cX1_bears.data.toList.drop 68 = dktX1_bears_3 := dk_seg dksX1_bears_2 24 rfl rfl
theorem dksX1_bears_4 : cX1_bears.data.toList.drop 92 = dktX1_bears_4 := dk_seg dksX1_bears_3 24 rfl rfl
theorem dksX1_bears_5 : cX1_bears.data.toList.drop 115 = dktX1_bears_5 := dk_seg dksX1_bears_4 23 rfl rfl
theorem dksX1_bears_6 : cX1_bears.data.toList.drop 138 = dktX1_bears_6 := dk_seg dksX1_bears_5 23 rfl rfl
theorem dksX1_bears_7 : cX1_bears.data.toList.drop 161 = dktX1_bears_7 := dk_seg dksX1_bears_6 23 rfl rfl
theorem dksX1_bears_8 : cX1_bears.data.toList.drop 183 = dktX1_bears_8 := dk_seg dksX1_bears_7 22 rfl rfl
theorem dX1_bears_0 : decode cX1_bears 0 = .ok (.new 284, 3) := dk_187 1 28 (dk_at dksX1_bears_0 0 rfl rfl)
theorem dX1_bears_3 : decode cX1_bears 3 = .ok (.dup, 1) := dk_89 (dk_at dksX1_bears_0 3 rfl rfl)
theorem dX1_bears_4 : decode cX1_bears 4 = .ok (.invokespecial 286, 3) := dk_183 1 30 (dk_at dksX1_bears_0 4 rfl rfl)
theorem dX1_bears_7 : decode cX1_bears 7 = .ok (.astore_n 3, 1) := dk_78 (dk_at dksX1_bears_0 7 rfl rfl)
theorem dX1_bears_8 : decode cX1_bears 8 = .ok (.iconst 0, 1) := dk_3 (dk_at dksX1_bears_0 8 rfl rfl)
theorem dX1_bears_9 : decode cX1_bears 9 = .ok (.istore 4, 2) := dk_54 4 (dk_at dksX1_bears_0 9 rfl rfl)
theorem dX1_bears_11 : decode cX1_bears 11 = .ok (.aload_n 0, 1) := dk_42 (dk_at dksX1_bears_0 11 rfl rfl)
theorem dX1_bears_12 : decode cX1_bears 12 = .ok (.getfield 49, 3) := dk_180 0 49 (dk_at dksX1_bears_0 12 rfl rfl)
theorem dX1_bears_15 : decode cX1_bears 15 = .ok (.invokevirtual 208, 3) := dk_182 0 208 (dk_at dksX1_bears_0 15 rfl rfl)
theorem dX1_bears_18 : decode cX1_bears 18 = .ok (.astore 5, 2) := dk_58 5 (dk_at dksX1_bears_0 18 rfl rfl)
theorem dX1_bears_20 : decode cX1_bears 20 = .ok (.aload 5, 2) := dk_25 5 (dk_at dksX1_bears_0 20 rfl rfl)
theorem dX1_bears_22 : decode cX1_bears 22 = .ok (.invokeinterface 212 1, 5) := by decide +kernel
theorem dX1_bears_27 : decode cX1_bears 27 = .ok (.ifCond .eq 56, 3) := dk_153 0 56 (dk_at dksX1_bears_1 5 rfl rfl)
theorem dX1_bears_30 : decode cX1_bears 30 = .ok (.aload 5, 2) := dk_25 5 (dk_at dksX1_bears_1 8 rfl rfl)
theorem dX1_bears_32 : decode cX1_bears 32 = .ok (.invokeinterface 217 1, 5) := by decide +kernel
theorem dX1_bears_37 : decode cX1_bears 37 = .ok (.checkcast 311, 3) := dk_192 1 55 (dk_at dksX1_bears_1 15 rfl rfl)
theorem dX1_bears_40 : decode cX1_bears 40 = .ok (.astore 6, 2) := dk_58 6 (dk_at dksX1_bears_1 18 rfl rfl)
theorem dX1_bears_42 : decode cX1_bears 42 = .ok (.aload 6, 2) := dk_25 6 (dk_at dksX1_bears_1 20 rfl rfl)
theorem dX1_bears_44 : decode cX1_bears 44 = .ok (.getfield 326, 3) := dk_180 1 70 (dk_at dksX1_bears_2 0 rfl rfl)
theorem dX1_bears_47 : decode cX1_bears 47 = .ok (.ifCond .ne 33, 3) := dk_154 0 33 (dk_at dksX1_bears_2 3 rfl rfl)
theorem dX1_bears_50 : decode cX1_bears 50 = .ok (.aload 6, 2) := dk_25 6 (dk_at dksX1_bears_2 6 rfl rfl)
theorem dX1_bears_52 : decode cX1_bears 52 = .ok (.getfield 329, 3) := dk_180 1 73 (dk_at dksX1_bears_2 8 rfl rfl)
theorem dX1_bears_55 : decode cX1_bears 55 = .ok (.lconst 0, 1) := dk_9 (dk_at dksX1_bears_2 11 rfl rfl)
theorem dX1_bears_56 : decode cX1_bears 56 = .ok (.lcmp, 1) := dk_148 (dk_at dksX1_bears_2 12 rfl rfl)
theorem dX1_bears_57 : decode cX1_bears 57 = .ok (.ifCond .le 23, 3) := dk_158 0 23 (dk_at dksX1_bears_2 13 rfl rfl)
theorem dX1_bears_60 : decode cX1_bears 60 = .ok (.aload_n 3, 1) := dk_45 (dk_at dksX1_bears_2 16 rfl rfl)
theorem dX1_bears_61 : decode cX1_bears 61 = .ok (.aload 6, 2) := dk_25 6 (dk_at dksX1_bears_2 17 rfl rfl)
theorem dX1_bears_63 : decode cX1_bears 63 = .ok (.invokeinterface 344 2, 5) := by decide +kernel
theorem dX1_bears_68 : decode cX1_bears 68 = .ok (.istore 7, 2) := dk_54 7 (dk_at dksX1_bears_3 0 rfl rfl)
theorem dX1_bears_70 : decode cX1_bears 70 = .ok (.iload 4, 2) := dk_21 4 (dk_at dksX1_bears_3 2 rfl rfl)
theorem dX1_bears_72 : decode cX1_bears 72 = .ok (.aload 6, 2) := dk_25 6 (dk_at dksX1_bears_3 4 rfl rfl)
theorem dX1_bears_74 : decode cX1_bears 74 = .ok (.getfield 313, 3) := dk_180 1 57 (dk_at dksX1_bears_3 6 rfl rfl)
theorem dX1_bears_77 : decode cX1_bears 77 = .ok (.iadd, 1) := dk_96 (dk_at dksX1_bears_3 9 rfl rfl)
theorem dX1_bears_78 : decode cX1_bears 78 = .ok (.istore 4, 2) := dk_54 4 (dk_at dksX1_bears_3 10 rfl rfl)
theorem dX1_bears_80 : decode cX1_bears 80 = .ok (.goto (-60), 3) := dk_167 255 196 (dk_at dksX1_bears_3 12 rfl rfl)
theorem dX1_bears_83 : decode cX1_bears 83 = .ok (.aload_n 3, 1) := dk_45 (dk_at dksX1_bears_3 15 rfl rfl)
theorem dX1_bears_84 : decode cX1_bears 84 = .ok (.invokeinterface 296 1, 5) := by decide +kernel
theorem dX1_bears_89 : decode cX1_bears 89 = .ok (.ifCond .eq 5, 3) := dk_153 0 5 (dk_at dksX1_bears_3 21 rfl rfl)
theorem dX1_bears_92 : decode cX1_bears 92 = .ok (.iconst 0, 1) := dk_3 (dk_at dksX1_bears_4 0 rfl rfl)
theorem dX1_bears_93 : decode cX1_bears 93 = .ok (.ireturn, 1) := dk_172 (dk_at dksX1_bears_4 1 rfl rfl)
theorem dX1_bears_94 : decode cX1_bears 94 = .ok (.lload_n 1, 1) := dk_31 (dk_at dksX1_bears_4 2 rfl rfl)
theorem dX1_bears_95 : decode cX1_bears 95 = .ok (.lstore 5, 2) := dk_55 5 (dk_at dksX1_bears_4 3 rfl rfl)
theorem dX1_bears_97 : decode cX1_bears 97 = .ok (.iconst 0, 1) := dk_3 (dk_at dksX1_bears_4 5 rfl rfl)
theorem dX1_bears_98 : decode cX1_bears 98 = .ok (.istore 7, 2) := dk_54 7 (dk_at dksX1_bears_4 6 rfl rfl)
theorem dX1_bears_100 : decode cX1_bears 100 = .ok (.iload 7, 2) := dk_21 7 (dk_at dksX1_bears_4 8 rfl rfl)
theorem dX1_bears_102 : decode cX1_bears 102 = .ok (.aload_n 3, 1) := dk_45 (dk_at dksX1_bears_4 10 rfl rfl)
theorem dX1_bears_103 : decode cX1_bears 103 = .ok (.invokeinterface 13 1, 5) := by decide +kernel
theorem dX1_bears_108 : decode cX1_bears 108 = .ok (.if_icmp .ge 61, 3) := dk_162 0 61 (dk_at dksX1_bears_4 16 rfl rfl)
theorem dX1_bears_111 : decode cX1_bears 111 = .ok (.lload_n 1, 1) := dk_31 (dk_at dksX1_bears_4 19 rfl rfl)
theorem dX1_bears_112 : decode cX1_bears 112 = .ok (.aload_n 3, 1) := dk_45 (dk_at dksX1_bears_4 20 rfl rfl)
theorem dX1_bears_113 : decode cX1_bears 113 = .ok (.iload 7, 2) := dk_21 7 (dk_at dksX1_bears_4 21 rfl rfl)
theorem dX1_bears_115 : decode cX1_bears 115 = .ok (.invokeinterface 19 2, 5) := by decide +kernel
theorem dX1_bears_120 : decode cX1_bears 120 = .ok (.checkcast 311, 3) := dk_192 1 55 (dk_at dksX1_bears_5 5 rfl rfl)
theorem dX1_bears_123 : decode cX1_bears 123 = .ok (.getfield 313, 3) := dk_180 1 57 (dk_at dksX1_bears_5 8 rfl rfl)
theorem dX1_bears_126 : decode cX1_bears 126 = .ok (.i2l, 1) := dk_133 (dk_at dksX1_bears_5 11 rfl rfl)
theorem dX1_bears_127 : decode cX1_bears 127 = .ok (.iload 4, 2) := dk_21 4 (dk_at dksX1_bears_5 12 rfl rfl)
theorem dX1_bears_129 : decode cX1_bears 129 = .ok (.i2l, 1) := dk_133 (dk_at dksX1_bears_5 14 rfl rfl)
theorem dX1_bears_130 : decode cX1_bears 130 = .ok (.invokestatic 347, 3) := dk_184 1 91 (dk_at dksX1_bears_5 15 rfl rfl)
theorem dX1_bears_133 : decode cX1_bears 133 = .ok (.lstore 8, 2) := dk_55 8 (dk_at dksX1_bears_5 18 rfl rfl)
theorem dX1_bears_135 : decode cX1_bears 135 = .ok (.aload_n 3, 1) := dk_45 (dk_at dksX1_bears_5 20 rfl rfl)
theorem dX1_bears_136 : decode cX1_bears 136 = .ok (.iload 7, 2) := dk_21 7 (dk_at dksX1_bears_5 21 rfl rfl)
theorem dX1_bears_138 : decode cX1_bears 138 = .ok (.invokeinterface 19 2, 5) := by decide +kernel
theorem dX1_bears_143 : decode cX1_bears 143 = .ok (.checkcast 311, 3) := dk_192 1 55 (dk_at dksX1_bears_6 5 rfl rfl)
theorem dX1_bears_146 : decode cX1_bears 146 = .ok (.dup, 1) := dk_89 (dk_at dksX1_bears_6 8 rfl rfl)
theorem dX1_bears_147 : decode cX1_bears 147 = .ok (.getfield 329, 3) := dk_180 1 73 (dk_at dksX1_bears_6 9 rfl rfl)
theorem dX1_bears_150 : decode cX1_bears 150 = .ok (.lload 8, 2) := dk_22 8 (dk_at dksX1_bears_6 12 rfl rfl)
theorem dX1_bears_152 : decode cX1_bears 152 = .ok (.ladd, 1) := dk_97 (dk_at dksX1_bears_6 14 rfl rfl)
theorem dX1_bears_153 : decode cX1_bears 153 = .ok (.putfield 329, 3) := dk_181 1 73 (dk_at dksX1_bears_6 15 rfl rfl)
theorem dX1_bears_156 : decode cX1_bears 156 = .ok (.lload 5, 2) := dk_22 5 (dk_at dksX1_bears_6 18 rfl rfl)
theorem dX1_bears_158 : decode cX1_bears 158 = .ok (.lload 8, 2) := dk_22 8 (dk_at dksX1_bears_6 20 rfl rfl)
theorem dX1_bears_160 : decode cX1_bears 160 = .ok (.lsub, 1) := dk_101 (dk_at dksX1_bears_6 22 rfl rfl)
theorem dX1_bears_161 : decode cX1_bears 161 = .ok (.lstore 5, 2) := dk_55 5 (dk_at dksX1_bears_7 0 rfl rfl)
theorem dX1_bears_163 : decode cX1_bears 163 = .ok (.iinc 7 1, 3) := dk_132 7 1 (dk_at dksX1_bears_7 2 rfl rfl)
theorem dX1_bears_166 : decode cX1_bears 166 = .ok (.goto (-66), 3) := dk_167 255 190 (dk_at dksX1_bears_7 5 rfl rfl)
theorem dX1_bears_169 : decode cX1_bears 169 = .ok (.aload_n 3, 1) := dk_45 (dk_at dksX1_bears_7 8 rfl rfl)
theorem dX1_bears_170 : decode cX1_bears 170 = .ok (.invokestatic 351, 3) := dk_184 1 95 (dk_at dksX1_bears_7 9 rfl rfl)
theorem dX1_bears_173 : decode cX1_bears 173 = .ok (.checkcast 311, 3) := dk_192 1 55 (dk_at dksX1_bears_7 12 rfl rfl)
theorem dX1_bears_176 : decode cX1_bears 176 = .ok (.dup, 1) := dk_89 (dk_at dksX1_bears_7 15 rfl rfl)
theorem dX1_bears_177 : decode cX1_bears 177 = .ok (.getfield 329, 3) := dk_180 1 73 (dk_at dksX1_bears_7 16 rfl rfl)
theorem dX1_bears_180 : decode cX1_bears 180 = .ok (.lload 5, 2) := dk_22 5 (dk_at dksX1_bears_7 19 rfl rfl)
theorem dX1_bears_182 : decode cX1_bears 182 = .ok (.ladd, 1) := dk_97 (dk_at dksX1_bears_7 21 rfl rfl)
theorem dX1_bears_183 : decode cX1_bears 183 = .ok (.putfield 329, 3) := dk_181 1 73 (dk_at dksX1_bears_8 0 rfl rfl)
theorem dX1_bears_186 : decode cX1_bears 186 = .ok (.iconst 1, 1) := dk_4 (dk_at dksX1_bears_8 3 rfl rfl)
theorem dX1_bears_187 : decode cX1_bears 187 = .ok (.ireturn, 1) := dk_172 (dk_at dksX1_bears_8 4 rfl rfl)
abbrev cX1_defendantAt : ByteArray := prog_1_method_39_code
def yX1_defendantAt : MethodName := ⟨RX1, "defendantAt", "(II)J"⟩
def dkwX1_defendantAt_3 : List UInt8 := [173]
abbrev dktX1_defendantAt_3 : List UInt8 := dkwX1_defendantAt_3 ++ []
def dkwX1_defendantAt_2 : List UInt8 := [5, 160, 0, 11, 45, 180, 1, 76, 133, 167, 0, 15, 45, 180, 1, 70, 153, 0, 7, 10, 167, 0, 4, 9]
abbrev dktX1_defendantAt_2 : List UInt8 := dkwX1_defendantAt_2 ++ dktX1_defendantAt_3
def dkwX1_defendantAt_1 : List UInt8 := [28, 154, 0, 10, 45, 180, 1, 73, 167, 0, 40, 28, 4, 160, 0, 10, 45, 180, 1, 85, 167, 0, 28, 28]
abbrev dktX1_defendantAt_1 : List UInt8 := dkwX1_defendantAt_1 ++ dktX1_defendantAt_2
def dkwX1_defendantAt_0 : List UInt8 := [42, 180, 0, 49, 27, 182, 0, 136, 192, 1, 55, 78, 28, 133, 9, 20, 0, 167, 184, 0, 127, 184, 0, 131]
abbrev dktX1_defendantAt_0 : List UInt8 := dkwX1_defendantAt_0 ++ dktX1_defendantAt_1
theorem dksX1_defendantAt_0 : cX1_defendantAt.data.toList.drop 0 = dktX1_defendantAt_0 := by decide +kernel
theorem dksX1_defendantAt_1 : cX1_defendantAt.data.toList.drop 24 = dktX1_defendantAt_1 := dk_seg dksX1_defendantAt_0 24 rfl rfl
theorem dksX1_defendantAt_2 : cX1_defendantAt.data.toList.drop 48 = dktX1_defendantAt_2 := dk_seg dksX1_defendantAt_1 24 rfl rfl
theorem dksX1_defendantAt_3 : cX1_defendantAt.data.toList.drop 72 = dktX1_defendantAt_3 := dk_seg dksX1_defendantAt_2 24 rfl rfl
theorem dX1_defendantAt_0 : decode cX1_defendantAt 0 = .ok (.aload_n 0, 1) := dk_42 (dk_at dksX1_defendantAt_0 0 rfl rfl)
theorem dX1_defendantAt_1 : decode cX1_defendantAt 1 = .ok (.getfield 49, 3) := dk_180 0 49 (dk_at dksX1_defendantAt_0 1 rfl rfl)
theorem dX1_defendantAt_4 : decode cX1_defendantAt 4 = .ok (.iload_n 1, 1) := dk_27 (dk_at dksX1_defendantAt_0 4 rfl rfl)
theorem dX1_defendantAt_5 : decode cX1_defendantAt 5 = .ok (.invokevirtual 136, 3) := dk_182 0 136 (dk_at dksX1_defendantAt_0 5 rfl rfl)
theorem dX1_defendantAt_8 : decode cX1_defendantAt 8 = .ok (.checkcast 311, 3) := dk_192 1 55 (dk_at dksX1_defendantAt_0 8 rfl rfl)
theorem dX1_defendantAt_11 : decode cX1_defendantAt 11 = .ok (.astore_n 3, 1) := dk_78 (dk_at dksX1_defendantAt_0 11 rfl rfl)
theorem dX1_defendantAt_12 : decode cX1_defendantAt 12 = .ok (.iload_n 2, 1) := dk_28 (dk_at dksX1_defendantAt_0 12 rfl rfl)
theorem dX1_defendantAt_13 : decode cX1_defendantAt 13 = .ok (.i2l, 1) := dk_133 (dk_at dksX1_defendantAt_0 13 rfl rfl)
theorem dX1_defendantAt_14 : decode cX1_defendantAt 14 = .ok (.lconst 0, 1) := dk_9 (dk_at dksX1_defendantAt_0 14 rfl rfl)
theorem dX1_defendantAt_15 : decode cX1_defendantAt 15 = .ok (.ldc2_w 167, 3) := dk_20 0 167 (dk_at dksX1_defendantAt_0 15 rfl rfl)
theorem dX1_defendantAt_18 : decode cX1_defendantAt 18 = .ok (.invokestatic 127, 3) := dk_184 0 127 (dk_at dksX1_defendantAt_0 18 rfl rfl)
theorem dX1_defendantAt_21 : decode cX1_defendantAt 21 = .ok (.invokestatic 131, 3) := dk_184 0 131 (dk_at dksX1_defendantAt_0 21 rfl rfl)
theorem dX1_defendantAt_24 : decode cX1_defendantAt 24 = .ok (.iload_n 2, 1) := dk_28 (dk_at dksX1_defendantAt_1 0 rfl rfl)
theorem dX1_defendantAt_25 : decode cX1_defendantAt 25 = .ok (.ifCond .ne 10, 3) := dk_154 0 10 (dk_at dksX1_defendantAt_1 1 rfl rfl)
theorem dX1_defendantAt_28 : decode cX1_defendantAt 28 = .ok (.aload_n 3, 1) := dk_45 (dk_at dksX1_defendantAt_1 4 rfl rfl)
theorem dX1_defendantAt_29 : decode cX1_defendantAt 29 = .ok (.getfield 329, 3) := dk_180 1 73 (dk_at dksX1_defendantAt_1 5 rfl rfl)
theorem dX1_defendantAt_32 : decode cX1_defendantAt 32 = .ok (.goto 40, 3) := dk_167 0 40 (dk_at dksX1_defendantAt_1 8 rfl rfl)
theorem dX1_defendantAt_35 : decode cX1_defendantAt 35 = .ok (.iload_n 2, 1) := dk_28 (dk_at dksX1_defendantAt_1 11 rfl rfl)
theorem dX1_defendantAt_36 : decode cX1_defendantAt 36 = .ok (.iconst 1, 1) := dk_4 (dk_at dksX1_defendantAt_1 12 rfl rfl)
theorem dX1_defendantAt_37 : decode cX1_defendantAt 37 = .ok (.if_icmp .ne 10, 3) := dk_160 0 10 (dk_at dksX1_defendantAt_1 13 rfl rfl)
theorem dX1_defendantAt_40 : decode cX1_defendantAt 40 = .ok (.aload_n 3, 1) := dk_45 (dk_at dksX1_defendantAt_1 16 rfl rfl)
theorem dX1_defendantAt_41 : decode cX1_defendantAt 41 = .ok (.getfield 341, 3) := dk_180 1 85 (dk_at dksX1_defendantAt_1 17 rfl rfl)
theorem dX1_defendantAt_44 : decode cX1_defendantAt 44 = .ok (.goto 28, 3) := dk_167 0 28 (dk_at dksX1_defendantAt_1 20 rfl rfl)
theorem dX1_defendantAt_47 : decode cX1_defendantAt 47 = .ok (.iload_n 2, 1) := dk_28 (dk_at dksX1_defendantAt_1 23 rfl rfl)
theorem dX1_defendantAt_48 : decode cX1_defendantAt 48 = .ok (.iconst 2, 1) := dk_5 (dk_at dksX1_defendantAt_2 0 rfl rfl)
theorem dX1_defendantAt_49 : decode cX1_defendantAt 49 = .ok (.if_icmp .ne 11, 3) := dk_160 0 11 (dk_at dksX1_defendantAt_2 1 rfl rfl)
theorem dX1_defendantAt_52 : decode cX1_defendantAt 52 = .ok (.aload_n 3, 1) := dk_45 (dk_at dksX1_defendantAt_2 4 rfl rfl)
theorem dX1_defendantAt_53 : decode cX1_defendantAt 53 = .ok (.getfield 332, 3) := dk_180 1 76 (dk_at dksX1_defendantAt_2 5 rfl rfl)
theorem dX1_defendantAt_56 : decode cX1_defendantAt 56 = .ok (.i2l, 1) := dk_133 (dk_at dksX1_defendantAt_2 8 rfl rfl)
theorem dX1_defendantAt_57 : decode cX1_defendantAt 57 = .ok (.goto 15, 3) := dk_167 0 15 (dk_at dksX1_defendantAt_2 9 rfl rfl)
theorem dX1_defendantAt_60 : decode cX1_defendantAt 60 = .ok (.aload_n 3, 1) := dk_45 (dk_at dksX1_defendantAt_2 12 rfl rfl)
theorem dX1_defendantAt_61 : decode cX1_defendantAt 61 = .ok (.getfield 326, 3) := dk_180 1 70 (dk_at dksX1_defendantAt_2 13 rfl rfl)
theorem dX1_defendantAt_64 : decode cX1_defendantAt 64 = .ok (.ifCond .eq 7, 3) := dk_153 0 7 (dk_at dksX1_defendantAt_2 16 rfl rfl)
theorem dX1_defendantAt_67 : decode cX1_defendantAt 67 = .ok (.lconst 1, 1) := dk_10 (dk_at dksX1_defendantAt_2 19 rfl rfl)
theorem dX1_defendantAt_68 : decode cX1_defendantAt 68 = .ok (.goto 4, 3) := dk_167 0 4 (dk_at dksX1_defendantAt_2 20 rfl rfl)
theorem dX1_defendantAt_71 : decode cX1_defendantAt 71 = .ok (.lconst 0, 1) := dk_9 (dk_at dksX1_defendantAt_2 23 rfl rfl)
theorem dX1_defendantAt_72 : decode cX1_defendantAt 72 = .ok (.lreturn, 1) := dk_173 (dk_at dksX1_defendantAt_3 0 rfl rfl)
abbrev cX1_propose : ByteArray := prog_1_method_40_code
def yX1_propose : MethodName := ⟨RX1, "propose", "(III)I"⟩
def dkwX1_propose_5 : List UInt8 := [25, 5, 2, 181, 1, 106, 25, 5, 3, 181, 1, 109, 167, 255, 222, 42, 180, 0, 84, 180, 0, 118, 172]
abbrev dktX1_propose_5 : List UInt8 := dkwX1_propose_5 ++ []
def dkwX1_propose_4 : List UInt8 := [58, 4, 25, 4, 185, 0, 212, 1, 0, 153, 0, 30, 25, 4, 185, 0, 217, 1, 0, 192, 0, 140, 58, 5]
abbrev dktX1_propose_4 : List UInt8 := dkwX1_propose_4 ++ dktX1_propose_5
def dkwX1_propose_3 : List UInt8 := [184, 0, 182, 42, 187, 0, 119, 89, 27, 28, 29, 183, 1, 105, 181, 0, 84, 42, 180, 0, 42, 182, 0, 208]
abbrev dktX1_propose_3 : List UInt8 := dkwX1_propose_3 ++ dktX1_propose_4
def dkwX1_propose_2 : List UInt8 := [153, 0, 11, 42, 182, 0, 123, 7, 160, 0, 14, 42, 180, 0, 88, 158, 0, 7, 4, 167, 0, 4, 3]
abbrev dktX1_propose_2 : List UInt8 := dkwX1_propose_2 ++ dktX1_propose_3
def dkwX1_propose_1 : List UInt8 := [29, 133, 9, 20, 1, 60, 184, 0, 127, 153, 0, 7, 4, 167, 0, 4, 3, 184, 0, 131, 42, 182, 0, 123]
abbrev dktX1_propose_1 : List UInt8 := dkwX1_propose_1 ++ dktX1_propose_2
def dkwX1_propose_0 : List UInt8 := [27, 133, 10, 20, 1, 65, 184, 0, 127, 153, 0, 31, 28, 133, 9, 20, 1, 103, 184, 0, 127, 153, 0, 19]
abbrev dktX1_propose_0 : List UInt8 := dkwX1_propose_0 ++ dktX1_propose_1
theorem dksX1_propose_0 : cX1_propose.data.toList.drop 0 = dktX1_propose_0 := by decide +kernel
theorem dksX1_propose_1 : cX1_propose.data.toList.drop 24 = dktX1_propose_1 := dk_seg dksX1_propose_0 24 rfl rfl
theorem dksX1_propose_2 : cX1_propose.data.toList.drop 48 = dktX1_propose_2 := dk_seg dksX1_propose_1 24 rfl rfl
theorem dksX1_propose_3 : cX1_propose.data.toList.drop 71 = dktX1_propose_3 := dk_seg dksX1_propose_2 23 rfl rfl
theorem dksX1_propose_4 : cX1_propose.data.toList.drop 95 = dktX1_propose_4 := dk_seg dksX1_propose_3 24 rfl rfl
theorem dksX1_propose_5 : cX1_propose.data.toList.drop 119 = dktX1_propose_5 := dk_seg dksX1_propose_4 24 rfl rfl
theorem dX1_propose_0 : decode cX1_propose 0 = .ok (.iload_n 1, 1) := dk_27 (dk_at dksX1_propose_0 0 rfl rfl)
theorem dX1_propose_1 : decode cX1_propose 1 = .ok (.i2l, 1) := dk_133 (dk_at dksX1_propose_0 1 rfl rfl)
theorem dX1_propose_2 : decode cX1_propose 2 = .ok (.lconst 1, 1) := dk_10 (dk_at dksX1_propose_0 2 rfl rfl)
theorem dX1_propose_3 : decode cX1_propose 3 = .ok (.ldc2_w 321, 3) := dk_20 1 65 (dk_at dksX1_propose_0 3 rfl rfl)
theorem dX1_propose_6 : decode cX1_propose 6 = .ok (.invokestatic 127, 3) := dk_184 0 127 (dk_at dksX1_propose_0 6 rfl rfl)
theorem dX1_propose_9 : decode cX1_propose 9 = .ok (.ifCond .eq 31, 3) := dk_153 0 31 (dk_at dksX1_propose_0 9 rfl rfl)
theorem dX1_propose_12 : decode cX1_propose 12 = .ok (.iload_n 2, 1) := dk_28 (dk_at dksX1_propose_0 12 rfl rfl)
theorem dX1_propose_13 : decode cX1_propose 13 = .ok (.i2l, 1) := dk_133 (dk_at dksX1_propose_0 13 rfl rfl)
theorem dX1_propose_14 : decode cX1_propose 14 = .ok (.lconst 0, 1) := dk_9 (dk_at dksX1_propose_0 14 rfl rfl)
theorem dX1_propose_15 : decode cX1_propose 15 = .ok (.ldc2_w 359, 3) := dk_20 1 103 (dk_at dksX1_propose_0 15 rfl rfl)
theorem dX1_propose_18 : decode cX1_propose 18 = .ok (.invokestatic 127, 3) := dk_184 0 127 (dk_at dksX1_propose_0 18 rfl rfl)
theorem dX1_propose_21 : decode cX1_propose 21 = .ok (.ifCond .eq 19, 3) := dk_153 0 19 (dk_at dksX1_propose_0 21 rfl rfl)
theorem dX1_propose_24 : decode cX1_propose 24 = .ok (.iload_n 3, 1) := dk_29 (dk_at dksX1_propose_1 0 rfl rfl)
theorem dX1_propose_25 : decode cX1_propose 25 = .ok (.i2l, 1) := dk_133 (dk_at dksX1_propose_1 1 rfl rfl)
theorem dX1_propose_26 : decode cX1_propose 26 = .ok (.lconst 0, 1) := dk_9 (dk_at dksX1_propose_1 2 rfl rfl)
theorem dX1_propose_27 : decode cX1_propose 27 = .ok (.ldc2_w 316, 3) := dk_20 1 60 (dk_at dksX1_propose_1 3 rfl rfl)
theorem dX1_propose_30 : decode cX1_propose 30 = .ok (.invokestatic 127, 3) := dk_184 0 127 (dk_at dksX1_propose_1 6 rfl rfl)
theorem dX1_propose_33 : decode cX1_propose 33 = .ok (.ifCond .eq 7, 3) := dk_153 0 7 (dk_at dksX1_propose_1 9 rfl rfl)
theorem dX1_propose_36 : decode cX1_propose 36 = .ok (.iconst 1, 1) := dk_4 (dk_at dksX1_propose_1 12 rfl rfl)
theorem dX1_propose_37 : decode cX1_propose 37 = .ok (.goto 4, 3) := dk_167 0 4 (dk_at dksX1_propose_1 13 rfl rfl)
theorem dX1_propose_40 : decode cX1_propose 40 = .ok (.iconst 0, 1) := dk_3 (dk_at dksX1_propose_1 16 rfl rfl)
theorem dX1_propose_41 : decode cX1_propose 41 = .ok (.invokestatic 131, 3) := dk_184 0 131 (dk_at dksX1_propose_1 17 rfl rfl)
theorem dX1_propose_44 : decode cX1_propose 44 = .ok (.aload_n 0, 1) := dk_42 (dk_at dksX1_propose_1 20 rfl rfl)
theorem dX1_propose_45 : decode cX1_propose 45 = .ok (.invokevirtual 123, 3) := dk_182 0 123 (dk_at dksX1_propose_1 21 rfl rfl)
theorem dX1_propose_48 : decode cX1_propose 48 = .ok (.ifCond .eq 11, 3) := dk_153 0 11 (dk_at dksX1_propose_2 0 rfl rfl)
theorem dX1_propose_51 : decode cX1_propose 51 = .ok (.aload_n 0, 1) := dk_42 (dk_at dksX1_propose_2 3 rfl rfl)
theorem dX1_propose_52 : decode cX1_propose 52 = .ok (.invokevirtual 123, 3) := dk_182 0 123 (dk_at dksX1_propose_2 4 rfl rfl)
theorem dX1_propose_55 : decode cX1_propose 55 = .ok (.iconst 4, 1) := dk_7 (dk_at dksX1_propose_2 7 rfl rfl)
theorem dX1_propose_56 : decode cX1_propose 56 = .ok (.if_icmp .ne 14, 3) := dk_160 0 14 (dk_at dksX1_propose_2 8 rfl rfl)
theorem dX1_propose_59 : decode cX1_propose 59 = .ok (.aload_n 0, 1) := dk_42 (dk_at dksX1_propose_2 11 rfl rfl)
theorem dX1_propose_60 : decode cX1_propose 60 = .ok (.getfield 88, 3) := dk_180 0 88 (dk_at dksX1_propose_2 12 rfl rfl)
theorem dX1_propose_63 : decode cX1_propose 63 = .ok (.ifCond .le 7, 3) := dk_158 0 7 (dk_at dksX1_propose_2 15 rfl rfl)
theorem dX1_propose_66 : decode cX1_propose 66 = .ok (.iconst 1, 1) := dk_4 (dk_at dksX1_propose_2 18 rfl rfl)
theorem dX1_propose_67 : decode cX1_propose 67 = .ok (.goto 4, 3) := dk_167 0 4 (dk_at dksX1_propose_2 19 rfl rfl)
theorem dX1_propose_70 : decode cX1_propose 70 = .ok (.iconst 0, 1) := dk_3 (dk_at dksX1_propose_2 22 rfl rfl)
theorem dX1_propose_71 : decode cX1_propose 71 = .ok (.invokestatic 182, 3) := dk_184 0 182 (dk_at dksX1_propose_3 0 rfl rfl)
theorem dX1_propose_74 : decode cX1_propose 74 = .ok (.aload_n 0, 1) := dk_42 (dk_at dksX1_propose_3 3 rfl rfl)
theorem dX1_propose_75 : decode cX1_propose 75 = .ok (.new 119, 3) := dk_187 0 119 (dk_at dksX1_propose_3 4 rfl rfl)
theorem dX1_propose_78 : decode cX1_propose 78 = .ok (.dup, 1) := dk_89 (dk_at dksX1_propose_3 7 rfl rfl)
theorem dX1_propose_79 : decode cX1_propose 79 = .ok (.iload_n 1, 1) := dk_27 (dk_at dksX1_propose_3 8 rfl rfl)
theorem dX1_propose_80 : decode cX1_propose 80 = .ok (.iload_n 2, 1) := dk_28 (dk_at dksX1_propose_3 9 rfl rfl)
theorem dX1_propose_81 : decode cX1_propose 81 = .ok (.iload_n 3, 1) := dk_29 (dk_at dksX1_propose_3 10 rfl rfl)
theorem dX1_propose_82 : decode cX1_propose 82 = .ok (.invokespecial 361, 3) := dk_183 1 105 (dk_at dksX1_propose_3 11 rfl rfl)
theorem dX1_propose_85 : decode cX1_propose 85 = .ok (.putfield 84, 3) := dk_181 0 84 (dk_at dksX1_propose_3 14 rfl rfl)
theorem dX1_propose_88 : decode cX1_propose 88 = .ok (.aload_n 0, 1) := dk_42 (dk_at dksX1_propose_3 17 rfl rfl)
theorem dX1_propose_89 : decode cX1_propose 89 = .ok (.getfield 42, 3) := dk_180 0 42 (dk_at dksX1_propose_3 18 rfl rfl)
theorem dX1_propose_92 : decode cX1_propose 92 = .ok (.invokevirtual 208, 3) := dk_182 0 208 (dk_at dksX1_propose_3 21 rfl rfl)
theorem dX1_propose_95 : decode cX1_propose 95 = .ok (.astore 4, 2) := dk_58 4 (dk_at dksX1_propose_4 0 rfl rfl)
theorem dX1_propose_97 : decode cX1_propose 97 = .ok (.aload 4, 2) := dk_25 4 (dk_at dksX1_propose_4 2 rfl rfl)
theorem dX1_propose_99 : decode cX1_propose 99 = .ok (.invokeinterface 212 1, 5) := by decide +kernel
theorem dX1_propose_104 : decode cX1_propose 104 = .ok (.ifCond .eq 30, 3) := dk_153 0 30 (dk_at dksX1_propose_4 9 rfl rfl)
theorem dX1_propose_107 : decode cX1_propose 107 = .ok (.aload 4, 2) := dk_25 4 (dk_at dksX1_propose_4 12 rfl rfl)
theorem dX1_propose_109 : decode cX1_propose 109 = .ok (.invokeinterface 217 1, 5) := by decide +kernel
theorem dX1_propose_114 : decode cX1_propose 114 = .ok (.checkcast 140, 3) := dk_192 0 140 (dk_at dksX1_propose_4 19 rfl rfl)
theorem dX1_propose_117 : decode cX1_propose 117 = .ok (.astore 5, 2) := dk_58 5 (dk_at dksX1_propose_4 22 rfl rfl)
theorem dX1_propose_119 : decode cX1_propose 119 = .ok (.aload 5, 2) := dk_25 5 (dk_at dksX1_propose_5 0 rfl rfl)
theorem dX1_propose_121 : decode cX1_propose 121 = .ok (.iconst (-1), 1) := dk_2 (dk_at dksX1_propose_5 2 rfl rfl)
theorem dX1_propose_122 : decode cX1_propose 122 = .ok (.putfield 362, 3) := dk_181 1 106 (dk_at dksX1_propose_5 3 rfl rfl)
theorem dX1_propose_125 : decode cX1_propose 125 = .ok (.aload 5, 2) := dk_25 5 (dk_at dksX1_propose_5 6 rfl rfl)
theorem dX1_propose_127 : decode cX1_propose 127 = .ok (.iconst 0, 1) := dk_3 (dk_at dksX1_propose_5 8 rfl rfl)
theorem dX1_propose_128 : decode cX1_propose 128 = .ok (.putfield 365, 3) := dk_181 1 109 (dk_at dksX1_propose_5 9 rfl rfl)
theorem dX1_propose_131 : decode cX1_propose 131 = .ok (.goto (-34), 3) := dk_167 255 222 (dk_at dksX1_propose_5 12 rfl rfl)
theorem dX1_propose_134 : decode cX1_propose 134 = .ok (.aload_n 0, 1) := dk_42 (dk_at dksX1_propose_5 15 rfl rfl)
theorem dX1_propose_135 : decode cX1_propose 135 = .ok (.getfield 84, 3) := dk_180 0 84 (dk_at dksX1_propose_5 16 rfl rfl)
theorem dX1_propose_138 : decode cX1_propose 138 = .ok (.getfield 118, 3) := dk_180 0 118 (dk_at dksX1_propose_5 19 rfl rfl)
theorem dX1_propose_141 : decode cX1_propose 141 = .ok (.ireturn, 1) := dk_172 (dk_at dksX1_propose_5 22 rfl rfl)
abbrev cX1_approve : ByteArray := prog_1_method_46_code
def yX1_approve : MethodName := ⟨RX1, "approve", "()I"⟩
def dkwX1_approve_4 : List UInt8 := [180, 0, 118, 6, 160, 0, 7, 42, 182, 1, 150, 42, 180, 0, 84, 180, 0, 118, 172]
abbrev dktX1_approve_4 : List UInt8 := dkwX1_approve_4 ++ []
def dkwX1_approve_3 : List UInt8 := [180, 0, 118, 4, 96, 181, 0, 118, 42, 180, 0, 84, 42, 180, 0, 115, 181, 1, 125, 42, 180, 0, 84]
abbrev dktX1_approve_3 : List UInt8 := dkwX1_approve_3 ++ dktX1_approve_4
def dkwX1_approve_2 : List UInt8 := [167, 0, 10, 42, 180, 0, 84, 180, 0, 118, 181, 0, 118, 43, 180, 1, 147, 172, 42, 180, 0, 84, 89]
abbrev dktX1_approve_2 : List UInt8 := dkwX1_approve_2 ++ dktX1_approve_3
def dkwX1_approve_1 : List UInt8 := [42, 182, 1, 144, 167, 0, 36, 76, 42, 180, 0, 84, 43, 180, 1, 147, 16, 253, 160, 0, 7, 7]
abbrev dktX1_approve_1 : List UInt8 := dkwX1_approve_1 ++ dktX1_approve_2
def dkwX1_approve_0 : List UInt8 := [42, 182, 0, 123, 4, 159, 0, 11, 42, 182, 0, 123, 5, 160, 0, 7, 4, 167, 0, 4, 3, 184, 0, 182]
abbrev dktX1_approve_0 : List UInt8 := dkwX1_approve_0 ++ dktX1_approve_1
theorem dksX1_approve_0 : cX1_approve.data.toList.drop 0 = dktX1_approve_0 := by decide +kernel
theorem dksX1_approve_1 : cX1_approve.data.toList.drop 24 = dktX1_approve_1 := dk_seg dksX1_approve_0 24 rfl rfl
theorem dksX1_approve_2 : cX1_approve.data.toList.drop 46 = dktX1_approve_2 := dk_seg dksX1_approve_1 22 rfl rfl
theorem dksX1_approve_3 : cX1_approve.data.toList.drop 69 = dktX1_approve_3 := dk_seg dksX1_approve_2 23 rfl rfl
theorem dksX1_approve_4 : cX1_approve.data.toList.drop 92 = dktX1_approve_4 := dk_seg dksX1_approve_3 23 rfl rfl
theorem dX1_approve_0 : decode cX1_approve 0 = .ok (.aload_n 0, 1) := dk_42 (dk_at dksX1_approve_0 0 rfl rfl)
theorem dX1_approve_1 : decode cX1_approve 1 = .ok (.invokevirtual 123, 3) := dk_182 0 123 (dk_at dksX1_approve_0 1 rfl rfl)
theorem dX1_approve_4 : decode cX1_approve 4 = .ok (.iconst 1, 1) := dk_4 (dk_at dksX1_approve_0 4 rfl rfl)
theorem dX1_approve_5 : decode cX1_approve 5 = .ok (.if_icmp .eq 11, 3) := dk_159 0 11 (dk_at dksX1_approve_0 5 rfl rfl)
theorem dX1_approve_8 : decode cX1_approve 8 = .ok (.aload_n 0, 1) := dk_42 (dk_at dksX1_approve_0 8 rfl rfl)
theorem dX1_approve_9 : decode cX1_approve 9 = .ok (.invokevirtual 123, 3) := dk_182 0 123 (dk_at dksX1_approve_0 9 rfl rfl)
theorem dX1_approve_12 : decode cX1_approve 12 = .ok (.iconst 2, 1) := dk_5 (dk_at dksX1_approve_0 12 rfl rfl)
theorem dX1_approve_13 : decode cX1_approve 13 = .ok (.if_icmp .ne 7, 3) := dk_160 0 7 (dk_at dksX1_approve_0 13 rfl rfl)
theorem dX1_approve_16 : decode cX1_approve 16 = .ok (.iconst 1, 1) := dk_4 (dk_at dksX1_approve_0 16 rfl rfl)
theorem dX1_approve_17 : decode cX1_approve 17 = .ok (.goto 4, 3) := dk_167 0 4 (dk_at dksX1_approve_0 17 rfl rfl)
theorem dX1_approve_20 : decode cX1_approve 20 = .ok (.iconst 0, 1) := dk_3 (dk_at dksX1_approve_0 20 rfl rfl)
theorem dX1_approve_21 : decode cX1_approve 21 = .ok (.invokestatic 182, 3) := dk_184 0 182 (dk_at dksX1_approve_0 21 rfl rfl)
theorem dX1_approve_24 : decode cX1_approve 24 = .ok (.aload_n 0, 1) := dk_42 (dk_at dksX1_approve_1 0 rfl rfl)
theorem dX1_approve_25 : decode cX1_approve 25 = .ok (.invokevirtual 400, 3) := dk_182 1 144 (dk_at dksX1_approve_1 1 rfl rfl)
theorem dX1_approve_28 : decode cX1_approve 28 = .ok (.goto 36, 3) := dk_167 0 36 (dk_at dksX1_approve_1 4 rfl rfl)
theorem dX1_approve_31 : decode cX1_approve 31 = .ok (.astore_n 1, 1) := dk_76 (dk_at dksX1_approve_1 7 rfl rfl)
theorem dX1_approve_32 : decode cX1_approve 32 = .ok (.aload_n 0, 1) := dk_42 (dk_at dksX1_approve_1 8 rfl rfl)
theorem dX1_approve_33 : decode cX1_approve 33 = .ok (.getfield 84, 3) := dk_180 0 84 (dk_at dksX1_approve_1 9 rfl rfl)
theorem dX1_approve_36 : decode cX1_approve 36 = .ok (.aload_n 1, 1) := dk_43 (dk_at dksX1_approve_1 12 rfl rfl)
theorem dX1_approve_37 : decode cX1_approve 37 = .ok (.getfield 403, 3) := dk_180 1 147 (dk_at dksX1_approve_1 13 rfl rfl)
theorem dX1_approve_40 : decode cX1_approve 40 = .ok (.bipush (-3), 2) := dk_16 253 (dk_at dksX1_approve_1 16 rfl rfl)
theorem dX1_approve_42 : decode cX1_approve 42 = .ok (.if_icmp .ne 7, 3) := dk_160 0 7 (dk_at dksX1_approve_1 18 rfl rfl)
theorem dX1_approve_45 : decode cX1_approve 45 = .ok (.iconst 4, 1) := dk_7 (dk_at dksX1_approve_1 21 rfl rfl)
theorem dX1_approve_46 : decode cX1_approve 46 = .ok (.goto 10, 3) := dk_167 0 10 (dk_at dksX1_approve_2 0 rfl rfl)
theorem dX1_approve_49 : decode cX1_approve 49 = .ok (.aload_n 0, 1) := dk_42 (dk_at dksX1_approve_2 3 rfl rfl)
theorem dX1_approve_50 : decode cX1_approve 50 = .ok (.getfield 84, 3) := dk_180 0 84 (dk_at dksX1_approve_2 4 rfl rfl)
theorem dX1_approve_53 : decode cX1_approve 53 = .ok (.getfield 118, 3) := dk_180 0 118 (dk_at dksX1_approve_2 7 rfl rfl)
theorem dX1_approve_56 : decode cX1_approve 56 = .ok (.putfield 118, 3) := dk_181 0 118 (dk_at dksX1_approve_2 10 rfl rfl)
theorem dX1_approve_59 : decode cX1_approve 59 = .ok (.aload_n 1, 1) := dk_43 (dk_at dksX1_approve_2 13 rfl rfl)
theorem dX1_approve_60 : decode cX1_approve 60 = .ok (.getfield 403, 3) := dk_180 1 147 (dk_at dksX1_approve_2 14 rfl rfl)
theorem dX1_approve_63 : decode cX1_approve 63 = .ok (.ireturn, 1) := dk_172 (dk_at dksX1_approve_2 17 rfl rfl)
theorem dX1_approve_64 : decode cX1_approve 64 = .ok (.aload_n 0, 1) := dk_42 (dk_at dksX1_approve_2 18 rfl rfl)
theorem dX1_approve_65 : decode cX1_approve 65 = .ok (.getfield 84, 3) := dk_180 0 84 (dk_at dksX1_approve_2 19 rfl rfl)
theorem dX1_approve_68 : decode cX1_approve 68 = .ok (.dup, 1) := dk_89 (dk_at dksX1_approve_2 22 rfl rfl)
theorem dX1_approve_69 : decode cX1_approve 69 = .ok (.getfield 118, 3) := dk_180 0 118 (dk_at dksX1_approve_3 0 rfl rfl)
theorem dX1_approve_72 : decode cX1_approve 72 = .ok (.iconst 1, 1) := dk_4 (dk_at dksX1_approve_3 3 rfl rfl)
theorem dX1_approve_73 : decode cX1_approve 73 = .ok (.iadd, 1) := dk_96 (dk_at dksX1_approve_3 4 rfl rfl)
theorem dX1_approve_74 : decode cX1_approve 74 = .ok (.putfield 118, 3) := dk_181 0 118 (dk_at dksX1_approve_3 5 rfl rfl)
theorem dX1_approve_77 : decode cX1_approve 77 = .ok (.aload_n 0, 1) := dk_42 (dk_at dksX1_approve_3 8 rfl rfl)
theorem dX1_approve_78 : decode cX1_approve 78 = .ok (.getfield 84, 3) := dk_180 0 84 (dk_at dksX1_approve_3 9 rfl rfl)
theorem dX1_approve_81 : decode cX1_approve 81 = .ok (.aload_n 0, 1) := dk_42 (dk_at dksX1_approve_3 12 rfl rfl)
theorem dX1_approve_82 : decode cX1_approve 82 = .ok (.getfield 115, 3) := dk_180 0 115 (dk_at dksX1_approve_3 13 rfl rfl)
theorem dX1_approve_85 : decode cX1_approve 85 = .ok (.putfield 381, 3) := dk_181 1 125 (dk_at dksX1_approve_3 16 rfl rfl)
theorem dX1_approve_88 : decode cX1_approve 88 = .ok (.aload_n 0, 1) := dk_42 (dk_at dksX1_approve_3 19 rfl rfl)
theorem dX1_approve_89 : decode cX1_approve 89 = .ok (.getfield 84, 3) := dk_180 0 84 (dk_at dksX1_approve_3 20 rfl rfl)
theorem dX1_approve_92 : decode cX1_approve 92 = .ok (.getfield 118, 3) := dk_180 0 118 (dk_at dksX1_approve_4 0 rfl rfl)
theorem dX1_approve_95 : decode cX1_approve 95 = .ok (.iconst 3, 1) := dk_6 (dk_at dksX1_approve_4 3 rfl rfl)
theorem dX1_approve_96 : decode cX1_approve 96 = .ok (.if_icmp .ne 7, 3) := dk_160 0 7 (dk_at dksX1_approve_4 4 rfl rfl)
theorem dX1_approve_99 : decode cX1_approve 99 = .ok (.aload_n 0, 1) := dk_42 (dk_at dksX1_approve_4 7 rfl rfl)
theorem dX1_approve_100 : decode cX1_approve 100 = .ok (.invokevirtual 406, 3) := dk_182 1 150 (dk_at dksX1_approve_4 8 rfl rfl)
theorem dX1_approve_103 : decode cX1_approve 103 = .ok (.aload_n 0, 1) := dk_42 (dk_at dksX1_approve_4 11 rfl rfl)
theorem dX1_approve_104 : decode cX1_approve 104 = .ok (.getfield 84, 3) := dk_180 0 84 (dk_at dksX1_approve_4 12 rfl rfl)
theorem dX1_approve_107 : decode cX1_approve 107 = .ok (.getfield 118, 3) := dk_180 0 118 (dk_at dksX1_approve_4 15 rfl rfl)
theorem dX1_approve_110 : decode cX1_approve 110 = .ok (.ireturn, 1) := dk_172 (dk_at dksX1_approve_4 18 rfl rfl)
abbrev cX1_looksAtDeal : ByteArray := prog_1_method_44_code
def yX1_looksAtDeal : MethodName := ⟨RX1, "looksAtDeal", "()V"⟩
def dkwX1_looksAtDeal_6 : List UInt8 := [180, 1, 138, 154, 0, 7, 4, 167, 0, 4, 3, 16, 250, 184, 1, 121, 177]
abbrev dktX1_looksAtDeal_6 : List UInt8 := dkwX1_looksAtDeal_6 ++ []
def dkwX1_looksAtDeal_5 : List UInt8 := [104, 42, 182, 0, 228, 163, 0, 7, 4, 167, 0, 4, 3, 16, 251, 184, 1, 121, 42, 180, 0, 84]
abbrev dktX1_looksAtDeal_5 : List UInt8 := dkwX1_looksAtDeal_5 ++ dktX1_looksAtDeal_6
def dkwX1_looksAtDeal_4 : List UInt8 := [167, 0, 4, 3, 16, 253, 184, 1, 121, 42, 182, 1, 132, 16, 252, 184, 1, 121, 16, 10, 42, 182, 1, 135]
abbrev dktX1_looksAtDeal_4 : List UInt8 := dkwX1_looksAtDeal_4 ++ dktX1_looksAtDeal_5
def dkwX1_looksAtDeal_3 : List UInt8 := [167, 0, 4, 3, 16, 248, 184, 1, 121, 42, 182, 1, 128, 42, 180, 0, 84, 180, 1, 131, 163, 0, 7, 4]
abbrev dktX1_looksAtDeal_3 : List UInt8 := dkwX1_looksAtDeal_3 ++ dktX1_looksAtDeal_4
def dkwX1_looksAtDeal_2 : List UInt8 := [184, 1, 121, 177, 42, 180, 0, 115, 42, 180, 0, 84, 180, 1, 125, 100, 16, 60, 161, 0, 7, 4]
abbrev dktX1_looksAtDeal_2 : List UInt8 := dkwX1_looksAtDeal_2 ++ dktX1_looksAtDeal_3
def dkwX1_looksAtDeal_1 : List UInt8 := [3, 16, 254, 184, 1, 121, 42, 182, 1, 62, 16, 100, 160, 0, 7, 4, 167, 0, 4, 3, 16, 249]
abbrev dktX1_looksAtDeal_1 : List UInt8 := dkwX1_looksAtDeal_1 ++ dktX1_looksAtDeal_2
def dkwX1_looksAtDeal_0 : List UInt8 := [42, 180, 0, 84, 180, 0, 118, 4, 160, 0, 42, 42, 182, 1, 118, 16, 70, 161, 0, 7, 4, 167, 0, 4]
abbrev dktX1_looksAtDeal_0 : List UInt8 := dkwX1_looksAtDeal_0 ++ dktX1_looksAtDeal_1
theorem dksX1_looksAtDeal_0 : cX1_looksAtDeal.data.toList.drop 0 = dktX1_looksAtDeal_0 := by decide +kernel
theorem dksX1_looksAtDeal_1 : cX1_looksAtDeal.data.toList.drop 24 = dktX1_looksAtDeal_1 := dk_seg dksX1_looksAtDeal_0 24 rfl rfl
theorem dksX1_looksAtDeal_2 : cX1_looksAtDeal.data.toList.drop 46 = dktX1_looksAtDeal_2 := dk_seg dksX1_looksAtDeal_1 22 rfl rfl
theorem dksX1_looksAtDeal_3 : cX1_looksAtDeal.data.toList.drop 68 = dktX1_looksAtDeal_3 := dk_seg dksX1_looksAtDeal_2 22 rfl rfl
theorem dksX1_looksAtDeal_4 : cX1_looksAtDeal.data.toList.drop 92 = dktX1_looksAtDeal_4 := dk_seg dksX1_looksAtDeal_3 24 rfl rfl
theorem dksX1_looksAtDeal_5 : cX1_looksAtDeal.data.toList.drop 116 = dktX1_looksAtDeal_5 := dk_seg dksX1_looksAtDeal_4 24 rfl rfl
theorem dksX1_looksAtDeal_6 : cX1_looksAtDeal.data.toList.drop 138 = dktX1_looksAtDeal_6 := dk_seg dksX1_looksAtDeal_5 22 rfl rfl
theorem dX1_looksAtDeal_0 : decode cX1_looksAtDeal 0 = .ok (.aload_n 0, 1) := dk_42 (dk_at dksX1_looksAtDeal_0 0 rfl rfl)
theorem dX1_looksAtDeal_1 : decode cX1_looksAtDeal 1 = .ok (.getfield 84, 3) := dk_180 0 84 (dk_at dksX1_looksAtDeal_0 1 rfl rfl)
theorem dX1_looksAtDeal_4 : decode cX1_looksAtDeal 4 = .ok (.getfield 118, 3) := dk_180 0 118 (dk_at dksX1_looksAtDeal_0 4 rfl rfl)
theorem dX1_looksAtDeal_7 : decode cX1_looksAtDeal 7 = .ok (.iconst 1, 1) := dk_4 (dk_at dksX1_looksAtDeal_0 7 rfl rfl)
theorem dX1_looksAtDeal_8 : decode cX1_looksAtDeal 8 = .ok (.if_icmp .ne 42, 3) := dk_160 0 42 (dk_at dksX1_looksAtDeal_0 8 rfl rfl)
theorem dX1_looksAtDeal_11 : decode cX1_looksAtDeal 11 = .ok (.aload_n 0, 1) := dk_42 (dk_at dksX1_looksAtDeal_0 11 rfl rfl)
theorem dX1_looksAtDeal_12 : decode cX1_looksAtDeal 12 = .ok (.invokevirtual 374, 3) := dk_182 1 118 (dk_at dksX1_looksAtDeal_0 12 rfl rfl)
theorem dX1_looksAtDeal_15 : decode cX1_looksAtDeal 15 = .ok (.bipush 70, 2) := dk_16 70 (dk_at dksX1_looksAtDeal_0 15 rfl rfl)
theorem dX1_looksAtDeal_17 : decode cX1_looksAtDeal 17 = .ok (.if_icmp .lt 7, 3) := dk_161 0 7 (dk_at dksX1_looksAtDeal_0 17 rfl rfl)
theorem dX1_looksAtDeal_20 : decode cX1_looksAtDeal 20 = .ok (.iconst 1, 1) := dk_4 (dk_at dksX1_looksAtDeal_0 20 rfl rfl)
theorem dX1_looksAtDeal_21 : decode cX1_looksAtDeal 21 = .ok (.goto 4, 3) := dk_167 0 4 (dk_at dksX1_looksAtDeal_0 21 rfl rfl)
theorem dX1_looksAtDeal_24 : decode cX1_looksAtDeal 24 = .ok (.iconst 0, 1) := dk_3 (dk_at dksX1_looksAtDeal_1 0 rfl rfl)
theorem dX1_looksAtDeal_25 : decode cX1_looksAtDeal 25 = .ok (.bipush (-2), 2) := dk_16 254 (dk_at dksX1_looksAtDeal_1 1 rfl rfl)
theorem dX1_looksAtDeal_27 : decode cX1_looksAtDeal 27 = .ok (.invokestatic 377, 3) := dk_184 1 121 (dk_at dksX1_looksAtDeal_1 3 rfl rfl)
theorem dX1_looksAtDeal_30 : decode cX1_looksAtDeal 30 = .ok (.aload_n 0, 1) := dk_42 (dk_at dksX1_looksAtDeal_1 6 rfl rfl)
theorem dX1_looksAtDeal_31 : decode cX1_looksAtDeal 31 = .ok (.invokevirtual 318, 3) := dk_182 1 62 (dk_at dksX1_looksAtDeal_1 7 rfl rfl)
theorem dX1_looksAtDeal_34 : decode cX1_looksAtDeal 34 = .ok (.bipush 100, 2) := dk_16 100 (dk_at dksX1_looksAtDeal_1 10 rfl rfl)
theorem dX1_looksAtDeal_36 : decode cX1_looksAtDeal 36 = .ok (.if_icmp .ne 7, 3) := dk_160 0 7 (dk_at dksX1_looksAtDeal_1 12 rfl rfl)
theorem dX1_looksAtDeal_39 : decode cX1_looksAtDeal 39 = .ok (.iconst 1, 1) := dk_4 (dk_at dksX1_looksAtDeal_1 15 rfl rfl)
theorem dX1_looksAtDeal_40 : decode cX1_looksAtDeal 40 = .ok (.goto 4, 3) := dk_167 0 4 (dk_at dksX1_looksAtDeal_1 16 rfl rfl)
theorem dX1_looksAtDeal_43 : decode cX1_looksAtDeal 43 = .ok (.iconst 0, 1) := dk_3 (dk_at dksX1_looksAtDeal_1 19 rfl rfl)
theorem dX1_looksAtDeal_44 : decode cX1_looksAtDeal 44 = .ok (.bipush (-7), 2) := dk_16 249 (dk_at dksX1_looksAtDeal_1 20 rfl rfl)
theorem dX1_looksAtDeal_46 : decode cX1_looksAtDeal 46 = .ok (.invokestatic 377, 3) := dk_184 1 121 (dk_at dksX1_looksAtDeal_2 0 rfl rfl)
theorem dX1_looksAtDeal_49 : decode cX1_looksAtDeal 49 = .ok (.return_, 1) := dk_177 (dk_at dksX1_looksAtDeal_2 3 rfl rfl)
theorem dX1_looksAtDeal_50 : decode cX1_looksAtDeal 50 = .ok (.aload_n 0, 1) := dk_42 (dk_at dksX1_looksAtDeal_2 4 rfl rfl)
theorem dX1_looksAtDeal_51 : decode cX1_looksAtDeal 51 = .ok (.getfield 115, 3) := dk_180 0 115 (dk_at dksX1_looksAtDeal_2 5 rfl rfl)
theorem dX1_looksAtDeal_54 : decode cX1_looksAtDeal 54 = .ok (.aload_n 0, 1) := dk_42 (dk_at dksX1_looksAtDeal_2 8 rfl rfl)
theorem dX1_looksAtDeal_55 : decode cX1_looksAtDeal 55 = .ok (.getfield 84, 3) := dk_180 0 84 (dk_at dksX1_looksAtDeal_2 9 rfl rfl)
theorem dX1_looksAtDeal_58 : decode cX1_looksAtDeal 58 = .ok (.getfield 381, 3) := dk_180 1 125 (dk_at dksX1_looksAtDeal_2 12 rfl rfl)
theorem dX1_looksAtDeal_61 : decode cX1_looksAtDeal 61 = .ok (.isub, 1) := dk_100 (dk_at dksX1_looksAtDeal_2 15 rfl rfl)
theorem dX1_looksAtDeal_62 : decode cX1_looksAtDeal 62 = .ok (.bipush 60, 2) := dk_16 60 (dk_at dksX1_looksAtDeal_2 16 rfl rfl)
theorem dX1_looksAtDeal_64 : decode cX1_looksAtDeal 64 = .ok (.if_icmp .lt 7, 3) := dk_161 0 7 (dk_at dksX1_looksAtDeal_2 18 rfl rfl)
theorem dX1_looksAtDeal_67 : decode cX1_looksAtDeal 67 = .ok (.iconst 1, 1) := dk_4 (dk_at dksX1_looksAtDeal_2 21 rfl rfl)
theorem dX1_looksAtDeal_68 : decode cX1_looksAtDeal 68 = .ok (.goto 4, 3) := dk_167 0 4 (dk_at dksX1_looksAtDeal_3 0 rfl rfl)
theorem dX1_looksAtDeal_71 : decode cX1_looksAtDeal 71 = .ok (.iconst 0, 1) := dk_3 (dk_at dksX1_looksAtDeal_3 3 rfl rfl)
theorem dX1_looksAtDeal_72 : decode cX1_looksAtDeal 72 = .ok (.bipush (-8), 2) := dk_16 248 (dk_at dksX1_looksAtDeal_3 4 rfl rfl)
theorem dX1_looksAtDeal_74 : decode cX1_looksAtDeal 74 = .ok (.invokestatic 377, 3) := dk_184 1 121 (dk_at dksX1_looksAtDeal_3 6 rfl rfl)
theorem dX1_looksAtDeal_77 : decode cX1_looksAtDeal 77 = .ok (.aload_n 0, 1) := dk_42 (dk_at dksX1_looksAtDeal_3 9 rfl rfl)
theorem dX1_looksAtDeal_78 : decode cX1_looksAtDeal 78 = .ok (.invokevirtual 384, 3) := dk_182 1 128 (dk_at dksX1_looksAtDeal_3 10 rfl rfl)
theorem dX1_looksAtDeal_81 : decode cX1_looksAtDeal 81 = .ok (.aload_n 0, 1) := dk_42 (dk_at dksX1_looksAtDeal_3 13 rfl rfl)
theorem dX1_looksAtDeal_82 : decode cX1_looksAtDeal 82 = .ok (.getfield 84, 3) := dk_180 0 84 (dk_at dksX1_looksAtDeal_3 14 rfl rfl)
theorem dX1_looksAtDeal_85 : decode cX1_looksAtDeal 85 = .ok (.getfield 387, 3) := dk_180 1 131 (dk_at dksX1_looksAtDeal_3 17 rfl rfl)
theorem dX1_looksAtDeal_88 : decode cX1_looksAtDeal 88 = .ok (.if_icmp .gt 7, 3) := dk_163 0 7 (dk_at dksX1_looksAtDeal_3 20 rfl rfl)
theorem dX1_looksAtDeal_91 : decode cX1_looksAtDeal 91 = .ok (.iconst 1, 1) := dk_4 (dk_at dksX1_looksAtDeal_3 23 rfl rfl)
theorem dX1_looksAtDeal_92 : decode cX1_looksAtDeal 92 = .ok (.goto 4, 3) := dk_167 0 4 (dk_at dksX1_looksAtDeal_4 0 rfl rfl)
theorem dX1_looksAtDeal_95 : decode cX1_looksAtDeal 95 = .ok (.iconst 0, 1) := dk_3 (dk_at dksX1_looksAtDeal_4 3 rfl rfl)
theorem dX1_looksAtDeal_96 : decode cX1_looksAtDeal 96 = .ok (.bipush (-3), 2) := dk_16 253 (dk_at dksX1_looksAtDeal_4 4 rfl rfl)
theorem dX1_looksAtDeal_98 : decode cX1_looksAtDeal 98 = .ok (.invokestatic 377, 3) := dk_184 1 121 (dk_at dksX1_looksAtDeal_4 6 rfl rfl)
theorem dX1_looksAtDeal_101 : decode cX1_looksAtDeal 101 = .ok (.aload_n 0, 1) := dk_42 (dk_at dksX1_looksAtDeal_4 9 rfl rfl)
theorem dX1_looksAtDeal_102 : decode cX1_looksAtDeal 102 = .ok (.invokevirtual 388, 3) := dk_182 1 132 (dk_at dksX1_looksAtDeal_4 10 rfl rfl)
theorem dX1_looksAtDeal_105 : decode cX1_looksAtDeal 105 = .ok (.bipush (-4), 2) := dk_16 252 (dk_at dksX1_looksAtDeal_4 13 rfl rfl)
theorem dX1_looksAtDeal_107 : decode cX1_looksAtDeal 107 = .ok (.invokestatic 377, 3) := dk_184 1 121 (dk_at dksX1_looksAtDeal_4 15 rfl rfl)
theorem dX1_looksAtDeal_110 : decode cX1_looksAtDeal 110 = .ok (.bipush 10, 2) := dk_16 10 (dk_at dksX1_looksAtDeal_4 18 rfl rfl)
theorem dX1_looksAtDeal_112 : decode cX1_looksAtDeal 112 = .ok (.aload_n 0, 1) := dk_42 (dk_at dksX1_looksAtDeal_4 20 rfl rfl)
theorem dX1_looksAtDeal_113 : decode cX1_looksAtDeal 113 = .ok (.invokevirtual 391, 3) := dk_182 1 135 (dk_at dksX1_looksAtDeal_4 21 rfl rfl)
theorem dX1_looksAtDeal_116 : decode cX1_looksAtDeal 116 = .ok (.imul, 1) := dk_104 (dk_at dksX1_looksAtDeal_5 0 rfl rfl)
theorem dX1_looksAtDeal_117 : decode cX1_looksAtDeal 117 = .ok (.aload_n 0, 1) := dk_42 (dk_at dksX1_looksAtDeal_5 1 rfl rfl)
theorem dX1_looksAtDeal_118 : decode cX1_looksAtDeal 118 = .ok (.invokevirtual 228, 3) := dk_182 0 228 (dk_at dksX1_looksAtDeal_5 2 rfl rfl)
theorem dX1_looksAtDeal_121 : decode cX1_looksAtDeal 121 = .ok (.if_icmp .gt 7, 3) := dk_163 0 7 (dk_at dksX1_looksAtDeal_5 5 rfl rfl)
theorem dX1_looksAtDeal_124 : decode cX1_looksAtDeal 124 = .ok (.iconst 1, 1) := dk_4 (dk_at dksX1_looksAtDeal_5 8 rfl rfl)
theorem dX1_looksAtDeal_125 : decode cX1_looksAtDeal 125 = .ok (.goto 4, 3) := dk_167 0 4 (dk_at dksX1_looksAtDeal_5 9 rfl rfl)
theorem dX1_looksAtDeal_128 : decode cX1_looksAtDeal 128 = .ok (.iconst 0, 1) := dk_3 (dk_at dksX1_looksAtDeal_5 12 rfl rfl)
theorem dX1_looksAtDeal_129 : decode cX1_looksAtDeal 129 = .ok (.bipush (-5), 2) := dk_16 251 (dk_at dksX1_looksAtDeal_5 13 rfl rfl)
theorem dX1_looksAtDeal_131 : decode cX1_looksAtDeal 131 = .ok (.invokestatic 377, 3) := dk_184 1 121 (dk_at dksX1_looksAtDeal_5 15 rfl rfl)
theorem dX1_looksAtDeal_134 : decode cX1_looksAtDeal 134 = .ok (.aload_n 0, 1) := dk_42 (dk_at dksX1_looksAtDeal_5 18 rfl rfl)
theorem dX1_looksAtDeal_135 : decode cX1_looksAtDeal 135 = .ok (.getfield 84, 3) := dk_180 0 84 (dk_at dksX1_looksAtDeal_5 19 rfl rfl)
theorem dX1_looksAtDeal_138 : decode cX1_looksAtDeal 138 = .ok (.getfield 394, 3) := dk_180 1 138 (dk_at dksX1_looksAtDeal_6 0 rfl rfl)
theorem dX1_looksAtDeal_141 : decode cX1_looksAtDeal 141 = .ok (.ifCond .ne 7, 3) := dk_154 0 7 (dk_at dksX1_looksAtDeal_6 3 rfl rfl)
theorem dX1_looksAtDeal_144 : decode cX1_looksAtDeal 144 = .ok (.iconst 1, 1) := dk_4 (dk_at dksX1_looksAtDeal_6 6 rfl rfl)
theorem dX1_looksAtDeal_145 : decode cX1_looksAtDeal 145 = .ok (.goto 4, 3) := dk_167 0 4 (dk_at dksX1_looksAtDeal_6 7 rfl rfl)
theorem dX1_looksAtDeal_148 : decode cX1_looksAtDeal 148 = .ok (.iconst 0, 1) := dk_3 (dk_at dksX1_looksAtDeal_6 10 rfl rfl)
theorem dX1_looksAtDeal_149 : decode cX1_looksAtDeal 149 = .ok (.bipush (-6), 2) := dk_16 250 (dk_at dksX1_looksAtDeal_6 11 rfl rfl)
theorem dX1_looksAtDeal_151 : decode cX1_looksAtDeal 151 = .ok (.invokestatic 377, 3) := dk_184 1 121 (dk_at dksX1_looksAtDeal_6 13 rfl rfl)
theorem dX1_looksAtDeal_154 : decode cX1_looksAtDeal 154 = .ok (.return_, 1) := dk_177 (dk_at dksX1_looksAtDeal_6 16 rfl rfl)
abbrev cX1_reach : ByteArray := prog_1_method_25_code
def yX1_reach : MethodName := ⟨RX1, "reach", "()I"⟩
def dkwX1_reach_3 : List UInt8 := [104, 42, 182, 0, 228, 108, 172]
abbrev dktX1_reach_3 : List UInt8 := dkwX1_reach_3 ++ []
def dkwX1_reach_2 : List UInt8 := [159, 0, 7, 4, 167, 0, 4, 3, 96, 60, 167, 255, 214, 27, 154, 0, 7, 3, 167, 0, 12, 16, 100, 27]
abbrev dktX1_reach_2 : List UInt8 := dkwX1_reach_2 ++ dktX1_reach_3
def dkwX1_reach_1 : List UInt8 := [185, 0, 217, 1, 0, 192, 0, 140, 78, 27, 45, 182, 0, 148, 153, 0, 15, 45, 180, 0, 248, 2]
abbrev dktX1_reach_1 : List UInt8 := dkwX1_reach_1 ++ dktX1_reach_2
def dkwX1_reach_0 : List UInt8 := [3, 60, 42, 180, 0, 42, 182, 0, 208, 77, 44, 185, 0, 212, 1, 0, 153, 0, 39, 44]
abbrev dktX1_reach_0 : List UInt8 := dkwX1_reach_0 ++ dktX1_reach_1
theorem dksX1_reach_0 : cX1_reach.data.toList.drop 0 = dktX1_reach_0 := by decide +kernel
theorem dksX1_reach_1 : cX1_reach.data.toList.drop 20 = dktX1_reach_1 := dk_seg dksX1_reach_0 20 rfl rfl
theorem dksX1_reach_2 : cX1_reach.data.toList.drop 42 = dktX1_reach_2 := dk_seg dksX1_reach_1 22 rfl rfl
theorem dksX1_reach_3 : cX1_reach.data.toList.drop 66 = dktX1_reach_3 := dk_seg dksX1_reach_2 24 rfl rfl
theorem dX1_reach_0 : decode cX1_reach 0 = .ok (.iconst 0, 1) := dk_3 (dk_at dksX1_reach_0 0 rfl rfl)
theorem dX1_reach_1 : decode cX1_reach 1 = .ok (.istore_n 1, 1) := dk_60 (dk_at dksX1_reach_0 1 rfl rfl)
theorem dX1_reach_2 : decode cX1_reach 2 = .ok (.aload_n 0, 1) := dk_42 (dk_at dksX1_reach_0 2 rfl rfl)
theorem dX1_reach_3 : decode cX1_reach 3 = .ok (.getfield 42, 3) := dk_180 0 42 (dk_at dksX1_reach_0 3 rfl rfl)
theorem dX1_reach_6 : decode cX1_reach 6 = .ok (.invokevirtual 208, 3) := dk_182 0 208 (dk_at dksX1_reach_0 6 rfl rfl)
theorem dX1_reach_9 : decode cX1_reach 9 = .ok (.astore_n 2, 1) := dk_77 (dk_at dksX1_reach_0 9 rfl rfl)
theorem dX1_reach_10 : decode cX1_reach 10 = .ok (.aload_n 2, 1) := dk_44 (dk_at dksX1_reach_0 10 rfl rfl)
theorem dX1_reach_11 : decode cX1_reach 11 = .ok (.invokeinterface 212 1, 5) := by decide +kernel
theorem dX1_reach_16 : decode cX1_reach 16 = .ok (.ifCond .eq 39, 3) := dk_153 0 39 (dk_at dksX1_reach_0 16 rfl rfl)
theorem dX1_reach_19 : decode cX1_reach 19 = .ok (.aload_n 2, 1) := dk_44 (dk_at dksX1_reach_0 19 rfl rfl)
theorem dX1_reach_20 : decode cX1_reach 20 = .ok (.invokeinterface 217 1, 5) := by decide +kernel
theorem dX1_reach_25 : decode cX1_reach 25 = .ok (.checkcast 140, 3) := dk_192 0 140 (dk_at dksX1_reach_1 5 rfl rfl)
theorem dX1_reach_28 : decode cX1_reach 28 = .ok (.astore_n 3, 1) := dk_78 (dk_at dksX1_reach_1 8 rfl rfl)
theorem dX1_reach_29 : decode cX1_reach 29 = .ok (.iload_n 1, 1) := dk_27 (dk_at dksX1_reach_1 9 rfl rfl)
theorem dX1_reach_30 : decode cX1_reach 30 = .ok (.aload_n 3, 1) := dk_45 (dk_at dksX1_reach_1 10 rfl rfl)
theorem dX1_reach_31 : decode cX1_reach 31 = .ok (.invokevirtual 148, 3) := dk_182 0 148 (dk_at dksX1_reach_1 11 rfl rfl)
theorem dX1_reach_34 : decode cX1_reach 34 = .ok (.ifCond .eq 15, 3) := dk_153 0 15 (dk_at dksX1_reach_1 14 rfl rfl)
theorem dX1_reach_37 : decode cX1_reach 37 = .ok (.aload_n 3, 1) := dk_45 (dk_at dksX1_reach_1 17 rfl rfl)
theorem dX1_reach_38 : decode cX1_reach 38 = .ok (.getfield 248, 3) := dk_180 0 248 (dk_at dksX1_reach_1 18 rfl rfl)
theorem dX1_reach_41 : decode cX1_reach 41 = .ok (.iconst (-1), 1) := dk_2 (dk_at dksX1_reach_1 21 rfl rfl)
theorem dX1_reach_42 : decode cX1_reach 42 = .ok (.if_icmp .eq 7, 3) := dk_159 0 7 (dk_at dksX1_reach_2 0 rfl rfl)
theorem dX1_reach_45 : decode cX1_reach 45 = .ok (.iconst 1, 1) := dk_4 (dk_at dksX1_reach_2 3 rfl rfl)
theorem dX1_reach_46 : decode cX1_reach 46 = .ok (.goto 4, 3) := dk_167 0 4 (dk_at dksX1_reach_2 4 rfl rfl)
theorem dX1_reach_49 : decode cX1_reach 49 = .ok (.iconst 0, 1) := dk_3 (dk_at dksX1_reach_2 7 rfl rfl)
theorem dX1_reach_50 : decode cX1_reach 50 = .ok (.iadd, 1) := dk_96 (dk_at dksX1_reach_2 8 rfl rfl)
theorem dX1_reach_51 : decode cX1_reach 51 = .ok (.istore_n 1, 1) := dk_60 (dk_at dksX1_reach_2 9 rfl rfl)
theorem dX1_reach_52 : decode cX1_reach 52 = .ok (.goto (-42), 3) := dk_167 255 214 (dk_at dksX1_reach_2 10 rfl rfl)
theorem dX1_reach_55 : decode cX1_reach 55 = .ok (.iload_n 1, 1) := dk_27 (dk_at dksX1_reach_2 13 rfl rfl)
theorem dX1_reach_56 : decode cX1_reach 56 = .ok (.ifCond .ne 7, 3) := dk_154 0 7 (dk_at dksX1_reach_2 14 rfl rfl)
theorem dX1_reach_59 : decode cX1_reach 59 = .ok (.iconst 0, 1) := dk_3 (dk_at dksX1_reach_2 17 rfl rfl)
theorem dX1_reach_60 : decode cX1_reach 60 = .ok (.goto 12, 3) := dk_167 0 12 (dk_at dksX1_reach_2 18 rfl rfl)
theorem dX1_reach_63 : decode cX1_reach 63 = .ok (.bipush 100, 2) := dk_16 100 (dk_at dksX1_reach_2 21 rfl rfl)
theorem dX1_reach_65 : decode cX1_reach 65 = .ok (.iload_n 1, 1) := dk_27 (dk_at dksX1_reach_2 23 rfl rfl)
theorem dX1_reach_66 : decode cX1_reach 66 = .ok (.imul, 1) := dk_104 (dk_at dksX1_reach_3 0 rfl rfl)
theorem dX1_reach_67 : decode cX1_reach 67 = .ok (.aload_n 0, 1) := dk_42 (dk_at dksX1_reach_3 1 rfl rfl)
theorem dX1_reach_68 : decode cX1_reach 68 = .ok (.invokevirtual 228, 3) := dk_182 0 228 (dk_at dksX1_reach_3 2 rfl rfl)
theorem dX1_reach_71 : decode cX1_reach 71 = .ok (.idiv, 1) := dk_108 (dk_at dksX1_reach_3 5 rfl rfl)
theorem dX1_reach_72 : decode cX1_reach 72 = .ok (.ireturn, 1) := dk_172 (dk_at dksX1_reach_3 6 rfl rfl)
abbrev cX1_look : ByteArray := prog_1_method_7_code
def yX1_look : MethodName := ⟨RX1, "look", "(ZI)V"⟩
def dkwX1_look_0 : List UInt8 := [26, 154, 0, 12, 187, 0, 29, 89, 27, 183, 0, 31, 191, 177]
abbrev dktX1_look_0 : List UInt8 := dkwX1_look_0 ++ []
theorem dksX1_look_0 : cX1_look.data.toList.drop 0 = dktX1_look_0 := by decide +kernel
theorem dX1_look_0 : decode cX1_look 0 = .ok (.iload_n 0, 1) := dk_26 (dk_at dksX1_look_0 0 rfl rfl)
theorem dX1_look_1 : decode cX1_look 1 = .ok (.ifCond .ne 12, 3) := dk_154 0 12 (dk_at dksX1_look_0 1 rfl rfl)
theorem dX1_look_4 : decode cX1_look 4 = .ok (.new 29, 3) := dk_187 0 29 (dk_at dksX1_look_0 4 rfl rfl)
theorem dX1_look_7 : decode cX1_look 7 = .ok (.dup, 1) := dk_89 (dk_at dksX1_look_0 7 rfl rfl)
theorem dX1_look_8 : decode cX1_look 8 = .ok (.iload_n 1, 1) := dk_27 (dk_at dksX1_look_0 8 rfl rfl)
theorem dX1_look_9 : decode cX1_look 9 = .ok (.invokespecial 31, 3) := dk_183 0 31 (dk_at dksX1_look_0 9 rfl rfl)
theorem dX1_look_12 : decode cX1_look 12 = .ok (.athrow, 1) := dk_191 (dk_at dksX1_look_0 12 rfl rfl)
theorem dX1_look_13 : decode cX1_look 13 = .ok (.return_, 1) := dk_177 (dk_at dksX1_look_0 13 rfl rfl)
abbrev cX1_outs : ByteArray := prog_1_method_43_code
def yX1_outs : MethodName := ⟨RX1, "outs", "()I"⟩
def dkwX1_outs_2 : List UInt8 := [4, 167, 0, 4, 3, 96, 60, 167, 255, 215, 27, 172]
abbrev dktX1_outs_2 : List UInt8 := dkwX1_outs_2 ++ []
def dkwX1_outs_1 : List UInt8 := [185, 0, 217, 1, 0, 192, 0, 140, 78, 27, 45, 180, 1, 4, 153, 0, 14, 45, 182, 1, 115, 153, 0, 7]
abbrev dktX1_outs_1 : List UInt8 := dkwX1_outs_1 ++ dktX1_outs_2
def dkwX1_outs_0 : List UInt8 := [3, 60, 42, 180, 0, 42, 182, 0, 208, 77, 44, 185, 0, 212, 1, 0, 153, 0, 38, 44]
abbrev dktX1_outs_0 : List UInt8 := dkwX1_outs_0 ++ dktX1_outs_1
theorem dksX1_outs_0 : cX1_outs.data.toList.drop 0 = dktX1_outs_0 := by decide +kernel
theorem dksX1_outs_1 : cX1_outs.data.toList.drop 20 = dktX1_outs_1 := dk_seg dksX1_outs_0 20 rfl rfl
theorem dksX1_outs_2 : cX1_outs.data.toList.drop 44 = dktX1_outs_2 := dk_seg dksX1_outs_1 24 rfl rfl
theorem dX1_outs_0 : decode cX1_outs 0 = .ok (.iconst 0, 1) := dk_3 (dk_at dksX1_outs_0 0 rfl rfl)
theorem dX1_outs_1 : decode cX1_outs 1 = .ok (.istore_n 1, 1) := dk_60 (dk_at dksX1_outs_0 1 rfl rfl)
theorem dX1_outs_2 : decode cX1_outs 2 = .ok (.aload_n 0, 1) := dk_42 (dk_at dksX1_outs_0 2 rfl rfl)
theorem dX1_outs_3 : decode cX1_outs 3 = .ok (.getfield 42, 3) := dk_180 0 42 (dk_at dksX1_outs_0 3 rfl rfl)
theorem dX1_outs_6 : decode cX1_outs 6 = .ok (.invokevirtual 208, 3) := dk_182 0 208 (dk_at dksX1_outs_0 6 rfl rfl)
theorem dX1_outs_9 : decode cX1_outs 9 = .ok (.astore_n 2, 1) := dk_77 (dk_at dksX1_outs_0 9 rfl rfl)
theorem dX1_outs_10 : decode cX1_outs 10 = .ok (.aload_n 2, 1) := dk_44 (dk_at dksX1_outs_0 10 rfl rfl)
theorem dX1_outs_11 : decode cX1_outs 11 = .ok (.invokeinterface 212 1, 5) := by decide +kernel
theorem dX1_outs_16 : decode cX1_outs 16 = .ok (.ifCond .eq 38, 3) := dk_153 0 38 (dk_at dksX1_outs_0 16 rfl rfl)
theorem dX1_outs_19 : decode cX1_outs 19 = .ok (.aload_n 2, 1) := dk_44 (dk_at dksX1_outs_0 19 rfl rfl)
theorem dX1_outs_20 : decode cX1_outs 20 = .ok (.invokeinterface 217 1, 5) := by decide +kernel
theorem dX1_outs_25 : decode cX1_outs 25 = .ok (.checkcast 140, 3) := dk_192 0 140 (dk_at dksX1_outs_1 5 rfl rfl)
theorem dX1_outs_28 : decode cX1_outs 28 = .ok (.astore_n 3, 1) := dk_78 (dk_at dksX1_outs_1 8 rfl rfl)
theorem dX1_outs_29 : decode cX1_outs 29 = .ok (.iload_n 1, 1) := dk_27 (dk_at dksX1_outs_1 9 rfl rfl)
theorem dX1_outs_30 : decode cX1_outs 30 = .ok (.aload_n 3, 1) := dk_45 (dk_at dksX1_outs_1 10 rfl rfl)
theorem dX1_outs_31 : decode cX1_outs 31 = .ok (.getfield 260, 3) := dk_180 1 4 (dk_at dksX1_outs_1 11 rfl rfl)
theorem dX1_outs_34 : decode cX1_outs 34 = .ok (.ifCond .eq 14, 3) := dk_153 0 14 (dk_at dksX1_outs_1 14 rfl rfl)
theorem dX1_outs_37 : decode cX1_outs 37 = .ok (.aload_n 3, 1) := dk_45 (dk_at dksX1_outs_1 17 rfl rfl)
theorem dX1_outs_38 : decode cX1_outs 38 = .ok (.invokevirtual 371, 3) := dk_182 1 115 (dk_at dksX1_outs_1 18 rfl rfl)
theorem dX1_outs_41 : decode cX1_outs 41 = .ok (.ifCond .eq 7, 3) := dk_153 0 7 (dk_at dksX1_outs_1 21 rfl rfl)
theorem dX1_outs_44 : decode cX1_outs 44 = .ok (.iconst 1, 1) := dk_4 (dk_at dksX1_outs_2 0 rfl rfl)
theorem dX1_outs_45 : decode cX1_outs 45 = .ok (.goto 4, 3) := dk_167 0 4 (dk_at dksX1_outs_2 1 rfl rfl)
theorem dX1_outs_48 : decode cX1_outs 48 = .ok (.iconst 0, 1) := dk_3 (dk_at dksX1_outs_2 4 rfl rfl)
theorem dX1_outs_49 : decode cX1_outs 49 = .ok (.iadd, 1) := dk_96 (dk_at dksX1_outs_2 5 rfl rfl)
theorem dX1_outs_50 : decode cX1_outs 50 = .ok (.istore_n 1, 1) := dk_60 (dk_at dksX1_outs_2 6 rfl rfl)
theorem dX1_outs_51 : decode cX1_outs 51 = .ok (.goto (-41), 3) := dk_167 255 215 (dk_at dksX1_outs_2 7 rfl rfl)
theorem dX1_outs_54 : decode cX1_outs 54 = .ok (.iload_n 1, 1) := dk_27 (dk_at dksX1_outs_2 10 rfl rfl)
theorem dX1_outs_55 : decode cX1_outs 55 = .ok (.ireturn, 1) := dk_172 (dk_at dksX1_outs_2 11 rfl rfl)
abbrev cX1_areFor : ByteArray := prog_1_method_42_code
def yX1_areFor : MethodName := ⟨RX1, "areFor", "()Z"⟩
def dkwX1_areFor_7 : List UInt8 := [167, 255, 107, 27, 172]
abbrev dktX1_areFor_7 : List UInt8 := dkwX1_areFor_7 ++ []
def dkwX1_areFor_6 : List UInt8 := [167, 255, 164, 27, 153, 0, 17, 21, 4, 153, 0, 8, 21, 5, 158, 0, 7, 4, 167, 0, 4, 3, 60]
abbrev dktX1_areFor_6 : List UInt8 := dkwX1_areFor_6 ++ dktX1_areFor_7
def dkwX1_areFor_5 : List UInt8 := [180, 1, 106, 2, 159, 0, 15, 5, 25, 7, 180, 1, 106, 104, 4, 100, 167, 0, 4, 3, 96, 54, 5]
abbrev dktX1_areFor_5 : List UInt8 := dkwX1_areFor_5 ++ dktX1_areFor_6
def dkwX1_areFor_4 : List UInt8 := [21, 8, 153, 0, 7, 4, 167, 0, 4, 3, 96, 54, 4, 21, 5, 21, 8, 153, 0, 24, 25, 7]
abbrev dktX1_areFor_4 : List UInt8 := dkwX1_areFor_4 ++ dktX1_areFor_5
def dkwX1_areFor_3 : List UInt8 := [180, 1, 112, 153, 0, 16, 25, 7, 182, 0, 238, 45, 166, 0, 7, 4, 167, 0, 4, 3, 54, 8, 21, 4]
abbrev dktX1_areFor_3 : List UInt8 := dkwX1_areFor_3 ++ dktX1_areFor_4
def dkwX1_areFor_2 : List UInt8 := [25, 6, 185, 0, 212, 1, 0, 153, 0, 88, 25, 6, 185, 0, 217, 1, 0, 192, 0, 140, 58, 7, 45]
abbrev dktX1_areFor_2 : List UInt8 := dkwX1_areFor_2 ++ dktX1_areFor_3
def dkwX1_areFor_1 : List UInt8 := [185, 0, 217, 1, 0, 192, 0, 231, 78, 3, 54, 4, 3, 54, 5, 42, 180, 0, 42, 182, 0, 208, 58, 6]
abbrev dktX1_areFor_1 : List UInt8 := dkwX1_areFor_1 ++ dktX1_areFor_2
def dkwX1_areFor_0 : List UInt8 := [4, 60, 42, 180, 0, 46, 182, 0, 208, 77, 44, 185, 0, 212, 1, 0, 153, 0, 146, 44]
abbrev dktX1_areFor_0 : List UInt8 := dkwX1_areFor_0 ++ dktX1_areFor_1
theorem dksX1_areFor_0 : cX1_areFor.data.toList.drop 0 = dktX1_areFor_0 := by decide +kernel
theorem dksX1_areFor_1 : cX1_areFor.data.toList.drop 20 = dktX1_areFor_1 := dk_seg dksX1_areFor_0 20 rfl rfl
theorem dksX1_areFor_2 : cX1_areFor.data.toList.drop 44 = dktX1_areFor_2 := dk_seg dksX1_areFor_1 24 rfl rfl
theorem dksX1_areFor_3 : cX1_areFor.data.toList.drop 67 = dktX1_areFor_3 := dk_seg dksX1_areFor_2 23 rfl rfl
theorem dksX1_areFor_4 : cX1_areFor.data.toList.drop 91 = dktX1_areFor_4 := dk_seg dksX1_areFor_3 24 rfl rfl
theorem dksX1_areFor_5 : cX1_areFor.data.toList.drop 113 = dktX1_areFor_5 := dk_seg dksX1_areFor_4 22 rfl rfl
theorem dksX1_areFor_6 : cX1_areFor.data.toList.drop 136 = dktX1_areFor_6 := dk_seg dksX1_areFor_5 23 rfl rfl
theorem dksX1_areFor_7 : cX1_areFor.data.toList.drop 159 = dktX1_areFor_7 := dk_seg dksX1_areFor_6 23 rfl rfl
theorem dX1_areFor_0 : decode cX1_areFor 0 = .ok (.iconst 1, 1) := dk_4 (dk_at dksX1_areFor_0 0 rfl rfl)
theorem dX1_areFor_1 : decode cX1_areFor 1 = .ok (.istore_n 1, 1) := dk_60 (dk_at dksX1_areFor_0 1 rfl rfl)
theorem dX1_areFor_2 : decode cX1_areFor 2 = .ok (.aload_n 0, 1) := dk_42 (dk_at dksX1_areFor_0 2 rfl rfl)
theorem dX1_areFor_3 : decode cX1_areFor 3 = .ok (.getfield 46, 3) := dk_180 0 46 (dk_at dksX1_areFor_0 3 rfl rfl)
theorem dX1_areFor_6 : decode cX1_areFor 6 = .ok (.invokevirtual 208, 3) := dk_182 0 208 (dk_at dksX1_areFor_0 6 rfl rfl)
theorem dX1_areFor_9 : decode cX1_areFor 9 = .ok (.astore_n 2, 1) := dk_77 (dk_at dksX1_areFor_0 9 rfl rfl)
theorem dX1_areFor_10 : decode cX1_areFor 10 = .ok (.aload_n 2, 1) := dk_44 (dk_at dksX1_areFor_0 10 rfl rfl)
theorem dX1_areFor_11 : decode cX1_areFor 11 = .ok (.invokeinterface 212 1, 5) := by decide +kernel
theorem dX1_areFor_16 : decode cX1_areFor 16 = .ok (.ifCond .eq 146, 3) := dk_153 0 146 (dk_at dksX1_areFor_0 16 rfl rfl)
theorem dX1_areFor_19 : decode cX1_areFor 19 = .ok (.aload_n 2, 1) := dk_44 (dk_at dksX1_areFor_0 19 rfl rfl)
theorem dX1_areFor_20 : decode cX1_areFor 20 = .ok (.invokeinterface 217 1, 5) := by decide +kernel
theorem dX1_areFor_25 : decode cX1_areFor 25 = .ok (.checkcast 231, 3) := dk_192 0 231 (dk_at dksX1_areFor_1 5 rfl rfl)
theorem dX1_areFor_28 : decode cX1_areFor 28 = .ok (.astore_n 3, 1) := dk_78 (dk_at dksX1_areFor_1 8 rfl rfl)
theorem dX1_areFor_29 : decode cX1_areFor 29 = .ok (.iconst 0, 1) := dk_3 (dk_at dksX1_areFor_1 9 rfl rfl)
theorem dX1_areFor_30 : decode cX1_areFor 30 = .ok (.istore 4, 2) := dk_54 4 (dk_at dksX1_areFor_1 10 rfl rfl)
theorem dX1_areFor_32 : decode cX1_areFor 32 = .ok (.iconst 0, 1) := dk_3 (dk_at dksX1_areFor_1 12 rfl rfl)
theorem dX1_areFor_33 : decode cX1_areFor 33 = .ok (.istore 5, 2) := dk_54 5 (dk_at dksX1_areFor_1 13 rfl rfl)
theorem dX1_areFor_35 : decode cX1_areFor 35 = .ok (.aload_n 0, 1) := dk_42 (dk_at dksX1_areFor_1 15 rfl rfl)
theorem dX1_areFor_36 : decode cX1_areFor 36 = .ok (.getfield 42, 3) := dk_180 0 42 (dk_at dksX1_areFor_1 16 rfl rfl)
theorem dX1_areFor_39 : decode cX1_areFor 39 = .ok (.invokevirtual 208, 3) := dk_182 0 208 (dk_at dksX1_areFor_1 19 rfl rfl)
theorem dX1_areFor_42 : decode cX1_areFor 42 = .ok (.astore 6, 2) := dk_58 6 (dk_at dksX1_areFor_1 22 rfl rfl)
theorem dX1_areFor_44 : decode cX1_areFor 44 = .ok (.aload 6, 2) := dk_25 6 (dk_at dksX1_areFor_2 0 rfl rfl)
theorem dX1_areFor_46 : decode cX1_areFor 46 = .ok (.invokeinterface 212 1, 5) := by decide +kernel
theorem dX1_areFor_51 : decode cX1_areFor 51 = .ok (.ifCond .eq 88, 3) := dk_153 0 88 (dk_at dksX1_areFor_2 7 rfl rfl)
theorem dX1_areFor_54 : decode cX1_areFor 54 = .ok (.aload 6, 2) := dk_25 6 (dk_at dksX1_areFor_2 10 rfl rfl)
theorem dX1_areFor_56 : decode cX1_areFor 56 = .ok (.invokeinterface 217 1, 5) := by decide +kernel
theorem dX1_areFor_61 : decode cX1_areFor 61 = .ok (.checkcast 140, 3) := dk_192 0 140 (dk_at dksX1_areFor_2 17 rfl rfl)
theorem dX1_areFor_64 : decode cX1_areFor 64 = .ok (.astore 7, 2) := dk_58 7 (dk_at dksX1_areFor_2 20 rfl rfl)
theorem dX1_areFor_66 : decode cX1_areFor 66 = .ok (.aload_n 3, 1) := dk_45 (dk_at dksX1_areFor_2 22 rfl rfl)
theorem dX1_areFor_67 : decode cX1_areFor 67 = .ok (.getfield 368, 3) := dk_180 1 112 (dk_at dksX1_areFor_3 0 rfl rfl)
theorem dX1_areFor_70 : decode cX1_areFor 70 = .ok (.ifCond .eq 16, 3) := dk_153 0 16 (dk_at dksX1_areFor_3 3 rfl rfl)
theorem dX1_areFor_73 : decode cX1_areFor 73 = .ok (.aload 7, 2) := dk_25 7 (dk_at dksX1_areFor_3 6 rfl rfl)
theorem dX1_areFor_75 : decode cX1_areFor 75 = .ok (.invokevirtual 238, 3) := dk_182 0 238 (dk_at dksX1_areFor_3 8 rfl rfl)
theorem dX1_areFor_78 : decode cX1_areFor 78 = .ok (.aload_n 3, 1) := dk_45 (dk_at dksX1_areFor_3 11 rfl rfl)
theorem dX1_areFor_79 : decode cX1_areFor 79 = .ok (.if_acmp .ne 7, 3) := dk_166 0 7 (dk_at dksX1_areFor_3 12 rfl rfl)
theorem dX1_areFor_82 : decode cX1_areFor 82 = .ok (.iconst 1, 1) := dk_4 (dk_at dksX1_areFor_3 15 rfl rfl)
theorem dX1_areFor_83 : decode cX1_areFor 83 = .ok (.goto 4, 3) := dk_167 0 4 (dk_at dksX1_areFor_3 16 rfl rfl)
theorem dX1_areFor_86 : decode cX1_areFor 86 = .ok (.iconst 0, 1) := dk_3 (dk_at dksX1_areFor_3 19 rfl rfl)
theorem dX1_areFor_87 : decode cX1_areFor 87 = .ok (.istore 8, 2) := dk_54 8 (dk_at dksX1_areFor_3 20 rfl rfl)
theorem dX1_areFor_89 : decode cX1_areFor 89 = .ok (.iload 4, 2) := dk_21 4 (dk_at dksX1_areFor_3 22 rfl rfl)
theorem dX1_areFor_91 : decode cX1_areFor 91 = .ok (.iload 8, 2) := dk_21 8 (dk_at dksX1_areFor_4 0 rfl rfl)
theorem dX1_areFor_93 : decode cX1_areFor 93 = .ok (.ifCond .eq 7, 3) := dk_153 0 7 (dk_at dksX1_areFor_4 2 rfl rfl)
theorem dX1_areFor_96 : decode cX1_areFor 96 = .ok (.iconst 1, 1) := dk_4 (dk_at dksX1_areFor_4 5 rfl rfl)
theorem dX1_areFor_97 : decode cX1_areFor 97 = .ok (.goto 4, 3) := dk_167 0 4 (dk_at dksX1_areFor_4 6 rfl rfl)
theorem dX1_areFor_100 : decode cX1_areFor 100 = .ok (.iconst 0, 1) := dk_3 (dk_at dksX1_areFor_4 9 rfl rfl)
theorem dX1_areFor_101 : decode cX1_areFor 101 = .ok (.iadd, 1) := dk_96 (dk_at dksX1_areFor_4 10 rfl rfl)
theorem dX1_areFor_102 : decode cX1_areFor 102 = .ok (.istore 4, 2) := dk_54 4 (dk_at dksX1_areFor_4 11 rfl rfl)
theorem dX1_areFor_104 : decode cX1_areFor 104 = .ok (.iload 5, 2) := dk_21 5 (dk_at dksX1_areFor_4 13 rfl rfl)
theorem dX1_areFor_106 : decode cX1_areFor 106 = .ok (.iload 8, 2) := dk_21 8 (dk_at dksX1_areFor_4 15 rfl rfl)
theorem dX1_areFor_108 : decode cX1_areFor 108 = .ok (.ifCond .eq 24, 3) := dk_153 0 24 (dk_at dksX1_areFor_4 17 rfl rfl)
theorem dX1_areFor_111 : decode cX1_areFor 111 = .ok (.aload 7, 2) := dk_25 7 (dk_at dksX1_areFor_4 20 rfl rfl)
theorem dX1_areFor_113 : decode cX1_areFor 113 = .ok (.getfield 362, 3) := dk_180 1 106 (dk_at dksX1_areFor_5 0 rfl rfl)
theorem dX1_areFor_116 : decode cX1_areFor 116 = .ok (.iconst (-1), 1) := dk_2 (dk_at dksX1_areFor_5 3 rfl rfl)
theorem dX1_areFor_117 : decode cX1_areFor 117 = .ok (.if_icmp .eq 15, 3) := dk_159 0 15 (dk_at dksX1_areFor_5 4 rfl rfl)
theorem dX1_areFor_120 : decode cX1_areFor 120 = .ok (.iconst 2, 1) := dk_5 (dk_at dksX1_areFor_5 7 rfl rfl)
theorem dX1_areFor_121 : decode cX1_areFor 121 = .ok (.aload 7, 2) := dk_25 7 (dk_at dksX1_areFor_5 8 rfl rfl)
theorem dX1_areFor_123 : decode cX1_areFor 123 = .ok (.getfield 362, 3) := dk_180 1 106 (dk_at dksX1_areFor_5 10 rfl rfl)
theorem dX1_areFor_126 : decode cX1_areFor 126 = .ok (.imul, 1) := dk_104 (dk_at dksX1_areFor_5 13 rfl rfl)
theorem dX1_areFor_127 : decode cX1_areFor 127 = .ok (.iconst 1, 1) := dk_4 (dk_at dksX1_areFor_5 14 rfl rfl)
theorem dX1_areFor_128 : decode cX1_areFor 128 = .ok (.isub, 1) := dk_100 (dk_at dksX1_areFor_5 15 rfl rfl)
theorem dX1_areFor_129 : decode cX1_areFor 129 = .ok (.goto 4, 3) := dk_167 0 4 (dk_at dksX1_areFor_5 16 rfl rfl)
theorem dX1_areFor_132 : decode cX1_areFor 132 = .ok (.iconst 0, 1) := dk_3 (dk_at dksX1_areFor_5 19 rfl rfl)
theorem dX1_areFor_133 : decode cX1_areFor 133 = .ok (.iadd, 1) := dk_96 (dk_at dksX1_areFor_5 20 rfl rfl)
theorem dX1_areFor_134 : decode cX1_areFor 134 = .ok (.istore 5, 2) := dk_54 5 (dk_at dksX1_areFor_5 21 rfl rfl)
theorem dX1_areFor_136 : decode cX1_areFor 136 = .ok (.goto (-92), 3) := dk_167 255 164 (dk_at dksX1_areFor_6 0 rfl rfl)
theorem dX1_areFor_139 : decode cX1_areFor 139 = .ok (.iload_n 1, 1) := dk_27 (dk_at dksX1_areFor_6 3 rfl rfl)
theorem dX1_areFor_140 : decode cX1_areFor 140 = .ok (.ifCond .eq 17, 3) := dk_153 0 17 (dk_at dksX1_areFor_6 4 rfl rfl)
theorem dX1_areFor_143 : decode cX1_areFor 143 = .ok (.iload 4, 2) := dk_21 4 (dk_at dksX1_areFor_6 7 rfl rfl)
theorem dX1_areFor_145 : decode cX1_areFor 145 = .ok (.ifCond .eq 8, 3) := dk_153 0 8 (dk_at dksX1_areFor_6 9 rfl rfl)
theorem dX1_areFor_148 : decode cX1_areFor 148 = .ok (.iload 5, 2) := dk_21 5 (dk_at dksX1_areFor_6 12 rfl rfl)
theorem dX1_areFor_150 : decode cX1_areFor 150 = .ok (.ifCond .le 7, 3) := dk_158 0 7 (dk_at dksX1_areFor_6 14 rfl rfl)
theorem dX1_areFor_153 : decode cX1_areFor 153 = .ok (.iconst 1, 1) := dk_4 (dk_at dksX1_areFor_6 17 rfl rfl)
theorem dX1_areFor_154 : decode cX1_areFor 154 = .ok (.goto 4, 3) := dk_167 0 4 (dk_at dksX1_areFor_6 18 rfl rfl)
theorem dX1_areFor_157 : decode cX1_areFor 157 = .ok (.iconst 0, 1) := dk_3 (dk_at dksX1_areFor_6 21 rfl rfl)
theorem dX1_areFor_158 : decode cX1_areFor 158 = .ok (.istore_n 1, 1) := dk_60 (dk_at dksX1_areFor_6 22 rfl rfl)
theorem dX1_areFor_159 : decode cX1_areFor 159 = .ok (.goto (-149), 3) := dk_167 255 107 (dk_at dksX1_areFor_7 0 rfl rfl)
theorem dX1_areFor_162 : decode cX1_areFor 162 = .ok (.iload_n 1, 1) := dk_27 (dk_at dksX1_areFor_7 3 rfl rfl)
theorem dX1_areFor_163 : decode cX1_areFor 163 = .ok (.ireturn, 1) := dk_172 (dk_at dksX1_areFor_7 4 rfl rfl)
abbrev cX1_objectors : ByteArray := prog_1_method_41_code
def yX1_objectors : MethodName := ⟨RX1, "objectors", "()I"⟩
def dkwX1_objectors_2 : List UInt8 := [4, 167, 0, 4, 3, 96, 60, 167, 255, 215, 27, 172]
abbrev dktX1_objectors_2 : List UInt8 := dkwX1_objectors_2 ++ []
def dkwX1_objectors_1 : List UInt8 := [185, 0, 217, 1, 0, 192, 0, 140, 78, 27, 45, 180, 1, 109, 153, 0, 14, 45, 182, 0, 148, 153, 0, 7]
abbrev dktX1_objectors_1 : List UInt8 := dkwX1_objectors_1 ++ dktX1_objectors_2
def dkwX1_objectors_0 : List UInt8 := [3, 60, 42, 180, 0, 42, 182, 0, 208, 77, 44, 185, 0, 212, 1, 0, 153, 0, 38, 44]
abbrev dktX1_objectors_0 : List UInt8 := dkwX1_objectors_0 ++ dktX1_objectors_1
theorem dksX1_objectors_0 : cX1_objectors.data.toList.drop 0 = dktX1_objectors_0 := by decide +kernel
theorem dksX1_objectors_1 : cX1_objectors.data.toList.drop 20 = dktX1_objectors_1 := dk_seg dksX1_objectors_0 20 rfl rfl
theorem dksX1_objectors_2 : cX1_objectors.data.toList.drop 44 = dktX1_objectors_2 := dk_seg dksX1_objectors_1 24 rfl rfl
theorem dX1_objectors_0 : decode cX1_objectors 0 = .ok (.iconst 0, 1) := dk_3 (dk_at dksX1_objectors_0 0 rfl rfl)
theorem dX1_objectors_1 : decode cX1_objectors 1 = .ok (.istore_n 1, 1) := dk_60 (dk_at dksX1_objectors_0 1 rfl rfl)
theorem dX1_objectors_2 : decode cX1_objectors 2 = .ok (.aload_n 0, 1) := dk_42 (dk_at dksX1_objectors_0 2 rfl rfl)
theorem dX1_objectors_3 : decode cX1_objectors 3 = .ok (.getfield 42, 3) := dk_180 0 42 (dk_at dksX1_objectors_0 3 rfl rfl)
theorem dX1_objectors_6 : decode cX1_objectors 6 = .ok (.invokevirtual 208, 3) := dk_182 0 208 (dk_at dksX1_objectors_0 6 rfl rfl)
theorem dX1_objectors_9 : decode cX1_objectors 9 = .ok (.astore_n 2, 1) := dk_77 (dk_at dksX1_objectors_0 9 rfl rfl)
theorem dX1_objectors_10 : decode cX1_objectors 10 = .ok (.aload_n 2, 1) := dk_44 (dk_at dksX1_objectors_0 10 rfl rfl)
theorem dX1_objectors_11 : decode cX1_objectors 11 = .ok (.invokeinterface 212 1, 5) := by decide +kernel
theorem dX1_objectors_16 : decode cX1_objectors 16 = .ok (.ifCond .eq 38, 3) := dk_153 0 38 (dk_at dksX1_objectors_0 16 rfl rfl)
theorem dX1_objectors_19 : decode cX1_objectors 19 = .ok (.aload_n 2, 1) := dk_44 (dk_at dksX1_objectors_0 19 rfl rfl)
theorem dX1_objectors_20 : decode cX1_objectors 20 = .ok (.invokeinterface 217 1, 5) := by decide +kernel
theorem dX1_objectors_25 : decode cX1_objectors 25 = .ok (.checkcast 140, 3) := dk_192 0 140 (dk_at dksX1_objectors_1 5 rfl rfl)
theorem dX1_objectors_28 : decode cX1_objectors 28 = .ok (.astore_n 3, 1) := dk_78 (dk_at dksX1_objectors_1 8 rfl rfl)
theorem dX1_objectors_29 : decode cX1_objectors 29 = .ok (.iload_n 1, 1) := dk_27 (dk_at dksX1_objectors_1 9 rfl rfl)
theorem dX1_objectors_30 : decode cX1_objectors 30 = .ok (.aload_n 3, 1) := dk_45 (dk_at dksX1_objectors_1 10 rfl rfl)
theorem dX1_objectors_31 : decode cX1_objectors 31 = .ok (.getfield 365, 3) := dk_180 1 109 (dk_at dksX1_objectors_1 11 rfl rfl)
theorem dX1_objectors_34 : decode cX1_objectors 34 = .ok (.ifCond .eq 14, 3) := dk_153 0 14 (dk_at dksX1_objectors_1 14 rfl rfl)
theorem dX1_objectors_37 : decode cX1_objectors 37 = .ok (.aload_n 3, 1) := dk_45 (dk_at dksX1_objectors_1 17 rfl rfl)
theorem dX1_objectors_38 : decode cX1_objectors 38 = .ok (.invokevirtual 148, 3) := dk_182 0 148 (dk_at dksX1_objectors_1 18 rfl rfl)
theorem dX1_objectors_41 : decode cX1_objectors 41 = .ok (.ifCond .eq 7, 3) := dk_153 0 7 (dk_at dksX1_objectors_1 21 rfl rfl)
theorem dX1_objectors_44 : decode cX1_objectors 44 = .ok (.iconst 1, 1) := dk_4 (dk_at dksX1_objectors_2 0 rfl rfl)
theorem dX1_objectors_45 : decode cX1_objectors 45 = .ok (.goto 4, 3) := dk_167 0 4 (dk_at dksX1_objectors_2 1 rfl rfl)
theorem dX1_objectors_48 : decode cX1_objectors 48 = .ok (.iconst 0, 1) := dk_3 (dk_at dksX1_objectors_2 4 rfl rfl)
theorem dX1_objectors_49 : decode cX1_objectors 49 = .ok (.iadd, 1) := dk_96 (dk_at dksX1_objectors_2 5 rfl rfl)
theorem dX1_objectors_50 : decode cX1_objectors 50 = .ok (.istore_n 1, 1) := dk_60 (dk_at dksX1_objectors_2 6 rfl rfl)
theorem dX1_objectors_51 : decode cX1_objectors 51 = .ok (.goto (-41), 3) := dk_167 255 215 (dk_at dksX1_objectors_2 7 rfl rfl)
theorem dX1_objectors_54 : decode cX1_objectors 54 = .ok (.iload_n 1, 1) := dk_27 (dk_at dksX1_objectors_2 10 rfl rfl)
theorem dX1_objectors_55 : decode cX1_objectors 55 = .ok (.ireturn, 1) := dk_172 (dk_at dksX1_objectors_2 11 rfl rfl)
abbrev cX1_becomesFinal : ByteArray := prog_1_method_45_code
def yX1_becomesFinal : MethodName := ⟨RX1, "becomesFinal", "()V"⟩
def dkwX1_becomesFinal_7 : List UInt8 := [22, 5, 182, 1, 99, 153, 0, 7, 4, 167, 0, 4, 3, 54, 7, 167, 255, 179, 177]
abbrev dktX1_becomesFinal_7 : List UInt8 := dkwX1_becomesFinal_7 ++ []
def dkwX1_becomesFinal_6 : List UInt8 := [167, 0, 5, 22, 5, 181, 1, 73, 25, 4, 180, 1, 70, 153, 0, 23, 22, 5, 9, 148, 158, 0, 16, 42]
abbrev dktX1_becomesFinal_6 : List UInt8 := dkwX1_becomesFinal_6 ++ dktX1_becomesFinal_7
def dkwX1_becomesFinal_5 : List UInt8 := [192, 1, 55, 58, 4, 25, 4, 180, 1, 73, 55, 5, 25, 4, 25, 4, 180, 1, 70, 153, 0, 7, 9]
abbrev dktX1_becomesFinal_5 : List UInt8 := dkwX1_becomesFinal_5 ++ dktX1_becomesFinal_6
def dkwX1_becomesFinal_4 : List UInt8 := [180, 0, 49, 182, 0, 208, 78, 45, 185, 0, 212, 1, 0, 153, 0, 74, 45, 185, 0, 217, 1, 0]
abbrev dktX1_becomesFinal_4 : List UInt8 := dkwX1_becomesFinal_4 ++ dktX1_becomesFinal_5
def dkwX1_becomesFinal_3 : List UInt8 := [167, 255, 203, 42, 180, 0, 49, 3, 182, 0, 136, 192, 1, 55, 89, 180, 1, 73, 31, 97, 181, 1, 73, 42]
abbrev dktX1_becomesFinal_3 : List UInt8 := dkwX1_becomesFinal_3 ++ dktX1_becomesFinal_4
def dkwX1_becomesFinal_2 : List UInt8 := [25, 4, 180, 1, 57, 133, 20, 1, 60, 184, 1, 91, 181, 1, 73, 31, 25, 4, 180, 1, 73, 101, 64]
abbrev dktX1_becomesFinal_2 : List UInt8 := dkwX1_becomesFinal_2 ++ dktX1_becomesFinal_3
def dkwX1_becomesFinal_1 : List UInt8 := [153, 0, 50, 45, 185, 0, 217, 1, 0, 192, 1, 55, 58, 4, 25, 4, 42, 180, 0, 84, 180, 1, 141, 133]
abbrev dktX1_becomesFinal_1 : List UInt8 := dkwX1_becomesFinal_1 ++ dktX1_becomesFinal_2
def dkwX1_becomesFinal_0 : List UInt8 := [42, 180, 0, 84, 180, 1, 141, 133, 64, 42, 180, 0, 49, 182, 0, 208, 78, 45, 185, 0, 212, 1, 0]
abbrev dktX1_becomesFinal_0 : List UInt8 := dkwX1_becomesFinal_0 ++ dktX1_becomesFinal_1
theorem dksX1_becomesFinal_0 : cX1_becomesFinal.data.toList.drop 0 = dktX1_becomesFinal_0 := by decide +kernel
theorem dksX1_becomesFinal_1 : cX1_becomesFinal.data.toList.drop 23 = dktX1_becomesFinal_1 := dk_seg dksX1_becomesFinal_0 23 rfl rfl
theorem dksX1_becomesFinal_2 : cX1_becomesFinal.data.toList.drop 47 = dktX1_becomesFinal_2 := dk_seg dksX1_becomesFinal_1 24 rfl rfl
theorem dksX1_becomesFinal_3 : cX1_becomesFinal.data.toList.drop 70 = dktX1_becomesFinal_3 := dk_seg dksX1_becomesFinal_2 23 rfl rfl
theorem dksX1_becomesFinal_4 : cX1_becomesFinal.data.toList.drop 94 = dktX1_becomesFinal_4 := dk_seg dksX1_becomesFinal_3 24 rfl rfl
theorem dksX1_becomesFinal_5 : cX1_becomesFinal.data.toList.drop 116 = dktX1_becomesFinal_5 := dk_seg dksX1_becomesFinal_4 22 rfl rfl
theorem dksX1_becomesFinal_6 : cX1_becomesFinal.data.toList.drop 139 = dktX1_becomesFinal_6 := dk_seg dksX1_becomesFinal_5 23 rfl rfl
theorem dksX1_becomesFinal_7 : cX1_becomesFinal.data.toList.drop 163 = dktX1_becomesFinal_7 := dk_seg dksX1_becomesFinal_6 24 rfl rfl
theorem dX1_becomesFinal_0 : decode cX1_becomesFinal 0 = .ok (.aload_n 0, 1) := dk_42 (dk_at dksX1_becomesFinal_0 0 rfl rfl)
theorem dX1_becomesFinal_1 : decode cX1_becomesFinal 1 = .ok (.getfield 84, 3) := dk_180 0 84 (dk_at dksX1_becomesFinal_0 1 rfl rfl)
theorem dX1_becomesFinal_4 : decode cX1_becomesFinal 4 = .ok (.getfield 397, 3) := dk_180 1 141 (dk_at dksX1_becomesFinal_0 4 rfl rfl)
theorem dX1_becomesFinal_7 : decode cX1_becomesFinal 7 = .ok (.i2l, 1) := dk_133 (dk_at dksX1_becomesFinal_0 7 rfl rfl)
theorem dX1_becomesFinal_8 : decode cX1_becomesFinal 8 = .ok (.lstore_n 1, 1) := dk_64 (dk_at dksX1_becomesFinal_0 8 rfl rfl)
theorem dX1_becomesFinal_9 : decode cX1_becomesFinal 9 = .ok (.aload_n 0, 1) := dk_42 (dk_at dksX1_becomesFinal_0 9 rfl rfl)
theorem dX1_becomesFinal_10 : decode cX1_becomesFinal 10 = .ok (.getfield 49, 3) := dk_180 0 49 (dk_at dksX1_becomesFinal_0 10 rfl rfl)
theorem dX1_becomesFinal_13 : decode cX1_becomesFinal 13 = .ok (.invokevirtual 208, 3) := dk_182 0 208 (dk_at dksX1_becomesFinal_0 13 rfl rfl)
theorem dX1_becomesFinal_16 : decode cX1_becomesFinal 16 = .ok (.astore_n 3, 1) := dk_78 (dk_at dksX1_becomesFinal_0 16 rfl rfl)
theorem dX1_becomesFinal_17 : decode cX1_becomesFinal 17 = .ok (.aload_n 3, 1) := dk_45 (dk_at dksX1_becomesFinal_0 17 rfl rfl)
theorem dX1_becomesFinal_18 : decode cX1_becomesFinal 18 = .ok (.invokeinterface 212 1, 5) := by decide +kernel
theorem dX1_becomesFinal_23 : decode cX1_becomesFinal 23 = .ok (.ifCond .eq 50, 3) := dk_153 0 50 (dk_at dksX1_becomesFinal_1 0 rfl rfl)
theorem dX1_becomesFinal_26 : decode cX1_becomesFinal 26 = .ok (.aload_n 3, 1) := dk_45 (dk_at dksX1_becomesFinal_1 3 rfl rfl)
theorem dX1_becomesFinal_27 : decode cX1_becomesFinal 27 = .ok (.invokeinterface 217 1, 5) := by decide +kernel
theorem dX1_becomesFinal_32 : decode cX1_becomesFinal 32 = .ok (.checkcast 311, 3) := dk_192 1 55 (dk_at dksX1_becomesFinal_1 9 rfl rfl)
theorem dX1_becomesFinal_35 : decode cX1_becomesFinal 35 = .ok (.astore 4, 2) := dk_58 4 (dk_at dksX1_becomesFinal_1 12 rfl rfl)
theorem dX1_becomesFinal_37 : decode cX1_becomesFinal 37 = .ok (.aload 4, 2) := dk_25 4 (dk_at dksX1_becomesFinal_1 14 rfl rfl)
theorem dX1_becomesFinal_39 : decode cX1_becomesFinal 39 = .ok (.aload_n 0, 1) := dk_42 (dk_at dksX1_becomesFinal_1 16 rfl rfl)
theorem dX1_becomesFinal_40 : decode cX1_becomesFinal 40 = .ok (.getfield 84, 3) := dk_180 0 84 (dk_at dksX1_becomesFinal_1 17 rfl rfl)
theorem dX1_becomesFinal_43 : decode cX1_becomesFinal 43 = .ok (.getfield 397, 3) := dk_180 1 141 (dk_at dksX1_becomesFinal_1 20 rfl rfl)
theorem dX1_becomesFinal_46 : decode cX1_becomesFinal 46 = .ok (.i2l, 1) := dk_133 (dk_at dksX1_becomesFinal_1 23 rfl rfl)
theorem dX1_becomesFinal_47 : decode cX1_becomesFinal 47 = .ok (.aload 4, 2) := dk_25 4 (dk_at dksX1_becomesFinal_2 0 rfl rfl)
theorem dX1_becomesFinal_49 : decode cX1_becomesFinal 49 = .ok (.getfield 313, 3) := dk_180 1 57 (dk_at dksX1_becomesFinal_2 2 rfl rfl)
theorem dX1_becomesFinal_52 : decode cX1_becomesFinal 52 = .ok (.i2l, 1) := dk_133 (dk_at dksX1_becomesFinal_2 5 rfl rfl)
theorem dX1_becomesFinal_53 : decode cX1_becomesFinal 53 = .ok (.ldc2_w 316, 3) := dk_20 1 60 (dk_at dksX1_becomesFinal_2 6 rfl rfl)
theorem dX1_becomesFinal_56 : decode cX1_becomesFinal 56 = .ok (.invokestatic 347, 3) := dk_184 1 91 (dk_at dksX1_becomesFinal_2 9 rfl rfl)
theorem dX1_becomesFinal_59 : decode cX1_becomesFinal 59 = .ok (.putfield 329, 3) := dk_181 1 73 (dk_at dksX1_becomesFinal_2 12 rfl rfl)
theorem dX1_becomesFinal_62 : decode cX1_becomesFinal 62 = .ok (.lload_n 1, 1) := dk_31 (dk_at dksX1_becomesFinal_2 15 rfl rfl)
theorem dX1_becomesFinal_63 : decode cX1_becomesFinal 63 = .ok (.aload 4, 2) := dk_25 4 (dk_at dksX1_becomesFinal_2 16 rfl rfl)
theorem dX1_becomesFinal_65 : decode cX1_becomesFinal 65 = .ok (.getfield 329, 3) := dk_180 1 73 (dk_at dksX1_becomesFinal_2 18 rfl rfl)
theorem dX1_becomesFinal_68 : decode cX1_becomesFinal 68 = .ok (.lsub, 1) := dk_101 (dk_at dksX1_becomesFinal_2 21 rfl rfl)
theorem dX1_becomesFinal_69 : decode cX1_becomesFinal 69 = .ok (.lstore_n 1, 1) := dk_64 (dk_at dksX1_becomesFinal_2 22 rfl rfl)
theorem dX1_becomesFinal_70 : decode cX1_becomesFinal 70 = .ok (.goto (-53), 3) := dk_167 255 203 (dk_at dksX1_becomesFinal_3 0 rfl rfl)
theorem dX1_becomesFinal_73 : decode cX1_becomesFinal 73 = .ok (.aload_n 0, 1) := dk_42 (dk_at dksX1_becomesFinal_3 3 rfl rfl)
theorem dX1_becomesFinal_74 : decode cX1_becomesFinal 74 = .ok (.getfield 49, 3) := dk_180 0 49 (dk_at dksX1_becomesFinal_3 4 rfl rfl)
theorem dX1_becomesFinal_77 : decode cX1_becomesFinal 77 = .ok (.iconst 0, 1) := dk_3 (dk_at dksX1_becomesFinal_3 7 rfl rfl)
theorem dX1_becomesFinal_78 : decode cX1_becomesFinal 78 = .ok (.invokevirtual 136, 3) := dk_182 0 136 (dk_at dksX1_becomesFinal_3 8 rfl rfl)
theorem dX1_becomesFinal_81 : decode cX1_becomesFinal 81 = .ok (.checkcast 311, 3) := dk_192 1 55 (dk_at dksX1_becomesFinal_3 11 rfl rfl)
theorem dX1_becomesFinal_84 : decode cX1_becomesFinal 84 = .ok (.dup, 1) := dk_89 (dk_at dksX1_becomesFinal_3 14 rfl rfl)
theorem dX1_becomesFinal_85 : decode cX1_becomesFinal 85 = .ok (.getfield 329, 3) := dk_180 1 73 (dk_at dksX1_becomesFinal_3 15 rfl rfl)
theorem dX1_becomesFinal_88 : decode cX1_becomesFinal 88 = .ok (.lload_n 1, 1) := dk_31 (dk_at dksX1_becomesFinal_3 18 rfl rfl)
theorem dX1_becomesFinal_89 : decode cX1_becomesFinal 89 = .ok (.ladd, 1) := dk_97 (dk_at dksX1_becomesFinal_3 19 rfl rfl)
theorem dX1_becomesFinal_90 : decode cX1_becomesFinal 90 = .ok (.putfield 329, 3) := dk_181 1 73 (dk_at dksX1_becomesFinal_3 20 rfl rfl)
theorem dX1_becomesFinal_93 : decode cX1_becomesFinal 93 = .ok (.aload_n 0, 1) := dk_42 (dk_at dksX1_becomesFinal_3 23 rfl rfl)
theorem dX1_becomesFinal_94 : decode cX1_becomesFinal 94 = .ok (.getfield 49, 3) := dk_180 0 49 (dk_at dksX1_becomesFinal_4 0 rfl rfl)
theorem dX1_becomesFinal_97 : decode cX1_becomesFinal 97 = .ok (.invokevirtual 208, 3) := dk_182 0 208 (dk_at dksX1_becomesFinal_4 3 rfl rfl)
theorem dX1_becomesFinal_100 : decode cX1_becomesFinal 100 = .ok (.astore_n 3, 1) := dk_78 (dk_at dksX1_becomesFinal_4 6 rfl rfl)
theorem dX1_becomesFinal_101 : decode cX1_becomesFinal 101 = .ok (.aload_n 3, 1) := dk_45 (dk_at dksX1_becomesFinal_4 7 rfl rfl)
theorem dX1_becomesFinal_102 : decode cX1_becomesFinal 102 = .ok (.invokeinterface 212 1, 5) := by decide +kernel
theorem dX1_becomesFinal_107 : decode cX1_becomesFinal 107 = .ok (.ifCond .eq 74, 3) := dk_153 0 74 (dk_at dksX1_becomesFinal_4 13 rfl rfl)
theorem dX1_becomesFinal_110 : decode cX1_becomesFinal 110 = .ok (.aload_n 3, 1) := dk_45 (dk_at dksX1_becomesFinal_4 16 rfl rfl)
theorem dX1_becomesFinal_111 : decode cX1_becomesFinal 111 = .ok (.invokeinterface 217 1, 5) := by decide +kernel
theorem dX1_becomesFinal_116 : decode cX1_becomesFinal 116 = .ok (.checkcast 311, 3) := dk_192 1 55 (dk_at dksX1_becomesFinal_5 0 rfl rfl)
theorem dX1_becomesFinal_119 : decode cX1_becomesFinal 119 = .ok (.astore 4, 2) := dk_58 4 (dk_at dksX1_becomesFinal_5 3 rfl rfl)
theorem dX1_becomesFinal_121 : decode cX1_becomesFinal 121 = .ok (.aload 4, 2) := dk_25 4 (dk_at dksX1_becomesFinal_5 5 rfl rfl)
theorem dX1_becomesFinal_123 : decode cX1_becomesFinal 123 = .ok (.getfield 329, 3) := dk_180 1 73 (dk_at dksX1_becomesFinal_5 7 rfl rfl)
theorem dX1_becomesFinal_126 : decode cX1_becomesFinal 126 = .ok (.lstore 5, 2) := dk_55 5 (dk_at dksX1_becomesFinal_5 10 rfl rfl)
theorem dX1_becomesFinal_128 : decode cX1_becomesFinal 128 = .ok (.aload 4, 2) := dk_25 4 (dk_at dksX1_becomesFinal_5 12 rfl rfl)
theorem dX1_becomesFinal_130 : decode cX1_becomesFinal 130 = .ok (.aload 4, 2) := dk_25 4 (dk_at dksX1_becomesFinal_5 14 rfl rfl)
theorem dX1_becomesFinal_132 : decode cX1_becomesFinal 132 = .ok (.getfield 326, 3) := dk_180 1 70 (dk_at dksX1_becomesFinal_5 16 rfl rfl)
theorem dX1_becomesFinal_135 : decode cX1_becomesFinal 135 = .ok (.ifCond .eq 7, 3) := dk_153 0 7 (dk_at dksX1_becomesFinal_5 19 rfl rfl)
theorem dX1_becomesFinal_138 : decode cX1_becomesFinal 138 = .ok (.lconst 0, 1) := dk_9 (dk_at dksX1_becomesFinal_5 22 rfl rfl)
theorem dX1_becomesFinal_139 : decode cX1_becomesFinal 139 = .ok (.goto 5, 3) := dk_167 0 5 (dk_at dksX1_becomesFinal_6 0 rfl rfl)
theorem dX1_becomesFinal_142 : decode cX1_becomesFinal 142 = .ok (.lload 5, 2) := dk_22 5 (dk_at dksX1_becomesFinal_6 3 rfl rfl)
theorem dX1_becomesFinal_144 : decode cX1_becomesFinal 144 = .ok (.putfield 329, 3) := dk_181 1 73 (dk_at dksX1_becomesFinal_6 5 rfl rfl)
theorem dX1_becomesFinal_147 : decode cX1_becomesFinal 147 = .ok (.aload 4, 2) := dk_25 4 (dk_at dksX1_becomesFinal_6 8 rfl rfl)
theorem dX1_becomesFinal_149 : decode cX1_becomesFinal 149 = .ok (.getfield 326, 3) := dk_180 1 70 (dk_at dksX1_becomesFinal_6 10 rfl rfl)
theorem dX1_becomesFinal_152 : decode cX1_becomesFinal 152 = .ok (.ifCond .eq 23, 3) := dk_153 0 23 (dk_at dksX1_becomesFinal_6 13 rfl rfl)
theorem dX1_becomesFinal_155 : decode cX1_becomesFinal 155 = .ok (.lload 5, 2) := dk_22 5 (dk_at dksX1_becomesFinal_6 16 rfl rfl)
theorem dX1_becomesFinal_157 : decode cX1_becomesFinal 157 = .ok (.lconst 0, 1) := dk_9 (dk_at dksX1_becomesFinal_6 18 rfl rfl)
theorem dX1_becomesFinal_158 : decode cX1_becomesFinal 158 = .ok (.lcmp, 1) := dk_148 (dk_at dksX1_becomesFinal_6 19 rfl rfl)
theorem dX1_becomesFinal_159 : decode cX1_becomesFinal 159 = .ok (.ifCond .le 16, 3) := dk_158 0 16 (dk_at dksX1_becomesFinal_6 20 rfl rfl)
theorem dX1_becomesFinal_162 : decode cX1_becomesFinal 162 = .ok (.aload_n 0, 1) := dk_42 (dk_at dksX1_becomesFinal_6 23 rfl rfl)
theorem dX1_becomesFinal_163 : decode cX1_becomesFinal 163 = .ok (.lload 5, 2) := dk_22 5 (dk_at dksX1_becomesFinal_7 0 rfl rfl)
theorem dX1_becomesFinal_165 : decode cX1_becomesFinal 165 = .ok (.invokevirtual 355, 3) := dk_182 1 99 (dk_at dksX1_becomesFinal_7 2 rfl rfl)
theorem dX1_becomesFinal_168 : decode cX1_becomesFinal 168 = .ok (.ifCond .eq 7, 3) := dk_153 0 7 (dk_at dksX1_becomesFinal_7 5 rfl rfl)
theorem dX1_becomesFinal_171 : decode cX1_becomesFinal 171 = .ok (.iconst 1, 1) := dk_4 (dk_at dksX1_becomesFinal_7 8 rfl rfl)
theorem dX1_becomesFinal_172 : decode cX1_becomesFinal 172 = .ok (.goto 4, 3) := dk_167 0 4 (dk_at dksX1_becomesFinal_7 9 rfl rfl)
theorem dX1_becomesFinal_175 : decode cX1_becomesFinal 175 = .ok (.iconst 0, 1) := dk_3 (dk_at dksX1_becomesFinal_7 12 rfl rfl)
theorem dX1_becomesFinal_176 : decode cX1_becomesFinal 176 = .ok (.istore 7, 2) := dk_54 7 (dk_at dksX1_becomesFinal_7 13 rfl rfl)
theorem dX1_becomesFinal_178 : decode cX1_becomesFinal 178 = .ok (.goto (-77), 3) := dk_167 255 179 (dk_at dksX1_becomesFinal_7 15 rfl rfl)
theorem dX1_becomesFinal_181 : decode cX1_becomesFinal 181 = .ok (.return_, 1) := dk_177 (dk_at dksX1_becomesFinal_7 18 rfl rfl)
abbrev cX1_vote : ByteArray := prog_1_method_47_code
def yX1_vote : MethodName := ⟨RX1, "vote", "(IZ)I"⟩
def dkwX1_vote_4 : List UInt8 := [180, 1, 106, 2, 159, 0, 7, 4, 167, 0, 4, 3, 96, 54, 4, 167, 255, 215, 21, 4, 172]
abbrev dktX1_vote_4 : List UInt8 := dkwX1_vote_4 ++ []
def dkwX1_vote_3 : List UInt8 := [185, 0, 212, 1, 0, 153, 0, 37, 25, 5, 185, 0, 217, 1, 0, 192, 0, 140, 58, 6, 21, 4, 25, 6]
abbrev dktX1_vote_3 : List UInt8 := dkwX1_vote_3 ++ dktX1_vote_4
def dkwX1_vote_2 : List UInt8 := [4, 167, 0, 4, 3, 181, 1, 106, 3, 54, 4, 42, 180, 0, 42, 182, 0, 208, 58, 5, 25, 5]
abbrev dktX1_vote_2 : List UInt8 := dkwX1_vote_2 ++ dktX1_vote_3
def dkwX1_vote_1 : List UInt8 := [160, 0, 15, 42, 182, 0, 123, 5, 160, 0, 7, 4, 167, 0, 4, 3, 184, 0, 182, 45, 28, 153, 0, 7]
abbrev dktX1_vote_1 : List UInt8 := dkwX1_vote_1 ++ dktX1_vote_2
def dkwX1_vote_0 : List UInt8 := [42, 180, 0, 42, 27, 182, 0, 136, 192, 0, 140, 78, 45, 182, 0, 148, 153, 0, 23, 45, 180, 1, 106, 2]
abbrev dktX1_vote_0 : List UInt8 := dkwX1_vote_0 ++ dktX1_vote_1
theorem dksX1_vote_0 : cX1_vote.data.toList.drop 0 = dktX1_vote_0 := by decide +kernel
theorem dksX1_vote_1 : cX1_vote.data.toList.drop 24 = dktX1_vote_1 := dk_seg dksX1_vote_0 24 rfl rfl
theorem dksX1_vote_2 : cX1_vote.data.toList.drop 48 = dktX1_vote_2 := dk_seg dksX1_vote_1 24 rfl rfl
theorem dksX1_vote_3 : cX1_vote.data.toList.drop 70 = dktX1_vote_3 := dk_seg dksX1_vote_2 22 rfl rfl
theorem dksX1_vote_4 : cX1_vote.data.toList.drop 94 = dktX1_vote_4 := dk_seg dksX1_vote_3 24 rfl rfl
theorem dX1_vote_0 : decode cX1_vote 0 = .ok (.aload_n 0, 1) := dk_42 (dk_at dksX1_vote_0 0 rfl rfl)
theorem dX1_vote_1 : decode cX1_vote 1 = .ok (.getfield 42, 3) := dk_180 0 42 (dk_at dksX1_vote_0 1 rfl rfl)
theorem dX1_vote_4 : decode cX1_vote 4 = .ok (.iload_n 1, 1) := dk_27 (dk_at dksX1_vote_0 4 rfl rfl)
theorem dX1_vote_5 : decode cX1_vote 5 = .ok (.invokevirtual 136, 3) := dk_182 0 136 (dk_at dksX1_vote_0 5 rfl rfl)
theorem dX1_vote_8 : decode cX1_vote 8 = .ok (.checkcast 140, 3) := dk_192 0 140 (dk_at dksX1_vote_0 8 rfl rfl)
theorem dX1_vote_11 : decode cX1_vote 11 = .ok (.astore_n 3, 1) := dk_78 (dk_at dksX1_vote_0 11 rfl rfl)
theorem dX1_vote_12 : decode cX1_vote 12 = .ok (.aload_n 3, 1) := dk_45 (dk_at dksX1_vote_0 12 rfl rfl)
theorem dX1_vote_13 : decode cX1_vote 13 = .ok (.invokevirtual 148, 3) := dk_182 0 148 (dk_at dksX1_vote_0 13 rfl rfl)
theorem dX1_vote_16 : decode cX1_vote 16 = .ok (.ifCond .eq 23, 3) := dk_153 0 23 (dk_at dksX1_vote_0 16 rfl rfl)
theorem dX1_vote_19 : decode cX1_vote 19 = .ok (.aload_n 3, 1) := dk_45 (dk_at dksX1_vote_0 19 rfl rfl)
theorem dX1_vote_20 : decode cX1_vote 20 = .ok (.getfield 362, 3) := dk_180 1 106 (dk_at dksX1_vote_0 20 rfl rfl)
theorem dX1_vote_23 : decode cX1_vote 23 = .ok (.iconst (-1), 1) := dk_2 (dk_at dksX1_vote_0 23 rfl rfl)
theorem dX1_vote_24 : decode cX1_vote 24 = .ok (.if_icmp .ne 15, 3) := dk_160 0 15 (dk_at dksX1_vote_1 0 rfl rfl)
theorem dX1_vote_27 : decode cX1_vote 27 = .ok (.aload_n 0, 1) := dk_42 (dk_at dksX1_vote_1 3 rfl rfl)
theorem dX1_vote_28 : decode cX1_vote 28 = .ok (.invokevirtual 123, 3) := dk_182 0 123 (dk_at dksX1_vote_1 4 rfl rfl)
theorem dX1_vote_31 : decode cX1_vote 31 = .ok (.iconst 2, 1) := dk_5 (dk_at dksX1_vote_1 7 rfl rfl)
theorem dX1_vote_32 : decode cX1_vote 32 = .ok (.if_icmp .ne 7, 3) := dk_160 0 7 (dk_at dksX1_vote_1 8 rfl rfl)
theorem dX1_vote_35 : decode cX1_vote 35 = .ok (.iconst 1, 1) := dk_4 (dk_at dksX1_vote_1 11 rfl rfl)
theorem dX1_vote_36 : decode cX1_vote 36 = .ok (.goto 4, 3) := dk_167 0 4 (dk_at dksX1_vote_1 12 rfl rfl)
theorem dX1_vote_39 : decode cX1_vote 39 = .ok (.iconst 0, 1) := dk_3 (dk_at dksX1_vote_1 15 rfl rfl)
theorem dX1_vote_40 : decode cX1_vote 40 = .ok (.invokestatic 182, 3) := dk_184 0 182 (dk_at dksX1_vote_1 16 rfl rfl)
theorem dX1_vote_43 : decode cX1_vote 43 = .ok (.aload_n 3, 1) := dk_45 (dk_at dksX1_vote_1 19 rfl rfl)
theorem dX1_vote_44 : decode cX1_vote 44 = .ok (.iload_n 2, 1) := dk_28 (dk_at dksX1_vote_1 20 rfl rfl)
theorem dX1_vote_45 : decode cX1_vote 45 = .ok (.ifCond .eq 7, 3) := dk_153 0 7 (dk_at dksX1_vote_1 21 rfl rfl)
theorem dX1_vote_48 : decode cX1_vote 48 = .ok (.iconst 1, 1) := dk_4 (dk_at dksX1_vote_2 0 rfl rfl)
theorem dX1_vote_49 : decode cX1_vote 49 = .ok (.goto 4, 3) := dk_167 0 4 (dk_at dksX1_vote_2 1 rfl rfl)
theorem dX1_vote_52 : decode cX1_vote 52 = .ok (.iconst 0, 1) := dk_3 (dk_at dksX1_vote_2 4 rfl rfl)
theorem dX1_vote_53 : decode cX1_vote 53 = .ok (.putfield 362, 3) := dk_181 1 106 (dk_at dksX1_vote_2 5 rfl rfl)
theorem dX1_vote_56 : decode cX1_vote 56 = .ok (.iconst 0, 1) := dk_3 (dk_at dksX1_vote_2 8 rfl rfl)
theorem dX1_vote_57 : decode cX1_vote 57 = .ok (.istore 4, 2) := dk_54 4 (dk_at dksX1_vote_2 9 rfl rfl)
theorem dX1_vote_59 : decode cX1_vote 59 = .ok (.aload_n 0, 1) := dk_42 (dk_at dksX1_vote_2 11 rfl rfl)
theorem dX1_vote_60 : decode cX1_vote 60 = .ok (.getfield 42, 3) := dk_180 0 42 (dk_at dksX1_vote_2 12 rfl rfl)
theorem dX1_vote_63 : decode cX1_vote 63 = .ok (.invokevirtual 208, 3) := dk_182 0 208 (dk_at dksX1_vote_2 15 rfl rfl)
theorem dX1_vote_66 : decode cX1_vote 66 = .ok (.astore 5, 2) := dk_58 5 (dk_at dksX1_vote_2 18 rfl rfl)
theorem dX1_vote_68 : decode cX1_vote 68 = .ok (.aload 5, 2) := dk_25 5 (dk_at dksX1_vote_2 20 rfl rfl)
theorem dX1_vote_70 : decode cX1_vote 70 = .ok (.invokeinterface 212 1, 5) := by decide +kernel
theorem dX1_vote_75 : decode cX1_vote 75 = .ok (.ifCond .eq 37, 3) := dk_153 0 37 (dk_at dksX1_vote_3 5 rfl rfl)
theorem dX1_vote_78 : decode cX1_vote 78 = .ok (.aload 5, 2) := dk_25 5 (dk_at dksX1_vote_3 8 rfl rfl)
theorem dX1_vote_80 : decode cX1_vote 80 = .ok (.invokeinterface 217 1, 5) := by decide +kernel
theorem dX1_vote_85 : decode cX1_vote 85 = .ok (.checkcast 140, 3) := dk_192 0 140 (dk_at dksX1_vote_3 15 rfl rfl)
theorem dX1_vote_88 : decode cX1_vote 88 = .ok (.astore 6, 2) := dk_58 6 (dk_at dksX1_vote_3 18 rfl rfl)
theorem dX1_vote_90 : decode cX1_vote 90 = .ok (.iload 4, 2) := dk_21 4 (dk_at dksX1_vote_3 20 rfl rfl)
theorem dX1_vote_92 : decode cX1_vote 92 = .ok (.aload 6, 2) := dk_25 6 (dk_at dksX1_vote_3 22 rfl rfl)
theorem dX1_vote_94 : decode cX1_vote 94 = .ok (.getfield 362, 3) := dk_180 1 106 (dk_at dksX1_vote_4 0 rfl rfl)
theorem dX1_vote_97 : decode cX1_vote 97 = .ok (.iconst (-1), 1) := dk_2 (dk_at dksX1_vote_4 3 rfl rfl)
theorem dX1_vote_98 : decode cX1_vote 98 = .ok (.if_icmp .eq 7, 3) := dk_159 0 7 (dk_at dksX1_vote_4 4 rfl rfl)
theorem dX1_vote_101 : decode cX1_vote 101 = .ok (.iconst 1, 1) := dk_4 (dk_at dksX1_vote_4 7 rfl rfl)
theorem dX1_vote_102 : decode cX1_vote 102 = .ok (.goto 4, 3) := dk_167 0 4 (dk_at dksX1_vote_4 8 rfl rfl)
theorem dX1_vote_105 : decode cX1_vote 105 = .ok (.iconst 0, 1) := dk_3 (dk_at dksX1_vote_4 11 rfl rfl)
theorem dX1_vote_106 : decode cX1_vote 106 = .ok (.iadd, 1) := dk_96 (dk_at dksX1_vote_4 12 rfl rfl)
theorem dX1_vote_107 : decode cX1_vote 107 = .ok (.istore 4, 2) := dk_54 4 (dk_at dksX1_vote_4 13 rfl rfl)
theorem dX1_vote_109 : decode cX1_vote 109 = .ok (.goto (-41), 3) := dk_167 255 215 (dk_at dksX1_vote_4 15 rfl rfl)
theorem dX1_vote_112 : decode cX1_vote 112 = .ok (.iload 4, 2) := dk_21 4 (dk_at dksX1_vote_4 18 rfl rfl)
theorem dX1_vote_114 : decode cX1_vote 114 = .ok (.ireturn, 1) := dk_172 (dk_at dksX1_vote_4 20 rfl rfl)
abbrev cX1_object : ByteArray := prog_1_method_48_code
def yX1_object : MethodName := ⟨RX1, "object", "(II)I"⟩
def dkwX1_object_6 : List UInt8 := [180, 1, 109, 153, 0, 7, 4, 167, 0, 4, 3, 96, 54, 4, 167, 255, 216, 21, 4, 172]
abbrev dktX1_object_6 : List UInt8 := dkwX1_object_6 ++ []
def dkwX1_object_5 : List UInt8 := [185, 0, 212, 1, 0, 153, 0, 36, 25, 5, 185, 0, 217, 1, 0, 192, 0, 140, 58, 6, 21, 4, 25, 6]
abbrev dktX1_object_5 : List UInt8 := dkwX1_object_5 ++ dktX1_object_6
def dkwX1_object_4 : List UInt8 := [167, 0, 4, 3, 181, 1, 138, 3, 54, 4, 42, 180, 0, 42, 182, 0, 208, 58, 5, 25, 5]
abbrev dktX1_object_4 : List UInt8 := dkwX1_object_4 ++ dktX1_object_5
def dkwX1_object_3 : List UInt8 := [3, 181, 1, 109, 42, 180, 0, 84, 42, 180, 0, 84, 180, 1, 138, 154, 0, 8, 28, 5, 160, 0, 7, 4]
abbrev dktX1_object_3 : List UInt8 := dkwX1_object_3 ++ dktX1_object_4
def dkwX1_object_2 : List UInt8 := [167, 0, 4, 3, 160, 0, 7, 4, 167, 0, 4, 3, 184, 0, 182, 45, 28, 154, 0, 7, 4, 167, 0, 4]
abbrev dktX1_object_2 : List UInt8 := dkwX1_object_2 ++ dktX1_object_3
def dkwX1_object_1 : List UInt8 := [45, 182, 0, 148, 153, 0, 31, 42, 182, 0, 123, 5, 160, 0, 23, 45, 180, 1, 109, 28, 158, 0, 7, 4]
abbrev dktX1_object_1 : List UInt8 := dkwX1_object_1 ++ dktX1_object_2
def dkwX1_object_0 : List UInt8 := [42, 180, 0, 42, 27, 182, 0, 136, 192, 0, 140, 78, 28, 133, 9, 20, 1, 22, 184, 0, 127, 184, 0, 131]
abbrev dktX1_object_0 : List UInt8 := dkwX1_object_0 ++ dktX1_object_1
theorem dksX1_object_0 : cX1_object.data.toList.drop 0 = dktX1_object_0 := by decide +kernel
theorem dksX1_object_1 : cX1_object.data.toList.drop 24 = dktX1_object_1 := dk_seg dksX1_object_0 24 rfl rfl
theorem dksX1_object_2 : cX1_object.data.toList.drop 48 = dktX1_object_2 := dk_seg dksX1_object_1 24 rfl rfl
theorem dksX1_object_3 : cX1_object.data.toList.drop 72 = dktX1_object_3 := dk_seg dksX1_object_2 24 rfl rfl
theorem dksX1_object_4 : cX1_object.data.toList.drop 96 = dktX1_object_4 := dk_seg dksX1_object_3 24 rfl rfl
theorem dksX1_object_5 : cX1_object.data.toList.drop 117 = dktX1_object_5 := dk_seg dksX1_object_4 21 rfl rfl
theorem dksX1_object_6 : cX1_object.data.toList.drop 141 = dktX1_object_6 := dk_seg dksX1_object_5 24 rfl rfl
theorem dX1_object_0 : decode cX1_object 0 = .ok (.aload_n 0, 1) := dk_42 (dk_at dksX1_object_0 0 rfl rfl)
theorem dX1_object_1 : decode cX1_object 1 = .ok (.getfield 42, 3) := dk_180 0 42 (dk_at dksX1_object_0 1 rfl rfl)
theorem dX1_object_4 : decode cX1_object 4 = .ok (.iload_n 1, 1) := dk_27 (dk_at dksX1_object_0 4 rfl rfl)
theorem dX1_object_5 : decode cX1_object 5 = .ok (.invokevirtual 136, 3) := dk_182 0 136 (dk_at dksX1_object_0 5 rfl rfl)
theorem dX1_object_8 : decode cX1_object 8 = .ok (.checkcast 140, 3) := dk_192 0 140 (dk_at dksX1_object_0 8 rfl rfl)
theorem dX1_object_11 : decode cX1_object 11 = .ok (.astore_n 3, 1) := dk_78 (dk_at dksX1_object_0 11 rfl rfl)
theorem dX1_object_12 : decode cX1_object 12 = .ok (.iload_n 2, 1) := dk_28 (dk_at dksX1_object_0 12 rfl rfl)
theorem dX1_object_13 : decode cX1_object 13 = .ok (.i2l, 1) := dk_133 (dk_at dksX1_object_0 13 rfl rfl)
theorem dX1_object_14 : decode cX1_object 14 = .ok (.lconst 0, 1) := dk_9 (dk_at dksX1_object_0 14 rfl rfl)
theorem dX1_object_15 : decode cX1_object 15 = .ok (.ldc2_w 278, 3) := dk_20 1 22 (dk_at dksX1_object_0 15 rfl rfl)
theorem dX1_object_18 : decode cX1_object 18 = .ok (.invokestatic 127, 3) := dk_184 0 127 (dk_at dksX1_object_0 18 rfl rfl)
theorem dX1_object_21 : decode cX1_object 21 = .ok (.invokestatic 131, 3) := dk_184 0 131 (dk_at dksX1_object_0 21 rfl rfl)
theorem dX1_object_24 : decode cX1_object 24 = .ok (.aload_n 3, 1) := dk_45 (dk_at dksX1_object_1 0 rfl rfl)
theorem dX1_object_25 : decode cX1_object 25 = .ok (.invokevirtual 148, 3) := dk_182 0 148 (dk_at dksX1_object_1 1 rfl rfl)
theorem dX1_object_28 : decode cX1_object 28 = .ok (.ifCond .eq 31, 3) := dk_153 0 31 (dk_at dksX1_object_1 4 rfl rfl)
theorem dX1_object_31 : decode cX1_object 31 = .ok (.aload_n 0, 1) := dk_42 (dk_at dksX1_object_1 7 rfl rfl)
theorem dX1_object_32 : decode cX1_object 32 = .ok (.invokevirtual 123, 3) := dk_182 0 123 (dk_at dksX1_object_1 8 rfl rfl)
theorem dX1_object_35 : decode cX1_object 35 = .ok (.iconst 2, 1) := dk_5 (dk_at dksX1_object_1 11 rfl rfl)
theorem dX1_object_36 : decode cX1_object 36 = .ok (.if_icmp .ne 23, 3) := dk_160 0 23 (dk_at dksX1_object_1 12 rfl rfl)
theorem dX1_object_39 : decode cX1_object 39 = .ok (.aload_n 3, 1) := dk_45 (dk_at dksX1_object_1 15 rfl rfl)
theorem dX1_object_40 : decode cX1_object 40 = .ok (.getfield 365, 3) := dk_180 1 109 (dk_at dksX1_object_1 16 rfl rfl)
theorem dX1_object_43 : decode cX1_object 43 = .ok (.iload_n 2, 1) := dk_28 (dk_at dksX1_object_1 19 rfl rfl)
theorem dX1_object_44 : decode cX1_object 44 = .ok (.ifCond .le 7, 3) := dk_158 0 7 (dk_at dksX1_object_1 20 rfl rfl)
theorem dX1_object_47 : decode cX1_object 47 = .ok (.iconst 1, 1) := dk_4 (dk_at dksX1_object_1 23 rfl rfl)
theorem dX1_object_48 : decode cX1_object 48 = .ok (.goto 4, 3) := dk_167 0 4 (dk_at dksX1_object_2 0 rfl rfl)
theorem dX1_object_51 : decode cX1_object 51 = .ok (.iconst 0, 1) := dk_3 (dk_at dksX1_object_2 3 rfl rfl)
theorem dX1_object_52 : decode cX1_object 52 = .ok (.if_icmp .ne 7, 3) := dk_160 0 7 (dk_at dksX1_object_2 4 rfl rfl)
theorem dX1_object_55 : decode cX1_object 55 = .ok (.iconst 1, 1) := dk_4 (dk_at dksX1_object_2 7 rfl rfl)
theorem dX1_object_56 : decode cX1_object 56 = .ok (.goto 4, 3) := dk_167 0 4 (dk_at dksX1_object_2 8 rfl rfl)
theorem dX1_object_59 : decode cX1_object 59 = .ok (.iconst 0, 1) := dk_3 (dk_at dksX1_object_2 11 rfl rfl)
theorem dX1_object_60 : decode cX1_object 60 = .ok (.invokestatic 182, 3) := dk_184 0 182 (dk_at dksX1_object_2 12 rfl rfl)
theorem dX1_object_63 : decode cX1_object 63 = .ok (.aload_n 3, 1) := dk_45 (dk_at dksX1_object_2 15 rfl rfl)
theorem dX1_object_64 : decode cX1_object 64 = .ok (.iload_n 2, 1) := dk_28 (dk_at dksX1_object_2 16 rfl rfl)
theorem dX1_object_65 : decode cX1_object 65 = .ok (.ifCond .ne 7, 3) := dk_154 0 7 (dk_at dksX1_object_2 17 rfl rfl)
theorem dX1_object_68 : decode cX1_object 68 = .ok (.iconst 1, 1) := dk_4 (dk_at dksX1_object_2 20 rfl rfl)
theorem dX1_object_69 : decode cX1_object 69 = .ok (.goto 4, 3) := dk_167 0 4 (dk_at dksX1_object_2 21 rfl rfl)
theorem dX1_object_72 : decode cX1_object 72 = .ok (.iconst 0, 1) := dk_3 (dk_at dksX1_object_3 0 rfl rfl)
theorem dX1_object_73 : decode cX1_object 73 = .ok (.putfield 365, 3) := dk_181 1 109 (dk_at dksX1_object_3 1 rfl rfl)
theorem dX1_object_76 : decode cX1_object 76 = .ok (.aload_n 0, 1) := dk_42 (dk_at dksX1_object_3 4 rfl rfl)
theorem dX1_object_77 : decode cX1_object 77 = .ok (.getfield 84, 3) := dk_180 0 84 (dk_at dksX1_object_3 5 rfl rfl)
theorem dX1_object_80 : decode cX1_object 80 = .ok (.aload_n 0, 1) := dk_42 (dk_at dksX1_object_3 8 rfl rfl)
theorem dX1_object_81 : decode cX1_object 81 = .ok (.getfield 84, 3) := dk_180 0 84 (dk_at dksX1_object_3 9 rfl rfl)
theorem dX1_object_84 : decode cX1_object 84 = .ok (.getfield 394, 3) := dk_180 1 138 (dk_at dksX1_object_3 12 rfl rfl)
theorem dX1_object_87 : decode cX1_object 87 = .ok (.ifCond .ne 8, 3) := dk_154 0 8 (dk_at dksX1_object_3 15 rfl rfl)
theorem dX1_object_90 : decode cX1_object 90 = .ok (.iload_n 2, 1) := dk_28 (dk_at dksX1_object_3 18 rfl rfl)
theorem dX1_object_91 : decode cX1_object 91 = .ok (.iconst 2, 1) := dk_5 (dk_at dksX1_object_3 19 rfl rfl)
theorem dX1_object_92 : decode cX1_object 92 = .ok (.if_icmp .ne 7, 3) := dk_160 0 7 (dk_at dksX1_object_3 20 rfl rfl)
theorem dX1_object_95 : decode cX1_object 95 = .ok (.iconst 1, 1) := dk_4 (dk_at dksX1_object_3 23 rfl rfl)
theorem dX1_object_96 : decode cX1_object 96 = .ok (.goto 4, 3) := dk_167 0 4 (dk_at dksX1_object_4 0 rfl rfl)
theorem dX1_object_99 : decode cX1_object 99 = .ok (.iconst 0, 1) := dk_3 (dk_at dksX1_object_4 3 rfl rfl)
theorem dX1_object_100 : decode cX1_object 100 = .ok (.putfield 394, 3) := dk_181 1 138 (dk_at dksX1_object_4 4 rfl rfl)
theorem dX1_object_103 : decode cX1_object 103 = .ok (.iconst 0, 1) := dk_3 (dk_at dksX1_object_4 7 rfl rfl)
theorem dX1_object_104 : decode cX1_object 104 = .ok (.istore 4, 2) := dk_54 4 (dk_at dksX1_object_4 8 rfl rfl)
theorem dX1_object_106 : decode cX1_object 106 = .ok (.aload_n 0, 1) := dk_42 (dk_at dksX1_object_4 10 rfl rfl)
theorem dX1_object_107 : decode cX1_object 107 = .ok (.getfield 42, 3) := dk_180 0 42 (dk_at dksX1_object_4 11 rfl rfl)
theorem dX1_object_110 : decode cX1_object 110 = .ok (.invokevirtual 208, 3) := dk_182 0 208 (dk_at dksX1_object_4 14 rfl rfl)
theorem dX1_object_113 : decode cX1_object 113 = .ok (.astore 5, 2) := dk_58 5 (dk_at dksX1_object_4 17 rfl rfl)
theorem dX1_object_115 : decode cX1_object 115 = .ok (.aload 5, 2) := dk_25 5 (dk_at dksX1_object_4 19 rfl rfl)
theorem dX1_object_117 : decode cX1_object 117 = .ok (.invokeinterface 212 1, 5) := by decide +kernel
theorem dX1_object_122 : decode cX1_object 122 = .ok (.ifCond .eq 36, 3) := dk_153 0 36 (dk_at dksX1_object_5 5 rfl rfl)
theorem dX1_object_125 : decode cX1_object 125 = .ok (.aload 5, 2) := dk_25 5 (dk_at dksX1_object_5 8 rfl rfl)
theorem dX1_object_127 : decode cX1_object 127 = .ok (.invokeinterface 217 1, 5) := by decide +kernel
theorem dX1_object_132 : decode cX1_object 132 = .ok (.checkcast 140, 3) := dk_192 0 140 (dk_at dksX1_object_5 15 rfl rfl)
theorem dX1_object_135 : decode cX1_object 135 = .ok (.astore 6, 2) := dk_58 6 (dk_at dksX1_object_5 18 rfl rfl)
theorem dX1_object_137 : decode cX1_object 137 = .ok (.iload 4, 2) := dk_21 4 (dk_at dksX1_object_5 20 rfl rfl)
theorem dX1_object_139 : decode cX1_object 139 = .ok (.aload 6, 2) := dk_25 6 (dk_at dksX1_object_5 22 rfl rfl)
theorem dX1_object_141 : decode cX1_object 141 = .ok (.getfield 365, 3) := dk_180 1 109 (dk_at dksX1_object_6 0 rfl rfl)
theorem dX1_object_144 : decode cX1_object 144 = .ok (.ifCond .eq 7, 3) := dk_153 0 7 (dk_at dksX1_object_6 3 rfl rfl)
theorem dX1_object_147 : decode cX1_object 147 = .ok (.iconst 1, 1) := dk_4 (dk_at dksX1_object_6 6 rfl rfl)
theorem dX1_object_148 : decode cX1_object 148 = .ok (.goto 4, 3) := dk_167 0 4 (dk_at dksX1_object_6 7 rfl rfl)
theorem dX1_object_151 : decode cX1_object 151 = .ok (.iconst 0, 1) := dk_3 (dk_at dksX1_object_6 10 rfl rfl)
theorem dX1_object_152 : decode cX1_object 152 = .ok (.iadd, 1) := dk_96 (dk_at dksX1_object_6 11 rfl rfl)
theorem dX1_object_153 : decode cX1_object 153 = .ok (.istore 4, 2) := dk_54 4 (dk_at dksX1_object_6 12 rfl rfl)
theorem dX1_object_155 : decode cX1_object 155 = .ok (.goto (-40), 3) := dk_167 255 216 (dk_at dksX1_object_6 14 rfl rfl)
theorem dX1_object_158 : decode cX1_object 158 = .ok (.iload 4, 2) := dk_21 4 (dk_at dksX1_object_6 17 rfl rfl)
theorem dX1_object_160 : decode cX1_object 160 = .ok (.ireturn, 1) := dk_172 (dk_at dksX1_object_6 19 rfl rfl)
abbrev cX1_raise : ByteArray := prog_1_method_50_code
def yX1_raise : MethodName := ⟨RX1, "raise", "(I)J"⟩
def dkwX1_raise_3 : List UInt8 := [180, 0, 84, 27, 181, 1, 141, 42, 182, 1, 153, 173]
abbrev dktX1_raise_3 : List UInt8 := dkwX1_raise_3 ++ []
def dkwX1_raise_2 : List UInt8 := [42, 180, 0, 84, 180, 1, 141, 100, 133, 182, 1, 99, 153, 0, 7, 4, 167, 0, 4, 3, 184, 0, 182, 42]
abbrev dktX1_raise_2 : List UInt8 := dkwX1_raise_2 ++ dktX1_raise_3
def dkwX1_raise_1 : List UInt8 := [180, 1, 141, 164, 0, 7, 4, 167, 0, 4, 3, 184, 0, 131, 42, 182, 0, 123, 6, 160, 0, 24, 42, 27]
abbrev dktX1_raise_1 : List UInt8 := dkwX1_raise_1 ++ dktX1_raise_2
def dkwX1_raise_0 : List UInt8 := [27, 133, 10, 20, 1, 65, 184, 0, 127, 153, 0, 25, 42, 180, 0, 84, 198, 0, 14, 27, 42, 180, 0, 84]
abbrev dktX1_raise_0 : List UInt8 := dkwX1_raise_0 ++ dktX1_raise_1
theorem dksX1_raise_0 : cX1_raise.data.toList.drop 0 = dktX1_raise_0 := by decide +kernel
theorem dksX1_raise_1 : cX1_raise.data.toList.drop 24 = dktX1_raise_1 := dk_seg dksX1_raise_0 24 rfl rfl
theorem dksX1_raise_2 : cX1_raise.data.toList.drop 48 = dktX1_raise_2 := dk_seg dksX1_raise_1 24 rfl rfl
theorem dksX1_raise_3 : cX1_raise.data.toList.drop 72 = dktX1_raise_3 := dk_seg dksX1_raise_2 24 rfl rfl
theorem dX1_raise_0 : decode cX1_raise 0 = .ok (.iload_n 1, 1) := dk_27 (dk_at dksX1_raise_0 0 rfl rfl)
theorem dX1_raise_1 : decode cX1_raise 1 = .ok (.i2l, 1) := dk_133 (dk_at dksX1_raise_0 1 rfl rfl)
theorem dX1_raise_2 : decode cX1_raise 2 = .ok (.lconst 1, 1) := dk_10 (dk_at dksX1_raise_0 2 rfl rfl)
theorem dX1_raise_3 : decode cX1_raise 3 = .ok (.ldc2_w 321, 3) := dk_20 1 65 (dk_at dksX1_raise_0 3 rfl rfl)
theorem dX1_raise_6 : decode cX1_raise 6 = .ok (.invokestatic 127, 3) := dk_184 0 127 (dk_at dksX1_raise_0 6 rfl rfl)
theorem dX1_raise_9 : decode cX1_raise 9 = .ok (.ifCond .eq 25, 3) := dk_153 0 25 (dk_at dksX1_raise_0 9 rfl rfl)
theorem dX1_raise_12 : decode cX1_raise 12 = .ok (.aload_n 0, 1) := dk_42 (dk_at dksX1_raise_0 12 rfl rfl)
theorem dX1_raise_13 : decode cX1_raise 13 = .ok (.getfield 84, 3) := dk_180 0 84 (dk_at dksX1_raise_0 13 rfl rfl)
theorem dX1_raise_16 : decode cX1_raise 16 = .ok (.ifnull 14, 3) := dk_198 0 14 (dk_at dksX1_raise_0 16 rfl rfl)
theorem dX1_raise_19 : decode cX1_raise 19 = .ok (.iload_n 1, 1) := dk_27 (dk_at dksX1_raise_0 19 rfl rfl)
theorem dX1_raise_20 : decode cX1_raise 20 = .ok (.aload_n 0, 1) := dk_42 (dk_at dksX1_raise_0 20 rfl rfl)
theorem dX1_raise_21 : decode cX1_raise 21 = .ok (.getfield 84, 3) := dk_180 0 84 (dk_at dksX1_raise_0 21 rfl rfl)
theorem dX1_raise_24 : decode cX1_raise 24 = .ok (.getfield 397, 3) := dk_180 1 141 (dk_at dksX1_raise_1 0 rfl rfl)
theorem dX1_raise_27 : decode cX1_raise 27 = .ok (.if_icmp .le 7, 3) := dk_164 0 7 (dk_at dksX1_raise_1 3 rfl rfl)
theorem dX1_raise_30 : decode cX1_raise 30 = .ok (.iconst 1, 1) := dk_4 (dk_at dksX1_raise_1 6 rfl rfl)
theorem dX1_raise_31 : decode cX1_raise 31 = .ok (.goto 4, 3) := dk_167 0 4 (dk_at dksX1_raise_1 7 rfl rfl)
theorem dX1_raise_34 : decode cX1_raise 34 = .ok (.iconst 0, 1) := dk_3 (dk_at dksX1_raise_1 10 rfl rfl)
theorem dX1_raise_35 : decode cX1_raise 35 = .ok (.invokestatic 131, 3) := dk_184 0 131 (dk_at dksX1_raise_1 11 rfl rfl)
theorem dX1_raise_38 : decode cX1_raise 38 = .ok (.aload_n 0, 1) := dk_42 (dk_at dksX1_raise_1 14 rfl rfl)
theorem dX1_raise_39 : decode cX1_raise 39 = .ok (.invokevirtual 123, 3) := dk_182 0 123 (dk_at dksX1_raise_1 15 rfl rfl)
theorem dX1_raise_42 : decode cX1_raise 42 = .ok (.iconst 3, 1) := dk_6 (dk_at dksX1_raise_1 18 rfl rfl)
theorem dX1_raise_43 : decode cX1_raise 43 = .ok (.if_icmp .ne 24, 3) := dk_160 0 24 (dk_at dksX1_raise_1 19 rfl rfl)
theorem dX1_raise_46 : decode cX1_raise 46 = .ok (.aload_n 0, 1) := dk_42 (dk_at dksX1_raise_1 22 rfl rfl)
theorem dX1_raise_47 : decode cX1_raise 47 = .ok (.iload_n 1, 1) := dk_27 (dk_at dksX1_raise_1 23 rfl rfl)
theorem dX1_raise_48 : decode cX1_raise 48 = .ok (.aload_n 0, 1) := dk_42 (dk_at dksX1_raise_2 0 rfl rfl)
theorem dX1_raise_49 : decode cX1_raise 49 = .ok (.getfield 84, 3) := dk_180 0 84 (dk_at dksX1_raise_2 1 rfl rfl)
theorem dX1_raise_52 : decode cX1_raise 52 = .ok (.getfield 397, 3) := dk_180 1 141 (dk_at dksX1_raise_2 4 rfl rfl)
theorem dX1_raise_55 : decode cX1_raise 55 = .ok (.isub, 1) := dk_100 (dk_at dksX1_raise_2 7 rfl rfl)
theorem dX1_raise_56 : decode cX1_raise 56 = .ok (.i2l, 1) := dk_133 (dk_at dksX1_raise_2 8 rfl rfl)
theorem dX1_raise_57 : decode cX1_raise 57 = .ok (.invokevirtual 355, 3) := dk_182 1 99 (dk_at dksX1_raise_2 9 rfl rfl)
theorem dX1_raise_60 : decode cX1_raise 60 = .ok (.ifCond .eq 7, 3) := dk_153 0 7 (dk_at dksX1_raise_2 12 rfl rfl)
theorem dX1_raise_63 : decode cX1_raise 63 = .ok (.iconst 1, 1) := dk_4 (dk_at dksX1_raise_2 15 rfl rfl)
theorem dX1_raise_64 : decode cX1_raise 64 = .ok (.goto 4, 3) := dk_167 0 4 (dk_at dksX1_raise_2 16 rfl rfl)
theorem dX1_raise_67 : decode cX1_raise 67 = .ok (.iconst 0, 1) := dk_3 (dk_at dksX1_raise_2 19 rfl rfl)
theorem dX1_raise_68 : decode cX1_raise 68 = .ok (.invokestatic 182, 3) := dk_184 0 182 (dk_at dksX1_raise_2 20 rfl rfl)
theorem dX1_raise_71 : decode cX1_raise 71 = .ok (.aload_n 0, 1) := dk_42 (dk_at dksX1_raise_2 23 rfl rfl)
theorem dX1_raise_72 : decode cX1_raise 72 = .ok (.getfield 84, 3) := dk_180 0 84 (dk_at dksX1_raise_3 0 rfl rfl)
theorem dX1_raise_75 : decode cX1_raise 75 = .ok (.iload_n 1, 1) := dk_27 (dk_at dksX1_raise_3 3 rfl rfl)
theorem dX1_raise_76 : decode cX1_raise 76 = .ok (.putfield 397, 3) := dk_181 1 141 (dk_at dksX1_raise_3 4 rfl rfl)
theorem dX1_raise_79 : decode cX1_raise 79 = .ok (.aload_n 0, 1) := dk_42 (dk_at dksX1_raise_3 7 rfl rfl)
theorem dX1_raise_80 : decode cX1_raise 80 = .ok (.invokevirtual 409, 3) := dk_182 1 153 (dk_at dksX1_raise_3 8 rfl rfl)
theorem dX1_raise_83 : decode cX1_raise 83 = .ok (.lreturn, 1) := dk_173 (dk_at dksX1_raise_3 11 rfl rfl)
abbrev cX1_owed : ByteArray := prog_1_method_49_code
def yX1_owed : MethodName := ⟨RX1, "owed", "()J"⟩
def dkwX1_owed_1 : List UInt8 := [185, 0, 217, 1, 0, 192, 1, 55, 58, 4, 31, 25, 4, 180, 1, 73, 97, 64, 167, 255, 228, 31, 173]
abbrev dktX1_owed_1 : List UInt8 := dkwX1_owed_1 ++ []
def dkwX1_owed_0 : List UInt8 := [9, 64, 42, 180, 0, 49, 182, 0, 208, 78, 45, 185, 0, 212, 1, 0, 153, 0, 25, 45]
abbrev dktX1_owed_0 : List UInt8 := dkwX1_owed_0 ++ dktX1_owed_1
theorem dksX1_owed_0 : cX1_owed.data.toList.drop 0 = dktX1_owed_0 := by decide +kernel
theorem dksX1_owed_1 : cX1_owed.data.toList.drop 20 = dktX1_owed_1 := dk_seg dksX1_owed_0 20 rfl rfl
theorem dX1_owed_0 : decode cX1_owed 0 = .ok (.lconst 0, 1) := dk_9 (dk_at dksX1_owed_0 0 rfl rfl)
theorem dX1_owed_1 : decode cX1_owed 1 = .ok (.lstore_n 1, 1) := dk_64 (dk_at dksX1_owed_0 1 rfl rfl)
theorem dX1_owed_2 : decode cX1_owed 2 = .ok (.aload_n 0, 1) := dk_42 (dk_at dksX1_owed_0 2 rfl rfl)
theorem dX1_owed_3 : decode cX1_owed 3 = .ok (.getfield 49, 3) := dk_180 0 49 (dk_at dksX1_owed_0 3 rfl rfl)
theorem dX1_owed_6 : decode cX1_owed 6 = .ok (.invokevirtual 208, 3) := dk_182 0 208 (dk_at dksX1_owed_0 6 rfl rfl)
theorem dX1_owed_9 : decode cX1_owed 9 = .ok (.astore_n 3, 1) := dk_78 (dk_at dksX1_owed_0 9 rfl rfl)
theorem dX1_owed_10 : decode cX1_owed 10 = .ok (.aload_n 3, 1) := dk_45 (dk_at dksX1_owed_0 10 rfl rfl)
theorem dX1_owed_11 : decode cX1_owed 11 = .ok (.invokeinterface 212 1, 5) := by decide +kernel
theorem dX1_owed_16 : decode cX1_owed 16 = .ok (.ifCond .eq 25, 3) := dk_153 0 25 (dk_at dksX1_owed_0 16 rfl rfl)
theorem dX1_owed_19 : decode cX1_owed 19 = .ok (.aload_n 3, 1) := dk_45 (dk_at dksX1_owed_0 19 rfl rfl)
theorem dX1_owed_20 : decode cX1_owed 20 = .ok (.invokeinterface 217 1, 5) := by decide +kernel
theorem dX1_owed_25 : decode cX1_owed 25 = .ok (.checkcast 311, 3) := dk_192 1 55 (dk_at dksX1_owed_1 5 rfl rfl)
theorem dX1_owed_28 : decode cX1_owed 28 = .ok (.astore 4, 2) := dk_58 4 (dk_at dksX1_owed_1 8 rfl rfl)
theorem dX1_owed_30 : decode cX1_owed 30 = .ok (.lload_n 1, 1) := dk_31 (dk_at dksX1_owed_1 10 rfl rfl)
theorem dX1_owed_31 : decode cX1_owed 31 = .ok (.aload 4, 2) := dk_25 4 (dk_at dksX1_owed_1 11 rfl rfl)
theorem dX1_owed_33 : decode cX1_owed 33 = .ok (.getfield 329, 3) := dk_180 1 73 (dk_at dksX1_owed_1 13 rfl rfl)
theorem dX1_owed_36 : decode cX1_owed 36 = .ok (.ladd, 1) := dk_97 (dk_at dksX1_owed_1 16 rfl rfl)
theorem dX1_owed_37 : decode cX1_owed 37 = .ok (.lstore_n 1, 1) := dk_64 (dk_at dksX1_owed_1 17 rfl rfl)
theorem dX1_owed_38 : decode cX1_owed 38 = .ok (.goto (-28), 3) := dk_167 255 228 (dk_at dksX1_owed_1 18 rfl rfl)
theorem dX1_owed_41 : decode cX1_owed 41 = .ok (.lload_n 1, 1) := dk_31 (dk_at dksX1_owed_1 21 rfl rfl)
theorem dX1_owed_42 : decode cX1_owed 42 = .ok (.lreturn, 1) := dk_173 (dk_at dksX1_owed_1 22 rfl rfl)
abbrev cX1_grid : ByteArray := prog_1_method_51_code
def yX1_grid : MethodName := ⟨RX1, "grid", "(III)I"⟩
def dkwX1_grid_3 : List UInt8 := [172]
abbrev dktX1_grid_3 : List UInt8 := dkwX1_grid_3 ++ []
def dkwX1_grid_2 : List UInt8 := [180, 0, 60, 27, 4, 100, 50, 28, 46, 54, 4, 42, 180, 0, 60, 27, 4, 100, 50, 28, 29, 79, 21, 4]
abbrev dktX1_grid_2 : List UInt8 := dkwX1_grid_2 ++ dktX1_grid_3
def dkwX1_grid_1 : List UInt8 := [184, 0, 127, 184, 0, 131, 42, 182, 0, 225, 154, 0, 7, 4, 167, 0, 4, 3, 184, 0, 182, 42]
abbrev dktX1_grid_1 : List UInt8 := dkwX1_grid_1 ++ dktX1_grid_2
def dkwX1_grid_0 : List UInt8 := [27, 184, 1, 52, 28, 133, 9, 20, 0, 167, 184, 0, 127, 184, 1, 19, 29, 133, 9, 20, 1, 156]
abbrev dktX1_grid_0 : List UInt8 := dkwX1_grid_0 ++ dktX1_grid_1
theorem dksX1_grid_0 : cX1_grid.data.toList.drop 0 = dktX1_grid_0 := by decide +kernel
theorem dksX1_grid_1 : cX1_grid.data.toList.drop 22 = dktX1_grid_1 := dk_seg dksX1_grid_0 22 rfl rfl
theorem dksX1_grid_2 : cX1_grid.data.toList.drop 44 = dktX1_grid_2 := dk_seg dksX1_grid_1 22 rfl rfl
theorem dksX1_grid_3 : cX1_grid.data.toList.drop 68 = dktX1_grid_3 := dk_seg dksX1_grid_2 24 rfl rfl
theorem dX1_grid_0 : decode cX1_grid 0 = .ok (.iload_n 1, 1) := dk_27 (dk_at dksX1_grid_0 0 rfl rfl)
theorem dX1_grid_1 : decode cX1_grid 1 = .ok (.invokestatic 308, 3) := dk_184 1 52 (dk_at dksX1_grid_0 1 rfl rfl)
theorem dX1_grid_4 : decode cX1_grid 4 = .ok (.iload_n 2, 1) := dk_28 (dk_at dksX1_grid_0 4 rfl rfl)
theorem dX1_grid_5 : decode cX1_grid 5 = .ok (.i2l, 1) := dk_133 (dk_at dksX1_grid_0 5 rfl rfl)
theorem dX1_grid_6 : decode cX1_grid 6 = .ok (.lconst 0, 1) := dk_9 (dk_at dksX1_grid_0 6 rfl rfl)
theorem dX1_grid_7 : decode cX1_grid 7 = .ok (.ldc2_w 167, 3) := dk_20 0 167 (dk_at dksX1_grid_0 7 rfl rfl)
theorem dX1_grid_10 : decode cX1_grid 10 = .ok (.invokestatic 127, 3) := dk_184 0 127 (dk_at dksX1_grid_0 10 rfl rfl)
theorem dX1_grid_13 : decode cX1_grid 13 = .ok (.invokestatic 275, 3) := dk_184 1 19 (dk_at dksX1_grid_0 13 rfl rfl)
theorem dX1_grid_16 : decode cX1_grid 16 = .ok (.iload_n 3, 1) := dk_29 (dk_at dksX1_grid_0 16 rfl rfl)
theorem dX1_grid_17 : decode cX1_grid 17 = .ok (.i2l, 1) := dk_133 (dk_at dksX1_grid_0 17 rfl rfl)
theorem dX1_grid_18 : decode cX1_grid 18 = .ok (.lconst 0, 1) := dk_9 (dk_at dksX1_grid_0 18 rfl rfl)
theorem dX1_grid_19 : decode cX1_grid 19 = .ok (.ldc2_w 412, 3) := dk_20 1 156 (dk_at dksX1_grid_0 19 rfl rfl)
theorem dX1_grid_22 : decode cX1_grid 22 = .ok (.invokestatic 127, 3) := dk_184 0 127 (dk_at dksX1_grid_1 0 rfl rfl)
theorem dX1_grid_25 : decode cX1_grid 25 = .ok (.invokestatic 131, 3) := dk_184 0 131 (dk_at dksX1_grid_1 3 rfl rfl)
theorem dX1_grid_28 : decode cX1_grid 28 = .ok (.aload_n 0, 1) := dk_42 (dk_at dksX1_grid_1 6 rfl rfl)
theorem dX1_grid_29 : decode cX1_grid 29 = .ok (.invokevirtual 225, 3) := dk_182 0 225 (dk_at dksX1_grid_1 7 rfl rfl)
theorem dX1_grid_32 : decode cX1_grid 32 = .ok (.ifCond .ne 7, 3) := dk_154 0 7 (dk_at dksX1_grid_1 10 rfl rfl)
theorem dX1_grid_35 : decode cX1_grid 35 = .ok (.iconst 1, 1) := dk_4 (dk_at dksX1_grid_1 13 rfl rfl)
theorem dX1_grid_36 : decode cX1_grid 36 = .ok (.goto 4, 3) := dk_167 0 4 (dk_at dksX1_grid_1 14 rfl rfl)
theorem dX1_grid_39 : decode cX1_grid 39 = .ok (.iconst 0, 1) := dk_3 (dk_at dksX1_grid_1 17 rfl rfl)
theorem dX1_grid_40 : decode cX1_grid 40 = .ok (.invokestatic 182, 3) := dk_184 0 182 (dk_at dksX1_grid_1 18 rfl rfl)
theorem dX1_grid_43 : decode cX1_grid 43 = .ok (.aload_n 0, 1) := dk_42 (dk_at dksX1_grid_1 21 rfl rfl)
theorem dX1_grid_44 : decode cX1_grid 44 = .ok (.getfield 60, 3) := dk_180 0 60 (dk_at dksX1_grid_2 0 rfl rfl)
theorem dX1_grid_47 : decode cX1_grid 47 = .ok (.iload_n 1, 1) := dk_27 (dk_at dksX1_grid_2 3 rfl rfl)
theorem dX1_grid_48 : decode cX1_grid 48 = .ok (.iconst 1, 1) := dk_4 (dk_at dksX1_grid_2 4 rfl rfl)
theorem dX1_grid_49 : decode cX1_grid 49 = .ok (.isub, 1) := dk_100 (dk_at dksX1_grid_2 5 rfl rfl)
theorem dX1_grid_50 : decode cX1_grid 50 = .ok (.aaload, 1) := dk_50 (dk_at dksX1_grid_2 6 rfl rfl)
theorem dX1_grid_51 : decode cX1_grid 51 = .ok (.iload_n 2, 1) := dk_28 (dk_at dksX1_grid_2 7 rfl rfl)
theorem dX1_grid_52 : decode cX1_grid 52 = .ok (.iaload, 1) := dk_46 (dk_at dksX1_grid_2 8 rfl rfl)
theorem dX1_grid_53 : decode cX1_grid 53 = .ok (.istore 4, 2) := dk_54 4 (dk_at dksX1_grid_2 9 rfl rfl)
theorem dX1_grid_55 : decode cX1_grid 55 = .ok (.aload_n 0, 1) := dk_42 (dk_at dksX1_grid_2 11 rfl rfl)
theorem dX1_grid_56 : decode cX1_grid 56 = .ok (.getfield 60, 3) := dk_180 0 60 (dk_at dksX1_grid_2 12 rfl rfl)
theorem dX1_grid_59 : decode cX1_grid 59 = .ok (.iload_n 1, 1) := dk_27 (dk_at dksX1_grid_2 15 rfl rfl)
theorem dX1_grid_60 : decode cX1_grid 60 = .ok (.iconst 1, 1) := dk_4 (dk_at dksX1_grid_2 16 rfl rfl)
theorem dX1_grid_61 : decode cX1_grid 61 = .ok (.isub, 1) := dk_100 (dk_at dksX1_grid_2 17 rfl rfl)
theorem dX1_grid_62 : decode cX1_grid 62 = .ok (.aaload, 1) := dk_50 (dk_at dksX1_grid_2 18 rfl rfl)
theorem dX1_grid_63 : decode cX1_grid 63 = .ok (.iload_n 2, 1) := dk_28 (dk_at dksX1_grid_2 19 rfl rfl)
theorem dX1_grid_64 : decode cX1_grid 64 = .ok (.iload_n 3, 1) := dk_29 (dk_at dksX1_grid_2 20 rfl rfl)
theorem dX1_grid_65 : decode cX1_grid 65 = .ok (.iastore, 1) := dk_79 (dk_at dksX1_grid_2 21 rfl rfl)
theorem dX1_grid_66 : decode cX1_grid 66 = .ok (.iload 4, 2) := dk_21 4 (dk_at dksX1_grid_2 22 rfl rfl)
theorem dX1_grid_68 : decode cX1_grid 68 = .ok (.ireturn, 1) := dk_172 (dk_at dksX1_grid_3 0 rfl rfl)
abbrev cX1_settings : ByteArray := prog_1_method_52_code
def yX1_settings : MethodName := ⟨RX1, "settings", "(III)I"⟩
def dkwX1_settings_3 : List UInt8 := [42, 27, 181, 0, 99, 42, 28, 181, 0, 102, 42, 29, 181, 0, 105, 21, 4, 172]
abbrev dktX1_settings_3 : List UInt8 := dkwX1_settings_3 ++ []
def dkwX1_settings_2 : List UInt8 := [159, 0, 10, 42, 182, 0, 225, 154, 0, 7, 4, 167, 0, 4, 3, 184, 0, 182, 42, 180, 0, 99, 54, 4]
abbrev dktX1_settings_2 : List UInt8 := dkwX1_settings_2 ++ dktX1_settings_3
def dkwX1_settings_1 : List UInt8 := [29, 133, 9, 10, 184, 0, 127, 153, 0, 7, 4, 167, 0, 4, 3, 184, 0, 131, 27, 42, 180, 0, 99]
abbrev dktX1_settings_1 : List UInt8 := dkwX1_settings_1 ++ dktX1_settings_2
def dkwX1_settings_0 : List UInt8 := [27, 133, 10, 20, 1, 156, 184, 0, 127, 153, 0, 29, 28, 133, 9, 20, 1, 60, 184, 0, 127, 153, 0, 17]
abbrev dktX1_settings_0 : List UInt8 := dkwX1_settings_0 ++ dktX1_settings_1
theorem dksX1_settings_0 : cX1_settings.data.toList.drop 0 = dktX1_settings_0 := by decide +kernel
theorem dksX1_settings_1 : cX1_settings.data.toList.drop 24 = dktX1_settings_1 := dk_seg dksX1_settings_0 24 rfl rfl
theorem dksX1_settings_2 : cX1_settings.data.toList.drop 47 = dktX1_settings_2 := dk_seg dksX1_settings_1 23 rfl rfl
theorem dksX1_settings_3 : cX1_settings.data.toList.drop 71 = dktX1_settings_3 := dk_seg dksX1_settings_2 24 rfl rfl
theorem dX1_settings_0 : decode cX1_settings 0 = .ok (.iload_n 1, 1) := dk_27 (dk_at dksX1_settings_0 0 rfl rfl)
theorem dX1_settings_1 : decode cX1_settings 1 = .ok (.i2l, 1) := dk_133 (dk_at dksX1_settings_0 1 rfl rfl)
theorem dX1_settings_2 : decode cX1_settings 2 = .ok (.lconst 1, 1) := dk_10 (dk_at dksX1_settings_0 2 rfl rfl)
theorem dX1_settings_3 : decode cX1_settings 3 = .ok (.ldc2_w 412, 3) := dk_20 1 156 (dk_at dksX1_settings_0 3 rfl rfl)
theorem dX1_settings_6 : decode cX1_settings 6 = .ok (.invokestatic 127, 3) := dk_184 0 127 (dk_at dksX1_settings_0 6 rfl rfl)
theorem dX1_settings_9 : decode cX1_settings 9 = .ok (.ifCond .eq 29, 3) := dk_153 0 29 (dk_at dksX1_settings_0 9 rfl rfl)
theorem dX1_settings_12 : decode cX1_settings 12 = .ok (.iload_n 2, 1) := dk_28 (dk_at dksX1_settings_0 12 rfl rfl)
theorem dX1_settings_13 : decode cX1_settings 13 = .ok (.i2l, 1) := dk_133 (dk_at dksX1_settings_0 13 rfl rfl)
theorem dX1_settings_14 : decode cX1_settings 14 = .ok (.lconst 0, 1) := dk_9 (dk_at dksX1_settings_0 14 rfl rfl)
theorem dX1_settings_15 : decode cX1_settings 15 = .ok (.ldc2_w 316, 3) := dk_20 1 60 (dk_at dksX1_settings_0 15 rfl rfl)
theorem dX1_settings_18 : decode cX1_settings 18 = .ok (.invokestatic 127, 3) := dk_184 0 127 (dk_at dksX1_settings_0 18 rfl rfl)
theorem dX1_settings_21 : decode cX1_settings 21 = .ok (.ifCond .eq 17, 3) := dk_153 0 17 (dk_at dksX1_settings_0 21 rfl rfl)
theorem dX1_settings_24 : decode cX1_settings 24 = .ok (.iload_n 3, 1) := dk_29 (dk_at dksX1_settings_1 0 rfl rfl)
theorem dX1_settings_25 : decode cX1_settings 25 = .ok (.i2l, 1) := dk_133 (dk_at dksX1_settings_1 1 rfl rfl)
theorem dX1_settings_26 : decode cX1_settings 26 = .ok (.lconst 0, 1) := dk_9 (dk_at dksX1_settings_1 2 rfl rfl)
theorem dX1_settings_27 : decode cX1_settings 27 = .ok (.lconst 1, 1) := dk_10 (dk_at dksX1_settings_1 3 rfl rfl)
theorem dX1_settings_28 : decode cX1_settings 28 = .ok (.invokestatic 127, 3) := dk_184 0 127 (dk_at dksX1_settings_1 4 rfl rfl)
theorem dX1_settings_31 : decode cX1_settings 31 = .ok (.ifCond .eq 7, 3) := dk_153 0 7 (dk_at dksX1_settings_1 7 rfl rfl)
theorem dX1_settings_34 : decode cX1_settings 34 = .ok (.iconst 1, 1) := dk_4 (dk_at dksX1_settings_1 10 rfl rfl)
theorem dX1_settings_35 : decode cX1_settings 35 = .ok (.goto 4, 3) := dk_167 0 4 (dk_at dksX1_settings_1 11 rfl rfl)
theorem dX1_settings_38 : decode cX1_settings 38 = .ok (.iconst 0, 1) := dk_3 (dk_at dksX1_settings_1 14 rfl rfl)
theorem dX1_settings_39 : decode cX1_settings 39 = .ok (.invokestatic 131, 3) := dk_184 0 131 (dk_at dksX1_settings_1 15 rfl rfl)
theorem dX1_settings_42 : decode cX1_settings 42 = .ok (.iload_n 1, 1) := dk_27 (dk_at dksX1_settings_1 18 rfl rfl)
theorem dX1_settings_43 : decode cX1_settings 43 = .ok (.aload_n 0, 1) := dk_42 (dk_at dksX1_settings_1 19 rfl rfl)
theorem dX1_settings_44 : decode cX1_settings 44 = .ok (.getfield 99, 3) := dk_180 0 99 (dk_at dksX1_settings_1 20 rfl rfl)
theorem dX1_settings_47 : decode cX1_settings 47 = .ok (.if_icmp .eq 10, 3) := dk_159 0 10 (dk_at dksX1_settings_2 0 rfl rfl)
theorem dX1_settings_50 : decode cX1_settings 50 = .ok (.aload_n 0, 1) := dk_42 (dk_at dksX1_settings_2 3 rfl rfl)
theorem dX1_settings_51 : decode cX1_settings 51 = .ok (.invokevirtual 225, 3) := dk_182 0 225 (dk_at dksX1_settings_2 4 rfl rfl)
theorem dX1_settings_54 : decode cX1_settings 54 = .ok (.ifCond .ne 7, 3) := dk_154 0 7 (dk_at dksX1_settings_2 7 rfl rfl)
theorem dX1_settings_57 : decode cX1_settings 57 = .ok (.iconst 1, 1) := dk_4 (dk_at dksX1_settings_2 10 rfl rfl)
theorem dX1_settings_58 : decode cX1_settings 58 = .ok (.goto 4, 3) := dk_167 0 4 (dk_at dksX1_settings_2 11 rfl rfl)
theorem dX1_settings_61 : decode cX1_settings 61 = .ok (.iconst 0, 1) := dk_3 (dk_at dksX1_settings_2 14 rfl rfl)
theorem dX1_settings_62 : decode cX1_settings 62 = .ok (.invokestatic 182, 3) := dk_184 0 182 (dk_at dksX1_settings_2 15 rfl rfl)
theorem dX1_settings_65 : decode cX1_settings 65 = .ok (.aload_n 0, 1) := dk_42 (dk_at dksX1_settings_2 18 rfl rfl)
theorem dX1_settings_66 : decode cX1_settings 66 = .ok (.getfield 99, 3) := dk_180 0 99 (dk_at dksX1_settings_2 19 rfl rfl)
theorem dX1_settings_69 : decode cX1_settings 69 = .ok (.istore 4, 2) := dk_54 4 (dk_at dksX1_settings_2 22 rfl rfl)
theorem dX1_settings_71 : decode cX1_settings 71 = .ok (.aload_n 0, 1) := dk_42 (dk_at dksX1_settings_3 0 rfl rfl)
theorem dX1_settings_72 : decode cX1_settings 72 = .ok (.iload_n 1, 1) := dk_27 (dk_at dksX1_settings_3 1 rfl rfl)
theorem dX1_settings_73 : decode cX1_settings 73 = .ok (.putfield 99, 3) := dk_181 0 99 (dk_at dksX1_settings_3 2 rfl rfl)
theorem dX1_settings_76 : decode cX1_settings 76 = .ok (.aload_n 0, 1) := dk_42 (dk_at dksX1_settings_3 5 rfl rfl)
theorem dX1_settings_77 : decode cX1_settings 77 = .ok (.iload_n 2, 1) := dk_28 (dk_at dksX1_settings_3 6 rfl rfl)
theorem dX1_settings_78 : decode cX1_settings 78 = .ok (.putfield 102, 3) := dk_181 0 102 (dk_at dksX1_settings_3 7 rfl rfl)
theorem dX1_settings_81 : decode cX1_settings 81 = .ok (.aload_n 0, 1) := dk_42 (dk_at dksX1_settings_3 10 rfl rfl)
theorem dX1_settings_82 : decode cX1_settings 82 = .ok (.iload_n 3, 1) := dk_29 (dk_at dksX1_settings_3 11 rfl rfl)
theorem dX1_settings_83 : decode cX1_settings 83 = .ok (.putfield 105, 3) := dk_181 0 105 (dk_at dksX1_settings_3 12 rfl rfl)
theorem dX1_settings_86 : decode cX1_settings 86 = .ok (.iload 4, 2) := dk_21 4 (dk_at dksX1_settings_3 15 rfl rfl)
theorem dX1_settings_88 : decode cX1_settings 88 = .ok (.ireturn, 1) := dk_172 (dk_at dksX1_settings_3 17 rfl rfl)
abbrev cX1_claim : ByteArray := prog_1_method_55_code
def yX1_claim : MethodName := ⟨RX1, "claim", "(IIII)I"⟩
def dkwX1_claim_6 : List UInt8 := [21, 7, 172]
abbrev dktX1_claim_6 : List UInt8 := dkwX1_claim_6 ++ []
def dkwX1_claim_5 : List UInt8 := [180, 0, 52, 25, 6, 182, 0, 174, 54, 7, 25, 5, 25, 6, 181, 0, 251, 42, 25, 6, 182, 1, 168]
abbrev dktX1_claim_5 : List UInt8 := dkwX1_claim_5 ++ dktX1_claim_6
def dkwX1_claim_4 : List UInt8 := [187, 0, 155, 89, 42, 42, 180, 0, 52, 182, 0, 135, 25, 5, 28, 29, 21, 4, 183, 1, 165, 58, 6, 42]
abbrev dktX1_claim_4 : List UInt8 := dkwX1_claim_4 ++ dktX1_claim_5
def dkwX1_claim_3 : List UInt8 := [25, 5, 180, 0, 251, 199, 0, 15, 42, 182, 0, 123, 6, 160, 0, 7, 4, 167, 0, 4, 3, 184, 0, 182]
abbrev dktX1_claim_3 : List UInt8 := dkwX1_claim_3 ++ dktX1_claim_4
def dkwX1_claim_2 : List UInt8 := [25, 5, 182, 0, 148, 153, 0, 39, 25, 5, 180, 0, 145, 158, 0, 31, 25, 5, 182, 0, 245, 154, 0, 23]
abbrev dktX1_claim_2 : List UInt8 := dkwX1_claim_2 ++ dktX1_claim_3
def dkwX1_claim_1 : List UInt8 := [153, 0, 20, 21, 4, 133, 9, 20, 1, 103, 184, 0, 127, 153, 0, 7, 4, 167, 0, 4, 3, 184, 0, 131]
abbrev dktX1_claim_1 : List UInt8 := dkwX1_claim_1 ++ dktX1_claim_2
def dkwX1_claim_0 : List UInt8 := [42, 180, 0, 42, 27, 182, 0, 136, 192, 0, 140, 58, 5, 28, 184, 1, 158, 153, 0, 27, 29, 184, 1, 162]
abbrev dktX1_claim_0 : List UInt8 := dkwX1_claim_0 ++ dktX1_claim_1
theorem dksX1_claim_0 : cX1_claim.data.toList.drop 0 = dktX1_claim_0 := by decide +kernel
theorem dksX1_claim_1 : cX1_claim.data.toList.drop 24 = dktX1_claim_1 := dk_seg dksX1_claim_0 24 rfl rfl
theorem dksX1_claim_2 : cX1_claim.data.toList.drop 48 = dktX1_claim_2 := dk_seg dksX1_claim_1 24 rfl rfl
theorem dksX1_claim_3 : cX1_claim.data.toList.drop 72 = dktX1_claim_3 := dk_seg dksX1_claim_2 24 rfl rfl
theorem dksX1_claim_4 : cX1_claim.data.toList.drop 96 = dktX1_claim_4 := dk_seg dksX1_claim_3 24 rfl rfl
theorem dksX1_claim_5 : cX1_claim.data.toList.drop 120 = dktX1_claim_5 := dk_seg dksX1_claim_4 24 rfl rfl
theorem dksX1_claim_6 : cX1_claim.data.toList.drop 143 = dktX1_claim_6 := dk_seg dksX1_claim_5 23 rfl rfl
theorem dX1_claim_0 : decode cX1_claim 0 = .ok (.aload_n 0, 1) := dk_42 (dk_at dksX1_claim_0 0 rfl rfl)
theorem dX1_claim_1 : decode cX1_claim 1 = .ok (.getfield 42, 3) := dk_180 0 42 (dk_at dksX1_claim_0 1 rfl rfl)
theorem dX1_claim_4 : decode cX1_claim 4 = .ok (.iload_n 1, 1) := dk_27 (dk_at dksX1_claim_0 4 rfl rfl)
theorem dX1_claim_5 : decode cX1_claim 5 = .ok (.invokevirtual 136, 3) := dk_182 0 136 (dk_at dksX1_claim_0 5 rfl rfl)
theorem dX1_claim_8 : decode cX1_claim 8 = .ok (.checkcast 140, 3) := dk_192 0 140 (dk_at dksX1_claim_0 8 rfl rfl)
theorem dX1_claim_11 : decode cX1_claim 11 = .ok (.astore 5, 2) := dk_58 5 (dk_at dksX1_claim_0 11 rfl rfl)
theorem dX1_claim_13 : decode cX1_claim 13 = .ok (.iload_n 2, 1) := dk_28 (dk_at dksX1_claim_0 13 rfl rfl)
theorem dX1_claim_14 : decode cX1_claim 14 = .ok (.invokestatic 414, 3) := dk_184 1 158 (dk_at dksX1_claim_0 14 rfl rfl)
theorem dX1_claim_17 : decode cX1_claim 17 = .ok (.ifCond .eq 27, 3) := dk_153 0 27 (dk_at dksX1_claim_0 17 rfl rfl)
theorem dX1_claim_20 : decode cX1_claim 20 = .ok (.iload_n 3, 1) := dk_29 (dk_at dksX1_claim_0 20 rfl rfl)
theorem dX1_claim_21 : decode cX1_claim 21 = .ok (.invokestatic 418, 3) := dk_184 1 162 (dk_at dksX1_claim_0 21 rfl rfl)
theorem dX1_claim_24 : decode cX1_claim 24 = .ok (.ifCond .eq 20, 3) := dk_153 0 20 (dk_at dksX1_claim_1 0 rfl rfl)
theorem dX1_claim_27 : decode cX1_claim 27 = .ok (.iload 4, 2) := dk_21 4 (dk_at dksX1_claim_1 3 rfl rfl)
theorem dX1_claim_29 : decode cX1_claim 29 = .ok (.i2l, 1) := dk_133 (dk_at dksX1_claim_1 5 rfl rfl)
theorem dX1_claim_30 : decode cX1_claim 30 = .ok (.lconst 0, 1) := dk_9 (dk_at dksX1_claim_1 6 rfl rfl)
theorem dX1_claim_31 : decode cX1_claim 31 = .ok (.ldc2_w 359, 3) := dk_20 1 103 (dk_at dksX1_claim_1 7 rfl rfl)
theorem dX1_claim_34 : decode cX1_claim 34 = .ok (.invokestatic 127, 3) := dk_184 0 127 (dk_at dksX1_claim_1 10 rfl rfl)
theorem dX1_claim_37 : decode cX1_claim 37 = .ok (.ifCond .eq 7, 3) := dk_153 0 7 (dk_at dksX1_claim_1 13 rfl rfl)
theorem dX1_claim_40 : decode cX1_claim 40 = .ok (.iconst 1, 1) := dk_4 (dk_at dksX1_claim_1 16 rfl rfl)
theorem dX1_claim_41 : decode cX1_claim 41 = .ok (.goto 4, 3) := dk_167 0 4 (dk_at dksX1_claim_1 17 rfl rfl)
theorem dX1_claim_44 : decode cX1_claim 44 = .ok (.iconst 0, 1) := dk_3 (dk_at dksX1_claim_1 20 rfl rfl)
theorem dX1_claim_45 : decode cX1_claim 45 = .ok (.invokestatic 131, 3) := dk_184 0 131 (dk_at dksX1_claim_1 21 rfl rfl)
theorem dX1_claim_48 : decode cX1_claim 48 = .ok (.aload 5, 2) := dk_25 5 (dk_at dksX1_claim_2 0 rfl rfl)
theorem dX1_claim_50 : decode cX1_claim 50 = .ok (.invokevirtual 148, 3) := dk_182 0 148 (dk_at dksX1_claim_2 2 rfl rfl)
theorem dX1_claim_53 : decode cX1_claim 53 = .ok (.ifCond .eq 39, 3) := dk_153 0 39 (dk_at dksX1_claim_2 5 rfl rfl)
theorem dX1_claim_56 : decode cX1_claim 56 = .ok (.aload 5, 2) := dk_25 5 (dk_at dksX1_claim_2 8 rfl rfl)
theorem dX1_claim_58 : decode cX1_claim 58 = .ok (.getfield 145, 3) := dk_180 0 145 (dk_at dksX1_claim_2 10 rfl rfl)
theorem dX1_claim_61 : decode cX1_claim 61 = .ok (.ifCond .le 31, 3) := dk_158 0 31 (dk_at dksX1_claim_2 13 rfl rfl)
theorem dX1_claim_64 : decode cX1_claim 64 = .ok (.aload 5, 2) := dk_25 5 (dk_at dksX1_claim_2 16 rfl rfl)
theorem dX1_claim_66 : decode cX1_claim 66 = .ok (.invokevirtual 245, 3) := dk_182 0 245 (dk_at dksX1_claim_2 18 rfl rfl)
theorem dX1_claim_69 : decode cX1_claim 69 = .ok (.ifCond .ne 23, 3) := dk_154 0 23 (dk_at dksX1_claim_2 21 rfl rfl)
theorem dX1_claim_72 : decode cX1_claim 72 = .ok (.aload 5, 2) := dk_25 5 (dk_at dksX1_claim_3 0 rfl rfl)
theorem dX1_claim_74 : decode cX1_claim 74 = .ok (.getfield 251, 3) := dk_180 0 251 (dk_at dksX1_claim_3 2 rfl rfl)
theorem dX1_claim_77 : decode cX1_claim 77 = .ok (.ifnonnull 15, 3) := dk_199 0 15 (dk_at dksX1_claim_3 5 rfl rfl)
theorem dX1_claim_80 : decode cX1_claim 80 = .ok (.aload_n 0, 1) := dk_42 (dk_at dksX1_claim_3 8 rfl rfl)
theorem dX1_claim_81 : decode cX1_claim 81 = .ok (.invokevirtual 123, 3) := dk_182 0 123 (dk_at dksX1_claim_3 9 rfl rfl)
theorem dX1_claim_84 : decode cX1_claim 84 = .ok (.iconst 3, 1) := dk_6 (dk_at dksX1_claim_3 12 rfl rfl)
theorem dX1_claim_85 : decode cX1_claim 85 = .ok (.if_icmp .ne 7, 3) := dk_160 0 7 (dk_at dksX1_claim_3 13 rfl rfl)
theorem dX1_claim_88 : decode cX1_claim 88 = .ok (.iconst 1, 1) := dk_4 (dk_at dksX1_claim_3 16 rfl rfl)
theorem dX1_claim_89 : decode cX1_claim 89 = .ok (.goto 4, 3) := dk_167 0 4 (dk_at dksX1_claim_3 17 rfl rfl)
theorem dX1_claim_92 : decode cX1_claim 92 = .ok (.iconst 0, 1) := dk_3 (dk_at dksX1_claim_3 20 rfl rfl)
theorem dX1_claim_93 : decode cX1_claim 93 = .ok (.invokestatic 182, 3) := dk_184 0 182 (dk_at dksX1_claim_3 21 rfl rfl)
theorem dX1_claim_96 : decode cX1_claim 96 = .ok (.new 155, 3) := dk_187 0 155 (dk_at dksX1_claim_4 0 rfl rfl)
theorem dX1_claim_99 : decode cX1_claim 99 = .ok (.dup, 1) := dk_89 (dk_at dksX1_claim_4 3 rfl rfl)
theorem dX1_claim_100 : decode cX1_claim 100 = .ok (.aload_n 0, 1) := dk_42 (dk_at dksX1_claim_4 4 rfl rfl)
theorem dX1_claim_101 : decode cX1_claim 101 = .ok (.aload_n 0, 1) := dk_42 (dk_at dksX1_claim_4 5 rfl rfl)
theorem dX1_claim_102 : decode cX1_claim 102 = .ok (.getfield 52, 3) := dk_180 0 52 (dk_at dksX1_claim_4 6 rfl rfl)
theorem dX1_claim_105 : decode cX1_claim 105 = .ok (.invokevirtual 135, 3) := dk_182 0 135 (dk_at dksX1_claim_4 9 rfl rfl)
theorem dX1_claim_108 : decode cX1_claim 108 = .ok (.aload 5, 2) := dk_25 5 (dk_at dksX1_claim_4 12 rfl rfl)
theorem dX1_claim_110 : decode cX1_claim 110 = .ok (.iload_n 2, 1) := dk_28 (dk_at dksX1_claim_4 14 rfl rfl)
theorem dX1_claim_111 : decode cX1_claim 111 = .ok (.iload_n 3, 1) := dk_29 (dk_at dksX1_claim_4 15 rfl rfl)
theorem dX1_claim_112 : decode cX1_claim 112 = .ok (.iload 4, 2) := dk_21 4 (dk_at dksX1_claim_4 16 rfl rfl)
theorem dX1_claim_114 : decode cX1_claim 114 = .ok (.invokespecial 421, 3) := dk_183 1 165 (dk_at dksX1_claim_4 18 rfl rfl)
theorem dX1_claim_117 : decode cX1_claim 117 = .ok (.astore 6, 2) := dk_58 6 (dk_at dksX1_claim_4 21 rfl rfl)
theorem dX1_claim_119 : decode cX1_claim 119 = .ok (.aload_n 0, 1) := dk_42 (dk_at dksX1_claim_4 23 rfl rfl)
theorem dX1_claim_120 : decode cX1_claim 120 = .ok (.getfield 52, 3) := dk_180 0 52 (dk_at dksX1_claim_5 0 rfl rfl)
theorem dX1_claim_123 : decode cX1_claim 123 = .ok (.aload 6, 2) := dk_25 6 (dk_at dksX1_claim_5 3 rfl rfl)
theorem dX1_claim_125 : decode cX1_claim 125 = .ok (.invokevirtual 174, 3) := dk_182 0 174 (dk_at dksX1_claim_5 5 rfl rfl)
theorem dX1_claim_128 : decode cX1_claim 128 = .ok (.istore 7, 2) := dk_54 7 (dk_at dksX1_claim_5 8 rfl rfl)
theorem dX1_claim_130 : decode cX1_claim 130 = .ok (.aload 5, 2) := dk_25 5 (dk_at dksX1_claim_5 10 rfl rfl)
theorem dX1_claim_132 : decode cX1_claim 132 = .ok (.aload 6, 2) := dk_25 6 (dk_at dksX1_claim_5 12 rfl rfl)
theorem dX1_claim_134 : decode cX1_claim 134 = .ok (.putfield 251, 3) := dk_181 0 251 (dk_at dksX1_claim_5 14 rfl rfl)
theorem dX1_claim_137 : decode cX1_claim 137 = .ok (.aload_n 0, 1) := dk_42 (dk_at dksX1_claim_5 17 rfl rfl)
theorem dX1_claim_138 : decode cX1_claim 138 = .ok (.aload 6, 2) := dk_25 6 (dk_at dksX1_claim_5 18 rfl rfl)
theorem dX1_claim_140 : decode cX1_claim 140 = .ok (.invokevirtual 424, 3) := dk_182 1 168 (dk_at dksX1_claim_5 20 rfl rfl)
theorem dX1_claim_143 : decode cX1_claim 143 = .ok (.iload 7, 2) := dk_21 7 (dk_at dksX1_claim_6 0 rfl rfl)
theorem dX1_claim_145 : decode cX1_claim 145 = .ok (.ireturn, 1) := dk_172 (dk_at dksX1_claim_6 2 rfl rfl)
abbrev cX1_isGrade : ByteArray := prog_1_method_53_code
def yX1_isGrade : MethodName := ⟨RX1, "isGrade", "(I)Z"⟩
def dkwX1_isGrade_0 : List UInt8 := [26, 133, 9, 20, 0, 167, 184, 0, 127, 172]
abbrev dktX1_isGrade_0 : List UInt8 := dkwX1_isGrade_0 ++ []
theorem dksX1_isGrade_0 : cX1_isGrade.data.toList.drop 0 = dktX1_isGrade_0 := by decide +kernel
theorem dX1_isGrade_0 : decode cX1_isGrade 0 = .ok (.iload_n 0, 1) := dk_26 (dk_at dksX1_isGrade_0 0 rfl rfl)
theorem dX1_isGrade_1 : decode cX1_isGrade 1 = .ok (.i2l, 1) := dk_133 (dk_at dksX1_isGrade_0 1 rfl rfl)
theorem dX1_isGrade_2 : decode cX1_isGrade 2 = .ok (.lconst 0, 1) := dk_9 (dk_at dksX1_isGrade_0 2 rfl rfl)
theorem dX1_isGrade_3 : decode cX1_isGrade 3 = .ok (.ldc2_w 167, 3) := dk_20 0 167 (dk_at dksX1_isGrade_0 3 rfl rfl)
theorem dX1_isGrade_6 : decode cX1_isGrade 6 = .ok (.invokestatic 127, 3) := dk_184 0 127 (dk_at dksX1_isGrade_0 6 rfl rfl)
theorem dX1_isGrade_9 : decode cX1_isGrade 9 = .ok (.ireturn, 1) := dk_172 (dk_at dksX1_isGrade_0 9 rfl rfl)
abbrev cX1_isLawyer : ByteArray := prog_1_method_54_code
def yX1_isLawyer : MethodName := ⟨RX1, "isLawyer", "(I)Z"⟩
def dkwX1_isLawyer_0 : List UInt8 := [26, 133, 9, 20, 0, 177, 184, 0, 127, 172]
abbrev dktX1_isLawyer_0 : List UInt8 := dkwX1_isLawyer_0 ++ []
theorem dksX1_isLawyer_0 : cX1_isLawyer.data.toList.drop 0 = dktX1_isLawyer_0 := by decide +kernel
theorem dX1_isLawyer_0 : decode cX1_isLawyer 0 = .ok (.iload_n 0, 1) := dk_26 (dk_at dksX1_isLawyer_0 0 rfl rfl)
theorem dX1_isLawyer_1 : decode cX1_isLawyer 1 = .ok (.i2l, 1) := dk_133 (dk_at dksX1_isLawyer_0 1 rfl rfl)
theorem dX1_isLawyer_2 : decode cX1_isLawyer 2 = .ok (.lconst 0, 1) := dk_9 (dk_at dksX1_isLawyer_0 2 rfl rfl)
theorem dX1_isLawyer_3 : decode cX1_isLawyer 3 = .ok (.ldc2_w 177, 3) := dk_20 0 177 (dk_at dksX1_isLawyer_0 3 rfl rfl)
theorem dX1_isLawyer_6 : decode cX1_isLawyer 6 = .ok (.invokestatic 127, 3) := dk_184 0 127 (dk_at dksX1_isLawyer_0 6 rfl rfl)
theorem dX1_isLawyer_9 : decode cX1_isLawyer 9 = .ok (.ireturn, 1) := dk_172 (dk_at dksX1_isLawyer_0 9 rfl rfl)
abbrev cX1_holdRing : ByteArray := prog_1_method_56_code
def yX1_holdRing : MethodName := ⟨RX1, "holdRing", "(LMassclaim$Claim;)V"⟩
def dkwX1_holdRing_5 : List UInt8 := [181, 0, 157, 132, 3, 1, 167, 255, 219, 177]
abbrev dktX1_holdRing_5 : List UInt8 := dkwX1_holdRing_5 ++ []
def dkwX1_holdRing_4 : List UInt8 := [162, 0, 33, 44, 185, 0, 13, 1, 0, 6, 161, 0, 23, 44, 29, 185, 0, 19, 2, 0, 192, 0, 155, 5]
abbrev dktX1_holdRing_4 : List UInt8 := dkwX1_holdRing_4 ++ dktX1_holdRing_5
def dkwX1_holdRing_3 : List UInt8 := [153, 0, 7, 4, 167, 0, 4, 3, 54, 5, 167, 255, 193, 3, 62, 29, 44, 185, 0, 13, 1, 0]
abbrev dktX1_holdRing_3 : List UInt8 := dkwX1_holdRing_3 ++ dktX1_holdRing_4
def dkwX1_holdRing_2 : List UInt8 := [180, 1, 172, 154, 0, 27, 25, 4, 43, 182, 1, 175, 153, 0, 18, 44, 25, 4, 185, 1, 88, 2, 0]
abbrev dktX1_holdRing_2 : List UInt8 := dkwX1_holdRing_2 ++ dktX1_holdRing_3
def dkwX1_holdRing_1 : List UInt8 := [153, 0, 60, 45, 185, 0, 217, 1, 0, 192, 0, 155, 58, 4, 25, 4, 180, 0, 157, 154, 0, 35, 25, 4]
abbrev dktX1_holdRing_1 : List UInt8 := dkwX1_holdRing_1 ++ dktX1_holdRing_2
def dkwX1_holdRing_0 : List UInt8 := [187, 1, 28, 89, 183, 1, 30, 77, 42, 180, 0, 52, 182, 0, 208, 78, 45, 185, 0, 212, 1, 0]
abbrev dktX1_holdRing_0 : List UInt8 := dkwX1_holdRing_0 ++ dktX1_holdRing_1
theorem dksX1_holdRing_0 : cX1_holdRing.data.toList.drop 0 = dktX1_holdRing_0 := by decide +kernel
theorem dksX1_holdRing_1 : cX1_holdRing.data.toList.drop 22 = dktX1_holdRing_1 := dk_seg dksX1_holdRing_0 22 rfl rfl
theorem dksX1_holdRing_2 : cX1_holdRing.data.toList.drop 46 = dktX1_holdRing_2 := dk_seg dksX1_holdRing_1 24 rfl rfl
theorem dksX1_holdRing_3 : cX1_holdRing.data.toList.drop 69 = dktX1_holdRing_3 := dk_seg dksX1_holdRing_2 23 rfl rfl
theorem dksX1_holdRing_4 : cX1_holdRing.data.toList.drop 91 = dktX1_holdRing_4 := dk_seg dksX1_holdRing_3 22 rfl rfl
theorem dksX1_holdRing_5 : cX1_holdRing.data.toList.drop 115 = dktX1_holdRing_5 := dk_seg dksX1_holdRing_4 24 rfl rfl
theorem dX1_holdRing_0 : decode cX1_holdRing 0 = .ok (.new 284, 3) := dk_187 1 28 (dk_at dksX1_holdRing_0 0 rfl rfl)
theorem dX1_holdRing_3 : decode cX1_holdRing 3 = .ok (.dup, 1) := dk_89 (dk_at dksX1_holdRing_0 3 rfl rfl)
theorem dX1_holdRing_4 : decode cX1_holdRing 4 = .ok (.invokespecial 286, 3) := dk_183 1 30 (dk_at dksX1_holdRing_0 4 rfl rfl)
theorem dX1_holdRing_7 : decode cX1_holdRing 7 = .ok (.astore_n 2, 1) := dk_77 (dk_at dksX1_holdRing_0 7 rfl rfl)
theorem dX1_holdRing_8 : decode cX1_holdRing 8 = .ok (.aload_n 0, 1) := dk_42 (dk_at dksX1_holdRing_0 8 rfl rfl)
theorem dX1_holdRing_9 : decode cX1_holdRing 9 = .ok (.getfield 52, 3) := dk_180 0 52 (dk_at dksX1_holdRing_0 9 rfl rfl)
theorem dX1_holdRing_12 : decode cX1_holdRing 12 = .ok (.invokevirtual 208, 3) := dk_182 0 208 (dk_at dksX1_holdRing_0 12 rfl rfl)
theorem dX1_holdRing_15 : decode cX1_holdRing 15 = .ok (.astore_n 3, 1) := dk_78 (dk_at dksX1_holdRing_0 15 rfl rfl)
theorem dX1_holdRing_16 : decode cX1_holdRing 16 = .ok (.aload_n 3, 1) := dk_45 (dk_at dksX1_holdRing_0 16 rfl rfl)
theorem dX1_holdRing_17 : decode cX1_holdRing 17 = .ok (.invokeinterface 212 1, 5) := by decide +kernel
theorem dX1_holdRing_22 : decode cX1_holdRing 22 = .ok (.ifCond .eq 60, 3) := dk_153 0 60 (dk_at dksX1_holdRing_1 0 rfl rfl)
theorem dX1_holdRing_25 : decode cX1_holdRing 25 = .ok (.aload_n 3, 1) := dk_45 (dk_at dksX1_holdRing_1 3 rfl rfl)
theorem dX1_holdRing_26 : decode cX1_holdRing 26 = .ok (.invokeinterface 217 1, 5) := by decide +kernel
theorem dX1_holdRing_31 : decode cX1_holdRing 31 = .ok (.checkcast 155, 3) := dk_192 0 155 (dk_at dksX1_holdRing_1 9 rfl rfl)
theorem dX1_holdRing_34 : decode cX1_holdRing 34 = .ok (.astore 4, 2) := dk_58 4 (dk_at dksX1_holdRing_1 12 rfl rfl)
theorem dX1_holdRing_36 : decode cX1_holdRing 36 = .ok (.aload 4, 2) := dk_25 4 (dk_at dksX1_holdRing_1 14 rfl rfl)
theorem dX1_holdRing_38 : decode cX1_holdRing 38 = .ok (.getfield 157, 3) := dk_180 0 157 (dk_at dksX1_holdRing_1 16 rfl rfl)
theorem dX1_holdRing_41 : decode cX1_holdRing 41 = .ok (.ifCond .ne 35, 3) := dk_154 0 35 (dk_at dksX1_holdRing_1 19 rfl rfl)
theorem dX1_holdRing_44 : decode cX1_holdRing 44 = .ok (.aload 4, 2) := dk_25 4 (dk_at dksX1_holdRing_1 22 rfl rfl)
theorem dX1_holdRing_46 : decode cX1_holdRing 46 = .ok (.getfield 428, 3) := dk_180 1 172 (dk_at dksX1_holdRing_2 0 rfl rfl)
theorem dX1_holdRing_49 : decode cX1_holdRing 49 = .ok (.ifCond .ne 27, 3) := dk_154 0 27 (dk_at dksX1_holdRing_2 3 rfl rfl)
theorem dX1_holdRing_52 : decode cX1_holdRing 52 = .ok (.aload 4, 2) := dk_25 4 (dk_at dksX1_holdRing_2 6 rfl rfl)
theorem dX1_holdRing_54 : decode cX1_holdRing 54 = .ok (.aload_n 1, 1) := dk_43 (dk_at dksX1_holdRing_2 8 rfl rfl)
theorem dX1_holdRing_55 : decode cX1_holdRing 55 = .ok (.invokevirtual 431, 3) := dk_182 1 175 (dk_at dksX1_holdRing_2 9 rfl rfl)
theorem dX1_holdRing_58 : decode cX1_holdRing 58 = .ok (.ifCond .eq 18, 3) := dk_153 0 18 (dk_at dksX1_holdRing_2 12 rfl rfl)
theorem dX1_holdRing_61 : decode cX1_holdRing 61 = .ok (.aload_n 2, 1) := dk_44 (dk_at dksX1_holdRing_2 15 rfl rfl)
theorem dX1_holdRing_62 : decode cX1_holdRing 62 = .ok (.aload 4, 2) := dk_25 4 (dk_at dksX1_holdRing_2 16 rfl rfl)
theorem dX1_holdRing_64 : decode cX1_holdRing 64 = .ok (.invokeinterface 344 2, 5) := by decide +kernel
theorem dX1_holdRing_69 : decode cX1_holdRing 69 = .ok (.ifCond .eq 7, 3) := dk_153 0 7 (dk_at dksX1_holdRing_3 0 rfl rfl)
theorem dX1_holdRing_72 : decode cX1_holdRing 72 = .ok (.iconst 1, 1) := dk_4 (dk_at dksX1_holdRing_3 3 rfl rfl)
theorem dX1_holdRing_73 : decode cX1_holdRing 73 = .ok (.goto 4, 3) := dk_167 0 4 (dk_at dksX1_holdRing_3 4 rfl rfl)
theorem dX1_holdRing_76 : decode cX1_holdRing 76 = .ok (.iconst 0, 1) := dk_3 (dk_at dksX1_holdRing_3 7 rfl rfl)
theorem dX1_holdRing_77 : decode cX1_holdRing 77 = .ok (.istore 5, 2) := dk_54 5 (dk_at dksX1_holdRing_3 8 rfl rfl)
theorem dX1_holdRing_79 : decode cX1_holdRing 79 = .ok (.goto (-63), 3) := dk_167 255 193 (dk_at dksX1_holdRing_3 10 rfl rfl)
theorem dX1_holdRing_82 : decode cX1_holdRing 82 = .ok (.iconst 0, 1) := dk_3 (dk_at dksX1_holdRing_3 13 rfl rfl)
theorem dX1_holdRing_83 : decode cX1_holdRing 83 = .ok (.istore_n 3, 1) := dk_62 (dk_at dksX1_holdRing_3 14 rfl rfl)
theorem dX1_holdRing_84 : decode cX1_holdRing 84 = .ok (.iload_n 3, 1) := dk_29 (dk_at dksX1_holdRing_3 15 rfl rfl)
theorem dX1_holdRing_85 : decode cX1_holdRing 85 = .ok (.aload_n 2, 1) := dk_44 (dk_at dksX1_holdRing_3 16 rfl rfl)
theorem dX1_holdRing_86 : decode cX1_holdRing 86 = .ok (.invokeinterface 13 1, 5) := by decide +kernel
theorem dX1_holdRing_91 : decode cX1_holdRing 91 = .ok (.if_icmp .ge 33, 3) := dk_162 0 33 (dk_at dksX1_holdRing_4 0 rfl rfl)
theorem dX1_holdRing_94 : decode cX1_holdRing 94 = .ok (.aload_n 2, 1) := dk_44 (dk_at dksX1_holdRing_4 3 rfl rfl)
theorem dX1_holdRing_95 : decode cX1_holdRing 95 = .ok (.invokeinterface 13 1, 5) := by decide +kernel
theorem dX1_holdRing_100 : decode cX1_holdRing 100 = .ok (.iconst 3, 1) := dk_6 (dk_at dksX1_holdRing_4 9 rfl rfl)
theorem dX1_holdRing_101 : decode cX1_holdRing 101 = .ok (.if_icmp .lt 23, 3) := dk_161 0 23 (dk_at dksX1_holdRing_4 10 rfl rfl)
theorem dX1_holdRing_104 : decode cX1_holdRing 104 = .ok (.aload_n 2, 1) := dk_44 (dk_at dksX1_holdRing_4 13 rfl rfl)
theorem dX1_holdRing_105 : decode cX1_holdRing 105 = .ok (.iload_n 3, 1) := dk_29 (dk_at dksX1_holdRing_4 14 rfl rfl)
theorem dX1_holdRing_106 : decode cX1_holdRing 106 = .ok (.invokeinterface 19 2, 5) := by decide +kernel
theorem dX1_holdRing_111 : decode cX1_holdRing 111 = .ok (.checkcast 155, 3) := dk_192 0 155 (dk_at dksX1_holdRing_4 20 rfl rfl)
theorem dX1_holdRing_114 : decode cX1_holdRing 114 = .ok (.iconst 2, 1) := dk_5 (dk_at dksX1_holdRing_4 23 rfl rfl)
theorem dX1_holdRing_115 : decode cX1_holdRing 115 = .ok (.putfield 157, 3) := dk_181 0 157 (dk_at dksX1_holdRing_5 0 rfl rfl)
theorem dX1_holdRing_118 : decode cX1_holdRing 118 = .ok (.iinc 3 1, 3) := dk_132 3 1 (dk_at dksX1_holdRing_5 3 rfl rfl)
theorem dX1_holdRing_121 : decode cX1_holdRing 121 = .ok (.goto (-37), 3) := dk_167 255 219 (dk_at dksX1_holdRing_5 6 rfl rfl)
theorem dX1_holdRing_124 : decode cX1_holdRing 124 = .ok (.return_, 1) := dk_177 (dk_at dksX1_holdRing_5 9 rfl rfl)
abbrev cX1_claimAt : ByteArray := prog_1_method_57_code
def yX1_claimAt : MethodName := ⟨RX1, "claimAt", "(II)I"⟩
def dkwX1_claimAt_5 : List UInt8 := [4, 167, 0, 21, 3, 167, 0, 17, 45, 182, 1, 194, 167, 0, 10, 45, 180, 1, 197, 180, 1, 43, 172]
abbrev dktX1_claimAt_5 : List UInt8 := dkwX1_claimAt_5 ++ []
def dkwX1_claimAt_4 : List UInt8 := [180, 0, 108, 182, 1, 187, 136, 167, 0, 39, 45, 180, 1, 191, 167, 0, 32, 45, 180, 1, 172, 153, 0, 7]
abbrev dktX1_claimAt_4 : List UInt8 := dkwX1_claimAt_4 ++ dktX1_claimAt_5
def dkwX1_claimAt_3 : List UInt8 := [45, 180, 0, 157, 167, 0, 66, 45, 182, 1, 181, 167, 0, 59, 45, 180, 1, 184, 136, 167, 0, 51, 45, 42]
abbrev dktX1_claimAt_3 : List UInt8 := dkwX1_claimAt_3 ++ dktX1_claimAt_4
def dkwX1_claimAt_2 : List UInt8 := [170, 0, 0, 0, 0, 0, 106, 0, 0, 0, 0, 0, 0, 0, 6, 0, 0, 0, 43, 0, 0, 0, 50, 0, 0, 0, 57, 0, 0, 0, 65, 0, 0, 0, 77, 0, 0, 0, 84, 0, 0, 0, 99]
abbrev dktX1_claimAt_2 : List UInt8 := dkwX1_claimAt_2 ++ dktX1_claimAt_3
def dkwX1_claimAt_1 : List UInt8 := [28]
abbrev dktX1_claimAt_1 : List UInt8 := dkwX1_claimAt_1 ++ dktX1_claimAt_2
def dkwX1_claimAt_0 : List UInt8 := [42, 180, 0, 52, 27, 182, 0, 136, 192, 0, 155, 78, 28, 133, 9, 20, 1, 179, 184, 0, 127, 184, 0, 131]
abbrev dktX1_claimAt_0 : List UInt8 := dkwX1_claimAt_0 ++ dktX1_claimAt_1
theorem dksX1_claimAt_0 : cX1_claimAt.data.toList.drop 0 = dktX1_claimAt_0 := by decide +kernel
theorem dksX1_claimAt_1 : cX1_claimAt.data.toList.drop 24 = dktX1_claimAt_1 := dk_seg dksX1_claimAt_0 24 rfl rfl
theorem dksX1_claimAt_2 : cX1_claimAt.data.toList.drop 25 = dktX1_claimAt_2 := dk_seg dksX1_claimAt_1 1 rfl rfl
theorem dksX1_claimAt_3 : cX1_claimAt.data.toList.drop 68 = dktX1_claimAt_3 := dk_seg dksX1_claimAt_2 43 rfl rfl
theorem dksX1_claimAt_4 : cX1_claimAt.data.toList.drop 92 = dktX1_claimAt_4 := dk_seg dksX1_claimAt_3 24 rfl rfl
theorem dksX1_claimAt_5 : cX1_claimAt.data.toList.drop 116 = dktX1_claimAt_5 := dk_seg dksX1_claimAt_4 24 rfl rfl
theorem dX1_claimAt_0 : decode cX1_claimAt 0 = .ok (.aload_n 0, 1) := dk_42 (dk_at dksX1_claimAt_0 0 rfl rfl)
theorem dX1_claimAt_1 : decode cX1_claimAt 1 = .ok (.getfield 52, 3) := dk_180 0 52 (dk_at dksX1_claimAt_0 1 rfl rfl)
theorem dX1_claimAt_4 : decode cX1_claimAt 4 = .ok (.iload_n 1, 1) := dk_27 (dk_at dksX1_claimAt_0 4 rfl rfl)
theorem dX1_claimAt_5 : decode cX1_claimAt 5 = .ok (.invokevirtual 136, 3) := dk_182 0 136 (dk_at dksX1_claimAt_0 5 rfl rfl)
theorem dX1_claimAt_8 : decode cX1_claimAt 8 = .ok (.checkcast 155, 3) := dk_192 0 155 (dk_at dksX1_claimAt_0 8 rfl rfl)
theorem dX1_claimAt_11 : decode cX1_claimAt 11 = .ok (.astore_n 3, 1) := dk_78 (dk_at dksX1_claimAt_0 11 rfl rfl)
theorem dX1_claimAt_12 : decode cX1_claimAt 12 = .ok (.iload_n 2, 1) := dk_28 (dk_at dksX1_claimAt_0 12 rfl rfl)
theorem dX1_claimAt_13 : decode cX1_claimAt 13 = .ok (.i2l, 1) := dk_133 (dk_at dksX1_claimAt_0 13 rfl rfl)
theorem dX1_claimAt_14 : decode cX1_claimAt 14 = .ok (.lconst 0, 1) := dk_9 (dk_at dksX1_claimAt_0 14 rfl rfl)
theorem dX1_claimAt_15 : decode cX1_claimAt 15 = .ok (.ldc2_w 435, 3) := dk_20 1 179 (dk_at dksX1_claimAt_0 15 rfl rfl)
theorem dX1_claimAt_18 : decode cX1_claimAt 18 = .ok (.invokestatic 127, 3) := dk_184 0 127 (dk_at dksX1_claimAt_0 18 rfl rfl)
theorem dX1_claimAt_21 : decode cX1_claimAt 21 = .ok (.invokestatic 131, 3) := dk_184 0 131 (dk_at dksX1_claimAt_0 21 rfl rfl)
theorem dX1_claimAt_24 : decode cX1_claimAt 24 = .ok (.iload_n 2, 1) := dk_28 (dk_at dksX1_claimAt_1 0 rfl rfl)
theorem dX1_claimAt_25 : decode cX1_claimAt 25 = .ok (.tableswitch 106 0 6 #[43, 50, 57, 65, 77, 84, 99], 43) := by decide +kernel
theorem dX1_claimAt_68 : decode cX1_claimAt 68 = .ok (.aload_n 3, 1) := dk_45 (dk_at dksX1_claimAt_3 0 rfl rfl)
theorem dX1_claimAt_69 : decode cX1_claimAt 69 = .ok (.getfield 157, 3) := dk_180 0 157 (dk_at dksX1_claimAt_3 1 rfl rfl)
theorem dX1_claimAt_72 : decode cX1_claimAt 72 = .ok (.goto 66, 3) := dk_167 0 66 (dk_at dksX1_claimAt_3 4 rfl rfl)
theorem dX1_claimAt_75 : decode cX1_claimAt 75 = .ok (.aload_n 3, 1) := dk_45 (dk_at dksX1_claimAt_3 7 rfl rfl)
theorem dX1_claimAt_76 : decode cX1_claimAt 76 = .ok (.invokevirtual 437, 3) := dk_182 1 181 (dk_at dksX1_claimAt_3 8 rfl rfl)
theorem dX1_claimAt_79 : decode cX1_claimAt 79 = .ok (.goto 59, 3) := dk_167 0 59 (dk_at dksX1_claimAt_3 11 rfl rfl)
theorem dX1_claimAt_82 : decode cX1_claimAt 82 = .ok (.aload_n 3, 1) := dk_45 (dk_at dksX1_claimAt_3 14 rfl rfl)
theorem dX1_claimAt_83 : decode cX1_claimAt 83 = .ok (.getfield 440, 3) := dk_180 1 184 (dk_at dksX1_claimAt_3 15 rfl rfl)
theorem dX1_claimAt_86 : decode cX1_claimAt 86 = .ok (.l2i, 1) := dk_136 (dk_at dksX1_claimAt_3 18 rfl rfl)
theorem dX1_claimAt_87 : decode cX1_claimAt 87 = .ok (.goto 51, 3) := dk_167 0 51 (dk_at dksX1_claimAt_3 19 rfl rfl)
theorem dX1_claimAt_90 : decode cX1_claimAt 90 = .ok (.aload_n 3, 1) := dk_45 (dk_at dksX1_claimAt_3 22 rfl rfl)
theorem dX1_claimAt_91 : decode cX1_claimAt 91 = .ok (.aload_n 0, 1) := dk_42 (dk_at dksX1_claimAt_3 23 rfl rfl)
theorem dX1_claimAt_92 : decode cX1_claimAt 92 = .ok (.getfield 108, 3) := dk_180 0 108 (dk_at dksX1_claimAt_4 0 rfl rfl)
theorem dX1_claimAt_95 : decode cX1_claimAt 95 = .ok (.invokevirtual 443, 3) := dk_182 1 187 (dk_at dksX1_claimAt_4 3 rfl rfl)
theorem dX1_claimAt_98 : decode cX1_claimAt 98 = .ok (.l2i, 1) := dk_136 (dk_at dksX1_claimAt_4 6 rfl rfl)
theorem dX1_claimAt_99 : decode cX1_claimAt 99 = .ok (.goto 39, 3) := dk_167 0 39 (dk_at dksX1_claimAt_4 7 rfl rfl)
theorem dX1_claimAt_102 : decode cX1_claimAt 102 = .ok (.aload_n 3, 1) := dk_45 (dk_at dksX1_claimAt_4 10 rfl rfl)
theorem dX1_claimAt_103 : decode cX1_claimAt 103 = .ok (.getfield 447, 3) := dk_180 1 191 (dk_at dksX1_claimAt_4 11 rfl rfl)
theorem dX1_claimAt_106 : decode cX1_claimAt 106 = .ok (.goto 32, 3) := dk_167 0 32 (dk_at dksX1_claimAt_4 14 rfl rfl)
theorem dX1_claimAt_109 : decode cX1_claimAt 109 = .ok (.aload_n 3, 1) := dk_45 (dk_at dksX1_claimAt_4 17 rfl rfl)
theorem dX1_claimAt_110 : decode cX1_claimAt 110 = .ok (.getfield 428, 3) := dk_180 1 172 (dk_at dksX1_claimAt_4 18 rfl rfl)
theorem dX1_claimAt_113 : decode cX1_claimAt 113 = .ok (.ifCond .eq 7, 3) := dk_153 0 7 (dk_at dksX1_claimAt_4 21 rfl rfl)
theorem dX1_claimAt_116 : decode cX1_claimAt 116 = .ok (.iconst 1, 1) := dk_4 (dk_at dksX1_claimAt_5 0 rfl rfl)
theorem dX1_claimAt_117 : decode cX1_claimAt 117 = .ok (.goto 21, 3) := dk_167 0 21 (dk_at dksX1_claimAt_5 1 rfl rfl)
theorem dX1_claimAt_120 : decode cX1_claimAt 120 = .ok (.iconst 0, 1) := dk_3 (dk_at dksX1_claimAt_5 4 rfl rfl)
theorem dX1_claimAt_121 : decode cX1_claimAt 121 = .ok (.goto 17, 3) := dk_167 0 17 (dk_at dksX1_claimAt_5 5 rfl rfl)
theorem dX1_claimAt_124 : decode cX1_claimAt 124 = .ok (.aload_n 3, 1) := dk_45 (dk_at dksX1_claimAt_5 8 rfl rfl)
theorem dX1_claimAt_125 : decode cX1_claimAt 125 = .ok (.invokevirtual 450, 3) := dk_182 1 194 (dk_at dksX1_claimAt_5 9 rfl rfl)
theorem dX1_claimAt_128 : decode cX1_claimAt 128 = .ok (.goto 10, 3) := dk_167 0 10 (dk_at dksX1_claimAt_5 12 rfl rfl)
theorem dX1_claimAt_131 : decode cX1_claimAt 131 = .ok (.aload_n 3, 1) := dk_45 (dk_at dksX1_claimAt_5 15 rfl rfl)
theorem dX1_claimAt_132 : decode cX1_claimAt 132 = .ok (.getfield 453, 3) := dk_180 1 197 (dk_at dksX1_claimAt_5 16 rfl rfl)
theorem dX1_claimAt_135 : decode cX1_claimAt 135 = .ok (.getfield 299, 3) := dk_180 1 43 (dk_at dksX1_claimAt_5 19 rfl rfl)
theorem dX1_claimAt_138 : decode cX1_claimAt 138 = .ok (.ireturn, 1) := dk_172 (dk_at dksX1_claimAt_5 22 rfl rfl)
abbrev cX1_takeOver : ByteArray := prog_1_method_58_code
def yX1_takeOver : MethodName := ⟨RX1, "takeOver", "(II)I"⟩
def dkwX1_takeOver_3 : List UInt8 := [89, 3, 28, 79, 89, 4, 42, 180, 0, 115, 79, 185, 1, 88, 2, 0, 54, 5, 21, 4, 172]
abbrev dktX1_takeOver_3 : List UInt8 := dkwX1_takeOver_3 ++ []
def dkwX1_takeOver_2 : List UInt8 := [185, 0, 13, 1, 0, 6, 163, 0, 7, 4, 167, 0, 4, 3, 184, 0, 182, 45, 180, 1, 201, 5, 188, 10]
abbrev dktX1_takeOver_2 : List UInt8 := dkwX1_takeOver_2 ++ dktX1_takeOver_3
def dkwX1_takeOver_1 : List UInt8 := [153, 0, 13, 28, 21, 4, 159, 0, 7, 4, 167, 0, 4, 3, 184, 0, 131, 45, 180, 1, 201]
abbrev dktX1_takeOver_1 : List UInt8 := dkwX1_takeOver_1 ++ dktX1_takeOver_2
def dkwX1_takeOver_0 : List UInt8 := [42, 180, 0, 52, 27, 182, 0, 136, 192, 0, 155, 78, 45, 182, 1, 194, 54, 4, 28, 184, 1, 162]
abbrev dktX1_takeOver_0 : List UInt8 := dkwX1_takeOver_0 ++ dktX1_takeOver_1
theorem dksX1_takeOver_0 : cX1_takeOver.data.toList.drop 0 = dktX1_takeOver_0 := by decide +kernel
theorem dksX1_takeOver_1 : cX1_takeOver.data.toList.drop 22 = dktX1_takeOver_1 := dk_seg dksX1_takeOver_0 22 rfl rfl
theorem dksX1_takeOver_2 : cX1_takeOver.data.toList.drop 43 = dktX1_takeOver_2 := dk_seg dksX1_takeOver_1 21 rfl rfl
theorem dksX1_takeOver_3 : cX1_takeOver.data.toList.drop 67 = dktX1_takeOver_3 := dk_seg dksX1_takeOver_2 24 rfl rfl
theorem dX1_takeOver_0 : decode cX1_takeOver 0 = .ok (.aload_n 0, 1) := dk_42 (dk_at dksX1_takeOver_0 0 rfl rfl)
theorem dX1_takeOver_1 : decode cX1_takeOver 1 = .ok (.getfield 52, 3) := dk_180 0 52 (dk_at dksX1_takeOver_0 1 rfl rfl)
theorem dX1_takeOver_4 : decode cX1_takeOver 4 = .ok (.iload_n 1, 1) := dk_27 (dk_at dksX1_takeOver_0 4 rfl rfl)
theorem dX1_takeOver_5 : decode cX1_takeOver 5 = .ok (.invokevirtual 136, 3) := dk_182 0 136 (dk_at dksX1_takeOver_0 5 rfl rfl)
theorem dX1_takeOver_8 : decode cX1_takeOver 8 = .ok (.checkcast 155, 3) := dk_192 0 155 (dk_at dksX1_takeOver_0 8 rfl rfl)
theorem dX1_takeOver_11 : decode cX1_takeOver 11 = .ok (.astore_n 3, 1) := dk_78 (dk_at dksX1_takeOver_0 11 rfl rfl)
theorem dX1_takeOver_12 : decode cX1_takeOver 12 = .ok (.aload_n 3, 1) := dk_45 (dk_at dksX1_takeOver_0 12 rfl rfl)
theorem dX1_takeOver_13 : decode cX1_takeOver 13 = .ok (.invokevirtual 450, 3) := dk_182 1 194 (dk_at dksX1_takeOver_0 13 rfl rfl)
theorem dX1_takeOver_16 : decode cX1_takeOver 16 = .ok (.istore 4, 2) := dk_54 4 (dk_at dksX1_takeOver_0 16 rfl rfl)
theorem dX1_takeOver_18 : decode cX1_takeOver 18 = .ok (.iload_n 2, 1) := dk_28 (dk_at dksX1_takeOver_0 18 rfl rfl)
theorem dX1_takeOver_19 : decode cX1_takeOver 19 = .ok (.invokestatic 418, 3) := dk_184 1 162 (dk_at dksX1_takeOver_0 19 rfl rfl)
theorem dX1_takeOver_22 : decode cX1_takeOver 22 = .ok (.ifCond .eq 13, 3) := dk_153 0 13 (dk_at dksX1_takeOver_1 0 rfl rfl)
theorem dX1_takeOver_25 : decode cX1_takeOver 25 = .ok (.iload_n 2, 1) := dk_28 (dk_at dksX1_takeOver_1 3 rfl rfl)
theorem dX1_takeOver_26 : decode cX1_takeOver 26 = .ok (.iload 4, 2) := dk_21 4 (dk_at dksX1_takeOver_1 4 rfl rfl)
theorem dX1_takeOver_28 : decode cX1_takeOver 28 = .ok (.if_icmp .eq 7, 3) := dk_159 0 7 (dk_at dksX1_takeOver_1 6 rfl rfl)
theorem dX1_takeOver_31 : decode cX1_takeOver 31 = .ok (.iconst 1, 1) := dk_4 (dk_at dksX1_takeOver_1 9 rfl rfl)
theorem dX1_takeOver_32 : decode cX1_takeOver 32 = .ok (.goto 4, 3) := dk_167 0 4 (dk_at dksX1_takeOver_1 10 rfl rfl)
theorem dX1_takeOver_35 : decode cX1_takeOver 35 = .ok (.iconst 0, 1) := dk_3 (dk_at dksX1_takeOver_1 13 rfl rfl)
theorem dX1_takeOver_36 : decode cX1_takeOver 36 = .ok (.invokestatic 131, 3) := dk_184 0 131 (dk_at dksX1_takeOver_1 14 rfl rfl)
theorem dX1_takeOver_39 : decode cX1_takeOver 39 = .ok (.aload_n 3, 1) := dk_45 (dk_at dksX1_takeOver_1 17 rfl rfl)
theorem dX1_takeOver_40 : decode cX1_takeOver 40 = .ok (.getfield 457, 3) := dk_180 1 201 (dk_at dksX1_takeOver_1 18 rfl rfl)
theorem dX1_takeOver_43 : decode cX1_takeOver 43 = .ok (.invokeinterface 13 1, 5) := by decide +kernel
theorem dX1_takeOver_48 : decode cX1_takeOver 48 = .ok (.iconst 3, 1) := dk_6 (dk_at dksX1_takeOver_2 5 rfl rfl)
theorem dX1_takeOver_49 : decode cX1_takeOver 49 = .ok (.if_icmp .gt 7, 3) := dk_163 0 7 (dk_at dksX1_takeOver_2 6 rfl rfl)
theorem dX1_takeOver_52 : decode cX1_takeOver 52 = .ok (.iconst 1, 1) := dk_4 (dk_at dksX1_takeOver_2 9 rfl rfl)
theorem dX1_takeOver_53 : decode cX1_takeOver 53 = .ok (.goto 4, 3) := dk_167 0 4 (dk_at dksX1_takeOver_2 10 rfl rfl)
theorem dX1_takeOver_56 : decode cX1_takeOver 56 = .ok (.iconst 0, 1) := dk_3 (dk_at dksX1_takeOver_2 13 rfl rfl)
theorem dX1_takeOver_57 : decode cX1_takeOver 57 = .ok (.invokestatic 182, 3) := dk_184 0 182 (dk_at dksX1_takeOver_2 14 rfl rfl)
theorem dX1_takeOver_60 : decode cX1_takeOver 60 = .ok (.aload_n 3, 1) := dk_45 (dk_at dksX1_takeOver_2 17 rfl rfl)
theorem dX1_takeOver_61 : decode cX1_takeOver 61 = .ok (.getfield 457, 3) := dk_180 1 201 (dk_at dksX1_takeOver_2 18 rfl rfl)
theorem dX1_takeOver_64 : decode cX1_takeOver 64 = .ok (.iconst 2, 1) := dk_5 (dk_at dksX1_takeOver_2 21 rfl rfl)
theorem dX1_takeOver_65 : decode cX1_takeOver 65 = .ok (.newarray .int, 2) := dk_188_10 (dk_at dksX1_takeOver_2 22 rfl rfl)
theorem dX1_takeOver_67 : decode cX1_takeOver 67 = .ok (.dup, 1) := dk_89 (dk_at dksX1_takeOver_3 0 rfl rfl)
theorem dX1_takeOver_68 : decode cX1_takeOver 68 = .ok (.iconst 0, 1) := dk_3 (dk_at dksX1_takeOver_3 1 rfl rfl)
theorem dX1_takeOver_69 : decode cX1_takeOver 69 = .ok (.iload_n 2, 1) := dk_28 (dk_at dksX1_takeOver_3 2 rfl rfl)
theorem dX1_takeOver_70 : decode cX1_takeOver 70 = .ok (.iastore, 1) := dk_79 (dk_at dksX1_takeOver_3 3 rfl rfl)
theorem dX1_takeOver_71 : decode cX1_takeOver 71 = .ok (.dup, 1) := dk_89 (dk_at dksX1_takeOver_3 4 rfl rfl)
theorem dX1_takeOver_72 : decode cX1_takeOver 72 = .ok (.iconst 1, 1) := dk_4 (dk_at dksX1_takeOver_3 5 rfl rfl)
theorem dX1_takeOver_73 : decode cX1_takeOver 73 = .ok (.aload_n 0, 1) := dk_42 (dk_at dksX1_takeOver_3 6 rfl rfl)
theorem dX1_takeOver_74 : decode cX1_takeOver 74 = .ok (.getfield 115, 3) := dk_180 0 115 (dk_at dksX1_takeOver_3 7 rfl rfl)
theorem dX1_takeOver_77 : decode cX1_takeOver 77 = .ok (.iastore, 1) := dk_79 (dk_at dksX1_takeOver_3 10 rfl rfl)
theorem dX1_takeOver_78 : decode cX1_takeOver 78 = .ok (.invokeinterface 344 2, 5) := by decide +kernel
theorem dX1_takeOver_83 : decode cX1_takeOver 83 = .ok (.istore 5, 2) := dk_54 5 (dk_at dksX1_takeOver_3 16 rfl rfl)
theorem dX1_takeOver_85 : decode cX1_takeOver 85 = .ok (.iload 4, 2) := dk_21 4 (dk_at dksX1_takeOver_3 18 rfl rfl)
theorem dX1_takeOver_87 : decode cX1_takeOver 87 = .ok (.ireturn, 1) := dk_172 (dk_at dksX1_takeOver_3 20 rfl rfl)
abbrev cX1_parts : ByteArray := prog_1_method_59_code
def yX1_parts : MethodName := ⟨RX1, "parts", "(II)I"⟩
def dkwX1_parts_1 : List UInt8 := [45, 180, 1, 206, 54, 4, 45, 28, 181, 1, 206, 21, 4, 172]
abbrev dktX1_parts_1 : List UInt8 := dkwX1_parts_1 ++ []
def dkwX1_parts_0 : List UInt8 := [42, 180, 0, 52, 27, 182, 0, 136, 192, 0, 155, 78, 28, 133, 10, 20, 1, 204, 184, 0, 127, 184, 0, 131]
abbrev dktX1_parts_0 : List UInt8 := dkwX1_parts_0 ++ dktX1_parts_1
theorem dksX1_parts_0 : cX1_parts.data.toList.drop 0 = dktX1_parts_0 := by decide +kernel
theorem dksX1_parts_1 : cX1_parts.data.toList.drop 24 = dktX1_parts_1 := dk_seg dksX1_parts_0 24 rfl rfl
theorem dX1_parts_0 : decode cX1_parts 0 = .ok (.aload_n 0, 1) := dk_42 (dk_at dksX1_parts_0 0 rfl rfl)
theorem dX1_parts_1 : decode cX1_parts 1 = .ok (.getfield 52, 3) := dk_180 0 52 (dk_at dksX1_parts_0 1 rfl rfl)
theorem dX1_parts_4 : decode cX1_parts 4 = .ok (.iload_n 1, 1) := dk_27 (dk_at dksX1_parts_0 4 rfl rfl)
theorem dX1_parts_5 : decode cX1_parts 5 = .ok (.invokevirtual 136, 3) := dk_182 0 136 (dk_at dksX1_parts_0 5 rfl rfl)
theorem dX1_parts_8 : decode cX1_parts 8 = .ok (.checkcast 155, 3) := dk_192 0 155 (dk_at dksX1_parts_0 8 rfl rfl)
theorem dX1_parts_11 : decode cX1_parts 11 = .ok (.astore_n 3, 1) := dk_78 (dk_at dksX1_parts_0 11 rfl rfl)
theorem dX1_parts_12 : decode cX1_parts 12 = .ok (.iload_n 2, 1) := dk_28 (dk_at dksX1_parts_0 12 rfl rfl)
theorem dX1_parts_13 : decode cX1_parts 13 = .ok (.i2l, 1) := dk_133 (dk_at dksX1_parts_0 13 rfl rfl)
theorem dX1_parts_14 : decode cX1_parts 14 = .ok (.lconst 1, 1) := dk_10 (dk_at dksX1_parts_0 14 rfl rfl)
theorem dX1_parts_15 : decode cX1_parts 15 = .ok (.ldc2_w 460, 3) := dk_20 1 204 (dk_at dksX1_parts_0 15 rfl rfl)
theorem dX1_parts_18 : decode cX1_parts 18 = .ok (.invokestatic 127, 3) := dk_184 0 127 (dk_at dksX1_parts_0 18 rfl rfl)
theorem dX1_parts_21 : decode cX1_parts 21 = .ok (.invokestatic 131, 3) := dk_184 0 131 (dk_at dksX1_parts_0 21 rfl rfl)
theorem dX1_parts_24 : decode cX1_parts 24 = .ok (.aload_n 3, 1) := dk_45 (dk_at dksX1_parts_1 0 rfl rfl)
theorem dX1_parts_25 : decode cX1_parts 25 = .ok (.getfield 462, 3) := dk_180 1 206 (dk_at dksX1_parts_1 1 rfl rfl)
theorem dX1_parts_28 : decode cX1_parts 28 = .ok (.istore 4, 2) := dk_54 4 (dk_at dksX1_parts_1 4 rfl rfl)
theorem dX1_parts_30 : decode cX1_parts 30 = .ok (.aload_n 3, 1) := dk_45 (dk_at dksX1_parts_1 6 rfl rfl)
theorem dX1_parts_31 : decode cX1_parts 31 = .ok (.iload_n 2, 1) := dk_28 (dk_at dksX1_parts_1 7 rfl rfl)
theorem dX1_parts_32 : decode cX1_parts 32 = .ok (.putfield 462, 3) := dk_181 1 206 (dk_at dksX1_parts_1 8 rfl rfl)
theorem dX1_parts_35 : decode cX1_parts 35 = .ok (.iload 4, 2) := dk_21 4 (dk_at dksX1_parts_1 11 rfl rfl)
theorem dX1_parts_37 : decode cX1_parts 37 = .ok (.ireturn, 1) := dk_172 (dk_at dksX1_parts_1 13 rfl rfl)
abbrev cX1_cure : ByteArray := prog_1_method_60_code
def yX1_cure : MethodName := ⟨RX1, "cure", "(II)I"⟩
def dkwX1_cure_4 : List UInt8 := [28, 181, 1, 191, 45, 180, 0, 157, 172]
abbrev dktX1_cure_4 : List UInt8 := dkwX1_cure_4 ++ []
def dkwX1_cure_3 : List UInt8 := [181, 0, 157, 45, 42, 180, 0, 115, 181, 0, 160, 45, 28, 2, 160, 0, 10, 45, 180, 1, 191, 167, 0, 4]
abbrev dktX1_cure_3 : List UInt8 := dkwX1_cure_3 ++ dktX1_cure_4
def dkwX1_cure_2 : List UInt8 := [160, 0, 7, 4, 167, 0, 4, 3, 184, 0, 182, 45, 28, 2, 160, 0, 7, 4, 167, 0, 4, 3]
abbrev dktX1_cure_2 : List UInt8 := dkwX1_cure_2 ++ dktX1_cure_3
def dkwX1_cure_1 : List UInt8 := [4, 167, 0, 4, 3, 184, 0, 131, 45, 180, 0, 157, 28, 2, 160, 0, 7, 3, 167, 0, 4, 4]
abbrev dktX1_cure_1 : List UInt8 := dkwX1_cure_1 ++ dktX1_cure_2
def dkwX1_cure_0 : List UInt8 := [42, 180, 0, 52, 27, 182, 0, 136, 192, 0, 155, 78, 28, 2, 159, 0, 10, 28, 184, 1, 158, 153, 0, 7]
abbrev dktX1_cure_0 : List UInt8 := dkwX1_cure_0 ++ dktX1_cure_1
theorem dksX1_cure_0 : cX1_cure.data.toList.drop 0 = dktX1_cure_0 := by decide +kernel
theorem dksX1_cure_1 : cX1_cure.data.toList.drop 24 = dktX1_cure_1 := dk_seg dksX1_cure_0 24 rfl rfl
theorem dksX1_cure_2 : cX1_cure.data.toList.drop 46 = dktX1_cure_2 := dk_seg dksX1_cure_1 22 rfl rfl
theorem dksX1_cure_3 : cX1_cure.data.toList.drop 68 = dktX1_cure_3 := dk_seg dksX1_cure_2 22 rfl rfl
theorem dksX1_cure_4 : cX1_cure.data.toList.drop 92 = dktX1_cure_4 := dk_seg dksX1_cure_3 24 rfl rfl
theorem dX1_cure_0 : decode cX1_cure 0 = .ok (.aload_n 0, 1) := dk_42 (dk_at dksX1_cure_0 0 rfl rfl)
theorem dX1_cure_1 : decode cX1_cure 1 = .ok (.getfield 52, 3) := dk_180 0 52 (dk_at dksX1_cure_0 1 rfl rfl)
theorem dX1_cure_4 : decode cX1_cure 4 = .ok (.iload_n 1, 1) := dk_27 (dk_at dksX1_cure_0 4 rfl rfl)
theorem dX1_cure_5 : decode cX1_cure 5 = .ok (.invokevirtual 136, 3) := dk_182 0 136 (dk_at dksX1_cure_0 5 rfl rfl)
theorem dX1_cure_8 : decode cX1_cure 8 = .ok (.checkcast 155, 3) := dk_192 0 155 (dk_at dksX1_cure_0 8 rfl rfl)
theorem dX1_cure_11 : decode cX1_cure 11 = .ok (.astore_n 3, 1) := dk_78 (dk_at dksX1_cure_0 11 rfl rfl)
theorem dX1_cure_12 : decode cX1_cure 12 = .ok (.iload_n 2, 1) := dk_28 (dk_at dksX1_cure_0 12 rfl rfl)
theorem dX1_cure_13 : decode cX1_cure 13 = .ok (.iconst (-1), 1) := dk_2 (dk_at dksX1_cure_0 13 rfl rfl)
theorem dX1_cure_14 : decode cX1_cure 14 = .ok (.if_icmp .eq 10, 3) := dk_159 0 10 (dk_at dksX1_cure_0 14 rfl rfl)
theorem dX1_cure_17 : decode cX1_cure 17 = .ok (.iload_n 2, 1) := dk_28 (dk_at dksX1_cure_0 17 rfl rfl)
theorem dX1_cure_18 : decode cX1_cure 18 = .ok (.invokestatic 414, 3) := dk_184 1 158 (dk_at dksX1_cure_0 18 rfl rfl)
theorem dX1_cure_21 : decode cX1_cure 21 = .ok (.ifCond .eq 7, 3) := dk_153 0 7 (dk_at dksX1_cure_0 21 rfl rfl)
theorem dX1_cure_24 : decode cX1_cure 24 = .ok (.iconst 1, 1) := dk_4 (dk_at dksX1_cure_1 0 rfl rfl)
theorem dX1_cure_25 : decode cX1_cure 25 = .ok (.goto 4, 3) := dk_167 0 4 (dk_at dksX1_cure_1 1 rfl rfl)
theorem dX1_cure_28 : decode cX1_cure 28 = .ok (.iconst 0, 1) := dk_3 (dk_at dksX1_cure_1 4 rfl rfl)
theorem dX1_cure_29 : decode cX1_cure 29 = .ok (.invokestatic 131, 3) := dk_184 0 131 (dk_at dksX1_cure_1 5 rfl rfl)
theorem dX1_cure_32 : decode cX1_cure 32 = .ok (.aload_n 3, 1) := dk_45 (dk_at dksX1_cure_1 8 rfl rfl)
theorem dX1_cure_33 : decode cX1_cure 33 = .ok (.getfield 157, 3) := dk_180 0 157 (dk_at dksX1_cure_1 9 rfl rfl)
theorem dX1_cure_36 : decode cX1_cure 36 = .ok (.iload_n 2, 1) := dk_28 (dk_at dksX1_cure_1 12 rfl rfl)
theorem dX1_cure_37 : decode cX1_cure 37 = .ok (.iconst (-1), 1) := dk_2 (dk_at dksX1_cure_1 13 rfl rfl)
theorem dX1_cure_38 : decode cX1_cure 38 = .ok (.if_icmp .ne 7, 3) := dk_160 0 7 (dk_at dksX1_cure_1 14 rfl rfl)
theorem dX1_cure_41 : decode cX1_cure 41 = .ok (.iconst 0, 1) := dk_3 (dk_at dksX1_cure_1 17 rfl rfl)
theorem dX1_cure_42 : decode cX1_cure 42 = .ok (.goto 4, 3) := dk_167 0 4 (dk_at dksX1_cure_1 18 rfl rfl)
theorem dX1_cure_45 : decode cX1_cure 45 = .ok (.iconst 1, 1) := dk_4 (dk_at dksX1_cure_1 21 rfl rfl)
theorem dX1_cure_46 : decode cX1_cure 46 = .ok (.if_icmp .ne 7, 3) := dk_160 0 7 (dk_at dksX1_cure_2 0 rfl rfl)
theorem dX1_cure_49 : decode cX1_cure 49 = .ok (.iconst 1, 1) := dk_4 (dk_at dksX1_cure_2 3 rfl rfl)
theorem dX1_cure_50 : decode cX1_cure 50 = .ok (.goto 4, 3) := dk_167 0 4 (dk_at dksX1_cure_2 4 rfl rfl)
theorem dX1_cure_53 : decode cX1_cure 53 = .ok (.iconst 0, 1) := dk_3 (dk_at dksX1_cure_2 7 rfl rfl)
theorem dX1_cure_54 : decode cX1_cure 54 = .ok (.invokestatic 182, 3) := dk_184 0 182 (dk_at dksX1_cure_2 8 rfl rfl)
theorem dX1_cure_57 : decode cX1_cure 57 = .ok (.aload_n 3, 1) := dk_45 (dk_at dksX1_cure_2 11 rfl rfl)
theorem dX1_cure_58 : decode cX1_cure 58 = .ok (.iload_n 2, 1) := dk_28 (dk_at dksX1_cure_2 12 rfl rfl)
theorem dX1_cure_59 : decode cX1_cure 59 = .ok (.iconst (-1), 1) := dk_2 (dk_at dksX1_cure_2 13 rfl rfl)
theorem dX1_cure_60 : decode cX1_cure 60 = .ok (.if_icmp .ne 7, 3) := dk_160 0 7 (dk_at dksX1_cure_2 14 rfl rfl)
theorem dX1_cure_63 : decode cX1_cure 63 = .ok (.iconst 1, 1) := dk_4 (dk_at dksX1_cure_2 17 rfl rfl)
theorem dX1_cure_64 : decode cX1_cure 64 = .ok (.goto 4, 3) := dk_167 0 4 (dk_at dksX1_cure_2 18 rfl rfl)
theorem dX1_cure_67 : decode cX1_cure 67 = .ok (.iconst 0, 1) := dk_3 (dk_at dksX1_cure_2 21 rfl rfl)
theorem dX1_cure_68 : decode cX1_cure 68 = .ok (.putfield 157, 3) := dk_181 0 157 (dk_at dksX1_cure_3 0 rfl rfl)
theorem dX1_cure_71 : decode cX1_cure 71 = .ok (.aload_n 3, 1) := dk_45 (dk_at dksX1_cure_3 3 rfl rfl)
theorem dX1_cure_72 : decode cX1_cure 72 = .ok (.aload_n 0, 1) := dk_42 (dk_at dksX1_cure_3 4 rfl rfl)
theorem dX1_cure_73 : decode cX1_cure 73 = .ok (.getfield 115, 3) := dk_180 0 115 (dk_at dksX1_cure_3 5 rfl rfl)
theorem dX1_cure_76 : decode cX1_cure 76 = .ok (.putfield 160, 3) := dk_181 0 160 (dk_at dksX1_cure_3 8 rfl rfl)
theorem dX1_cure_79 : decode cX1_cure 79 = .ok (.aload_n 3, 1) := dk_45 (dk_at dksX1_cure_3 11 rfl rfl)
theorem dX1_cure_80 : decode cX1_cure 80 = .ok (.iload_n 2, 1) := dk_28 (dk_at dksX1_cure_3 12 rfl rfl)
theorem dX1_cure_81 : decode cX1_cure 81 = .ok (.iconst (-1), 1) := dk_2 (dk_at dksX1_cure_3 13 rfl rfl)
theorem dX1_cure_82 : decode cX1_cure 82 = .ok (.if_icmp .ne 10, 3) := dk_160 0 10 (dk_at dksX1_cure_3 14 rfl rfl)
theorem dX1_cure_85 : decode cX1_cure 85 = .ok (.aload_n 3, 1) := dk_45 (dk_at dksX1_cure_3 17 rfl rfl)
theorem dX1_cure_86 : decode cX1_cure 86 = .ok (.getfield 447, 3) := dk_180 1 191 (dk_at dksX1_cure_3 18 rfl rfl)
theorem dX1_cure_89 : decode cX1_cure 89 = .ok (.goto 4, 3) := dk_167 0 4 (dk_at dksX1_cure_3 21 rfl rfl)
theorem dX1_cure_92 : decode cX1_cure 92 = .ok (.iload_n 2, 1) := dk_28 (dk_at dksX1_cure_4 0 rfl rfl)
theorem dX1_cure_93 : decode cX1_cure 93 = .ok (.putfield 447, 3) := dk_181 1 191 (dk_at dksX1_cure_4 1 rfl rfl)
theorem dX1_cure_96 : decode cX1_cure 96 = .ok (.aload_n 3, 1) := dk_45 (dk_at dksX1_cure_4 4 rfl rfl)
theorem dX1_cure_97 : decode cX1_cure 97 = .ok (.getfield 157, 3) := dk_180 0 157 (dk_at dksX1_cure_4 5 rfl rfl)
theorem dX1_cure_100 : decode cX1_cure 100 = .ok (.ireturn, 1) := dk_172 (dk_at dksX1_cure_4 8 rfl rfl)
abbrev cX1_sample : ByteArray := prog_1_method_61_code
def yX1_sample : MethodName := ⟨RX1, "sample", "(I)I"⟩
def dkwX1_sample_3 : List UInt8 := [160, 0, 12, 25, 4, 5, 181, 0, 157, 132, 2, 1, 167, 255, 195, 28, 172]
abbrev dktX1_sample_3 : List UInt8 := dkwX1_sample_3 ++ []
def dkwX1_sample_2 : List UInt8 := [154, 0, 36, 25, 4, 180, 1, 172, 154, 0, 28, 25, 4, 180, 0, 255, 27, 112, 42, 180, 0, 115, 27, 112]
abbrev dktX1_sample_2 : List UInt8 := dkwX1_sample_2 ++ dktX1_sample_3
def dkwX1_sample_1 : List UInt8 := [185, 0, 212, 1, 0, 153, 0, 58, 45, 185, 0, 217, 1, 0, 192, 0, 155, 58, 4, 25, 4, 180, 0, 157]
abbrev dktX1_sample_1 : List UInt8 := dkwX1_sample_1 ++ dktX1_sample_2
def dkwX1_sample_0 : List UInt8 := [27, 133, 10, 20, 1, 103, 184, 0, 127, 184, 0, 131, 3, 61, 42, 180, 0, 52, 182, 0, 208, 78, 45]
abbrev dktX1_sample_0 : List UInt8 := dkwX1_sample_0 ++ dktX1_sample_1
theorem dksX1_sample_0 : cX1_sample.data.toList.drop 0 = dktX1_sample_0 := by decide +kernel
theorem dksX1_sample_1 : cX1_sample.data.toList.drop 23 = dktX1_sample_1 := dk_seg dksX1_sample_0 23 rfl rfl
theorem dksX1_sample_2 : cX1_sample.data.toList.drop 47 = dktX1_sample_2 := dk_seg dksX1_sample_1 24 rfl rfl
theorem dksX1_sample_3 : cX1_sample.data.toList.drop 71 = dktX1_sample_3 := dk_seg dksX1_sample_2 24 rfl rfl
theorem dX1_sample_0 : decode cX1_sample 0 = .ok (.iload_n 1, 1) := dk_27 (dk_at dksX1_sample_0 0 rfl rfl)
theorem dX1_sample_1 : decode cX1_sample 1 = .ok (.i2l, 1) := dk_133 (dk_at dksX1_sample_0 1 rfl rfl)
theorem dX1_sample_2 : decode cX1_sample 2 = .ok (.lconst 1, 1) := dk_10 (dk_at dksX1_sample_0 2 rfl rfl)
theorem dX1_sample_3 : decode cX1_sample 3 = .ok (.ldc2_w 359, 3) := dk_20 1 103 (dk_at dksX1_sample_0 3 rfl rfl)
theorem dX1_sample_6 : decode cX1_sample 6 = .ok (.invokestatic 127, 3) := dk_184 0 127 (dk_at dksX1_sample_0 6 rfl rfl)
theorem dX1_sample_9 : decode cX1_sample 9 = .ok (.invokestatic 131, 3) := dk_184 0 131 (dk_at dksX1_sample_0 9 rfl rfl)
theorem dX1_sample_12 : decode cX1_sample 12 = .ok (.iconst 0, 1) := dk_3 (dk_at dksX1_sample_0 12 rfl rfl)
theorem dX1_sample_13 : decode cX1_sample 13 = .ok (.istore_n 2, 1) := dk_61 (dk_at dksX1_sample_0 13 rfl rfl)
theorem dX1_sample_14 : decode cX1_sample 14 = .ok (.aload_n 0, 1) := dk_42 (dk_at dksX1_sample_0 14 rfl rfl)
theorem dX1_sample_15 : decode cX1_sample 15 = .ok (.getfield 52, 3) := dk_180 0 52 (dk_at dksX1_sample_0 15 rfl rfl)
theorem dX1_sample_18 : decode cX1_sample 18 = .ok (.invokevirtual 208, 3) := dk_182 0 208 (dk_at dksX1_sample_0 18 rfl rfl)
theorem dX1_sample_21 : decode cX1_sample 21 = .ok (.astore_n 3, 1) := dk_78 (dk_at dksX1_sample_0 21 rfl rfl)
theorem dX1_sample_22 : decode cX1_sample 22 = .ok (.aload_n 3, 1) := dk_45 (dk_at dksX1_sample_0 22 rfl rfl)
theorem dX1_sample_23 : decode cX1_sample 23 = .ok (.invokeinterface 212 1, 5) := by decide +kernel
theorem dX1_sample_28 : decode cX1_sample 28 = .ok (.ifCond .eq 58, 3) := dk_153 0 58 (dk_at dksX1_sample_1 5 rfl rfl)
theorem dX1_sample_31 : decode cX1_sample 31 = .ok (.aload_n 3, 1) := dk_45 (dk_at dksX1_sample_1 8 rfl rfl)
theorem dX1_sample_32 : decode cX1_sample 32 = .ok (.invokeinterface 217 1, 5) := by decide +kernel
theorem dX1_sample_37 : decode cX1_sample 37 = .ok (.checkcast 155, 3) := dk_192 0 155 (dk_at dksX1_sample_1 14 rfl rfl)
theorem dX1_sample_40 : decode cX1_sample 40 = .ok (.astore 4, 2) := dk_58 4 (dk_at dksX1_sample_1 17 rfl rfl)
theorem dX1_sample_42 : decode cX1_sample 42 = .ok (.aload 4, 2) := dk_25 4 (dk_at dksX1_sample_1 19 rfl rfl)
theorem dX1_sample_44 : decode cX1_sample 44 = .ok (.getfield 157, 3) := dk_180 0 157 (dk_at dksX1_sample_1 21 rfl rfl)
theorem dX1_sample_47 : decode cX1_sample 47 = .ok (.ifCond .ne 36, 3) := dk_154 0 36 (dk_at dksX1_sample_2 0 rfl rfl)
theorem dX1_sample_50 : decode cX1_sample 50 = .ok (.aload 4, 2) := dk_25 4 (dk_at dksX1_sample_2 3 rfl rfl)
theorem dX1_sample_52 : decode cX1_sample 52 = .ok (.getfield 428, 3) := dk_180 1 172 (dk_at dksX1_sample_2 5 rfl rfl)
theorem dX1_sample_55 : decode cX1_sample 55 = .ok (.ifCond .ne 28, 3) := dk_154 0 28 (dk_at dksX1_sample_2 8 rfl rfl)
theorem dX1_sample_58 : decode cX1_sample 58 = .ok (.aload 4, 2) := dk_25 4 (dk_at dksX1_sample_2 11 rfl rfl)
theorem dX1_sample_60 : decode cX1_sample 60 = .ok (.getfield 255, 3) := dk_180 0 255 (dk_at dksX1_sample_2 13 rfl rfl)
theorem dX1_sample_63 : decode cX1_sample 63 = .ok (.iload_n 1, 1) := dk_27 (dk_at dksX1_sample_2 16 rfl rfl)
theorem dX1_sample_64 : decode cX1_sample 64 = .ok (.irem, 1) := dk_112 (dk_at dksX1_sample_2 17 rfl rfl)
theorem dX1_sample_65 : decode cX1_sample 65 = .ok (.aload_n 0, 1) := dk_42 (dk_at dksX1_sample_2 18 rfl rfl)
theorem dX1_sample_66 : decode cX1_sample 66 = .ok (.getfield 115, 3) := dk_180 0 115 (dk_at dksX1_sample_2 19 rfl rfl)
theorem dX1_sample_69 : decode cX1_sample 69 = .ok (.iload_n 1, 1) := dk_27 (dk_at dksX1_sample_2 22 rfl rfl)
theorem dX1_sample_70 : decode cX1_sample 70 = .ok (.irem, 1) := dk_112 (dk_at dksX1_sample_2 23 rfl rfl)
theorem dX1_sample_71 : decode cX1_sample 71 = .ok (.if_icmp .ne 12, 3) := dk_160 0 12 (dk_at dksX1_sample_3 0 rfl rfl)
theorem dX1_sample_74 : decode cX1_sample 74 = .ok (.aload 4, 2) := dk_25 4 (dk_at dksX1_sample_3 3 rfl rfl)
theorem dX1_sample_76 : decode cX1_sample 76 = .ok (.iconst 2, 1) := dk_5 (dk_at dksX1_sample_3 5 rfl rfl)
theorem dX1_sample_77 : decode cX1_sample 77 = .ok (.putfield 157, 3) := dk_181 0 157 (dk_at dksX1_sample_3 6 rfl rfl)
theorem dX1_sample_80 : decode cX1_sample 80 = .ok (.iinc 2 1, 3) := dk_132 2 1 (dk_at dksX1_sample_3 9 rfl rfl)
theorem dX1_sample_83 : decode cX1_sample 83 = .ok (.goto (-61), 3) := dk_167 255 195 (dk_at dksX1_sample_3 12 rfl rfl)
theorem dX1_sample_86 : decode cX1_sample 86 = .ok (.iload_n 2, 1) := dk_28 (dk_at dksX1_sample_3 15 rfl rfl)
theorem dX1_sample_87 : decode cX1_sample 87 = .ok (.ireturn, 1) := dk_172 (dk_at dksX1_sample_3 16 rfl rfl)
abbrev cX1_audit : ByteArray := prog_1_method_62_code
def yX1_audit : MethodName := ⟨RX1, "audit", "(IZ)I"⟩
def dkwX1_audit_2 : List UInt8 := [180, 0, 157, 172]
abbrev dktX1_audit_2 : List UInt8 := dkwX1_audit_2 ++ []
def dkwX1_audit_1 : List UInt8 := [3, 184, 0, 182, 45, 4, 181, 1, 172, 45, 28, 153, 0, 7, 3, 167, 0, 4, 7, 181, 0, 157, 45]
abbrev dktX1_audit_1 : List UInt8 := dkwX1_audit_1 ++ dktX1_audit_2
def dkwX1_audit_0 : List UInt8 := [42, 180, 0, 52, 27, 182, 0, 136, 192, 0, 155, 78, 45, 180, 0, 157, 5, 160, 0, 7, 4, 167, 0, 4]
abbrev dktX1_audit_0 : List UInt8 := dkwX1_audit_0 ++ dktX1_audit_1
theorem dksX1_audit_0 : cX1_audit.data.toList.drop 0 = dktX1_audit_0 := by decide +kernel
theorem dksX1_audit_1 : cX1_audit.data.toList.drop 24 = dktX1_audit_1 := dk_seg dksX1_audit_0 24 rfl rfl
theorem dksX1_audit_2 : cX1_audit.data.toList.drop 47 = dktX1_audit_2 := dk_seg dksX1_audit_1 23 rfl rfl
theorem dX1_audit_0 : decode cX1_audit 0 = .ok (.aload_n 0, 1) := dk_42 (dk_at dksX1_audit_0 0 rfl rfl)
theorem dX1_audit_1 : decode cX1_audit 1 = .ok (.getfield 52, 3) := dk_180 0 52 (dk_at dksX1_audit_0 1 rfl rfl)
theorem dX1_audit_4 : decode cX1_audit 4 = .ok (.iload_n 1, 1) := dk_27 (dk_at dksX1_audit_0 4 rfl rfl)
theorem dX1_audit_5 : decode cX1_audit 5 = .ok (.invokevirtual 136, 3) := dk_182 0 136 (dk_at dksX1_audit_0 5 rfl rfl)
theorem dX1_audit_8 : decode cX1_audit 8 = .ok (.checkcast 155, 3) := dk_192 0 155 (dk_at dksX1_audit_0 8 rfl rfl)
theorem dX1_audit_11 : decode cX1_audit 11 = .ok (.astore_n 3, 1) := dk_78 (dk_at dksX1_audit_0 11 rfl rfl)
theorem dX1_audit_12 : decode cX1_audit 12 = .ok (.aload_n 3, 1) := dk_45 (dk_at dksX1_audit_0 12 rfl rfl)
theorem dX1_audit_13 : decode cX1_audit 13 = .ok (.getfield 157, 3) := dk_180 0 157 (dk_at dksX1_audit_0 13 rfl rfl)
theorem dX1_audit_16 : decode cX1_audit 16 = .ok (.iconst 2, 1) := dk_5 (dk_at dksX1_audit_0 16 rfl rfl)
theorem dX1_audit_17 : decode cX1_audit 17 = .ok (.if_icmp .ne 7, 3) := dk_160 0 7 (dk_at dksX1_audit_0 17 rfl rfl)
theorem dX1_audit_20 : decode cX1_audit 20 = .ok (.iconst 1, 1) := dk_4 (dk_at dksX1_audit_0 20 rfl rfl)
theorem dX1_audit_21 : decode cX1_audit 21 = .ok (.goto 4, 3) := dk_167 0 4 (dk_at dksX1_audit_0 21 rfl rfl)
theorem dX1_audit_24 : decode cX1_audit 24 = .ok (.iconst 0, 1) := dk_3 (dk_at dksX1_audit_1 0 rfl rfl)
theorem dX1_audit_25 : decode cX1_audit 25 = .ok (.invokestatic 182, 3) := dk_184 0 182 (dk_at dksX1_audit_1 1 rfl rfl)
theorem dX1_audit_28 : decode cX1_audit 28 = .ok (.aload_n 3, 1) := dk_45 (dk_at dksX1_audit_1 4 rfl rfl)
theorem dX1_audit_29 : decode cX1_audit 29 = .ok (.iconst 1, 1) := dk_4 (dk_at dksX1_audit_1 5 rfl rfl)
theorem dX1_audit_30 : decode cX1_audit 30 = .ok (.putfield 428, 3) := dk_181 1 172 (dk_at dksX1_audit_1 6 rfl rfl)
theorem dX1_audit_33 : decode cX1_audit 33 = .ok (.aload_n 3, 1) := dk_45 (dk_at dksX1_audit_1 9 rfl rfl)
theorem dX1_audit_34 : decode cX1_audit 34 = .ok (.iload_n 2, 1) := dk_28 (dk_at dksX1_audit_1 10 rfl rfl)
theorem dX1_audit_35 : decode cX1_audit 35 = .ok (.ifCond .eq 7, 3) := dk_153 0 7 (dk_at dksX1_audit_1 11 rfl rfl)
theorem dX1_audit_38 : decode cX1_audit 38 = .ok (.iconst 0, 1) := dk_3 (dk_at dksX1_audit_1 14 rfl rfl)
theorem dX1_audit_39 : decode cX1_audit 39 = .ok (.goto 4, 3) := dk_167 0 4 (dk_at dksX1_audit_1 15 rfl rfl)
theorem dX1_audit_42 : decode cX1_audit 42 = .ok (.iconst 4, 1) := dk_7 (dk_at dksX1_audit_1 18 rfl rfl)
theorem dX1_audit_43 : decode cX1_audit 43 = .ok (.putfield 157, 3) := dk_181 0 157 (dk_at dksX1_audit_1 19 rfl rfl)
theorem dX1_audit_46 : decode cX1_audit 46 = .ok (.aload_n 3, 1) := dk_45 (dk_at dksX1_audit_1 22 rfl rfl)
theorem dX1_audit_47 : decode cX1_audit 47 = .ok (.getfield 157, 3) := dk_180 0 157 (dk_at dksX1_audit_2 0 rfl rfl)
theorem dX1_audit_50 : decode cX1_audit 50 = .ok (.ireturn, 1) := dk_172 (dk_at dksX1_audit_2 3 rfl rfl)
abbrev cX1_appeal : ByteArray := prog_1_method_63_code
def yX1_appeal : MethodName := ⟨RX1, "appeal", "(IZ)I"⟩
def dkwX1_appeal_2 : List UInt8 := [45, 28, 153, 0, 7, 3, 167, 0, 7, 45, 180, 0, 157, 181, 0, 157, 45, 180, 0, 157, 172]
abbrev dktX1_appeal_2 : List UInt8 := dkwX1_appeal_2 ++ []
def dkwX1_appeal_1 : List UInt8 := [7, 160, 0, 14, 45, 180, 1, 209, 154, 0, 7, 4, 167, 0, 4, 3, 184, 0, 182, 45, 4, 181, 1, 209]
abbrev dktX1_appeal_1 : List UInt8 := dkwX1_appeal_1 ++ dktX1_appeal_2
def dkwX1_appeal_0 : List UInt8 := [42, 180, 0, 52, 27, 182, 0, 136, 192, 0, 155, 78, 45, 180, 0, 157, 6, 159, 0, 11, 45, 180, 0, 157]
abbrev dktX1_appeal_0 : List UInt8 := dkwX1_appeal_0 ++ dktX1_appeal_1
theorem dksX1_appeal_0 : cX1_appeal.data.toList.drop 0 = dktX1_appeal_0 := by decide +kernel
theorem dksX1_appeal_1 : cX1_appeal.data.toList.drop 24 = dktX1_appeal_1 := dk_seg dksX1_appeal_0 24 rfl rfl
theorem dksX1_appeal_2 : cX1_appeal.data.toList.drop 48 = dktX1_appeal_2 := dk_seg dksX1_appeal_1 24 rfl rfl
theorem dX1_appeal_0 : decode cX1_appeal 0 = .ok (.aload_n 0, 1) := dk_42 (dk_at dksX1_appeal_0 0 rfl rfl)
theorem dX1_appeal_1 : decode cX1_appeal 1 = .ok (.getfield 52, 3) := dk_180 0 52 (dk_at dksX1_appeal_0 1 rfl rfl)
theorem dX1_appeal_4 : decode cX1_appeal 4 = .ok (.iload_n 1, 1) := dk_27 (dk_at dksX1_appeal_0 4 rfl rfl)
theorem dX1_appeal_5 : decode cX1_appeal 5 = .ok (.invokevirtual 136, 3) := dk_182 0 136 (dk_at dksX1_appeal_0 5 rfl rfl)
theorem dX1_appeal_8 : decode cX1_appeal 8 = .ok (.checkcast 155, 3) := dk_192 0 155 (dk_at dksX1_appeal_0 8 rfl rfl)
theorem dX1_appeal_11 : decode cX1_appeal 11 = .ok (.astore_n 3, 1) := dk_78 (dk_at dksX1_appeal_0 11 rfl rfl)
theorem dX1_appeal_12 : decode cX1_appeal 12 = .ok (.aload_n 3, 1) := dk_45 (dk_at dksX1_appeal_0 12 rfl rfl)
theorem dX1_appeal_13 : decode cX1_appeal 13 = .ok (.getfield 157, 3) := dk_180 0 157 (dk_at dksX1_appeal_0 13 rfl rfl)
theorem dX1_appeal_16 : decode cX1_appeal 16 = .ok (.iconst 3, 1) := dk_6 (dk_at dksX1_appeal_0 16 rfl rfl)
theorem dX1_appeal_17 : decode cX1_appeal 17 = .ok (.if_icmp .eq 11, 3) := dk_159 0 11 (dk_at dksX1_appeal_0 17 rfl rfl)
theorem dX1_appeal_20 : decode cX1_appeal 20 = .ok (.aload_n 3, 1) := dk_45 (dk_at dksX1_appeal_0 20 rfl rfl)
theorem dX1_appeal_21 : decode cX1_appeal 21 = .ok (.getfield 157, 3) := dk_180 0 157 (dk_at dksX1_appeal_0 21 rfl rfl)
theorem dX1_appeal_24 : decode cX1_appeal 24 = .ok (.iconst 4, 1) := dk_7 (dk_at dksX1_appeal_1 0 rfl rfl)
theorem dX1_appeal_25 : decode cX1_appeal 25 = .ok (.if_icmp .ne 14, 3) := dk_160 0 14 (dk_at dksX1_appeal_1 1 rfl rfl)
theorem dX1_appeal_28 : decode cX1_appeal 28 = .ok (.aload_n 3, 1) := dk_45 (dk_at dksX1_appeal_1 4 rfl rfl)
theorem dX1_appeal_29 : decode cX1_appeal 29 = .ok (.getfield 465, 3) := dk_180 1 209 (dk_at dksX1_appeal_1 5 rfl rfl)
theorem dX1_appeal_32 : decode cX1_appeal 32 = .ok (.ifCond .ne 7, 3) := dk_154 0 7 (dk_at dksX1_appeal_1 8 rfl rfl)
theorem dX1_appeal_35 : decode cX1_appeal 35 = .ok (.iconst 1, 1) := dk_4 (dk_at dksX1_appeal_1 11 rfl rfl)
theorem dX1_appeal_36 : decode cX1_appeal 36 = .ok (.goto 4, 3) := dk_167 0 4 (dk_at dksX1_appeal_1 12 rfl rfl)
theorem dX1_appeal_39 : decode cX1_appeal 39 = .ok (.iconst 0, 1) := dk_3 (dk_at dksX1_appeal_1 15 rfl rfl)
theorem dX1_appeal_40 : decode cX1_appeal 40 = .ok (.invokestatic 182, 3) := dk_184 0 182 (dk_at dksX1_appeal_1 16 rfl rfl)
theorem dX1_appeal_43 : decode cX1_appeal 43 = .ok (.aload_n 3, 1) := dk_45 (dk_at dksX1_appeal_1 19 rfl rfl)
theorem dX1_appeal_44 : decode cX1_appeal 44 = .ok (.iconst 1, 1) := dk_4 (dk_at dksX1_appeal_1 20 rfl rfl)
theorem dX1_appeal_45 : decode cX1_appeal 45 = .ok (.putfield 465, 3) := dk_181 1 209 (dk_at dksX1_appeal_1 21 rfl rfl)
theorem dX1_appeal_48 : decode cX1_appeal 48 = .ok (.aload_n 3, 1) := dk_45 (dk_at dksX1_appeal_2 0 rfl rfl)
theorem dX1_appeal_49 : decode cX1_appeal 49 = .ok (.iload_n 2, 1) := dk_28 (dk_at dksX1_appeal_2 1 rfl rfl)
theorem dX1_appeal_50 : decode cX1_appeal 50 = .ok (.ifCond .eq 7, 3) := dk_153 0 7 (dk_at dksX1_appeal_2 2 rfl rfl)
theorem dX1_appeal_53 : decode cX1_appeal 53 = .ok (.iconst 0, 1) := dk_3 (dk_at dksX1_appeal_2 5 rfl rfl)
theorem dX1_appeal_54 : decode cX1_appeal 54 = .ok (.goto 7, 3) := dk_167 0 7 (dk_at dksX1_appeal_2 6 rfl rfl)
theorem dX1_appeal_57 : decode cX1_appeal 57 = .ok (.aload_n 3, 1) := dk_45 (dk_at dksX1_appeal_2 9 rfl rfl)
theorem dX1_appeal_58 : decode cX1_appeal 58 = .ok (.getfield 157, 3) := dk_180 0 157 (dk_at dksX1_appeal_2 10 rfl rfl)
theorem dX1_appeal_61 : decode cX1_appeal 61 = .ok (.putfield 157, 3) := dk_181 0 157 (dk_at dksX1_appeal_2 13 rfl rfl)
theorem dX1_appeal_64 : decode cX1_appeal 64 = .ok (.aload_n 3, 1) := dk_45 (dk_at dksX1_appeal_2 16 rfl rfl)
theorem dX1_appeal_65 : decode cX1_appeal 65 = .ok (.getfield 157, 3) := dk_180 0 157 (dk_at dksX1_appeal_2 17 rfl rfl)
theorem dX1_appeal_68 : decode cX1_appeal 68 = .ok (.ireturn, 1) := dk_172 (dk_at dksX1_appeal_2 20 rfl rfl)
abbrev cX1_percent : ByteArray := prog_1_method_66_code
def yX1_percent : MethodName := ⟨RX1, "percent", "(I)Z"⟩
def dkwX1_percent_3 : List UInt8 := [180, 0, 108, 181, 0, 108, 28, 172]
abbrev dktX1_percent_3 : List UInt8 := dkwX1_percent_3 ++ []
def dkwX1_percent_2 : List UInt8 := [182, 1, 216, 97, 148, 155, 0, 7, 4, 167, 0, 4, 3, 61, 42, 28, 153, 0, 7, 27, 167, 0, 7, 42]
abbrev dktX1_percent_2 : List UInt8 := dkwX1_percent_2 ++ dktX1_percent_3
def dkwX1_percent_1 : List UInt8 := [160, 0, 7, 4, 167, 0, 4, 3, 184, 0, 182, 42, 180, 0, 111, 42, 27, 182, 1, 215, 42, 27]
abbrev dktX1_percent_1 : List UInt8 := dkwX1_percent_1 ++ dktX1_percent_2
def dkwX1_percent_0 : List UInt8 := [27, 133, 42, 180, 0, 108, 4, 96, 133, 20, 1, 60, 184, 0, 127, 184, 0, 131, 42, 182, 0, 123, 6]
abbrev dktX1_percent_0 : List UInt8 := dkwX1_percent_0 ++ dktX1_percent_1
theorem dksX1_percent_0 : cX1_percent.data.toList.drop 0 = dktX1_percent_0 := by decide +kernel
theorem dksX1_percent_1 : cX1_percent.data.toList.drop 23 = dktX1_percent_1 := dk_seg dksX1_percent_0 23 rfl rfl
theorem dksX1_percent_2 : cX1_percent.data.toList.drop 45 = dktX1_percent_2 := dk_seg dksX1_percent_1 22 rfl rfl
theorem dksX1_percent_3 : cX1_percent.data.toList.drop 69 = dktX1_percent_3 := dk_seg dksX1_percent_2 24 rfl rfl
theorem dX1_percent_0 : decode cX1_percent 0 = .ok (.iload_n 1, 1) := dk_27 (dk_at dksX1_percent_0 0 rfl rfl)
theorem dX1_percent_1 : decode cX1_percent 1 = .ok (.i2l, 1) := dk_133 (dk_at dksX1_percent_0 1 rfl rfl)
theorem dX1_percent_2 : decode cX1_percent 2 = .ok (.aload_n 0, 1) := dk_42 (dk_at dksX1_percent_0 2 rfl rfl)
theorem dX1_percent_3 : decode cX1_percent 3 = .ok (.getfield 108, 3) := dk_180 0 108 (dk_at dksX1_percent_0 3 rfl rfl)
theorem dX1_percent_6 : decode cX1_percent 6 = .ok (.iconst 1, 1) := dk_4 (dk_at dksX1_percent_0 6 rfl rfl)
theorem dX1_percent_7 : decode cX1_percent 7 = .ok (.iadd, 1) := dk_96 (dk_at dksX1_percent_0 7 rfl rfl)
theorem dX1_percent_8 : decode cX1_percent 8 = .ok (.i2l, 1) := dk_133 (dk_at dksX1_percent_0 8 rfl rfl)
theorem dX1_percent_9 : decode cX1_percent 9 = .ok (.ldc2_w 316, 3) := dk_20 1 60 (dk_at dksX1_percent_0 9 rfl rfl)
theorem dX1_percent_12 : decode cX1_percent 12 = .ok (.invokestatic 127, 3) := dk_184 0 127 (dk_at dksX1_percent_0 12 rfl rfl)
theorem dX1_percent_15 : decode cX1_percent 15 = .ok (.invokestatic 131, 3) := dk_184 0 131 (dk_at dksX1_percent_0 15 rfl rfl)
theorem dX1_percent_18 : decode cX1_percent 18 = .ok (.aload_n 0, 1) := dk_42 (dk_at dksX1_percent_0 18 rfl rfl)
theorem dX1_percent_19 : decode cX1_percent 19 = .ok (.invokevirtual 123, 3) := dk_182 0 123 (dk_at dksX1_percent_0 19 rfl rfl)
theorem dX1_percent_22 : decode cX1_percent 22 = .ok (.iconst 3, 1) := dk_6 (dk_at dksX1_percent_0 22 rfl rfl)
theorem dX1_percent_23 : decode cX1_percent 23 = .ok (.if_icmp .ne 7, 3) := dk_160 0 7 (dk_at dksX1_percent_1 0 rfl rfl)
theorem dX1_percent_26 : decode cX1_percent 26 = .ok (.iconst 1, 1) := dk_4 (dk_at dksX1_percent_1 3 rfl rfl)
theorem dX1_percent_27 : decode cX1_percent 27 = .ok (.goto 4, 3) := dk_167 0 4 (dk_at dksX1_percent_1 4 rfl rfl)
theorem dX1_percent_30 : decode cX1_percent 30 = .ok (.iconst 0, 1) := dk_3 (dk_at dksX1_percent_1 7 rfl rfl)
theorem dX1_percent_31 : decode cX1_percent 31 = .ok (.invokestatic 182, 3) := dk_184 0 182 (dk_at dksX1_percent_1 8 rfl rfl)
theorem dX1_percent_34 : decode cX1_percent 34 = .ok (.aload_n 0, 1) := dk_42 (dk_at dksX1_percent_1 11 rfl rfl)
theorem dX1_percent_35 : decode cX1_percent 35 = .ok (.getfield 111, 3) := dk_180 0 111 (dk_at dksX1_percent_1 12 rfl rfl)
theorem dX1_percent_38 : decode cX1_percent 38 = .ok (.aload_n 0, 1) := dk_42 (dk_at dksX1_percent_1 15 rfl rfl)
theorem dX1_percent_39 : decode cX1_percent 39 = .ok (.iload_n 1, 1) := dk_27 (dk_at dksX1_percent_1 16 rfl rfl)
theorem dX1_percent_40 : decode cX1_percent 40 = .ok (.invokevirtual 471, 3) := dk_182 1 215 (dk_at dksX1_percent_1 17 rfl rfl)
theorem dX1_percent_43 : decode cX1_percent 43 = .ok (.aload_n 0, 1) := dk_42 (dk_at dksX1_percent_1 20 rfl rfl)
theorem dX1_percent_44 : decode cX1_percent 44 = .ok (.iload_n 1, 1) := dk_27 (dk_at dksX1_percent_1 21 rfl rfl)
theorem dX1_percent_45 : decode cX1_percent 45 = .ok (.invokevirtual 472, 3) := dk_182 1 216 (dk_at dksX1_percent_2 0 rfl rfl)
theorem dX1_percent_48 : decode cX1_percent 48 = .ok (.ladd, 1) := dk_97 (dk_at dksX1_percent_2 3 rfl rfl)
theorem dX1_percent_49 : decode cX1_percent 49 = .ok (.lcmp, 1) := dk_148 (dk_at dksX1_percent_2 4 rfl rfl)
theorem dX1_percent_50 : decode cX1_percent 50 = .ok (.ifCond .lt 7, 3) := dk_155 0 7 (dk_at dksX1_percent_2 5 rfl rfl)
theorem dX1_percent_53 : decode cX1_percent 53 = .ok (.iconst 1, 1) := dk_4 (dk_at dksX1_percent_2 8 rfl rfl)
theorem dX1_percent_54 : decode cX1_percent 54 = .ok (.goto 4, 3) := dk_167 0 4 (dk_at dksX1_percent_2 9 rfl rfl)
theorem dX1_percent_57 : decode cX1_percent 57 = .ok (.iconst 0, 1) := dk_3 (dk_at dksX1_percent_2 12 rfl rfl)
theorem dX1_percent_58 : decode cX1_percent 58 = .ok (.istore_n 2, 1) := dk_61 (dk_at dksX1_percent_2 13 rfl rfl)
theorem dX1_percent_59 : decode cX1_percent 59 = .ok (.aload_n 0, 1) := dk_42 (dk_at dksX1_percent_2 14 rfl rfl)
theorem dX1_percent_60 : decode cX1_percent 60 = .ok (.iload_n 2, 1) := dk_28 (dk_at dksX1_percent_2 15 rfl rfl)
theorem dX1_percent_61 : decode cX1_percent 61 = .ok (.ifCond .eq 7, 3) := dk_153 0 7 (dk_at dksX1_percent_2 16 rfl rfl)
theorem dX1_percent_64 : decode cX1_percent 64 = .ok (.iload_n 1, 1) := dk_27 (dk_at dksX1_percent_2 19 rfl rfl)
theorem dX1_percent_65 : decode cX1_percent 65 = .ok (.goto 7, 3) := dk_167 0 7 (dk_at dksX1_percent_2 20 rfl rfl)
theorem dX1_percent_68 : decode cX1_percent 68 = .ok (.aload_n 0, 1) := dk_42 (dk_at dksX1_percent_2 23 rfl rfl)
theorem dX1_percent_69 : decode cX1_percent 69 = .ok (.getfield 108, 3) := dk_180 0 108 (dk_at dksX1_percent_3 0 rfl rfl)
theorem dX1_percent_72 : decode cX1_percent 72 = .ok (.putfield 108, 3) := dk_181 0 108 (dk_at dksX1_percent_3 3 rfl rfl)
theorem dX1_percent_75 : decode cX1_percent 75 = .ok (.iload_n 2, 1) := dk_28 (dk_at dksX1_percent_3 6 rfl rfl)
theorem dX1_percent_76 : decode cX1_percent 76 = .ok (.ireturn, 1) := dk_172 (dk_at dksX1_percent_3 7 rfl rfl)
abbrev cX1_due : ByteArray := prog_1_method_64_code
def yX1_due : MethodName := ⟨RX1, "due", "(I)J"⟩
def dkwX1_due_1 : List UInt8 := [185, 0, 217, 1, 0, 192, 0, 155, 58, 5, 32, 25, 5, 27, 182, 1, 187, 97, 65, 167, 255, 225, 32, 173]
abbrev dktX1_due_1 : List UInt8 := dkwX1_due_1 ++ []
def dkwX1_due_0 : List UInt8 := [9, 65, 42, 180, 0, 52, 182, 0, 208, 58, 4, 25, 4, 185, 0, 212, 1, 0, 153, 0, 27, 25, 4]
abbrev dktX1_due_0 : List UInt8 := dkwX1_due_0 ++ dktX1_due_1
theorem dksX1_due_0 : cX1_due.data.toList.drop 0 = dktX1_due_0 := by decide +kernel
theorem dksX1_due_1 : cX1_due.data.toList.drop 23 = dktX1_due_1 := dk_seg dksX1_due_0 23 rfl rfl
theorem dX1_due_0 : decode cX1_due 0 = .ok (.lconst 0, 1) := dk_9 (dk_at dksX1_due_0 0 rfl rfl)
theorem dX1_due_1 : decode cX1_due 1 = .ok (.lstore_n 2, 1) := dk_65 (dk_at dksX1_due_0 1 rfl rfl)
theorem dX1_due_2 : decode cX1_due 2 = .ok (.aload_n 0, 1) := dk_42 (dk_at dksX1_due_0 2 rfl rfl)
theorem dX1_due_3 : decode cX1_due 3 = .ok (.getfield 52, 3) := dk_180 0 52 (dk_at dksX1_due_0 3 rfl rfl)
theorem dX1_due_6 : decode cX1_due 6 = .ok (.invokevirtual 208, 3) := dk_182 0 208 (dk_at dksX1_due_0 6 rfl rfl)
theorem dX1_due_9 : decode cX1_due 9 = .ok (.astore 4, 2) := dk_58 4 (dk_at dksX1_due_0 9 rfl rfl)
theorem dX1_due_11 : decode cX1_due 11 = .ok (.aload 4, 2) := dk_25 4 (dk_at dksX1_due_0 11 rfl rfl)
theorem dX1_due_13 : decode cX1_due 13 = .ok (.invokeinterface 212 1, 5) := by decide +kernel
theorem dX1_due_18 : decode cX1_due 18 = .ok (.ifCond .eq 27, 3) := dk_153 0 27 (dk_at dksX1_due_0 18 rfl rfl)
theorem dX1_due_21 : decode cX1_due 21 = .ok (.aload 4, 2) := dk_25 4 (dk_at dksX1_due_0 21 rfl rfl)
theorem dX1_due_23 : decode cX1_due 23 = .ok (.invokeinterface 217 1, 5) := by decide +kernel
theorem dX1_due_28 : decode cX1_due 28 = .ok (.checkcast 155, 3) := dk_192 0 155 (dk_at dksX1_due_1 5 rfl rfl)
theorem dX1_due_31 : decode cX1_due 31 = .ok (.astore 5, 2) := dk_58 5 (dk_at dksX1_due_1 8 rfl rfl)
theorem dX1_due_33 : decode cX1_due 33 = .ok (.lload_n 2, 1) := dk_32 (dk_at dksX1_due_1 10 rfl rfl)
theorem dX1_due_34 : decode cX1_due 34 = .ok (.aload 5, 2) := dk_25 5 (dk_at dksX1_due_1 11 rfl rfl)
theorem dX1_due_36 : decode cX1_due 36 = .ok (.iload_n 1, 1) := dk_27 (dk_at dksX1_due_1 13 rfl rfl)
theorem dX1_due_37 : decode cX1_due 37 = .ok (.invokevirtual 443, 3) := dk_182 1 187 (dk_at dksX1_due_1 14 rfl rfl)
theorem dX1_due_40 : decode cX1_due 40 = .ok (.ladd, 1) := dk_97 (dk_at dksX1_due_1 17 rfl rfl)
theorem dX1_due_41 : decode cX1_due 41 = .ok (.lstore_n 2, 1) := dk_65 (dk_at dksX1_due_1 18 rfl rfl)
theorem dX1_due_42 : decode cX1_due 42 = .ok (.goto (-31), 3) := dk_167 255 225 (dk_at dksX1_due_1 19 rfl rfl)
theorem dX1_due_45 : decode cX1_due 45 = .ok (.lload_n 2, 1) := dk_32 (dk_at dksX1_due_1 22 rfl rfl)
theorem dX1_due_46 : decode cX1_due 46 = .ok (.lreturn, 1) := dk_173 (dk_at dksX1_due_1 23 rfl rfl)
abbrev cX1_reserve : ByteArray := prog_1_method_65_code
def yX1_reserve : MethodName := ⟨RX1, "reserve", "(I)J"⟩
def dkwX1_reserve_5 : List UInt8 := [32, 173]
abbrev dktX1_reserve_5 : List UInt8 := dkwX1_reserve_5 ++ []
def dkwX1_reserve_4 : List UInt8 := [133, 20, 1, 60, 184, 1, 91, 27, 133, 20, 1, 60, 184, 1, 91, 167, 0, 4, 9, 97, 65, 167, 255, 152]
abbrev dktX1_reserve_4 : List UInt8 := dkwX1_reserve_4 ++ dktX1_reserve_5
def dkwX1_reserve_3 : List UInt8 := [42, 180, 0, 102, 133, 42, 180, 0, 60, 5, 50, 25, 5, 42, 180, 0, 115, 182, 1, 0, 184, 1, 212, 46]
abbrev dktX1_reserve_3 : List UInt8 := dkwX1_reserve_3 ++ dktX1_reserve_4
def dkwX1_reserve_2 : List UInt8 := [154, 0, 15, 25, 5, 180, 0, 145, 154, 0, 7, 4, 167, 0, 4, 3, 54, 6, 32, 21, 6, 153, 0, 45]
abbrev dktX1_reserve_2 : List UInt8 := dkwX1_reserve_2 ++ dktX1_reserve_3
def dkwX1_reserve_1 : List UInt8 := [185, 0, 217, 1, 0, 192, 0, 140, 58, 5, 25, 5, 182, 0, 148, 153, 0, 23, 25, 5, 182, 0, 179]
abbrev dktX1_reserve_1 : List UInt8 := dkwX1_reserve_1 ++ dktX1_reserve_2
def dkwX1_reserve_0 : List UInt8 := [9, 65, 42, 180, 0, 42, 182, 0, 208, 58, 4, 25, 4, 185, 0, 212, 1, 0, 153, 0, 100, 25, 4]
abbrev dktX1_reserve_0 : List UInt8 := dkwX1_reserve_0 ++ dktX1_reserve_1
theorem dksX1_reserve_0 : cX1_reserve.data.toList.drop 0 = dktX1_reserve_0 := by decide +kernel
theorem dksX1_reserve_1 : cX1_reserve.data.toList.drop 23 = dktX1_reserve_1 := dk_seg dksX1_reserve_0 23 rfl rfl
theorem dksX1_reserve_2 : cX1_reserve.data.toList.drop 46 = dktX1_reserve_2 := dk_seg dksX1_reserve_1 23 rfl rfl
theorem dksX1_reserve_3 : cX1_reserve.data.toList.drop 70 = dktX1_reserve_3 := dk_seg dksX1_reserve_2 24 rfl rfl
theorem dksX1_reserve_4 : cX1_reserve.data.toList.drop 94 = dktX1_reserve_4 := dk_seg dksX1_reserve_3 24 rfl rfl
theorem dksX1_reserve_5 : cX1_reserve.data.toList.drop 118 = dktX1_reserve_5 := dk_seg dksX1_reserve_4 24 rfl rfl
theorem dX1_reserve_0 : decode cX1_reserve 0 = .ok (.lconst 0, 1) := dk_9 (dk_at dksX1_reserve_0 0 rfl rfl)
theorem dX1_reserve_1 : decode cX1_reserve 1 = .ok (.lstore_n 2, 1) := dk_65 (dk_at dksX1_reserve_0 1 rfl rfl)
theorem dX1_reserve_2 : decode cX1_reserve 2 = .ok (.aload_n 0, 1) := dk_42 (dk_at dksX1_reserve_0 2 rfl rfl)
theorem dX1_reserve_3 : decode cX1_reserve 3 = .ok (.getfield 42, 3) := dk_180 0 42 (dk_at dksX1_reserve_0 3 rfl rfl)
theorem dX1_reserve_6 : decode cX1_reserve 6 = .ok (.invokevirtual 208, 3) := dk_182 0 208 (dk_at dksX1_reserve_0 6 rfl rfl)
theorem dX1_reserve_9 : decode cX1_reserve 9 = .ok (.astore 4, 2) := dk_58 4 (dk_at dksX1_reserve_0 9 rfl rfl)
theorem dX1_reserve_11 : decode cX1_reserve 11 = .ok (.aload 4, 2) := dk_25 4 (dk_at dksX1_reserve_0 11 rfl rfl)
theorem dX1_reserve_13 : decode cX1_reserve 13 = .ok (.invokeinterface 212 1, 5) := by decide +kernel
theorem dX1_reserve_18 : decode cX1_reserve 18 = .ok (.ifCond .eq 100, 3) := dk_153 0 100 (dk_at dksX1_reserve_0 18 rfl rfl)
theorem dX1_reserve_21 : decode cX1_reserve 21 = .ok (.aload 4, 2) := dk_25 4 (dk_at dksX1_reserve_0 21 rfl rfl)
theorem dX1_reserve_23 : decode cX1_reserve 23 = .ok (.invokeinterface 217 1, 5) := by decide +kernel
theorem dX1_reserve_28 : decode cX1_reserve 28 = .ok (.checkcast 140, 3) := dk_192 0 140 (dk_at dksX1_reserve_1 5 rfl rfl)
theorem dX1_reserve_31 : decode cX1_reserve 31 = .ok (.astore 5, 2) := dk_58 5 (dk_at dksX1_reserve_1 8 rfl rfl)
theorem dX1_reserve_33 : decode cX1_reserve 33 = .ok (.aload 5, 2) := dk_25 5 (dk_at dksX1_reserve_1 10 rfl rfl)
theorem dX1_reserve_35 : decode cX1_reserve 35 = .ok (.invokevirtual 148, 3) := dk_182 0 148 (dk_at dksX1_reserve_1 12 rfl rfl)
theorem dX1_reserve_38 : decode cX1_reserve 38 = .ok (.ifCond .eq 23, 3) := dk_153 0 23 (dk_at dksX1_reserve_1 15 rfl rfl)
theorem dX1_reserve_41 : decode cX1_reserve 41 = .ok (.aload 5, 2) := dk_25 5 (dk_at dksX1_reserve_1 18 rfl rfl)
theorem dX1_reserve_43 : decode cX1_reserve 43 = .ok (.invokevirtual 179, 3) := dk_182 0 179 (dk_at dksX1_reserve_1 20 rfl rfl)
theorem dX1_reserve_46 : decode cX1_reserve 46 = .ok (.ifCond .ne 15, 3) := dk_154 0 15 (dk_at dksX1_reserve_2 0 rfl rfl)
theorem dX1_reserve_49 : decode cX1_reserve 49 = .ok (.aload 5, 2) := dk_25 5 (dk_at dksX1_reserve_2 3 rfl rfl)
theorem dX1_reserve_51 : decode cX1_reserve 51 = .ok (.getfield 145, 3) := dk_180 0 145 (dk_at dksX1_reserve_2 5 rfl rfl)
theorem dX1_reserve_54 : decode cX1_reserve 54 = .ok (.ifCond .ne 7, 3) := dk_154 0 7 (dk_at dksX1_reserve_2 8 rfl rfl)
theorem dX1_reserve_57 : decode cX1_reserve 57 = .ok (.iconst 1, 1) := dk_4 (dk_at dksX1_reserve_2 11 rfl rfl)
theorem dX1_reserve_58 : decode cX1_reserve 58 = .ok (.goto 4, 3) := dk_167 0 4 (dk_at dksX1_reserve_2 12 rfl rfl)
theorem dX1_reserve_61 : decode cX1_reserve 61 = .ok (.iconst 0, 1) := dk_3 (dk_at dksX1_reserve_2 15 rfl rfl)
theorem dX1_reserve_62 : decode cX1_reserve 62 = .ok (.istore 6, 2) := dk_54 6 (dk_at dksX1_reserve_2 16 rfl rfl)
theorem dX1_reserve_64 : decode cX1_reserve 64 = .ok (.lload_n 2, 1) := dk_32 (dk_at dksX1_reserve_2 18 rfl rfl)
theorem dX1_reserve_65 : decode cX1_reserve 65 = .ok (.iload 6, 2) := dk_21 6 (dk_at dksX1_reserve_2 19 rfl rfl)
theorem dX1_reserve_67 : decode cX1_reserve 67 = .ok (.ifCond .eq 45, 3) := dk_153 0 45 (dk_at dksX1_reserve_2 21 rfl rfl)
theorem dX1_reserve_70 : decode cX1_reserve 70 = .ok (.aload_n 0, 1) := dk_42 (dk_at dksX1_reserve_3 0 rfl rfl)
theorem dX1_reserve_71 : decode cX1_reserve 71 = .ok (.getfield 102, 3) := dk_180 0 102 (dk_at dksX1_reserve_3 1 rfl rfl)
theorem dX1_reserve_74 : decode cX1_reserve 74 = .ok (.i2l, 1) := dk_133 (dk_at dksX1_reserve_3 4 rfl rfl)
theorem dX1_reserve_75 : decode cX1_reserve 75 = .ok (.aload_n 0, 1) := dk_42 (dk_at dksX1_reserve_3 5 rfl rfl)
theorem dX1_reserve_76 : decode cX1_reserve 76 = .ok (.getfield 60, 3) := dk_180 0 60 (dk_at dksX1_reserve_3 6 rfl rfl)
theorem dX1_reserve_79 : decode cX1_reserve 79 = .ok (.iconst 2, 1) := dk_5 (dk_at dksX1_reserve_3 9 rfl rfl)
theorem dX1_reserve_80 : decode cX1_reserve 80 = .ok (.aaload, 1) := dk_50 (dk_at dksX1_reserve_3 10 rfl rfl)
theorem dX1_reserve_81 : decode cX1_reserve 81 = .ok (.aload 5, 2) := dk_25 5 (dk_at dksX1_reserve_3 11 rfl rfl)
theorem dX1_reserve_83 : decode cX1_reserve 83 = .ok (.aload_n 0, 1) := dk_42 (dk_at dksX1_reserve_3 13 rfl rfl)
theorem dX1_reserve_84 : decode cX1_reserve 84 = .ok (.getfield 115, 3) := dk_180 0 115 (dk_at dksX1_reserve_3 14 rfl rfl)
theorem dX1_reserve_87 : decode cX1_reserve 87 = .ok (.invokevirtual 256, 3) := dk_182 1 0 (dk_at dksX1_reserve_3 17 rfl rfl)
theorem dX1_reserve_90 : decode cX1_reserve 90 = .ok (.invokestatic 468, 3) := dk_184 1 212 (dk_at dksX1_reserve_3 20 rfl rfl)
theorem dX1_reserve_93 : decode cX1_reserve 93 = .ok (.iaload, 1) := dk_46 (dk_at dksX1_reserve_3 23 rfl rfl)
theorem dX1_reserve_94 : decode cX1_reserve 94 = .ok (.i2l, 1) := dk_133 (dk_at dksX1_reserve_4 0 rfl rfl)
theorem dX1_reserve_95 : decode cX1_reserve 95 = .ok (.ldc2_w 316, 3) := dk_20 1 60 (dk_at dksX1_reserve_4 1 rfl rfl)
theorem dX1_reserve_98 : decode cX1_reserve 98 = .ok (.invokestatic 347, 3) := dk_184 1 91 (dk_at dksX1_reserve_4 4 rfl rfl)
theorem dX1_reserve_101 : decode cX1_reserve 101 = .ok (.iload_n 1, 1) := dk_27 (dk_at dksX1_reserve_4 7 rfl rfl)
theorem dX1_reserve_102 : decode cX1_reserve 102 = .ok (.i2l, 1) := dk_133 (dk_at dksX1_reserve_4 8 rfl rfl)
theorem dX1_reserve_103 : decode cX1_reserve 103 = .ok (.ldc2_w 316, 3) := dk_20 1 60 (dk_at dksX1_reserve_4 9 rfl rfl)
theorem dX1_reserve_106 : decode cX1_reserve 106 = .ok (.invokestatic 347, 3) := dk_184 1 91 (dk_at dksX1_reserve_4 12 rfl rfl)
theorem dX1_reserve_109 : decode cX1_reserve 109 = .ok (.goto 4, 3) := dk_167 0 4 (dk_at dksX1_reserve_4 15 rfl rfl)
theorem dX1_reserve_112 : decode cX1_reserve 112 = .ok (.lconst 0, 1) := dk_9 (dk_at dksX1_reserve_4 18 rfl rfl)
theorem dX1_reserve_113 : decode cX1_reserve 113 = .ok (.ladd, 1) := dk_97 (dk_at dksX1_reserve_4 19 rfl rfl)
theorem dX1_reserve_114 : decode cX1_reserve 114 = .ok (.lstore_n 2, 1) := dk_65 (dk_at dksX1_reserve_4 20 rfl rfl)
theorem dX1_reserve_115 : decode cX1_reserve 115 = .ok (.goto (-104), 3) := dk_167 255 152 (dk_at dksX1_reserve_4 21 rfl rfl)
theorem dX1_reserve_118 : decode cX1_reserve 118 = .ok (.lload_n 2, 1) := dk_32 (dk_at dksX1_reserve_5 0 rfl rfl)
theorem dX1_reserve_119 : decode cX1_reserve 119 = .ok (.lreturn, 1) := dk_173 (dk_at dksX1_reserve_5 1 rfl rfl)
abbrev cX1_pay : ByteArray := prog_1_method_67_code
def yX1_pay : MethodName := ⟨RX1, "pay", "()J"⟩
def dkwX1_pay_7 : List UInt8 := [182, 1, 219, 22, 6, 22, 13, 97, 55, 6, 167, 255, 141, 22, 6, 173]
abbrev dktX1_pay_7 : List UInt8 := dkwX1_pay_7 ++ []
def dkwX1_pay_6 : List UInt8 := [167, 0, 4, 3, 54, 8, 22, 13, 9, 148, 158, 0, 22, 21, 8, 153, 0, 17, 25, 10, 22, 13]
abbrev dktX1_pay_6 : List UInt8 := dkwX1_pay_6 ++ dktX1_pay_7
def dkwX1_pay_5 : List UInt8 := [21, 8, 153, 0, 25, 42, 180, 0, 105, 4, 159, 0, 13, 22, 13, 42, 180, 0, 111, 148, 157, 0, 7, 4]
abbrev dktX1_pay_5 : List UInt8 := dkwX1_pay_5 ++ dktX1_pay_6
def dkwX1_pay_4 : List UInt8 := [154, 0, 10, 42, 180, 0, 105, 154, 0, 8, 22, 11, 167, 0, 10, 22, 11, 33, 31, 184, 1, 91, 55, 13]
abbrev dktX1_pay_4 : List UInt8 := dkwX1_pay_4 ++ dktX1_pay_5
def dkwX1_pay_3 : List UInt8 := [185, 0, 217, 1, 0, 192, 0, 155, 58, 10, 25, 10, 42, 180, 0, 108, 182, 1, 187, 55, 11, 21, 5]
abbrev dktX1_pay_3 : List UInt8 := dkwX1_pay_3 ++ dktX1_pay_4
def dkwX1_pay_2 : List UInt8 := [54, 8, 42, 180, 0, 52, 182, 0, 208, 58, 9, 25, 9, 185, 0, 212, 1, 0, 153, 0, 111, 25, 9]
abbrev dktX1_pay_2 : List UInt8 := dkwX1_pay_2 ++ dktX1_pay_3
def dkwX1_pay_1 : List UInt8 := [64, 42, 180, 0, 111, 66, 33, 31, 148, 155, 0, 7, 4, 167, 0, 4, 3, 54, 5, 9, 55, 6, 4]
abbrev dktX1_pay_1 : List UInt8 := dkwX1_pay_1 ++ dktX1_pay_2
def dkwX1_pay_0 : List UInt8 := [42, 182, 0, 123, 6, 160, 0, 7, 4, 167, 0, 4, 3, 184, 0, 182, 42, 42, 180, 0, 108, 182, 1, 215]
abbrev dktX1_pay_0 : List UInt8 := dkwX1_pay_0 ++ dktX1_pay_1
theorem dksX1_pay_0 : cX1_pay.data.toList.drop 0 = dktX1_pay_0 := by decide +kernel
theorem dksX1_pay_1 : cX1_pay.data.toList.drop 24 = dktX1_pay_1 := dk_seg dksX1_pay_0 24 rfl rfl
theorem dksX1_pay_2 : cX1_pay.data.toList.drop 47 = dktX1_pay_2 := dk_seg dksX1_pay_1 23 rfl rfl
theorem dksX1_pay_3 : cX1_pay.data.toList.drop 70 = dktX1_pay_3 := dk_seg dksX1_pay_2 23 rfl rfl
theorem dksX1_pay_4 : cX1_pay.data.toList.drop 93 = dktX1_pay_4 := dk_seg dksX1_pay_3 23 rfl rfl
theorem dksX1_pay_5 : cX1_pay.data.toList.drop 117 = dktX1_pay_5 := dk_seg dksX1_pay_4 24 rfl rfl
theorem dksX1_pay_6 : cX1_pay.data.toList.drop 141 = dktX1_pay_6 := dk_seg dksX1_pay_5 24 rfl rfl
theorem dksX1_pay_7 : cX1_pay.data.toList.drop 163 = dktX1_pay_7 := dk_seg dksX1_pay_6 22 rfl rfl
theorem dX1_pay_0 : decode cX1_pay 0 = .ok (.aload_n 0, 1) := dk_42 (dk_at dksX1_pay_0 0 rfl rfl)
theorem dX1_pay_1 : decode cX1_pay 1 = .ok (.invokevirtual 123, 3) := dk_182 0 123 (dk_at dksX1_pay_0 1 rfl rfl)
theorem dX1_pay_4 : decode cX1_pay 4 = .ok (.iconst 3, 1) := dk_6 (dk_at dksX1_pay_0 4 rfl rfl)
theorem dX1_pay_5 : decode cX1_pay 5 = .ok (.if_icmp .ne 7, 3) := dk_160 0 7 (dk_at dksX1_pay_0 5 rfl rfl)
theorem dX1_pay_8 : decode cX1_pay 8 = .ok (.iconst 1, 1) := dk_4 (dk_at dksX1_pay_0 8 rfl rfl)
theorem dX1_pay_9 : decode cX1_pay 9 = .ok (.goto 4, 3) := dk_167 0 4 (dk_at dksX1_pay_0 9 rfl rfl)
theorem dX1_pay_12 : decode cX1_pay 12 = .ok (.iconst 0, 1) := dk_3 (dk_at dksX1_pay_0 12 rfl rfl)
theorem dX1_pay_13 : decode cX1_pay 13 = .ok (.invokestatic 182, 3) := dk_184 0 182 (dk_at dksX1_pay_0 13 rfl rfl)
theorem dX1_pay_16 : decode cX1_pay 16 = .ok (.aload_n 0, 1) := dk_42 (dk_at dksX1_pay_0 16 rfl rfl)
theorem dX1_pay_17 : decode cX1_pay 17 = .ok (.aload_n 0, 1) := dk_42 (dk_at dksX1_pay_0 17 rfl rfl)
theorem dX1_pay_18 : decode cX1_pay 18 = .ok (.getfield 108, 3) := dk_180 0 108 (dk_at dksX1_pay_0 18 rfl rfl)
theorem dX1_pay_21 : decode cX1_pay 21 = .ok (.invokevirtual 471, 3) := dk_182 1 215 (dk_at dksX1_pay_0 21 rfl rfl)
theorem dX1_pay_24 : decode cX1_pay 24 = .ok (.lstore_n 1, 1) := dk_64 (dk_at dksX1_pay_1 0 rfl rfl)
theorem dX1_pay_25 : decode cX1_pay 25 = .ok (.aload_n 0, 1) := dk_42 (dk_at dksX1_pay_1 1 rfl rfl)
theorem dX1_pay_26 : decode cX1_pay 26 = .ok (.getfield 111, 3) := dk_180 0 111 (dk_at dksX1_pay_1 2 rfl rfl)
theorem dX1_pay_29 : decode cX1_pay 29 = .ok (.lstore_n 3, 1) := dk_66 (dk_at dksX1_pay_1 5 rfl rfl)
theorem dX1_pay_30 : decode cX1_pay 30 = .ok (.lload_n 3, 1) := dk_33 (dk_at dksX1_pay_1 6 rfl rfl)
theorem dX1_pay_31 : decode cX1_pay 31 = .ok (.lload_n 1, 1) := dk_31 (dk_at dksX1_pay_1 7 rfl rfl)
theorem dX1_pay_32 : decode cX1_pay 32 = .ok (.lcmp, 1) := dk_148 (dk_at dksX1_pay_1 8 rfl rfl)
theorem dX1_pay_33 : decode cX1_pay 33 = .ok (.ifCond .lt 7, 3) := dk_155 0 7 (dk_at dksX1_pay_1 9 rfl rfl)
theorem dX1_pay_36 : decode cX1_pay 36 = .ok (.iconst 1, 1) := dk_4 (dk_at dksX1_pay_1 12 rfl rfl)
theorem dX1_pay_37 : decode cX1_pay 37 = .ok (.goto 4, 3) := dk_167 0 4 (dk_at dksX1_pay_1 13 rfl rfl)
theorem dX1_pay_40 : decode cX1_pay 40 = .ok (.iconst 0, 1) := dk_3 (dk_at dksX1_pay_1 16 rfl rfl)
theorem dX1_pay_41 : decode cX1_pay 41 = .ok (.istore 5, 2) := dk_54 5 (dk_at dksX1_pay_1 17 rfl rfl)
theorem dX1_pay_43 : decode cX1_pay 43 = .ok (.lconst 0, 1) := dk_9 (dk_at dksX1_pay_1 19 rfl rfl)
theorem dX1_pay_44 : decode cX1_pay 44 = .ok (.lstore 6, 2) := dk_55 6 (dk_at dksX1_pay_1 20 rfl rfl)
theorem dX1_pay_46 : decode cX1_pay 46 = .ok (.iconst 1, 1) := dk_4 (dk_at dksX1_pay_1 22 rfl rfl)
theorem dX1_pay_47 : decode cX1_pay 47 = .ok (.istore 8, 2) := dk_54 8 (dk_at dksX1_pay_2 0 rfl rfl)
theorem dX1_pay_49 : decode cX1_pay 49 = .ok (.aload_n 0, 1) := dk_42 (dk_at dksX1_pay_2 2 rfl rfl)
theorem dX1_pay_50 : decode cX1_pay 50 = .ok (.getfield 52, 3) := dk_180 0 52 (dk_at dksX1_pay_2 3 rfl rfl)
theorem dX1_pay_53 : decode cX1_pay 53 = .ok (.invokevirtual 208, 3) := dk_182 0 208 (dk_at dksX1_pay_2 6 rfl rfl)
theorem dX1_pay_56 : decode cX1_pay 56 = .ok (.astore 9, 2) := dk_58 9 (dk_at dksX1_pay_2 9 rfl rfl)
theorem dX1_pay_58 : decode cX1_pay 58 = .ok (.aload 9, 2) := dk_25 9 (dk_at dksX1_pay_2 11 rfl rfl)
theorem dX1_pay_60 : decode cX1_pay 60 = .ok (.invokeinterface 212 1, 5) := by decide +kernel
theorem dX1_pay_65 : decode cX1_pay 65 = .ok (.ifCond .eq 111, 3) := dk_153 0 111 (dk_at dksX1_pay_2 18 rfl rfl)
theorem dX1_pay_68 : decode cX1_pay 68 = .ok (.aload 9, 2) := dk_25 9 (dk_at dksX1_pay_2 21 rfl rfl)
theorem dX1_pay_70 : decode cX1_pay 70 = .ok (.invokeinterface 217 1, 5) := by decide +kernel
theorem dX1_pay_75 : decode cX1_pay 75 = .ok (.checkcast 155, 3) := dk_192 0 155 (dk_at dksX1_pay_3 5 rfl rfl)
theorem dX1_pay_78 : decode cX1_pay 78 = .ok (.astore 10, 2) := dk_58 10 (dk_at dksX1_pay_3 8 rfl rfl)
theorem dX1_pay_80 : decode cX1_pay 80 = .ok (.aload 10, 2) := dk_25 10 (dk_at dksX1_pay_3 10 rfl rfl)
theorem dX1_pay_82 : decode cX1_pay 82 = .ok (.aload_n 0, 1) := dk_42 (dk_at dksX1_pay_3 12 rfl rfl)
theorem dX1_pay_83 : decode cX1_pay 83 = .ok (.getfield 108, 3) := dk_180 0 108 (dk_at dksX1_pay_3 13 rfl rfl)
theorem dX1_pay_86 : decode cX1_pay 86 = .ok (.invokevirtual 443, 3) := dk_182 1 187 (dk_at dksX1_pay_3 16 rfl rfl)
theorem dX1_pay_89 : decode cX1_pay 89 = .ok (.lstore 11, 2) := dk_55 11 (dk_at dksX1_pay_3 19 rfl rfl)
theorem dX1_pay_91 : decode cX1_pay 91 = .ok (.iload 5, 2) := dk_21 5 (dk_at dksX1_pay_3 21 rfl rfl)
theorem dX1_pay_93 : decode cX1_pay 93 = .ok (.ifCond .ne 10, 3) := dk_154 0 10 (dk_at dksX1_pay_4 0 rfl rfl)
theorem dX1_pay_96 : decode cX1_pay 96 = .ok (.aload_n 0, 1) := dk_42 (dk_at dksX1_pay_4 3 rfl rfl)
theorem dX1_pay_97 : decode cX1_pay 97 = .ok (.getfield 105, 3) := dk_180 0 105 (dk_at dksX1_pay_4 4 rfl rfl)
theorem dX1_pay_100 : decode cX1_pay 100 = .ok (.ifCond .ne 8, 3) := dk_154 0 8 (dk_at dksX1_pay_4 7 rfl rfl)
theorem dX1_pay_103 : decode cX1_pay 103 = .ok (.lload 11, 2) := dk_22 11 (dk_at dksX1_pay_4 10 rfl rfl)
theorem dX1_pay_105 : decode cX1_pay 105 = .ok (.goto 10, 3) := dk_167 0 10 (dk_at dksX1_pay_4 12 rfl rfl)
theorem dX1_pay_108 : decode cX1_pay 108 = .ok (.lload 11, 2) := dk_22 11 (dk_at dksX1_pay_4 15 rfl rfl)
theorem dX1_pay_110 : decode cX1_pay 110 = .ok (.lload_n 3, 1) := dk_33 (dk_at dksX1_pay_4 17 rfl rfl)
theorem dX1_pay_111 : decode cX1_pay 111 = .ok (.lload_n 1, 1) := dk_31 (dk_at dksX1_pay_4 18 rfl rfl)
theorem dX1_pay_112 : decode cX1_pay 112 = .ok (.invokestatic 347, 3) := dk_184 1 91 (dk_at dksX1_pay_4 19 rfl rfl)
theorem dX1_pay_115 : decode cX1_pay 115 = .ok (.lstore 13, 2) := dk_55 13 (dk_at dksX1_pay_4 22 rfl rfl)
theorem dX1_pay_117 : decode cX1_pay 117 = .ok (.iload 8, 2) := dk_21 8 (dk_at dksX1_pay_5 0 rfl rfl)
theorem dX1_pay_119 : decode cX1_pay 119 = .ok (.ifCond .eq 25, 3) := dk_153 0 25 (dk_at dksX1_pay_5 2 rfl rfl)
theorem dX1_pay_122 : decode cX1_pay 122 = .ok (.aload_n 0, 1) := dk_42 (dk_at dksX1_pay_5 5 rfl rfl)
theorem dX1_pay_123 : decode cX1_pay 123 = .ok (.getfield 105, 3) := dk_180 0 105 (dk_at dksX1_pay_5 6 rfl rfl)
theorem dX1_pay_126 : decode cX1_pay 126 = .ok (.iconst 1, 1) := dk_4 (dk_at dksX1_pay_5 9 rfl rfl)
theorem dX1_pay_127 : decode cX1_pay 127 = .ok (.if_icmp .eq 13, 3) := dk_159 0 13 (dk_at dksX1_pay_5 10 rfl rfl)
theorem dX1_pay_130 : decode cX1_pay 130 = .ok (.lload 13, 2) := dk_22 13 (dk_at dksX1_pay_5 13 rfl rfl)
theorem dX1_pay_132 : decode cX1_pay 132 = .ok (.aload_n 0, 1) := dk_42 (dk_at dksX1_pay_5 15 rfl rfl)
theorem dX1_pay_133 : decode cX1_pay 133 = .ok (.getfield 111, 3) := dk_180 0 111 (dk_at dksX1_pay_5 16 rfl rfl)
theorem dX1_pay_136 : decode cX1_pay 136 = .ok (.lcmp, 1) := dk_148 (dk_at dksX1_pay_5 19 rfl rfl)
theorem dX1_pay_137 : decode cX1_pay 137 = .ok (.ifCond .gt 7, 3) := dk_157 0 7 (dk_at dksX1_pay_5 20 rfl rfl)
theorem dX1_pay_140 : decode cX1_pay 140 = .ok (.iconst 1, 1) := dk_4 (dk_at dksX1_pay_5 23 rfl rfl)
theorem dX1_pay_141 : decode cX1_pay 141 = .ok (.goto 4, 3) := dk_167 0 4 (dk_at dksX1_pay_6 0 rfl rfl)
theorem dX1_pay_144 : decode cX1_pay 144 = .ok (.iconst 0, 1) := dk_3 (dk_at dksX1_pay_6 3 rfl rfl)
theorem dX1_pay_145 : decode cX1_pay 145 = .ok (.istore 8, 2) := dk_54 8 (dk_at dksX1_pay_6 4 rfl rfl)
theorem dX1_pay_147 : decode cX1_pay 147 = .ok (.lload 13, 2) := dk_22 13 (dk_at dksX1_pay_6 6 rfl rfl)
theorem dX1_pay_149 : decode cX1_pay 149 = .ok (.lconst 0, 1) := dk_9 (dk_at dksX1_pay_6 8 rfl rfl)
theorem dX1_pay_150 : decode cX1_pay 150 = .ok (.lcmp, 1) := dk_148 (dk_at dksX1_pay_6 9 rfl rfl)
theorem dX1_pay_151 : decode cX1_pay 151 = .ok (.ifCond .le 22, 3) := dk_158 0 22 (dk_at dksX1_pay_6 10 rfl rfl)
theorem dX1_pay_154 : decode cX1_pay 154 = .ok (.iload 8, 2) := dk_21 8 (dk_at dksX1_pay_6 13 rfl rfl)
theorem dX1_pay_156 : decode cX1_pay 156 = .ok (.ifCond .eq 17, 3) := dk_153 0 17 (dk_at dksX1_pay_6 15 rfl rfl)
theorem dX1_pay_159 : decode cX1_pay 159 = .ok (.aload 10, 2) := dk_25 10 (dk_at dksX1_pay_6 18 rfl rfl)
theorem dX1_pay_161 : decode cX1_pay 161 = .ok (.lload 13, 2) := dk_22 13 (dk_at dksX1_pay_6 20 rfl rfl)
theorem dX1_pay_163 : decode cX1_pay 163 = .ok (.invokevirtual 475, 3) := dk_182 1 219 (dk_at dksX1_pay_7 0 rfl rfl)
theorem dX1_pay_166 : decode cX1_pay 166 = .ok (.lload 6, 2) := dk_22 6 (dk_at dksX1_pay_7 3 rfl rfl)
theorem dX1_pay_168 : decode cX1_pay 168 = .ok (.lload 13, 2) := dk_22 13 (dk_at dksX1_pay_7 5 rfl rfl)
theorem dX1_pay_170 : decode cX1_pay 170 = .ok (.ladd, 1) := dk_97 (dk_at dksX1_pay_7 7 rfl rfl)
theorem dX1_pay_171 : decode cX1_pay 171 = .ok (.lstore 6, 2) := dk_55 6 (dk_at dksX1_pay_7 8 rfl rfl)
theorem dX1_pay_173 : decode cX1_pay 173 = .ok (.goto (-115), 3) := dk_167 255 141 (dk_at dksX1_pay_7 10 rfl rfl)
theorem dX1_pay_176 : decode cX1_pay 176 = .ok (.lload 6, 2) := dk_22 6 (dk_at dksX1_pay_7 13 rfl rfl)
theorem dX1_pay_178 : decode cX1_pay 178 = .ok (.lreturn, 1) := dk_173 (dk_at dksX1_pay_7 15 rfl rfl)
abbrev cX1_lien : ByteArray := prog_1_method_68_code
def yX1_lien : MethodName := ⟨RX1, "lien", "(IIZ)I"⟩
def dkwX1_lien_2 : List UInt8 := [183, 1, 222, 182, 0, 174, 172]
abbrev dktX1_lien_2 : List UInt8 := dkwX1_lien_2 ++ []
def dkwX1_lien_1 : List UInt8 := [184, 0, 131, 42, 180, 0, 55, 187, 1, 220, 89, 42, 180, 0, 55, 182, 0, 135, 25, 4, 28, 29]
abbrev dktX1_lien_1 : List UInt8 := dkwX1_lien_1 ++ dktX1_lien_2
def dkwX1_lien_0 : List UInt8 := [42, 180, 0, 42, 27, 182, 0, 136, 192, 0, 140, 58, 4, 28, 133, 10, 20, 1, 156, 184, 0, 127]
abbrev dktX1_lien_0 : List UInt8 := dkwX1_lien_0 ++ dktX1_lien_1
theorem dksX1_lien_0 : cX1_lien.data.toList.drop 0 = dktX1_lien_0 := by decide +kernel
theorem dksX1_lien_1 : cX1_lien.data.toList.drop 22 = dktX1_lien_1 := dk_seg dksX1_lien_0 22 rfl rfl
theorem dksX1_lien_2 : cX1_lien.data.toList.drop 44 = dktX1_lien_2 := dk_seg dksX1_lien_1 22 rfl rfl
theorem dX1_lien_0 : decode cX1_lien 0 = .ok (.aload_n 0, 1) := dk_42 (dk_at dksX1_lien_0 0 rfl rfl)
theorem dX1_lien_1 : decode cX1_lien 1 = .ok (.getfield 42, 3) := dk_180 0 42 (dk_at dksX1_lien_0 1 rfl rfl)
theorem dX1_lien_4 : decode cX1_lien 4 = .ok (.iload_n 1, 1) := dk_27 (dk_at dksX1_lien_0 4 rfl rfl)
theorem dX1_lien_5 : decode cX1_lien 5 = .ok (.invokevirtual 136, 3) := dk_182 0 136 (dk_at dksX1_lien_0 5 rfl rfl)
theorem dX1_lien_8 : decode cX1_lien 8 = .ok (.checkcast 140, 3) := dk_192 0 140 (dk_at dksX1_lien_0 8 rfl rfl)
theorem dX1_lien_11 : decode cX1_lien 11 = .ok (.astore 4, 2) := dk_58 4 (dk_at dksX1_lien_0 11 rfl rfl)
theorem dX1_lien_13 : decode cX1_lien 13 = .ok (.iload_n 2, 1) := dk_28 (dk_at dksX1_lien_0 13 rfl rfl)
theorem dX1_lien_14 : decode cX1_lien 14 = .ok (.i2l, 1) := dk_133 (dk_at dksX1_lien_0 14 rfl rfl)
theorem dX1_lien_15 : decode cX1_lien 15 = .ok (.lconst 1, 1) := dk_10 (dk_at dksX1_lien_0 15 rfl rfl)
theorem dX1_lien_16 : decode cX1_lien 16 = .ok (.ldc2_w 412, 3) := dk_20 1 156 (dk_at dksX1_lien_0 16 rfl rfl)
theorem dX1_lien_19 : decode cX1_lien 19 = .ok (.invokestatic 127, 3) := dk_184 0 127 (dk_at dksX1_lien_0 19 rfl rfl)
theorem dX1_lien_22 : decode cX1_lien 22 = .ok (.invokestatic 131, 3) := dk_184 0 131 (dk_at dksX1_lien_1 0 rfl rfl)
theorem dX1_lien_25 : decode cX1_lien 25 = .ok (.aload_n 0, 1) := dk_42 (dk_at dksX1_lien_1 3 rfl rfl)
theorem dX1_lien_26 : decode cX1_lien 26 = .ok (.getfield 55, 3) := dk_180 0 55 (dk_at dksX1_lien_1 4 rfl rfl)
theorem dX1_lien_29 : decode cX1_lien 29 = .ok (.new 476, 3) := dk_187 1 220 (dk_at dksX1_lien_1 7 rfl rfl)
theorem dX1_lien_32 : decode cX1_lien 32 = .ok (.dup, 1) := dk_89 (dk_at dksX1_lien_1 10 rfl rfl)
theorem dX1_lien_33 : decode cX1_lien 33 = .ok (.aload_n 0, 1) := dk_42 (dk_at dksX1_lien_1 11 rfl rfl)
theorem dX1_lien_34 : decode cX1_lien 34 = .ok (.getfield 55, 3) := dk_180 0 55 (dk_at dksX1_lien_1 12 rfl rfl)
theorem dX1_lien_37 : decode cX1_lien 37 = .ok (.invokevirtual 135, 3) := dk_182 0 135 (dk_at dksX1_lien_1 15 rfl rfl)
theorem dX1_lien_40 : decode cX1_lien 40 = .ok (.aload 4, 2) := dk_25 4 (dk_at dksX1_lien_1 18 rfl rfl)
theorem dX1_lien_42 : decode cX1_lien 42 = .ok (.iload_n 2, 1) := dk_28 (dk_at dksX1_lien_1 20 rfl rfl)
theorem dX1_lien_43 : decode cX1_lien 43 = .ok (.iload_n 3, 1) := dk_29 (dk_at dksX1_lien_1 21 rfl rfl)
theorem dX1_lien_44 : decode cX1_lien 44 = .ok (.invokespecial 478, 3) := dk_183 1 222 (dk_at dksX1_lien_2 0 rfl rfl)
theorem dX1_lien_47 : decode cX1_lien 47 = .ok (.invokevirtual 174, 3) := dk_182 0 174 (dk_at dksX1_lien_2 3 rfl rfl)
theorem dX1_lien_50 : decode cX1_lien 50 = .ok (.ireturn, 1) := dk_172 (dk_at dksX1_lien_2 6 rfl rfl)
abbrev cX1_waive : ByteArray := prog_1_method_69_code
def yX1_waive : MethodName := ⟨RX1, "waive", "(I)I"⟩
def dkwX1_waive_1 : List UInt8 := [180, 1, 228, 182, 1, 229, 29, 172]
abbrev dktX1_waive_1 : List UInt8 := dkwX1_waive_1 ++ []
def dkwX1_waive_0 : List UInt8 := [42, 180, 0, 55, 27, 182, 0, 136, 192, 1, 220, 77, 44, 180, 1, 225, 62, 44, 3, 181, 1, 225, 44]
abbrev dktX1_waive_0 : List UInt8 := dkwX1_waive_0 ++ dktX1_waive_1
theorem dksX1_waive_0 : cX1_waive.data.toList.drop 0 = dktX1_waive_0 := by decide +kernel
theorem dksX1_waive_1 : cX1_waive.data.toList.drop 23 = dktX1_waive_1 := dk_seg dksX1_waive_0 23 rfl rfl
theorem dX1_waive_0 : decode cX1_waive 0 = .ok (.aload_n 0, 1) := dk_42 (dk_at dksX1_waive_0 0 rfl rfl)
theorem dX1_waive_1 : decode cX1_waive 1 = .ok (.getfield 55, 3) := dk_180 0 55 (dk_at dksX1_waive_0 1 rfl rfl)
theorem dX1_waive_4 : decode cX1_waive 4 = .ok (.iload_n 1, 1) := dk_27 (dk_at dksX1_waive_0 4 rfl rfl)
theorem dX1_waive_5 : decode cX1_waive 5 = .ok (.invokevirtual 136, 3) := dk_182 0 136 (dk_at dksX1_waive_0 5 rfl rfl)
theorem dX1_waive_8 : decode cX1_waive 8 = .ok (.checkcast 476, 3) := dk_192 1 220 (dk_at dksX1_waive_0 8 rfl rfl)
theorem dX1_waive_11 : decode cX1_waive 11 = .ok (.astore_n 2, 1) := dk_77 (dk_at dksX1_waive_0 11 rfl rfl)
theorem dX1_waive_12 : decode cX1_waive 12 = .ok (.aload_n 2, 1) := dk_44 (dk_at dksX1_waive_0 12 rfl rfl)
theorem dX1_waive_13 : decode cX1_waive 13 = .ok (.getfield 481, 3) := dk_180 1 225 (dk_at dksX1_waive_0 13 rfl rfl)
theorem dX1_waive_16 : decode cX1_waive 16 = .ok (.istore_n 3, 1) := dk_62 (dk_at dksX1_waive_0 16 rfl rfl)
theorem dX1_waive_17 : decode cX1_waive 17 = .ok (.aload_n 2, 1) := dk_44 (dk_at dksX1_waive_0 17 rfl rfl)
theorem dX1_waive_18 : decode cX1_waive 18 = .ok (.iconst 0, 1) := dk_3 (dk_at dksX1_waive_0 18 rfl rfl)
theorem dX1_waive_19 : decode cX1_waive 19 = .ok (.putfield 481, 3) := dk_181 1 225 (dk_at dksX1_waive_0 19 rfl rfl)
theorem dX1_waive_22 : decode cX1_waive 22 = .ok (.aload_n 2, 1) := dk_44 (dk_at dksX1_waive_0 22 rfl rfl)
theorem dX1_waive_23 : decode cX1_waive 23 = .ok (.getfield 484, 3) := dk_180 1 228 (dk_at dksX1_waive_1 0 rfl rfl)
theorem dX1_waive_26 : decode cX1_waive 26 = .ok (.invokevirtual 485, 3) := dk_182 1 229 (dk_at dksX1_waive_1 3 rfl rfl)
theorem dX1_waive_29 : decode cX1_waive 29 = .ok (.iload_n 3, 1) := dk_29 (dk_at dksX1_waive_1 6 rfl rfl)
theorem dX1_waive_30 : decode cX1_waive 30 = .ok (.ireturn, 1) := dk_172 (dk_at dksX1_waive_1 7 rfl rfl)
abbrev cX1_end : ByteArray := prog_1_method_70_code
def yX1_end : MethodName := ⟨RX1, "end", "()J"⟩
def dkwX1_end_7 : List UInt8 := [22, 4, 173]
abbrev dktX1_end_7 : List UInt8 := dkwX1_end_7 ++ []
def dkwX1_end_6 : List UInt8 := [89, 180, 1, 238, 22, 4, 97, 181, 1, 238, 42, 9, 181, 0, 111, 42, 180, 0, 84, 8, 181, 0, 118]
abbrev dktX1_end_6 : List UInt8 := dkwX1_end_6 ++ dktX1_end_7
def dkwX1_end_5 : List UInt8 := [180, 0, 111, 32, 101, 55, 4, 42, 180, 0, 74, 89, 180, 1, 235, 32, 97, 181, 1, 235, 42, 180, 0, 74]
abbrev dktX1_end_5 : List UInt8 := dkwX1_end_5 ++ dktX1_end_6
def dkwX1_end_4 : List UInt8 := [27, 184, 0, 182, 42, 180, 0, 111, 42, 180, 0, 84, 180, 1, 232, 133, 20, 1, 60, 184, 1, 91, 65, 42]
abbrev dktX1_end_4 : List UInt8 := dkwX1_end_4 ++ dktX1_end_5
def dkwX1_end_3 : List UInt8 := [180, 0, 157, 4, 159, 0, 15, 45, 180, 0, 157, 5, 159, 0, 7, 4, 167, 0, 4, 3, 60, 167, 255, 211]
abbrev dktX1_end_3 : List UInt8 := dkwX1_end_3 ++ dktX1_end_4
def dkwX1_end_2 : List UInt8 := [185, 0, 212, 1, 0, 153, 0, 42, 44, 185, 0, 217, 1, 0, 192, 0, 155, 78, 27, 153, 0, 23, 45]
abbrev dktX1_end_2 : List UInt8 := dkwX1_end_2 ++ dktX1_end_3
def dkwX1_end_1 : List UInt8 := [182, 1, 153, 9, 148, 154, 0, 7, 4, 167, 0, 4, 3, 60, 42, 180, 0, 52, 182, 0, 208, 77, 44]
abbrev dktX1_end_1 : List UInt8 := dkwX1_end_1 ++ dktX1_end_2
def dkwX1_end_0 : List UInt8 := [42, 182, 0, 123, 6, 160, 0, 29, 42, 42, 180, 0, 108, 182, 1, 215, 9, 148, 154, 0, 16, 42]
abbrev dktX1_end_0 : List UInt8 := dkwX1_end_0 ++ dktX1_end_1
theorem dksX1_end_0 : cX1_end.data.toList.drop 0 = dktX1_end_0 := by decide +kernel
theorem dksX1_end_1 : cX1_end.data.toList.drop 22 = dktX1_end_1 := dk_seg dksX1_end_0 22 rfl rfl
theorem dksX1_end_2 : cX1_end.data.toList.drop 45 = dktX1_end_2 := dk_seg dksX1_end_1 23 rfl rfl
theorem dksX1_end_3 : cX1_end.data.toList.drop 68 = dktX1_end_3 := dk_seg dksX1_end_2 23 rfl rfl
theorem dksX1_end_4 : cX1_end.data.toList.drop 92 = dktX1_end_4 := dk_seg dksX1_end_3 24 rfl rfl
theorem dksX1_end_5 : cX1_end.data.toList.drop 116 = dktX1_end_5 := dk_seg dksX1_end_4 24 rfl rfl
theorem dksX1_end_6 : cX1_end.data.toList.drop 140 = dktX1_end_6 := dk_seg dksX1_end_5 24 rfl rfl
theorem dksX1_end_7 : cX1_end.data.toList.drop 163 = dktX1_end_7 := dk_seg dksX1_end_6 23 rfl rfl
theorem dX1_end_0 : decode cX1_end 0 = .ok (.aload_n 0, 1) := dk_42 (dk_at dksX1_end_0 0 rfl rfl)
theorem dX1_end_1 : decode cX1_end 1 = .ok (.invokevirtual 123, 3) := dk_182 0 123 (dk_at dksX1_end_0 1 rfl rfl)
theorem dX1_end_4 : decode cX1_end 4 = .ok (.iconst 3, 1) := dk_6 (dk_at dksX1_end_0 4 rfl rfl)
theorem dX1_end_5 : decode cX1_end 5 = .ok (.if_icmp .ne 29, 3) := dk_160 0 29 (dk_at dksX1_end_0 5 rfl rfl)
theorem dX1_end_8 : decode cX1_end 8 = .ok (.aload_n 0, 1) := dk_42 (dk_at dksX1_end_0 8 rfl rfl)
theorem dX1_end_9 : decode cX1_end 9 = .ok (.aload_n 0, 1) := dk_42 (dk_at dksX1_end_0 9 rfl rfl)
theorem dX1_end_10 : decode cX1_end 10 = .ok (.getfield 108, 3) := dk_180 0 108 (dk_at dksX1_end_0 10 rfl rfl)
theorem dX1_end_13 : decode cX1_end 13 = .ok (.invokevirtual 471, 3) := dk_182 1 215 (dk_at dksX1_end_0 13 rfl rfl)
theorem dX1_end_16 : decode cX1_end 16 = .ok (.lconst 0, 1) := dk_9 (dk_at dksX1_end_0 16 rfl rfl)
theorem dX1_end_17 : decode cX1_end 17 = .ok (.lcmp, 1) := dk_148 (dk_at dksX1_end_0 17 rfl rfl)
theorem dX1_end_18 : decode cX1_end 18 = .ok (.ifCond .ne 16, 3) := dk_154 0 16 (dk_at dksX1_end_0 18 rfl rfl)
theorem dX1_end_21 : decode cX1_end 21 = .ok (.aload_n 0, 1) := dk_42 (dk_at dksX1_end_0 21 rfl rfl)
theorem dX1_end_22 : decode cX1_end 22 = .ok (.invokevirtual 409, 3) := dk_182 1 153 (dk_at dksX1_end_1 0 rfl rfl)
theorem dX1_end_25 : decode cX1_end 25 = .ok (.lconst 0, 1) := dk_9 (dk_at dksX1_end_1 3 rfl rfl)
theorem dX1_end_26 : decode cX1_end 26 = .ok (.lcmp, 1) := dk_148 (dk_at dksX1_end_1 4 rfl rfl)
theorem dX1_end_27 : decode cX1_end 27 = .ok (.ifCond .ne 7, 3) := dk_154 0 7 (dk_at dksX1_end_1 5 rfl rfl)
theorem dX1_end_30 : decode cX1_end 30 = .ok (.iconst 1, 1) := dk_4 (dk_at dksX1_end_1 8 rfl rfl)
theorem dX1_end_31 : decode cX1_end 31 = .ok (.goto 4, 3) := dk_167 0 4 (dk_at dksX1_end_1 9 rfl rfl)
theorem dX1_end_34 : decode cX1_end 34 = .ok (.iconst 0, 1) := dk_3 (dk_at dksX1_end_1 12 rfl rfl)
theorem dX1_end_35 : decode cX1_end 35 = .ok (.istore_n 1, 1) := dk_60 (dk_at dksX1_end_1 13 rfl rfl)
theorem dX1_end_36 : decode cX1_end 36 = .ok (.aload_n 0, 1) := dk_42 (dk_at dksX1_end_1 14 rfl rfl)
theorem dX1_end_37 : decode cX1_end 37 = .ok (.getfield 52, 3) := dk_180 0 52 (dk_at dksX1_end_1 15 rfl rfl)
theorem dX1_end_40 : decode cX1_end 40 = .ok (.invokevirtual 208, 3) := dk_182 0 208 (dk_at dksX1_end_1 18 rfl rfl)
theorem dX1_end_43 : decode cX1_end 43 = .ok (.astore_n 2, 1) := dk_77 (dk_at dksX1_end_1 21 rfl rfl)
theorem dX1_end_44 : decode cX1_end 44 = .ok (.aload_n 2, 1) := dk_44 (dk_at dksX1_end_1 22 rfl rfl)
theorem dX1_end_45 : decode cX1_end 45 = .ok (.invokeinterface 212 1, 5) := by decide +kernel
theorem dX1_end_50 : decode cX1_end 50 = .ok (.ifCond .eq 42, 3) := dk_153 0 42 (dk_at dksX1_end_2 5 rfl rfl)
theorem dX1_end_53 : decode cX1_end 53 = .ok (.aload_n 2, 1) := dk_44 (dk_at dksX1_end_2 8 rfl rfl)
theorem dX1_end_54 : decode cX1_end 54 = .ok (.invokeinterface 217 1, 5) := by decide +kernel
theorem dX1_end_59 : decode cX1_end 59 = .ok (.checkcast 155, 3) := dk_192 0 155 (dk_at dksX1_end_2 14 rfl rfl)
theorem dX1_end_62 : decode cX1_end 62 = .ok (.astore_n 3, 1) := dk_78 (dk_at dksX1_end_2 17 rfl rfl)
theorem dX1_end_63 : decode cX1_end 63 = .ok (.iload_n 1, 1) := dk_27 (dk_at dksX1_end_2 18 rfl rfl)
theorem dX1_end_64 : decode cX1_end 64 = .ok (.ifCond .eq 23, 3) := dk_153 0 23 (dk_at dksX1_end_2 19 rfl rfl)
theorem dX1_end_67 : decode cX1_end 67 = .ok (.aload_n 3, 1) := dk_45 (dk_at dksX1_end_2 22 rfl rfl)
theorem dX1_end_68 : decode cX1_end 68 = .ok (.getfield 157, 3) := dk_180 0 157 (dk_at dksX1_end_3 0 rfl rfl)
theorem dX1_end_71 : decode cX1_end 71 = .ok (.iconst 1, 1) := dk_4 (dk_at dksX1_end_3 3 rfl rfl)
theorem dX1_end_72 : decode cX1_end 72 = .ok (.if_icmp .eq 15, 3) := dk_159 0 15 (dk_at dksX1_end_3 4 rfl rfl)
theorem dX1_end_75 : decode cX1_end 75 = .ok (.aload_n 3, 1) := dk_45 (dk_at dksX1_end_3 7 rfl rfl)
theorem dX1_end_76 : decode cX1_end 76 = .ok (.getfield 157, 3) := dk_180 0 157 (dk_at dksX1_end_3 8 rfl rfl)
theorem dX1_end_79 : decode cX1_end 79 = .ok (.iconst 2, 1) := dk_5 (dk_at dksX1_end_3 11 rfl rfl)
theorem dX1_end_80 : decode cX1_end 80 = .ok (.if_icmp .eq 7, 3) := dk_159 0 7 (dk_at dksX1_end_3 12 rfl rfl)
theorem dX1_end_83 : decode cX1_end 83 = .ok (.iconst 1, 1) := dk_4 (dk_at dksX1_end_3 15 rfl rfl)
theorem dX1_end_84 : decode cX1_end 84 = .ok (.goto 4, 3) := dk_167 0 4 (dk_at dksX1_end_3 16 rfl rfl)
theorem dX1_end_87 : decode cX1_end 87 = .ok (.iconst 0, 1) := dk_3 (dk_at dksX1_end_3 19 rfl rfl)
theorem dX1_end_88 : decode cX1_end 88 = .ok (.istore_n 1, 1) := dk_60 (dk_at dksX1_end_3 20 rfl rfl)
theorem dX1_end_89 : decode cX1_end 89 = .ok (.goto (-45), 3) := dk_167 255 211 (dk_at dksX1_end_3 21 rfl rfl)
theorem dX1_end_92 : decode cX1_end 92 = .ok (.iload_n 1, 1) := dk_27 (dk_at dksX1_end_4 0 rfl rfl)
theorem dX1_end_93 : decode cX1_end 93 = .ok (.invokestatic 182, 3) := dk_184 0 182 (dk_at dksX1_end_4 1 rfl rfl)
theorem dX1_end_96 : decode cX1_end 96 = .ok (.aload_n 0, 1) := dk_42 (dk_at dksX1_end_4 4 rfl rfl)
theorem dX1_end_97 : decode cX1_end 97 = .ok (.getfield 111, 3) := dk_180 0 111 (dk_at dksX1_end_4 5 rfl rfl)
theorem dX1_end_100 : decode cX1_end 100 = .ok (.aload_n 0, 1) := dk_42 (dk_at dksX1_end_4 8 rfl rfl)
theorem dX1_end_101 : decode cX1_end 101 = .ok (.getfield 84, 3) := dk_180 0 84 (dk_at dksX1_end_4 9 rfl rfl)
theorem dX1_end_104 : decode cX1_end 104 = .ok (.getfield 488, 3) := dk_180 1 232 (dk_at dksX1_end_4 12 rfl rfl)
theorem dX1_end_107 : decode cX1_end 107 = .ok (.i2l, 1) := dk_133 (dk_at dksX1_end_4 15 rfl rfl)
theorem dX1_end_108 : decode cX1_end 108 = .ok (.ldc2_w 316, 3) := dk_20 1 60 (dk_at dksX1_end_4 16 rfl rfl)
theorem dX1_end_111 : decode cX1_end 111 = .ok (.invokestatic 347, 3) := dk_184 1 91 (dk_at dksX1_end_4 19 rfl rfl)
theorem dX1_end_114 : decode cX1_end 114 = .ok (.lstore_n 2, 1) := dk_65 (dk_at dksX1_end_4 22 rfl rfl)
theorem dX1_end_115 : decode cX1_end 115 = .ok (.aload_n 0, 1) := dk_42 (dk_at dksX1_end_4 23 rfl rfl)
theorem dX1_end_116 : decode cX1_end 116 = .ok (.getfield 111, 3) := dk_180 0 111 (dk_at dksX1_end_5 0 rfl rfl)
theorem dX1_end_119 : decode cX1_end 119 = .ok (.lload_n 2, 1) := dk_32 (dk_at dksX1_end_5 3 rfl rfl)
theorem dX1_end_120 : decode cX1_end 120 = .ok (.lsub, 1) := dk_101 (dk_at dksX1_end_5 4 rfl rfl)
theorem dX1_end_121 : decode cX1_end 121 = .ok (.lstore 4, 2) := dk_55 4 (dk_at dksX1_end_5 5 rfl rfl)
theorem dX1_end_123 : decode cX1_end 123 = .ok (.aload_n 0, 1) := dk_42 (dk_at dksX1_end_5 7 rfl rfl)
theorem dX1_end_124 : decode cX1_end 124 = .ok (.getfield 74, 3) := dk_180 0 74 (dk_at dksX1_end_5 8 rfl rfl)
theorem dX1_end_127 : decode cX1_end 127 = .ok (.dup, 1) := dk_89 (dk_at dksX1_end_5 11 rfl rfl)
theorem dX1_end_128 : decode cX1_end 128 = .ok (.getfield 491, 3) := dk_180 1 235 (dk_at dksX1_end_5 12 rfl rfl)
theorem dX1_end_131 : decode cX1_end 131 = .ok (.lload_n 2, 1) := dk_32 (dk_at dksX1_end_5 15 rfl rfl)
theorem dX1_end_132 : decode cX1_end 132 = .ok (.ladd, 1) := dk_97 (dk_at dksX1_end_5 16 rfl rfl)
theorem dX1_end_133 : decode cX1_end 133 = .ok (.putfield 491, 3) := dk_181 1 235 (dk_at dksX1_end_5 17 rfl rfl)
theorem dX1_end_136 : decode cX1_end 136 = .ok (.aload_n 0, 1) := dk_42 (dk_at dksX1_end_5 20 rfl rfl)
theorem dX1_end_137 : decode cX1_end 137 = .ok (.getfield 74, 3) := dk_180 0 74 (dk_at dksX1_end_5 21 rfl rfl)
theorem dX1_end_140 : decode cX1_end 140 = .ok (.dup, 1) := dk_89 (dk_at dksX1_end_6 0 rfl rfl)
theorem dX1_end_141 : decode cX1_end 141 = .ok (.getfield 494, 3) := dk_180 1 238 (dk_at dksX1_end_6 1 rfl rfl)
theorem dX1_end_144 : decode cX1_end 144 = .ok (.lload 4, 2) := dk_22 4 (dk_at dksX1_end_6 4 rfl rfl)
theorem dX1_end_146 : decode cX1_end 146 = .ok (.ladd, 1) := dk_97 (dk_at dksX1_end_6 6 rfl rfl)
theorem dX1_end_147 : decode cX1_end 147 = .ok (.putfield 494, 3) := dk_181 1 238 (dk_at dksX1_end_6 7 rfl rfl)
theorem dX1_end_150 : decode cX1_end 150 = .ok (.aload_n 0, 1) := dk_42 (dk_at dksX1_end_6 10 rfl rfl)
theorem dX1_end_151 : decode cX1_end 151 = .ok (.lconst 0, 1) := dk_9 (dk_at dksX1_end_6 11 rfl rfl)
theorem dX1_end_152 : decode cX1_end 152 = .ok (.putfield 111, 3) := dk_181 0 111 (dk_at dksX1_end_6 12 rfl rfl)
theorem dX1_end_155 : decode cX1_end 155 = .ok (.aload_n 0, 1) := dk_42 (dk_at dksX1_end_6 15 rfl rfl)
theorem dX1_end_156 : decode cX1_end 156 = .ok (.getfield 84, 3) := dk_180 0 84 (dk_at dksX1_end_6 16 rfl rfl)
theorem dX1_end_159 : decode cX1_end 159 = .ok (.iconst 5, 1) := dk_8 (dk_at dksX1_end_6 19 rfl rfl)
theorem dX1_end_160 : decode cX1_end 160 = .ok (.putfield 118, 3) := dk_181 0 118 (dk_at dksX1_end_6 20 rfl rfl)
theorem dX1_end_163 : decode cX1_end 163 = .ok (.lload 4, 2) := dk_22 4 (dk_at dksX1_end_7 0 rfl rfl)
theorem dX1_end_165 : decode cX1_end 165 = .ok (.lreturn, 1) := dk_173 (dk_at dksX1_end_7 2 rfl rfl)
abbrev cX1_fundAt : ByteArray := prog_1_method_74_code
def yX1_fundAt : MethodName := ⟨RX1, "fundAt", "(I)J"⟩
def dkwX1_fundAt_6 : List UInt8 := [180, 0, 108, 182, 1, 216, 167, 0, 7, 42, 182, 2, 5, 173]
abbrev dktX1_fundAt_6 : List UInt8 := dkwX1_fundAt_6 ++ []
def dkwX1_fundAt_5 : List UInt8 := [180, 0, 74, 180, 1, 238, 167, 0, 29, 42, 42, 180, 0, 108, 182, 1, 215, 167, 0, 18, 42, 42]
abbrev dktX1_fundAt_5 : List UInt8 := dkwX1_fundAt_5 ++ dktX1_fundAt_6
def dkwX1_fundAt_4 : List UInt8 := [180, 2, 0, 167, 0, 56, 42, 182, 2, 2, 167, 0, 49, 42, 180, 0, 74, 180, 1, 235, 167, 0, 39, 42]
abbrev dktX1_fundAt_4 : List UInt8 := dkwX1_fundAt_4 ++ dktX1_fundAt_5
def dkwX1_fundAt_3 : List UInt8 := [42, 180, 0, 74, 182, 1, 252, 167, 0, 76, 42, 180, 0, 74, 180, 1, 254, 167, 0, 66, 42, 180, 0, 74]
abbrev dktX1_fundAt_3 : List UInt8 := dkwX1_fundAt_3 ++ dktX1_fundAt_4
def dkwX1_fundAt_2 : List UInt8 := [42, 180, 0, 111, 167, 0, 103, 42, 182, 1, 246, 167, 0, 96, 42, 180, 0, 74, 180, 1, 249, 167, 0, 86]
abbrev dktX1_fundAt_2 : List UInt8 := dkwX1_fundAt_2 ++ dktX1_fundAt_3
def dkwX1_fundAt_1 : List UInt8 := [170, 0, 0, 0, 0, 0, 162, 0, 0, 0, 0, 0, 0, 0, 10, 0, 0, 0, 59, 0, 0, 0, 66, 0, 0, 0, 73, 0, 0, 0, 83, 0, 0, 0, 93, 0, 0, 0, 103, 0, 0, 0, 113, 0, 0, 0, 120, 0, 0, 0, 130, 0, 0, 0, 140, 0, 0, 0, 151]
abbrev dktX1_fundAt_1 : List UInt8 := dkwX1_fundAt_1 ++ dktX1_fundAt_2
def dkwX1_fundAt_0 : List UInt8 := [27, 133, 9, 20, 1, 244, 184, 0, 127, 184, 0, 131, 27]
abbrev dktX1_fundAt_0 : List UInt8 := dkwX1_fundAt_0 ++ dktX1_fundAt_1
theorem dksX1_fundAt_0 : cX1_fundAt.data.toList.drop 0 = dktX1_fundAt_0 := by decide +kernel
theorem dksX1_fundAt_1 : cX1_fundAt.data.toList.drop 13 = dktX1_fundAt_1 := dk_seg dksX1_fundAt_0 13 rfl rfl
theorem dksX1_fundAt_2 : cX1_fundAt.data.toList.drop 72 = dktX1_fundAt_2 := dk_seg dksX1_fundAt_1 59 rfl rfl
theorem dksX1_fundAt_3 : cX1_fundAt.data.toList.drop 96 = dktX1_fundAt_3 := dk_seg dksX1_fundAt_2 24 rfl rfl
theorem dksX1_fundAt_4 : cX1_fundAt.data.toList.drop 120 = dktX1_fundAt_4 := dk_seg dksX1_fundAt_3 24 rfl rfl
theorem dksX1_fundAt_5 : cX1_fundAt.data.toList.drop 144 = dktX1_fundAt_5 := dk_seg dksX1_fundAt_4 24 rfl rfl
theorem dksX1_fundAt_6 : cX1_fundAt.data.toList.drop 166 = dktX1_fundAt_6 := dk_seg dksX1_fundAt_5 22 rfl rfl
theorem dX1_fundAt_0 : decode cX1_fundAt 0 = .ok (.iload_n 1, 1) := dk_27 (dk_at dksX1_fundAt_0 0 rfl rfl)
theorem dX1_fundAt_1 : decode cX1_fundAt 1 = .ok (.i2l, 1) := dk_133 (dk_at dksX1_fundAt_0 1 rfl rfl)
theorem dX1_fundAt_2 : decode cX1_fundAt 2 = .ok (.lconst 0, 1) := dk_9 (dk_at dksX1_fundAt_0 2 rfl rfl)
theorem dX1_fundAt_3 : decode cX1_fundAt 3 = .ok (.ldc2_w 500, 3) := dk_20 1 244 (dk_at dksX1_fundAt_0 3 rfl rfl)
theorem dX1_fundAt_6 : decode cX1_fundAt 6 = .ok (.invokestatic 127, 3) := dk_184 0 127 (dk_at dksX1_fundAt_0 6 rfl rfl)
theorem dX1_fundAt_9 : decode cX1_fundAt 9 = .ok (.invokestatic 131, 3) := dk_184 0 131 (dk_at dksX1_fundAt_0 9 rfl rfl)
theorem dX1_fundAt_12 : decode cX1_fundAt 12 = .ok (.iload_n 1, 1) := dk_27 (dk_at dksX1_fundAt_0 12 rfl rfl)
theorem dX1_fundAt_13 : decode cX1_fundAt 13 = .ok (.tableswitch 162 0 10 #[59, 66, 73, 83, 93, 103, 113, 120, 130, 140, 151], 59) := by decide +kernel
theorem dX1_fundAt_72 : decode cX1_fundAt 72 = .ok (.aload_n 0, 1) := dk_42 (dk_at dksX1_fundAt_2 0 rfl rfl)
theorem dX1_fundAt_73 : decode cX1_fundAt 73 = .ok (.getfield 111, 3) := dk_180 0 111 (dk_at dksX1_fundAt_2 1 rfl rfl)
theorem dX1_fundAt_76 : decode cX1_fundAt 76 = .ok (.goto 103, 3) := dk_167 0 103 (dk_at dksX1_fundAt_2 4 rfl rfl)
theorem dX1_fundAt_79 : decode cX1_fundAt 79 = .ok (.aload_n 0, 1) := dk_42 (dk_at dksX1_fundAt_2 7 rfl rfl)
theorem dX1_fundAt_80 : decode cX1_fundAt 80 = .ok (.invokevirtual 502, 3) := dk_182 1 246 (dk_at dksX1_fundAt_2 8 rfl rfl)
theorem dX1_fundAt_83 : decode cX1_fundAt 83 = .ok (.goto 96, 3) := dk_167 0 96 (dk_at dksX1_fundAt_2 11 rfl rfl)
theorem dX1_fundAt_86 : decode cX1_fundAt 86 = .ok (.aload_n 0, 1) := dk_42 (dk_at dksX1_fundAt_2 14 rfl rfl)
theorem dX1_fundAt_87 : decode cX1_fundAt 87 = .ok (.getfield 74, 3) := dk_180 0 74 (dk_at dksX1_fundAt_2 15 rfl rfl)
theorem dX1_fundAt_90 : decode cX1_fundAt 90 = .ok (.getfield 505, 3) := dk_180 1 249 (dk_at dksX1_fundAt_2 18 rfl rfl)
theorem dX1_fundAt_93 : decode cX1_fundAt 93 = .ok (.goto 86, 3) := dk_167 0 86 (dk_at dksX1_fundAt_2 21 rfl rfl)
theorem dX1_fundAt_96 : decode cX1_fundAt 96 = .ok (.aload_n 0, 1) := dk_42 (dk_at dksX1_fundAt_3 0 rfl rfl)
theorem dX1_fundAt_97 : decode cX1_fundAt 97 = .ok (.getfield 74, 3) := dk_180 0 74 (dk_at dksX1_fundAt_3 1 rfl rfl)
theorem dX1_fundAt_100 : decode cX1_fundAt 100 = .ok (.invokevirtual 508, 3) := dk_182 1 252 (dk_at dksX1_fundAt_3 4 rfl rfl)
theorem dX1_fundAt_103 : decode cX1_fundAt 103 = .ok (.goto 76, 3) := dk_167 0 76 (dk_at dksX1_fundAt_3 7 rfl rfl)
theorem dX1_fundAt_106 : decode cX1_fundAt 106 = .ok (.aload_n 0, 1) := dk_42 (dk_at dksX1_fundAt_3 10 rfl rfl)
theorem dX1_fundAt_107 : decode cX1_fundAt 107 = .ok (.getfield 74, 3) := dk_180 0 74 (dk_at dksX1_fundAt_3 11 rfl rfl)
theorem dX1_fundAt_110 : decode cX1_fundAt 110 = .ok (.getfield 510, 3) := dk_180 1 254 (dk_at dksX1_fundAt_3 14 rfl rfl)
theorem dX1_fundAt_113 : decode cX1_fundAt 113 = .ok (.goto 66, 3) := dk_167 0 66 (dk_at dksX1_fundAt_3 17 rfl rfl)
theorem dX1_fundAt_116 : decode cX1_fundAt 116 = .ok (.aload_n 0, 1) := dk_42 (dk_at dksX1_fundAt_3 20 rfl rfl)
theorem dX1_fundAt_117 : decode cX1_fundAt 117 = .ok (.getfield 74, 3) := dk_180 0 74 (dk_at dksX1_fundAt_3 21 rfl rfl)
theorem dX1_fundAt_120 : decode cX1_fundAt 120 = .ok (.getfield 512, 3) := dk_180 2 0 (dk_at dksX1_fundAt_4 0 rfl rfl)
theorem dX1_fundAt_123 : decode cX1_fundAt 123 = .ok (.goto 56, 3) := dk_167 0 56 (dk_at dksX1_fundAt_4 3 rfl rfl)
theorem dX1_fundAt_126 : decode cX1_fundAt 126 = .ok (.aload_n 0, 1) := dk_42 (dk_at dksX1_fundAt_4 6 rfl rfl)
theorem dX1_fundAt_127 : decode cX1_fundAt 127 = .ok (.invokevirtual 514, 3) := dk_182 2 2 (dk_at dksX1_fundAt_4 7 rfl rfl)
theorem dX1_fundAt_130 : decode cX1_fundAt 130 = .ok (.goto 49, 3) := dk_167 0 49 (dk_at dksX1_fundAt_4 10 rfl rfl)
theorem dX1_fundAt_133 : decode cX1_fundAt 133 = .ok (.aload_n 0, 1) := dk_42 (dk_at dksX1_fundAt_4 13 rfl rfl)
theorem dX1_fundAt_134 : decode cX1_fundAt 134 = .ok (.getfield 74, 3) := dk_180 0 74 (dk_at dksX1_fundAt_4 14 rfl rfl)
theorem dX1_fundAt_137 : decode cX1_fundAt 137 = .ok (.getfield 491, 3) := dk_180 1 235 (dk_at dksX1_fundAt_4 17 rfl rfl)
theorem dX1_fundAt_140 : decode cX1_fundAt 140 = .ok (.goto 39, 3) := dk_167 0 39 (dk_at dksX1_fundAt_4 20 rfl rfl)
theorem dX1_fundAt_143 : decode cX1_fundAt 143 = .ok (.aload_n 0, 1) := dk_42 (dk_at dksX1_fundAt_4 23 rfl rfl)
theorem dX1_fundAt_144 : decode cX1_fundAt 144 = .ok (.getfield 74, 3) := dk_180 0 74 (dk_at dksX1_fundAt_5 0 rfl rfl)
theorem dX1_fundAt_147 : decode cX1_fundAt 147 = .ok (.getfield 494, 3) := dk_180 1 238 (dk_at dksX1_fundAt_5 3 rfl rfl)
theorem dX1_fundAt_150 : decode cX1_fundAt 150 = .ok (.goto 29, 3) := dk_167 0 29 (dk_at dksX1_fundAt_5 6 rfl rfl)
theorem dX1_fundAt_153 : decode cX1_fundAt 153 = .ok (.aload_n 0, 1) := dk_42 (dk_at dksX1_fundAt_5 9 rfl rfl)
theorem dX1_fundAt_154 : decode cX1_fundAt 154 = .ok (.aload_n 0, 1) := dk_42 (dk_at dksX1_fundAt_5 10 rfl rfl)
theorem dX1_fundAt_155 : decode cX1_fundAt 155 = .ok (.getfield 108, 3) := dk_180 0 108 (dk_at dksX1_fundAt_5 11 rfl rfl)
theorem dX1_fundAt_158 : decode cX1_fundAt 158 = .ok (.invokevirtual 471, 3) := dk_182 1 215 (dk_at dksX1_fundAt_5 14 rfl rfl)
theorem dX1_fundAt_161 : decode cX1_fundAt 161 = .ok (.goto 18, 3) := dk_167 0 18 (dk_at dksX1_fundAt_5 17 rfl rfl)
theorem dX1_fundAt_164 : decode cX1_fundAt 164 = .ok (.aload_n 0, 1) := dk_42 (dk_at dksX1_fundAt_5 20 rfl rfl)
theorem dX1_fundAt_165 : decode cX1_fundAt 165 = .ok (.aload_n 0, 1) := dk_42 (dk_at dksX1_fundAt_5 21 rfl rfl)
theorem dX1_fundAt_166 : decode cX1_fundAt 166 = .ok (.getfield 108, 3) := dk_180 0 108 (dk_at dksX1_fundAt_6 0 rfl rfl)
theorem dX1_fundAt_169 : decode cX1_fundAt 169 = .ok (.invokevirtual 472, 3) := dk_182 1 216 (dk_at dksX1_fundAt_6 3 rfl rfl)
theorem dX1_fundAt_172 : decode cX1_fundAt 172 = .ok (.goto 7, 3) := dk_167 0 7 (dk_at dksX1_fundAt_6 6 rfl rfl)
theorem dX1_fundAt_175 : decode cX1_fundAt 175 = .ok (.aload_n 0, 1) := dk_42 (dk_at dksX1_fundAt_6 9 rfl rfl)
theorem dX1_fundAt_176 : decode cX1_fundAt 176 = .ok (.invokevirtual 517, 3) := dk_182 2 5 (dk_at dksX1_fundAt_6 10 rfl rfl)
theorem dX1_fundAt_179 : decode cX1_fundAt 179 = .ok (.lreturn, 1) := dk_173 (dk_at dksX1_fundAt_6 13 rfl rfl)
abbrev cX1_differs : ByteArray := prog_1_method_73_code
def yX1_differs : MethodName := ⟨RX1, "differs", "()J"⟩
def dkwX1_differs_3 : List UInt8 := [9, 97, 64, 167, 255, 195, 31, 173]
abbrev dktX1_differs_3 : List UInt8 := dkwX1_differs_3 ++ []
def dkwX1_differs_2 : List UInt8 := [133, 42, 180, 0, 108, 133, 20, 1, 60, 184, 1, 91, 25, 4, 180, 1, 184, 101, 184, 1, 240, 167, 0, 4]
abbrev dktX1_differs_2 : List UInt8 := dkwX1_differs_2 ++ dktX1_differs_3
def dkwX1_differs_1 : List UInt8 := [185, 0, 217, 1, 0, 192, 0, 155, 58, 4, 31, 25, 4, 180, 0, 157, 154, 0, 32, 25, 4, 182, 1, 181]
abbrev dktX1_differs_1 : List UInt8 := dkwX1_differs_1 ++ dktX1_differs_2
def dkwX1_differs_0 : List UInt8 := [9, 64, 42, 180, 0, 52, 182, 0, 208, 78, 45, 185, 0, 212, 1, 0, 153, 0, 58, 45]
abbrev dktX1_differs_0 : List UInt8 := dkwX1_differs_0 ++ dktX1_differs_1
theorem dksX1_differs_0 : cX1_differs.data.toList.drop 0 = dktX1_differs_0 := by decide +kernel
theorem dksX1_differs_1 : cX1_differs.data.toList.drop 20 = dktX1_differs_1 := dk_seg dksX1_differs_0 20 rfl rfl
theorem dksX1_differs_2 : cX1_differs.data.toList.drop 44 = dktX1_differs_2 := dk_seg dksX1_differs_1 24 rfl rfl
theorem dksX1_differs_3 : cX1_differs.data.toList.drop 68 = dktX1_differs_3 := dk_seg dksX1_differs_2 24 rfl rfl
theorem dX1_differs_0 : decode cX1_differs 0 = .ok (.lconst 0, 1) := dk_9 (dk_at dksX1_differs_0 0 rfl rfl)
theorem dX1_differs_1 : decode cX1_differs 1 = .ok (.lstore_n 1, 1) := dk_64 (dk_at dksX1_differs_0 1 rfl rfl)
theorem dX1_differs_2 : decode cX1_differs 2 = .ok (.aload_n 0, 1) := dk_42 (dk_at dksX1_differs_0 2 rfl rfl)
theorem dX1_differs_3 : decode cX1_differs 3 = .ok (.getfield 52, 3) := dk_180 0 52 (dk_at dksX1_differs_0 3 rfl rfl)
theorem dX1_differs_6 : decode cX1_differs 6 = .ok (.invokevirtual 208, 3) := dk_182 0 208 (dk_at dksX1_differs_0 6 rfl rfl)
theorem dX1_differs_9 : decode cX1_differs 9 = .ok (.astore_n 3, 1) := dk_78 (dk_at dksX1_differs_0 9 rfl rfl)
theorem dX1_differs_10 : decode cX1_differs 10 = .ok (.aload_n 3, 1) := dk_45 (dk_at dksX1_differs_0 10 rfl rfl)
theorem dX1_differs_11 : decode cX1_differs 11 = .ok (.invokeinterface 212 1, 5) := by decide +kernel
theorem dX1_differs_16 : decode cX1_differs 16 = .ok (.ifCond .eq 58, 3) := dk_153 0 58 (dk_at dksX1_differs_0 16 rfl rfl)
theorem dX1_differs_19 : decode cX1_differs 19 = .ok (.aload_n 3, 1) := dk_45 (dk_at dksX1_differs_0 19 rfl rfl)
theorem dX1_differs_20 : decode cX1_differs 20 = .ok (.invokeinterface 217 1, 5) := by decide +kernel
theorem dX1_differs_25 : decode cX1_differs 25 = .ok (.checkcast 155, 3) := dk_192 0 155 (dk_at dksX1_differs_1 5 rfl rfl)
theorem dX1_differs_28 : decode cX1_differs 28 = .ok (.astore 4, 2) := dk_58 4 (dk_at dksX1_differs_1 8 rfl rfl)
theorem dX1_differs_30 : decode cX1_differs 30 = .ok (.lload_n 1, 1) := dk_31 (dk_at dksX1_differs_1 10 rfl rfl)
theorem dX1_differs_31 : decode cX1_differs 31 = .ok (.aload 4, 2) := dk_25 4 (dk_at dksX1_differs_1 11 rfl rfl)
theorem dX1_differs_33 : decode cX1_differs 33 = .ok (.getfield 157, 3) := dk_180 0 157 (dk_at dksX1_differs_1 13 rfl rfl)
theorem dX1_differs_36 : decode cX1_differs 36 = .ok (.ifCond .ne 32, 3) := dk_154 0 32 (dk_at dksX1_differs_1 16 rfl rfl)
theorem dX1_differs_39 : decode cX1_differs 39 = .ok (.aload 4, 2) := dk_25 4 (dk_at dksX1_differs_1 19 rfl rfl)
theorem dX1_differs_41 : decode cX1_differs 41 = .ok (.invokevirtual 437, 3) := dk_182 1 181 (dk_at dksX1_differs_1 21 rfl rfl)
theorem dX1_differs_44 : decode cX1_differs 44 = .ok (.i2l, 1) := dk_133 (dk_at dksX1_differs_2 0 rfl rfl)
theorem dX1_differs_45 : decode cX1_differs 45 = .ok (.aload_n 0, 1) := dk_42 (dk_at dksX1_differs_2 1 rfl rfl)
theorem dX1_differs_46 : decode cX1_differs 46 = .ok (.getfield 108, 3) := dk_180 0 108 (dk_at dksX1_differs_2 2 rfl rfl)
theorem dX1_differs_49 : decode cX1_differs 49 = .ok (.i2l, 1) := dk_133 (dk_at dksX1_differs_2 5 rfl rfl)
theorem dX1_differs_50 : decode cX1_differs 50 = .ok (.ldc2_w 316, 3) := dk_20 1 60 (dk_at dksX1_differs_2 6 rfl rfl)
theorem dX1_differs_53 : decode cX1_differs 53 = .ok (.invokestatic 347, 3) := dk_184 1 91 (dk_at dksX1_differs_2 9 rfl rfl)
theorem dX1_differs_56 : decode cX1_differs 56 = .ok (.aload 4, 2) := dk_25 4 (dk_at dksX1_differs_2 12 rfl rfl)
theorem dX1_differs_58 : decode cX1_differs 58 = .ok (.getfield 440, 3) := dk_180 1 184 (dk_at dksX1_differs_2 14 rfl rfl)
theorem dX1_differs_61 : decode cX1_differs 61 = .ok (.lsub, 1) := dk_101 (dk_at dksX1_differs_2 17 rfl rfl)
theorem dX1_differs_62 : decode cX1_differs 62 = .ok (.invokestatic 496, 3) := dk_184 1 240 (dk_at dksX1_differs_2 18 rfl rfl)
theorem dX1_differs_65 : decode cX1_differs 65 = .ok (.goto 4, 3) := dk_167 0 4 (dk_at dksX1_differs_2 21 rfl rfl)
theorem dX1_differs_68 : decode cX1_differs 68 = .ok (.lconst 0, 1) := dk_9 (dk_at dksX1_differs_3 0 rfl rfl)
theorem dX1_differs_69 : decode cX1_differs 69 = .ok (.ladd, 1) := dk_97 (dk_at dksX1_differs_3 1 rfl rfl)
theorem dX1_differs_70 : decode cX1_differs 70 = .ok (.lstore_n 1, 1) := dk_64 (dk_at dksX1_differs_3 2 rfl rfl)
theorem dX1_differs_71 : decode cX1_differs 71 = .ok (.goto (-61), 3) := dk_167 255 195 (dk_at dksX1_differs_3 3 rfl rfl)
theorem dX1_differs_74 : decode cX1_differs 74 = .ok (.lload_n 1, 1) := dk_31 (dk_at dksX1_differs_3 6 rfl rfl)
theorem dX1_differs_75 : decode cX1_differs 75 = .ok (.lreturn, 1) := dk_173 (dk_at dksX1_differs_3 7 rfl rfl)
abbrev cX1_lawyerAt : ByteArray := prog_1_method_75_code
def yX1_lawyerAt : MethodName := ⟨RX1, "lawyerAt", "(I)J"⟩
def dkwX1_lawyerAt_0 : List UInt8 := [27, 184, 1, 162, 184, 0, 131, 42, 180, 0, 74, 180, 2, 8, 27, 47, 173]
abbrev dktX1_lawyerAt_0 : List UInt8 := dkwX1_lawyerAt_0 ++ []
theorem dksX1_lawyerAt_0 : cX1_lawyerAt.data.toList.drop 0 = dktX1_lawyerAt_0 := by decide +kernel
theorem dX1_lawyerAt_0 : decode cX1_lawyerAt 0 = .ok (.iload_n 1, 1) := dk_27 (dk_at dksX1_lawyerAt_0 0 rfl rfl)
theorem dX1_lawyerAt_1 : decode cX1_lawyerAt 1 = .ok (.invokestatic 418, 3) := dk_184 1 162 (dk_at dksX1_lawyerAt_0 1 rfl rfl)
theorem dX1_lawyerAt_4 : decode cX1_lawyerAt 4 = .ok (.invokestatic 131, 3) := dk_184 0 131 (dk_at dksX1_lawyerAt_0 4 rfl rfl)
theorem dX1_lawyerAt_7 : decode cX1_lawyerAt 7 = .ok (.aload_n 0, 1) := dk_42 (dk_at dksX1_lawyerAt_0 7 rfl rfl)
theorem dX1_lawyerAt_8 : decode cX1_lawyerAt 8 = .ok (.getfield 74, 3) := dk_180 0 74 (dk_at dksX1_lawyerAt_0 8 rfl rfl)
theorem dX1_lawyerAt_11 : decode cX1_lawyerAt 11 = .ok (.getfield 520, 3) := dk_180 2 8 (dk_at dksX1_lawyerAt_0 11 rfl rfl)
theorem dX1_lawyerAt_14 : decode cX1_lawyerAt 14 = .ok (.iload_n 1, 1) := dk_27 (dk_at dksX1_lawyerAt_0 14 rfl rfl)
theorem dX1_lawyerAt_15 : decode cX1_lawyerAt 15 = .ok (.laload, 1) := dk_47 (dk_at dksX1_lawyerAt_0 15 rfl rfl)
theorem dX1_lawyerAt_16 : decode cX1_lawyerAt 16 = .ok (.lreturn, 1) := dk_173 (dk_at dksX1_lawyerAt_0 16 rfl rfl)
abbrev cX1_count : ByteArray := prog_1_method_77_code
def yX1_count : MethodName := ⟨RX1, "count", "(I)I"⟩
def dkwX1_count_9 : List UInt8 := [42, 180, 0, 108, 167, 0, 15, 42, 182, 2, 10, 167, 0, 8, 28, 167, 0, 4, 29, 172]
abbrev dktX1_count_9 : List UInt8 := dkwX1_count_9 ++ []
def dkwX1_count_8 : List UInt8 := [42, 182, 1, 118, 167, 0, 39, 42, 182, 0, 123, 167, 0, 32, 42, 180, 0, 52, 182, 0, 135, 167, 0, 22]
abbrev dktX1_count_8 : List UInt8 := dkwX1_count_8 ++ dktX1_count_9
def dkwX1_count_7 : List UInt8 := [42, 180, 0, 115, 167, 0, 63, 42, 180, 0, 42, 182, 0, 135, 167, 0, 53, 42, 182, 0, 228, 167, 0, 46]
abbrev dktX1_count_7 : List UInt8 := dkwX1_count_7 ++ dktX1_count_8
def dkwX1_count_6 : List UInt8 := [170, 0, 0, 0, 115, 0, 0, 0, 0, 0, 0, 0, 8, 0, 0, 0, 49, 0, 0, 0, 56, 0, 0, 0, 66, 0, 0, 0, 73, 0, 0, 0, 80, 0, 0, 0, 87, 0, 0, 0, 97, 0, 0, 0, 104, 0, 0, 0, 111]
abbrev dktX1_count_6 : List UInt8 := dkwX1_count_6 ++ dktX1_count_7
def dkwX1_count_5 : List UInt8 := [27]
abbrev dktX1_count_5 : List UInt8 := dkwX1_count_5 ++ dktX1_count_6
def dkwX1_count_4 : List UInt8 := [192, 0, 140, 58, 5, 29, 25, 5, 180, 1, 4, 153, 0, 7, 4, 167, 0, 4, 3, 96, 62, 167, 255, 218]
abbrev dktX1_count_4 : List UInt8 := dkwX1_count_4 ++ dktX1_count_5
def dkwX1_count_3 : List UInt8 := [182, 0, 208, 58, 4, 25, 4, 185, 0, 212, 1, 0, 153, 0, 34, 25, 4, 185, 0, 217, 1, 0]
abbrev dktX1_count_3 : List UInt8 := dkwX1_count_3 ++ dktX1_count_4
def dkwX1_count_2 : List UInt8 := [180, 0, 157, 5, 160, 0, 7, 4, 167, 0, 4, 3, 96, 61, 167, 255, 219, 3, 62, 42, 180, 0, 42]
abbrev dktX1_count_2 : List UInt8 := dkwX1_count_2 ++ dktX1_count_3
def dkwX1_count_1 : List UInt8 := [185, 0, 212, 1, 0, 153, 0, 34, 45, 185, 0, 217, 1, 0, 192, 0, 155, 58, 4, 28, 25, 4]
abbrev dktX1_count_1 : List UInt8 := dkwX1_count_1 ++ dktX1_count_2
def dkwX1_count_0 : List UInt8 := [27, 133, 9, 20, 0, 165, 184, 0, 127, 184, 0, 131, 3, 61, 42, 180, 0, 52, 182, 0, 208, 78, 45]
abbrev dktX1_count_0 : List UInt8 := dkwX1_count_0 ++ dktX1_count_1
theorem dksX1_count_0 : cX1_count.data.toList.drop 0 = dktX1_count_0 := by decide +kernel
theorem dksX1_count_1 : cX1_count.data.toList.drop 23 = dktX1_count_1 := dk_seg dksX1_count_0 23 rfl rfl
theorem dksX1_count_2 : cX1_count.data.toList.drop 45 = dktX1_count_2 := dk_seg dksX1_count_1 22 rfl rfl
theorem dksX1_count_3 : cX1_count.data.toList.drop 68 = dktX1_count_3 := dk_seg dksX1_count_2 23 rfl rfl
theorem dksX1_count_4 : cX1_count.data.toList.drop 90 = dktX1_count_4 := dk_seg dksX1_count_3 22 rfl rfl
theorem dksX1_count_5 : cX1_count.data.toList.drop 114 = dktX1_count_5 := dk_seg dksX1_count_4 24 rfl rfl
theorem dksX1_count_6 : cX1_count.data.toList.drop 115 = dktX1_count_6 := dk_seg dksX1_count_5 1 rfl rfl
theorem dksX1_count_7 : cX1_count.data.toList.drop 164 = dktX1_count_7 := dk_seg dksX1_count_6 49 rfl rfl
theorem dksX1_count_8 : cX1_count.data.toList.drop 188 = dktX1_count_8 := dk_seg dksX1_count_7 24 rfl rfl
theorem dksX1_count_9 : cX1_count.data.toList.drop 212 = dktX1_count_9 := dk_seg dksX1_count_8 24 rfl rfl
theorem dX1_count_0 : decode cX1_count 0 = .ok (.iload_n 1, 1) := dk_27 (dk_at dksX1_count_0 0 rfl rfl)
theorem dX1_count_1 : decode cX1_count 1 = .ok (.i2l, 1) := dk_133 (dk_at dksX1_count_0 1 rfl rfl)
theorem dX1_count_2 : decode cX1_count 2 = .ok (.lconst 0, 1) := dk_9 (dk_at dksX1_count_0 2 rfl rfl)
theorem dX1_count_3 : decode cX1_count 3 = .ok (.ldc2_w 165, 3) := dk_20 0 165 (dk_at dksX1_count_0 3 rfl rfl)
theorem dX1_count_6 : decode cX1_count 6 = .ok (.invokestatic 127, 3) := dk_184 0 127 (dk_at dksX1_count_0 6 rfl rfl)
theorem dX1_count_9 : decode cX1_count 9 = .ok (.invokestatic 131, 3) := dk_184 0 131 (dk_at dksX1_count_0 9 rfl rfl)
theorem dX1_count_12 : decode cX1_count 12 = .ok (.iconst 0, 1) := dk_3 (dk_at dksX1_count_0 12 rfl rfl)
theorem dX1_count_13 : decode cX1_count 13 = .ok (.istore_n 2, 1) := dk_61 (dk_at dksX1_count_0 13 rfl rfl)
theorem dX1_count_14 : decode cX1_count 14 = .ok (.aload_n 0, 1) := dk_42 (dk_at dksX1_count_0 14 rfl rfl)
theorem dX1_count_15 : decode cX1_count 15 = .ok (.getfield 52, 3) := dk_180 0 52 (dk_at dksX1_count_0 15 rfl rfl)
theorem dX1_count_18 : decode cX1_count 18 = .ok (.invokevirtual 208, 3) := dk_182 0 208 (dk_at dksX1_count_0 18 rfl rfl)
theorem dX1_count_21 : decode cX1_count 21 = .ok (.astore_n 3, 1) := dk_78 (dk_at dksX1_count_0 21 rfl rfl)
theorem dX1_count_22 : decode cX1_count 22 = .ok (.aload_n 3, 1) := dk_45 (dk_at dksX1_count_0 22 rfl rfl)
theorem dX1_count_23 : decode cX1_count 23 = .ok (.invokeinterface 212 1, 5) := by decide +kernel
theorem dX1_count_28 : decode cX1_count 28 = .ok (.ifCond .eq 34, 3) := dk_153 0 34 (dk_at dksX1_count_1 5 rfl rfl)
theorem dX1_count_31 : decode cX1_count 31 = .ok (.aload_n 3, 1) := dk_45 (dk_at dksX1_count_1 8 rfl rfl)
theorem dX1_count_32 : decode cX1_count 32 = .ok (.invokeinterface 217 1, 5) := by decide +kernel
theorem dX1_count_37 : decode cX1_count 37 = .ok (.checkcast 155, 3) := dk_192 0 155 (dk_at dksX1_count_1 14 rfl rfl)
theorem dX1_count_40 : decode cX1_count 40 = .ok (.astore 4, 2) := dk_58 4 (dk_at dksX1_count_1 17 rfl rfl)
theorem dX1_count_42 : decode cX1_count 42 = .ok (.iload_n 2, 1) := dk_28 (dk_at dksX1_count_1 19 rfl rfl)
theorem dX1_count_43 : decode cX1_count 43 = .ok (.aload 4, 2) := dk_25 4 (dk_at dksX1_count_1 20 rfl rfl)
theorem dX1_count_45 : decode cX1_count 45 = .ok (.getfield 157, 3) := dk_180 0 157 (dk_at dksX1_count_2 0 rfl rfl)
theorem dX1_count_48 : decode cX1_count 48 = .ok (.iconst 2, 1) := dk_5 (dk_at dksX1_count_2 3 rfl rfl)
theorem dX1_count_49 : decode cX1_count 49 = .ok (.if_icmp .ne 7, 3) := dk_160 0 7 (dk_at dksX1_count_2 4 rfl rfl)
theorem dX1_count_52 : decode cX1_count 52 = .ok (.iconst 1, 1) := dk_4 (dk_at dksX1_count_2 7 rfl rfl)
theorem dX1_count_53 : decode cX1_count 53 = .ok (.goto 4, 3) := dk_167 0 4 (dk_at dksX1_count_2 8 rfl rfl)
theorem dX1_count_56 : decode cX1_count 56 = .ok (.iconst 0, 1) := dk_3 (dk_at dksX1_count_2 11 rfl rfl)
theorem dX1_count_57 : decode cX1_count 57 = .ok (.iadd, 1) := dk_96 (dk_at dksX1_count_2 12 rfl rfl)
theorem dX1_count_58 : decode cX1_count 58 = .ok (.istore_n 2, 1) := dk_61 (dk_at dksX1_count_2 13 rfl rfl)
theorem dX1_count_59 : decode cX1_count 59 = .ok (.goto (-37), 3) := dk_167 255 219 (dk_at dksX1_count_2 14 rfl rfl)
theorem dX1_count_62 : decode cX1_count 62 = .ok (.iconst 0, 1) := dk_3 (dk_at dksX1_count_2 17 rfl rfl)
theorem dX1_count_63 : decode cX1_count 63 = .ok (.istore_n 3, 1) := dk_62 (dk_at dksX1_count_2 18 rfl rfl)
theorem dX1_count_64 : decode cX1_count 64 = .ok (.aload_n 0, 1) := dk_42 (dk_at dksX1_count_2 19 rfl rfl)
theorem dX1_count_65 : decode cX1_count 65 = .ok (.getfield 42, 3) := dk_180 0 42 (dk_at dksX1_count_2 20 rfl rfl)
theorem dX1_count_68 : decode cX1_count 68 = .ok (.invokevirtual 208, 3) := dk_182 0 208 (dk_at dksX1_count_3 0 rfl rfl)
theorem dX1_count_71 : decode cX1_count 71 = .ok (.astore 4, 2) := dk_58 4 (dk_at dksX1_count_3 3 rfl rfl)
theorem dX1_count_73 : decode cX1_count 73 = .ok (.aload 4, 2) := dk_25 4 (dk_at dksX1_count_3 5 rfl rfl)
theorem dX1_count_75 : decode cX1_count 75 = .ok (.invokeinterface 212 1, 5) := by decide +kernel
theorem dX1_count_80 : decode cX1_count 80 = .ok (.ifCond .eq 34, 3) := dk_153 0 34 (dk_at dksX1_count_3 12 rfl rfl)
theorem dX1_count_83 : decode cX1_count 83 = .ok (.aload 4, 2) := dk_25 4 (dk_at dksX1_count_3 15 rfl rfl)
theorem dX1_count_85 : decode cX1_count 85 = .ok (.invokeinterface 217 1, 5) := by decide +kernel
theorem dX1_count_90 : decode cX1_count 90 = .ok (.checkcast 140, 3) := dk_192 0 140 (dk_at dksX1_count_4 0 rfl rfl)
theorem dX1_count_93 : decode cX1_count 93 = .ok (.astore 5, 2) := dk_58 5 (dk_at dksX1_count_4 3 rfl rfl)
theorem dX1_count_95 : decode cX1_count 95 = .ok (.iload_n 3, 1) := dk_29 (dk_at dksX1_count_4 5 rfl rfl)
theorem dX1_count_96 : decode cX1_count 96 = .ok (.aload 5, 2) := dk_25 5 (dk_at dksX1_count_4 6 rfl rfl)
theorem dX1_count_98 : decode cX1_count 98 = .ok (.getfield 260, 3) := dk_180 1 4 (dk_at dksX1_count_4 8 rfl rfl)
theorem dX1_count_101 : decode cX1_count 101 = .ok (.ifCond .eq 7, 3) := dk_153 0 7 (dk_at dksX1_count_4 11 rfl rfl)
theorem dX1_count_104 : decode cX1_count 104 = .ok (.iconst 1, 1) := dk_4 (dk_at dksX1_count_4 14 rfl rfl)
theorem dX1_count_105 : decode cX1_count 105 = .ok (.goto 4, 3) := dk_167 0 4 (dk_at dksX1_count_4 15 rfl rfl)
theorem dX1_count_108 : decode cX1_count 108 = .ok (.iconst 0, 1) := dk_3 (dk_at dksX1_count_4 18 rfl rfl)
theorem dX1_count_109 : decode cX1_count 109 = .ok (.iadd, 1) := dk_96 (dk_at dksX1_count_4 19 rfl rfl)
theorem dX1_count_110 : decode cX1_count 110 = .ok (.istore_n 3, 1) := dk_62 (dk_at dksX1_count_4 20 rfl rfl)
theorem dX1_count_111 : decode cX1_count 111 = .ok (.goto (-38), 3) := dk_167 255 218 (dk_at dksX1_count_4 21 rfl rfl)
theorem dX1_count_114 : decode cX1_count 114 = .ok (.iload_n 1, 1) := dk_27 (dk_at dksX1_count_5 0 rfl rfl)
theorem dX1_count_115 : decode cX1_count 115 = .ok (.tableswitch 115 0 8 #[49, 56, 66, 73, 80, 87, 97, 104, 111], 49) := by decide +kernel
theorem dX1_count_164 : decode cX1_count 164 = .ok (.aload_n 0, 1) := dk_42 (dk_at dksX1_count_7 0 rfl rfl)
theorem dX1_count_165 : decode cX1_count 165 = .ok (.getfield 115, 3) := dk_180 0 115 (dk_at dksX1_count_7 1 rfl rfl)
theorem dX1_count_168 : decode cX1_count 168 = .ok (.goto 63, 3) := dk_167 0 63 (dk_at dksX1_count_7 4 rfl rfl)
theorem dX1_count_171 : decode cX1_count 171 = .ok (.aload_n 0, 1) := dk_42 (dk_at dksX1_count_7 7 rfl rfl)
theorem dX1_count_172 : decode cX1_count 172 = .ok (.getfield 42, 3) := dk_180 0 42 (dk_at dksX1_count_7 8 rfl rfl)
theorem dX1_count_175 : decode cX1_count 175 = .ok (.invokevirtual 135, 3) := dk_182 0 135 (dk_at dksX1_count_7 11 rfl rfl)
theorem dX1_count_178 : decode cX1_count 178 = .ok (.goto 53, 3) := dk_167 0 53 (dk_at dksX1_count_7 14 rfl rfl)
theorem dX1_count_181 : decode cX1_count 181 = .ok (.aload_n 0, 1) := dk_42 (dk_at dksX1_count_7 17 rfl rfl)
theorem dX1_count_182 : decode cX1_count 182 = .ok (.invokevirtual 228, 3) := dk_182 0 228 (dk_at dksX1_count_7 18 rfl rfl)
theorem dX1_count_185 : decode cX1_count 185 = .ok (.goto 46, 3) := dk_167 0 46 (dk_at dksX1_count_7 21 rfl rfl)
theorem dX1_count_188 : decode cX1_count 188 = .ok (.aload_n 0, 1) := dk_42 (dk_at dksX1_count_8 0 rfl rfl)
theorem dX1_count_189 : decode cX1_count 189 = .ok (.invokevirtual 374, 3) := dk_182 1 118 (dk_at dksX1_count_8 1 rfl rfl)
theorem dX1_count_192 : decode cX1_count 192 = .ok (.goto 39, 3) := dk_167 0 39 (dk_at dksX1_count_8 4 rfl rfl)
theorem dX1_count_195 : decode cX1_count 195 = .ok (.aload_n 0, 1) := dk_42 (dk_at dksX1_count_8 7 rfl rfl)
theorem dX1_count_196 : decode cX1_count 196 = .ok (.invokevirtual 123, 3) := dk_182 0 123 (dk_at dksX1_count_8 8 rfl rfl)
theorem dX1_count_199 : decode cX1_count 199 = .ok (.goto 32, 3) := dk_167 0 32 (dk_at dksX1_count_8 11 rfl rfl)
theorem dX1_count_202 : decode cX1_count 202 = .ok (.aload_n 0, 1) := dk_42 (dk_at dksX1_count_8 14 rfl rfl)
theorem dX1_count_203 : decode cX1_count 203 = .ok (.getfield 52, 3) := dk_180 0 52 (dk_at dksX1_count_8 15 rfl rfl)
theorem dX1_count_206 : decode cX1_count 206 = .ok (.invokevirtual 135, 3) := dk_182 0 135 (dk_at dksX1_count_8 18 rfl rfl)
theorem dX1_count_209 : decode cX1_count 209 = .ok (.goto 22, 3) := dk_167 0 22 (dk_at dksX1_count_8 21 rfl rfl)
theorem dX1_count_212 : decode cX1_count 212 = .ok (.aload_n 0, 1) := dk_42 (dk_at dksX1_count_9 0 rfl rfl)
theorem dX1_count_213 : decode cX1_count 213 = .ok (.getfield 108, 3) := dk_180 0 108 (dk_at dksX1_count_9 1 rfl rfl)
theorem dX1_count_216 : decode cX1_count 216 = .ok (.goto 15, 3) := dk_167 0 15 (dk_at dksX1_count_9 4 rfl rfl)
theorem dX1_count_219 : decode cX1_count 219 = .ok (.aload_n 0, 1) := dk_42 (dk_at dksX1_count_9 7 rfl rfl)
theorem dX1_count_220 : decode cX1_count 220 = .ok (.invokevirtual 522, 3) := dk_182 2 10 (dk_at dksX1_count_9 8 rfl rfl)
theorem dX1_count_223 : decode cX1_count 223 = .ok (.goto 8, 3) := dk_167 0 8 (dk_at dksX1_count_9 11 rfl rfl)
theorem dX1_count_226 : decode cX1_count 226 = .ok (.iload_n 2, 1) := dk_28 (dk_at dksX1_count_9 14 rfl rfl)
theorem dX1_count_227 : decode cX1_count 227 = .ok (.goto 4, 3) := dk_167 0 4 (dk_at dksX1_count_9 15 rfl rfl)
theorem dX1_count_230 : decode cX1_count 230 = .ok (.iload_n 3, 1) := dk_29 (dk_at dksX1_count_9 18 rfl rfl)
theorem dX1_count_231 : decode cX1_count 231 = .ok (.ireturn, 1) := dk_172 (dk_at dksX1_count_9 19 rfl rfl)
abbrev cX1_openLiens : ByteArray := prog_1_method_76_code
def yX1_openLiens : MethodName := ⟨RX1, "openLiens", "()I"⟩
def dkwX1_openLiens_2 : List UInt8 := [167, 255, 222, 27, 172]
abbrev dktX1_openLiens_2 : List UInt8 := dkwX1_openLiens_2 ++ []
def dkwX1_openLiens_1 : List UInt8 := [185, 0, 217, 1, 0, 192, 1, 220, 78, 27, 45, 180, 1, 225, 158, 0, 7, 4, 167, 0, 4, 3, 96, 60]
abbrev dktX1_openLiens_1 : List UInt8 := dkwX1_openLiens_1 ++ dktX1_openLiens_2
def dkwX1_openLiens_0 : List UInt8 := [3, 60, 42, 180, 0, 55, 182, 0, 208, 77, 44, 185, 0, 212, 1, 0, 153, 0, 31, 44]
abbrev dktX1_openLiens_0 : List UInt8 := dkwX1_openLiens_0 ++ dktX1_openLiens_1
theorem dksX1_openLiens_0 : cX1_openLiens.data.toList.drop 0 = dktX1_openLiens_0 := by decide +kernel
theorem dksX1_openLiens_1 : cX1_openLiens.data.toList.drop 20 = dktX1_openLiens_1 := dk_seg dksX1_openLiens_0 20 rfl rfl
theorem dksX1_openLiens_2 : cX1_openLiens.data.toList.drop 44 = dktX1_openLiens_2 := dk_seg dksX1_openLiens_1 24 rfl rfl
theorem dX1_openLiens_0 : decode cX1_openLiens 0 = .ok (.iconst 0, 1) := dk_3 (dk_at dksX1_openLiens_0 0 rfl rfl)
theorem dX1_openLiens_1 : decode cX1_openLiens 1 = .ok (.istore_n 1, 1) := dk_60 (dk_at dksX1_openLiens_0 1 rfl rfl)
theorem dX1_openLiens_2 : decode cX1_openLiens 2 = .ok (.aload_n 0, 1) := dk_42 (dk_at dksX1_openLiens_0 2 rfl rfl)
theorem dX1_openLiens_3 : decode cX1_openLiens 3 = .ok (.getfield 55, 3) := dk_180 0 55 (dk_at dksX1_openLiens_0 3 rfl rfl)
theorem dX1_openLiens_6 : decode cX1_openLiens 6 = .ok (.invokevirtual 208, 3) := dk_182 0 208 (dk_at dksX1_openLiens_0 6 rfl rfl)
theorem dX1_openLiens_9 : decode cX1_openLiens 9 = .ok (.astore_n 2, 1) := dk_77 (dk_at dksX1_openLiens_0 9 rfl rfl)
theorem dX1_openLiens_10 : decode cX1_openLiens 10 = .ok (.aload_n 2, 1) := dk_44 (dk_at dksX1_openLiens_0 10 rfl rfl)
theorem dX1_openLiens_11 : decode cX1_openLiens 11 = .ok (.invokeinterface 212 1, 5) := by decide +kernel
theorem dX1_openLiens_16 : decode cX1_openLiens 16 = .ok (.ifCond .eq 31, 3) := dk_153 0 31 (dk_at dksX1_openLiens_0 16 rfl rfl)
theorem dX1_openLiens_19 : decode cX1_openLiens 19 = .ok (.aload_n 2, 1) := dk_44 (dk_at dksX1_openLiens_0 19 rfl rfl)
theorem dX1_openLiens_20 : decode cX1_openLiens 20 = .ok (.invokeinterface 217 1, 5) := by decide +kernel
theorem dX1_openLiens_25 : decode cX1_openLiens 25 = .ok (.checkcast 476, 3) := dk_192 1 220 (dk_at dksX1_openLiens_1 5 rfl rfl)
theorem dX1_openLiens_28 : decode cX1_openLiens 28 = .ok (.astore_n 3, 1) := dk_78 (dk_at dksX1_openLiens_1 8 rfl rfl)
theorem dX1_openLiens_29 : decode cX1_openLiens 29 = .ok (.iload_n 1, 1) := dk_27 (dk_at dksX1_openLiens_1 9 rfl rfl)
theorem dX1_openLiens_30 : decode cX1_openLiens 30 = .ok (.aload_n 3, 1) := dk_45 (dk_at dksX1_openLiens_1 10 rfl rfl)
theorem dX1_openLiens_31 : decode cX1_openLiens 31 = .ok (.getfield 481, 3) := dk_180 1 225 (dk_at dksX1_openLiens_1 11 rfl rfl)
theorem dX1_openLiens_34 : decode cX1_openLiens 34 = .ok (.ifCond .le 7, 3) := dk_158 0 7 (dk_at dksX1_openLiens_1 14 rfl rfl)
theorem dX1_openLiens_37 : decode cX1_openLiens 37 = .ok (.iconst 1, 1) := dk_4 (dk_at dksX1_openLiens_1 17 rfl rfl)
theorem dX1_openLiens_38 : decode cX1_openLiens 38 = .ok (.goto 4, 3) := dk_167 0 4 (dk_at dksX1_openLiens_1 18 rfl rfl)
theorem dX1_openLiens_41 : decode cX1_openLiens 41 = .ok (.iconst 0, 1) := dk_3 (dk_at dksX1_openLiens_1 21 rfl rfl)
theorem dX1_openLiens_42 : decode cX1_openLiens 42 = .ok (.iadd, 1) := dk_96 (dk_at dksX1_openLiens_1 22 rfl rfl)
theorem dX1_openLiens_43 : decode cX1_openLiens 43 = .ok (.istore_n 1, 1) := dk_60 (dk_at dksX1_openLiens_1 23 rfl rfl)
theorem dX1_openLiens_44 : decode cX1_openLiens 44 = .ok (.goto (-34), 3) := dk_167 255 222 (dk_at dksX1_openLiens_2 0 rfl rfl)
theorem dX1_openLiens_47 : decode cX1_openLiens 47 = .ok (.iload_n 1, 1) := dk_27 (dk_at dksX1_openLiens_2 3 rfl rfl)
theorem dX1_openLiens_48 : decode cX1_openLiens 48 = .ok (.ireturn, 1) := dk_172 (dk_at dksX1_openLiens_2 4 rfl rfl)
theorem q65 : (Jvm.Cond.initialized "Massclaim") ∈ lw_all := lw_g (lw_at lw_m1 1 rfl) rfl
theorem q108 : (Jvm.Cond.instantiable "Massclaim" (19 : Nat)) ∈ lw_all := lw_g (lw_at lw_m1 44 rfl) rfl
theorem q110 : (Jvm.Cond.instanceMethod ({ cls := "Massclaim", name := "<init>", desc := "()V" } : Jvm.MethodName)) ∈ lw_all := lw_g (lw_at lw_m1 46 rfl) rfl
theorem q111 : (Jvm.Cond.code ({ cls := "Massclaim", name := "<init>", desc := "()V" } : Jvm.MethodName) prog_1_method_9_code (2 : Nat) (Option.none : Option Jvm.ClassFile.FieldType)) ∈ lw_all := lw_g (lw_at lw_m1 47 rfl) rfl
theorem q112 : (Jvm.Cond.methodLink "Massclaim" (34 : Nat) ({ cls := "java/lang/Object", name := "<init>", desc := "()V" } : Jvm.MethodName)) ∈ lw_all := lw_g (lw_at lw_m1 48 rfl) rfl
theorem q115 : (Jvm.Cond.classLink "Massclaim" (37 : Nat) "Massclaim$Row") ∈ lw_all := lw_g (lw_at lw_m1 51 rfl) rfl
theorem q117 : (Jvm.Cond.methodLink "Massclaim" (41 : Nat) ({ cls := "Massclaim$Row", name := "<init>", desc := "(I)V" } : Jvm.MethodName)) ∈ lw_all := lw_g (lw_at lw_m1 53 rfl) rfl
theorem q157 : (Jvm.Cond.classLink "Massclaim" (58 : Nat) "[[I") ∈ lw_all := lw_g (lw_at lw_m1 93 rfl) rfl
theorem q159 : (Jvm.Cond.classLink "Massclaim" (71 : Nat) "Massclaim$Out") ∈ lw_all := lw_g (lw_at lw_m1 95 rfl) rfl
theorem q161 : (Jvm.Cond.methodLinkNest "Massclaim" (73 : Nat) ({ cls := "Massclaim$Out", name := "<init>", desc := "()V" } : Jvm.MethodName) "Massclaim") ∈ lw_tbl := lw_at lw_m1 97 rfl
theorem q167 : (Jvm.Cond.fieldLinkNest "Massclaim" (505 : Nat) "Massclaim$Out" "benefit" "J" "Massclaim") ∈ lw_tbl := lw_at lw_m1 103 rfl
theorem q170 : (Jvm.Cond.fieldLinkNest "Massclaim" (520 : Nat) "Massclaim$Out" "lawyers" "[J" "Massclaim") ∈ lw_tbl := lw_at lw_m1 106 rfl
theorem q173 : (Jvm.Cond.fieldLinkNest "Massclaim" (510 : Nat) "Massclaim$Out" "liens" "J" "Massclaim") ∈ lw_tbl := lw_at lw_m1 109 rfl
theorem q176 : (Jvm.Cond.fieldLinkNest "Massclaim" (512 : Nat) "Massclaim$Out" "persons" "J" "Massclaim") ∈ lw_tbl := lw_at lw_m1 112 rfl
theorem q178 : (Jvm.Cond.fieldLinkNest "Massclaim" (491 : Nat) "Massclaim$Out" "back" "J" "Massclaim") ∈ lw_tbl := lw_at lw_m1 114 rfl
theorem q180 : (Jvm.Cond.fieldLinkNest "Massclaim" (494 : Nat) "Massclaim$Out" "next" "J" "Massclaim") ∈ lw_tbl := lw_at lw_m1 116 rfl
theorem q196 : (Jvm.Cond.methodLink "Massclaim" (78 : Nat) ({ cls := "Massclaim", name := "restart", desc := "()I" } : Jvm.MethodName)) ∈ lw_all := lw_g (lw_at lw_m1 132 rfl) rfl
theorem q197 : (Jvm.Cond.privateMethod ({ cls := "Massclaim", name := "restart", desc := "()I" } : Jvm.MethodName)) ∈ lw_tbl := lw_at lw_m1 133 rfl
theorem q198 : (Jvm.Cond.instanceMethod ({ cls := "Massclaim", name := "restart", desc := "()I" } : Jvm.MethodName)) ∈ lw_all := lw_g (lw_at lw_m1 134 rfl) rfl
theorem q199 : (Jvm.Cond.code ({ cls := "Massclaim", name := "restart", desc := "()I" } : Jvm.MethodName) prog_1_method_10_code (4 : Nat) (Option.some Jvm.ClassFile.FieldType.int)) ∈ lw_all := lw_g (lw_at lw_m1 135 rfl) rfl
theorem q200 : (Jvm.Cond.methodLink "Massclaim" (81 : Nat) ({ cls := "Massclaim$Row", name := "clear", desc := "()I" } : Jvm.MethodName)) ∈ lw_all := lw_g (lw_at lw_m1 136 rfl) rfl
theorem q223 : (Jvm.Cond.constant "Massclaim" (98 : Nat) (1000000 : Int32)) ∈ lw_all := lw_g (lw_at lw_m1 159 rfl) rfl
theorem q224 : (Jvm.Cond.fieldLink "Massclaim" (42 : Nat) "Massclaim" "persons" "LMassclaim$Row;") ∈ lw_all := lw_g (lw_at lw_m1 160 rfl) rfl
theorem q226 : (Jvm.Cond.fieldLink "Massclaim" (46 : Nat) "Massclaim" "subclasses" "LMassclaim$Row;") ∈ lw_all := lw_g (lw_at lw_m1 162 rfl) rfl
theorem q227 : (Jvm.Cond.fieldLink "Massclaim" (49 : Nat) "Massclaim" "defendants" "LMassclaim$Row;") ∈ lw_all := lw_g (lw_at lw_m1 163 rfl) rfl
theorem q228 : (Jvm.Cond.fieldLink "Massclaim" (52 : Nat) "Massclaim" "claims" "LMassclaim$Row;") ∈ lw_all := lw_g (lw_at lw_m1 164 rfl) rfl
theorem q230 : (Jvm.Cond.fieldLink "Massclaim" (55 : Nat) "Massclaim" "liens" "LMassclaim$Row;") ∈ lw_all := lw_g (lw_at lw_m1 166 rfl) rfl
theorem q233 : (Jvm.Cond.fieldLink "Massclaim" (60 : Nat) "Massclaim" "grid" "[[I") ∈ lw_all := lw_g (lw_at lw_m1 169 rfl) rfl
theorem q234 : (Jvm.Cond.fieldLink "Massclaim" (63 : Nat) "Massclaim" "verdicts" "[J") ∈ lw_all := lw_g (lw_at lw_m1 170 rfl) rfl
theorem q235 : (Jvm.Cond.fieldLink "Massclaim" (67 : Nat) "Massclaim" "verdictMany" "[I") ∈ lw_all := lw_g (lw_at lw_m1 171 rfl) rfl
theorem q237 : (Jvm.Cond.fieldLink "Massclaim" (74 : Nat) "Massclaim" "out" "LMassclaim$Out;") ∈ lw_all := lw_g (lw_at lw_m1 173 rfl) rfl
theorem q239 : (Jvm.Cond.fieldLink "Massclaim" (84 : Nat) "Massclaim" "deal" "LMassclaim$Deal;") ∈ lw_all := lw_g (lw_at lw_m1 175 rfl) rfl
theorem q241 : (Jvm.Cond.fieldLink "Massclaim" (88 : Nat) "Massclaim" "products" "I") ∈ lw_all := lw_g (lw_at lw_m1 177 rfl) rfl
theorem q243 : (Jvm.Cond.fieldLink "Massclaim" (92 : Nat) "Massclaim" "states" "I") ∈ lw_all := lw_g (lw_at lw_m1 179 rfl) rfl
theorem q245 : (Jvm.Cond.fieldLink "Massclaim" (95 : Nat) "Massclaim" "least" "I") ∈ lw_all := lw_g (lw_at lw_m1 181 rfl) rfl
theorem q247 : (Jvm.Cond.fieldLink "Massclaim" (99 : Nat) "Massclaim" "cap" "I") ∈ lw_all := lw_g (lw_at lw_m1 183 rfl) rfl
theorem q248 : (Jvm.Cond.fieldLink "Massclaim" (102 : Nat) "Massclaim" "chance" "I") ∈ lw_all := lw_g (lw_at lw_m1 184 rfl) rfl
theorem q249 : (Jvm.Cond.fieldLink "Massclaim" (105 : Nat) "Massclaim" "order" "I") ∈ lw_all := lw_g (lw_at lw_m1 185 rfl) rfl
theorem q250 : (Jvm.Cond.fieldLink "Massclaim" (108 : Nat) "Massclaim" "percent" "I") ∈ lw_all := lw_g (lw_at lw_m1 186 rfl) rfl
theorem q252 : (Jvm.Cond.fieldLink "Massclaim" (111 : Nat) "Massclaim" "fund" "J") ∈ lw_all := lw_g (lw_at lw_m1 188 rfl) rfl
theorem q255 : (Jvm.Cond.fieldLink "Massclaim" (115 : Nat) "Massclaim" "today" "I") ∈ lw_all := lw_g (lw_at lw_m1 191 rfl) rfl
theorem q257 : (Jvm.Cond.laysFinal "Massclaim" "Massclaim" "persons" "LMassclaim$Row;") ∈ lw_all := lw_g (lw_at lw_m1 193 rfl) rfl
theorem q258 : (Jvm.Cond.soleField "Massclaim" "persons") ∈ lw_all := lw_g (lw_at lw_m1 194 rfl) rfl
theorem q259 : (Jvm.Cond.laysFinal "Massclaim" "Massclaim" "subclasses" "LMassclaim$Row;") ∈ lw_all := lw_g (lw_at lw_m1 195 rfl) rfl
theorem q260 : (Jvm.Cond.soleField "Massclaim" "subclasses") ∈ lw_all := lw_g (lw_at lw_m1 196 rfl) rfl
theorem q261 : (Jvm.Cond.laysFinal "Massclaim" "Massclaim" "defendants" "LMassclaim$Row;") ∈ lw_all := lw_g (lw_at lw_m1 197 rfl) rfl
theorem q262 : (Jvm.Cond.soleField "Massclaim" "defendants") ∈ lw_all := lw_g (lw_at lw_m1 198 rfl) rfl
theorem q263 : (Jvm.Cond.laysFinal "Massclaim" "Massclaim" "claims" "LMassclaim$Row;") ∈ lw_all := lw_g (lw_at lw_m1 199 rfl) rfl
theorem q264 : (Jvm.Cond.soleField "Massclaim" "claims") ∈ lw_all := lw_g (lw_at lw_m1 200 rfl) rfl
theorem q265 : (Jvm.Cond.laysFinal "Massclaim" "Massclaim" "liens" "LMassclaim$Row;") ∈ lw_all := lw_g (lw_at lw_m1 201 rfl) rfl
theorem q266 : (Jvm.Cond.soleField "Massclaim" "liens") ∈ lw_all := lw_g (lw_at lw_m1 202 rfl) rfl
theorem q267 : (Jvm.Cond.laysFinal "Massclaim" "Massclaim" "grid" "[[I") ∈ lw_all := lw_g (lw_at lw_m1 203 rfl) rfl
theorem q268 : (Jvm.Cond.soleField "Massclaim" "grid") ∈ lw_all := lw_g (lw_at lw_m1 204 rfl) rfl
theorem q269 : (Jvm.Cond.laysFinal "Massclaim" "Massclaim" "verdicts" "[J") ∈ lw_all := lw_g (lw_at lw_m1 205 rfl) rfl
theorem q270 : (Jvm.Cond.soleField "Massclaim" "verdicts") ∈ lw_all := lw_g (lw_at lw_m1 206 rfl) rfl
theorem q271 : (Jvm.Cond.laysFinal "Massclaim" "Massclaim" "verdictMany" "[I") ∈ lw_all := lw_g (lw_at lw_m1 207 rfl) rfl
theorem q272 : (Jvm.Cond.soleField "Massclaim" "verdictMany") ∈ lw_all := lw_g (lw_at lw_m1 208 rfl) rfl
theorem q273 : (Jvm.Cond.lays "Massclaim" "Massclaim" "out" "LMassclaim$Out;") ∈ lw_all := lw_g (lw_at lw_m1 209 rfl) rfl
theorem q274 : (Jvm.Cond.soleField "Massclaim" "out") ∈ lw_all := lw_g (lw_at lw_m1 210 rfl) rfl
theorem q275 : (Jvm.Cond.lays "Massclaim" "Massclaim" "deal" "LMassclaim$Deal;") ∈ lw_all := lw_g (lw_at lw_m1 211 rfl) rfl
theorem q276 : (Jvm.Cond.soleField "Massclaim" "deal") ∈ lw_all := lw_g (lw_at lw_m1 212 rfl) rfl
theorem q277 : (Jvm.Cond.lays "Massclaim" "Massclaim" "products" "I") ∈ lw_all := lw_g (lw_at lw_m1 213 rfl) rfl
theorem q278 : (Jvm.Cond.soleField "Massclaim" "products") ∈ lw_all := lw_g (lw_at lw_m1 214 rfl) rfl
theorem q279 : (Jvm.Cond.lays "Massclaim" "Massclaim" "states" "I") ∈ lw_all := lw_g (lw_at lw_m1 215 rfl) rfl
theorem q280 : (Jvm.Cond.soleField "Massclaim" "states") ∈ lw_all := lw_g (lw_at lw_m1 216 rfl) rfl
theorem q281 : (Jvm.Cond.lays "Massclaim" "Massclaim" "least" "I") ∈ lw_all := lw_g (lw_at lw_m1 217 rfl) rfl
theorem q282 : (Jvm.Cond.soleField "Massclaim" "least") ∈ lw_all := lw_g (lw_at lw_m1 218 rfl) rfl
theorem q283 : (Jvm.Cond.lays "Massclaim" "Massclaim" "cap" "I") ∈ lw_all := lw_g (lw_at lw_m1 219 rfl) rfl
theorem q284 : (Jvm.Cond.soleField "Massclaim" "cap") ∈ lw_all := lw_g (lw_at lw_m1 220 rfl) rfl
theorem q285 : (Jvm.Cond.lays "Massclaim" "Massclaim" "chance" "I") ∈ lw_all := lw_g (lw_at lw_m1 221 rfl) rfl
theorem q286 : (Jvm.Cond.soleField "Massclaim" "chance") ∈ lw_all := lw_g (lw_at lw_m1 222 rfl) rfl
theorem q287 : (Jvm.Cond.lays "Massclaim" "Massclaim" "order" "I") ∈ lw_all := lw_g (lw_at lw_m1 223 rfl) rfl
theorem q288 : (Jvm.Cond.soleField "Massclaim" "order") ∈ lw_all := lw_g (lw_at lw_m1 224 rfl) rfl
theorem q289 : (Jvm.Cond.lays "Massclaim" "Massclaim" "percent" "I") ∈ lw_all := lw_g (lw_at lw_m1 225 rfl) rfl
theorem q290 : (Jvm.Cond.soleField "Massclaim" "percent") ∈ lw_all := lw_g (lw_at lw_m1 226 rfl) rfl
theorem q291 : (Jvm.Cond.lays "Massclaim" "Massclaim" "fund" "J") ∈ lw_all := lw_g (lw_at lw_m1 227 rfl) rfl
theorem q292 : (Jvm.Cond.soleField "Massclaim" "fund") ∈ lw_all := lw_g (lw_at lw_m1 228 rfl) rfl
theorem q293 : (Jvm.Cond.lays "Massclaim" "Massclaim" "today" "I") ∈ lw_all := lw_g (lw_at lw_m1 229 rfl) rfl
theorem q294 : (Jvm.Cond.soleField "Massclaim" "today") ∈ lw_all := lw_g (lw_at lw_m1 230 rfl) rfl
theorem q295 : (Jvm.Cond.superclass "Massclaim" "java/lang/Object") ∈ lw_all := lw_g (lw_at lw_m1 231 rfl) rfl
theorem q297 : (Jvm.Cond.instanceMethod ({ cls := "Massclaim", name := "begin", desc := "()I" } : Jvm.MethodName)) ∈ lw_all := lw_g (lw_at lw_m1 233 rfl) rfl
theorem q298 : (Jvm.Cond.selects "Massclaim" ({ cls := "Massclaim", name := "begin", desc := "()I" } : Jvm.MethodName) ({ cls := "Massclaim", name := "begin", desc := "()I" } : Jvm.MethodName)) ∈ lw_all := lw_g (lw_at lw_m1 234 rfl) rfl
theorem q299 : (Jvm.Cond.code ({ cls := "Massclaim", name := "begin", desc := "()I" } : Jvm.MethodName) prog_1_method_11_code (1 : Nat) (Option.some Jvm.ClassFile.FieldType.int)) ∈ lw_all := lw_g (lw_at lw_m1 235 rfl) rfl
theorem q301 : (Jvm.Cond.instanceMethod ({ cls := "Massclaim", name := "errors", desc := "()I" } : Jvm.MethodName)) ∈ lw_all := lw_g (lw_at lw_m1 237 rfl) rfl
theorem q302 : (Jvm.Cond.selects "Massclaim" ({ cls := "Massclaim", name := "errors", desc := "()I" } : Jvm.MethodName) ({ cls := "Massclaim", name := "errors", desc := "()I" } : Jvm.MethodName)) ∈ lw_all := lw_g (lw_at lw_m1 238 rfl) rfl
theorem q303 : (Jvm.Cond.code ({ cls := "Massclaim", name := "errors", desc := "()I" } : Jvm.MethodName) prog_1_method_78_code (4 : Nat) (Option.some Jvm.ClassFile.FieldType.int)) ∈ lw_all := lw_g (lw_at lw_m1 239 rfl) rfl
theorem q304 : (Jvm.Cond.methodLink "Massclaim" (502 : Nat) ({ cls := "Massclaim", name := "paidIn", desc := "()J" } : Jvm.MethodName)) ∈ lw_all := lw_g (lw_at lw_m2 0 rfl) rfl
theorem q305 : (Jvm.Cond.privateMethod ({ cls := "Massclaim", name := "paidIn", desc := "()J" } : Jvm.MethodName)) ∈ lw_tbl := lw_at lw_m2 1 rfl
theorem q306 : (Jvm.Cond.instanceMethod ({ cls := "Massclaim", name := "paidIn", desc := "()J" } : Jvm.MethodName)) ∈ lw_all := lw_g (lw_at lw_m2 2 rfl) rfl
theorem q307 : (Jvm.Cond.code ({ cls := "Massclaim", name := "paidIn", desc := "()J" } : Jvm.MethodName) prog_1_method_72_code (5 : Nat) (Option.some Jvm.ClassFile.FieldType.long)) ∈ lw_all := lw_g (lw_at lw_m2 3 rfl) rfl
theorem q308 : (Jvm.Cond.methodLink "Massclaim" (208 : Nat) ({ cls := "Massclaim$Row", name := "iterator", desc := "()Ljava/util/Iterator;" } : Jvm.MethodName)) ∈ lw_all := lw_g (lw_at lw_m2 4 rfl) rfl
theorem q340 : (Jvm.Cond.interfaceEntry "Massclaim" (212 : Nat)) ∈ lw_tbl := lw_at lw_m2 36 rfl
theorem q341 : (Jvm.Cond.methodLink "Massclaim" (212 : Nat) ({ cls := "java/util/Iterator", name := "hasNext", desc := "()Z" } : Jvm.MethodName)) ∈ lw_all := lw_g (lw_at lw_m2 37 rfl) rfl
theorem q350 : (Jvm.Cond.interfaceEntry "Massclaim" (217 : Nat)) ∈ lw_tbl := lw_at lw_m2 46 rfl
theorem q351 : (Jvm.Cond.methodLink "Massclaim" (217 : Nat) ({ cls := "java/util/Iterator", name := "next", desc := "()Ljava/lang/Object;" } : Jvm.MethodName)) ∈ lw_all := lw_g (lw_at lw_m2 47 rfl) rfl
theorem q363 : (Jvm.Cond.classLink "Massclaim" (311 : Nat) "Massclaim$Defendant") ∈ lw_all := lw_g (lw_at lw_m2 59 rfl) rfl
theorem q364 : (Jvm.Cond.methodLink "Massclaim" (524 : Nat) ({ cls := "Massclaim$Out", name := "all", desc := "()J" } : Jvm.MethodName)) ∈ lw_all := lw_g (lw_at lw_m2 60 rfl) rfl
theorem q372 : (Jvm.Cond.methodLink "Massclaim" (514 : Nat) ({ cls := "Massclaim", name := "lying", desc := "()J" } : Jvm.MethodName)) ∈ lw_all := lw_g (lw_at lw_m2 68 rfl) rfl
theorem q373 : (Jvm.Cond.privateMethod ({ cls := "Massclaim", name := "lying", desc := "()J" } : Jvm.MethodName)) ∈ lw_tbl := lw_at lw_m2 69 rfl
theorem q374 : (Jvm.Cond.instanceMethod ({ cls := "Massclaim", name := "lying", desc := "()J" } : Jvm.MethodName)) ∈ lw_all := lw_g (lw_at lw_m2 70 rfl) rfl
theorem q375 : (Jvm.Cond.code ({ cls := "Massclaim", name := "lying", desc := "()J" } : Jvm.MethodName) prog_1_method_71_code (5 : Nat) (Option.some Jvm.ClassFile.FieldType.long)) ∈ lw_all := lw_g (lw_at lw_m2 71 rfl) rfl
theorem q376 : (Jvm.Cond.classLink "Massclaim" (140 : Nat) "Massclaim$Person") ∈ lw_all := lw_g (lw_at lw_m2 72 rfl) rfl
theorem q377 : (Jvm.Cond.methodLink "Massclaim" (194 : Nat) ({ cls := "Massclaim$Person", name := "lies", desc := "()J" } : Jvm.MethodName)) ∈ lw_all := lw_g (lw_at lw_m2 73 rfl) rfl
theorem q403 : (Jvm.Cond.classLink "Massclaim" (155 : Nat) "Massclaim$Claim") ∈ lw_all := lw_g (lw_at lw_m2 99 rfl) rfl
theorem q404 : (Jvm.Cond.constantLong "Massclaim" (316 : Nat) (100 : Int64)) ∈ lw_all := lw_g (lw_at lw_m2 100 rfl) rfl
theorem q405 : (Jvm.Cond.methodLink "Massclaim" (347 : Nat) ({ cls := "Massclaim", name := "part", desc := "(JJJ)J" } : Jvm.MethodName)) ∈ lw_all := lw_g (lw_at lw_m2 101 rfl) rfl
theorem q406 : (Jvm.Cond.static ({ cls := "Massclaim", name := "part", desc := "(JJJ)J" } : Jvm.MethodName)) ∈ lw_all := lw_g (lw_at lw_m2 102 rfl) rfl
theorem q407 : (Jvm.Cond.code ({ cls := "Massclaim", name := "part", desc := "(JJJ)J" } : Jvm.MethodName) prog_1_method_5_code (6 : Nat) (Option.some Jvm.ClassFile.FieldType.long)) ∈ lw_all := lw_g (lw_at lw_m2 103 rfl) rfl
theorem q409 : (Jvm.Cond.instanceMethod ({ cls := "Massclaim", name := "paidBits", desc := "()I" } : Jvm.MethodName)) ∈ lw_all := lw_g (lw_at lw_m2 105 rfl) rfl
theorem q410 : (Jvm.Cond.selects "Massclaim" ({ cls := "Massclaim", name := "paidBits", desc := "()I" } : Jvm.MethodName) ({ cls := "Massclaim", name := "paidBits", desc := "()I" } : Jvm.MethodName)) ∈ lw_all := lw_g (lw_at lw_m2 106 rfl) rfl
theorem q411 : (Jvm.Cond.code ({ cls := "Massclaim", name := "paidBits", desc := "()I" } : Jvm.MethodName) prog_1_method_79_code (7 : Nat) (Option.some Jvm.ClassFile.FieldType.int)) ∈ lw_all := lw_g (lw_at lw_m2 107 rfl) rfl
theorem q412 : (Jvm.Cond.methodLink "Massclaim" (437 : Nat) ({ cls := "Massclaim$Claim", name := "value", desc := "()I" } : Jvm.MethodName)) ∈ lw_all := lw_g (lw_at lw_m2 108 rfl) rfl
theorem q421 : (Jvm.Cond.static ({ cls := "Massclaim", name := "band", desc := "(I)I" } : Jvm.MethodName)) ∈ lw_all := lw_g (lw_at lw_m2 117 rfl) rfl
theorem q422 : (Jvm.Cond.code ({ cls := "Massclaim", name := "band", desc := "(I)I" } : Jvm.MethodName) prog_1_method_8_code (1 : Nat) (Option.some Jvm.ClassFile.FieldType.int)) ∈ lw_all := lw_g (lw_at lw_m2 118 rfl) rfl
theorem q428 : (Jvm.Cond.methodLink "Massclaim" (530 : Nat) ({ cls := "java/lang/Float", name := "floatToIntBits", desc := "(F)I" } : Jvm.MethodName)) ∈ lw_all := lw_g (lw_at lw_m2 124 rfl) rfl
theorem q439 : (Jvm.Cond.instanceMethod ({ cls := "Massclaim", name := "meanDelivered", desc := "()D" } : Jvm.MethodName)) ∈ lw_all := lw_g (lw_at lw_m2 135 rfl) rfl
theorem q440 : (Jvm.Cond.selects "Massclaim" ({ cls := "Massclaim", name := "meanDelivered", desc := "()D" } : Jvm.MethodName) ({ cls := "Massclaim", name := "meanDelivered", desc := "()D" } : Jvm.MethodName)) ∈ lw_all := lw_g (lw_at lw_m2 136 rfl) rfl
theorem q441 : (Jvm.Cond.code ({ cls := "Massclaim", name := "meanDelivered", desc := "()D" } : Jvm.MethodName) prog_1_method_80_code (1 : Nat) (Option.some Jvm.ClassFile.FieldType.double)) ∈ lw_all := lw_g (lw_at lw_m2 137 rfl) rfl
theorem q442 : (Jvm.Cond.methodLink "Massclaim" (135 : Nat) ({ cls := "Massclaim$Row", name := "size", desc := "()I" } : Jvm.MethodName)) ∈ lw_all := lw_g (lw_at lw_m2 138 rfl) rfl
theorem q451 : (Jvm.Cond.instanceMethod ({ cls := "Massclaim", name := "goOn", desc := "(I)I" } : Jvm.MethodName)) ∈ lw_all := lw_g (lw_at lw_m2 147 rfl) rfl
theorem q452 : (Jvm.Cond.selects "Massclaim" ({ cls := "Massclaim", name := "goOn", desc := "(I)I" } : Jvm.MethodName) ({ cls := "Massclaim", name := "goOn", desc := "(I)I" } : Jvm.MethodName)) ∈ lw_all := lw_g (lw_at lw_m2 148 rfl) rfl
theorem q453 : (Jvm.Cond.code ({ cls := "Massclaim", name := "goOn", desc := "(I)I" } : Jvm.MethodName) prog_1_method_14_code (5 : Nat) (Option.some Jvm.ClassFile.FieldType.int)) ∈ lw_all := lw_g (lw_at lw_m2 149 rfl) rfl
theorem q454 : (Jvm.Cond.constantLong "Massclaim" (125 : Nat) (400 : Int64)) ∈ lw_all := lw_g (lw_at lw_m2 150 rfl) rfl
theorem q455 : (Jvm.Cond.methodLink "Massclaim" (127 : Nat) ({ cls := "Massclaim", name := "isIn", desc := "(JJJ)Z" } : Jvm.MethodName)) ∈ lw_all := lw_g (lw_at lw_m2 151 rfl) rfl
theorem q456 : (Jvm.Cond.static ({ cls := "Massclaim", name := "isIn", desc := "(JJJ)Z" } : Jvm.MethodName)) ∈ lw_all := lw_g (lw_at lw_m2 152 rfl) rfl
theorem q457 : (Jvm.Cond.code ({ cls := "Massclaim", name := "isIn", desc := "(JJJ)Z" } : Jvm.MethodName) prog_1_method_1_code (6 : Nat) (Option.some Jvm.ClassFile.FieldType.boolean)) ∈ lw_all := lw_g (lw_at lw_m2 153 rfl) rfl
theorem q458 : (Jvm.Cond.methodLink "Massclaim" (131 : Nat) ({ cls := "Massclaim", name := "requireArgument", desc := "(Z)V" } : Jvm.MethodName)) ∈ lw_all := lw_g (lw_at lw_m2 154 rfl) rfl
theorem q459 : (Jvm.Cond.static ({ cls := "Massclaim", name := "requireArgument", desc := "(Z)V" } : Jvm.MethodName)) ∈ lw_all := lw_g (lw_at lw_m2 155 rfl) rfl
theorem q460 : (Jvm.Cond.code ({ cls := "Massclaim", name := "requireArgument", desc := "(Z)V" } : Jvm.MethodName) prog_1_method_3_code (1 : Nat) (Option.none : Option Jvm.ClassFile.FieldType)) ∈ lw_all := lw_g (lw_at lw_m2 156 rfl) rfl
theorem q461 : (Jvm.Cond.classLink "Massclaim" (7 : Nat) "java/lang/IllegalArgumentException") ∈ lw_all := lw_g (lw_at lw_m2 157 rfl) rfl
theorem q504 : (Jvm.Cond.methodLink "Massclaim" (9 : Nat) ({ cls := "java/lang/IllegalArgumentException", name := "<init>", desc := "()V" } : Jvm.MethodName)) ∈ lw_all := lw_g (lw_at lw_m2 200 rfl) rfl
theorem q527 : (Jvm.Cond.methodLink "Massclaim" (136 : Nat) ({ cls := "Massclaim$Row", name := "at", desc := "(I)LMassclaim$Numbered;" } : Jvm.MethodName)) ∈ lw_all := lw_g (lw_at lw_m2 223 rfl) rfl
theorem q533 : (Jvm.Cond.static ({ cls := "Massclaim", name := "requireIndex", desc := "(Z)V" } : Jvm.MethodName)) ∈ lw_all := lw_g (lw_at lw_m2 229 rfl) rfl
theorem q534 : (Jvm.Cond.code ({ cls := "Massclaim", name := "requireIndex", desc := "(Z)V" } : Jvm.MethodName) prog_1_method_2_code (1 : Nat) (Option.none : Option Jvm.ClassFile.FieldType)) ∈ lw_all := lw_g (lw_at lw_m2 230 rfl) rfl
theorem q535 : (Jvm.Cond.classLink "Massclaim" (1 : Nat) "java/lang/IndexOutOfBoundsException") ∈ lw_all := lw_g (lw_at lw_m2 231 rfl) rfl
theorem q544 : (Jvm.Cond.methodLink "Massclaim" (3 : Nat) ({ cls := "java/lang/IndexOutOfBoundsException", name := "<init>", desc := "()V" } : Jvm.MethodName)) ∈ lw_all := lw_g (lw_at lw_m3 0 rfl) rfl
theorem q553 : (Jvm.Cond.methodLink "Massclaim" (148 : Nat) ({ cls := "Massclaim$Person", name := "isMember", desc := "()Z" } : Jvm.MethodName)) ∈ lw_all := lw_g (lw_at lw_m3 9 rfl) rfl
theorem q561 : (Jvm.Cond.methodLink "Massclaim" (152 : Nat) ({ cls := "Massclaim$Person", name := "looks", desc := "()V" } : Jvm.MethodName)) ∈ lw_all := lw_g (lw_at lw_m3 17 rfl) rfl
theorem q587 : (Jvm.Cond.instanceMethod ({ cls := "Massclaim", name := "person", desc := "(IIII)I" } : Jvm.MethodName)) ∈ lw_all := lw_g (lw_at lw_m3 43 rfl) rfl
theorem q588 : (Jvm.Cond.selects "Massclaim" ({ cls := "Massclaim", name := "person", desc := "(IIII)I" } : Jvm.MethodName) ({ cls := "Massclaim", name := "person", desc := "(IIII)I" } : Jvm.MethodName)) ∈ lw_all := lw_g (lw_at lw_m3 44 rfl) rfl
theorem q589 : (Jvm.Cond.code ({ cls := "Massclaim", name := "person", desc := "(IIII)I" } : Jvm.MethodName) prog_1_method_15_code (5 : Nat) (Option.some Jvm.ClassFile.FieldType.int)) ∈ lw_all := lw_g (lw_at lw_m3 45 rfl) rfl
theorem q590 : (Jvm.Cond.constantLong "Massclaim" (163 : Nat) (-30000 : Int64)) ∈ lw_all := lw_g (lw_at lw_m3 46 rfl) rfl
theorem q591 : (Jvm.Cond.constantLong "Massclaim" (165 : Nat) (9 : Int64)) ∈ lw_all := lw_g (lw_at lw_m3 47 rfl) rfl
theorem q592 : (Jvm.Cond.constantLong "Massclaim" (167 : Nat) (3 : Int64)) ∈ lw_all := lw_g (lw_at lw_m3 48 rfl) rfl
theorem q593 : (Jvm.Cond.constantLong "Massclaim" (169 : Nat) (600 : Int64)) ∈ lw_all := lw_g (lw_at lw_m3 49 rfl) rfl
theorem q595 : (Jvm.Cond.methodLink "Massclaim" (171 : Nat) ({ cls := "Massclaim$Person", name := "<init>", desc := "(LMassclaim;IIIII)V" } : Jvm.MethodName)) ∈ lw_all := lw_g (lw_at lw_m3 51 rfl) rfl
theorem q602 : (Jvm.Cond.fieldLinkNest "Massclaim" (299 : Nat) "Massclaim$Person" "number" "I" "Massclaim") ∈ lw_tbl := lw_at lw_m3 58 rfl
theorem q606 : (Jvm.Cond.fieldLinkNest "Massclaim" (283 : Nat) "Massclaim$Person" "state" "I" "Massclaim") ∈ lw_tbl := lw_at lw_m3 62 rfl
theorem q610 : (Jvm.Cond.fieldLinkNest "Massclaim" (290 : Nat) "Massclaim$Person" "months" "I" "Massclaim") ∈ lw_tbl := lw_at lw_m3 66 rfl
theorem q613 : (Jvm.Cond.fieldLinkNest "Massclaim" (145 : Nat) "Massclaim$Person" "level" "I" "Massclaim") ∈ lw_tbl := lw_at lw_m3 69 rfl
theorem q616 : (Jvm.Cond.fieldLinkNest "Massclaim" (185 : Nat) "Massclaim$Person" "known" "I" "Massclaim") ∈ lw_tbl := lw_at lw_m3 72 rfl
theorem q618 : (Jvm.Cond.fieldLinkNest "Massclaim" (142 : Nat) "Massclaim$Person" "ran" "I" "Massclaim") ∈ lw_tbl := lw_at lw_m3 74 rfl
theorem q620 : (Jvm.Cond.fieldLinkNest "Massclaim" (260 : Nat) "Massclaim$Person" "isOut" "Z" "Massclaim") ∈ lw_tbl := lw_at lw_m3 76 rfl
theorem q622 : (Jvm.Cond.fieldLinkNest "Massclaim" (280 : Nat) "Massclaim$Person" "hasAddress" "Z" "Massclaim") ∈ lw_tbl := lw_at lw_m3 78 rfl
theorem q624 : (Jvm.Cond.fieldLinkNest "Massclaim" (248 : Nat) "Massclaim$Person" "noticed" "I" "Massclaim") ∈ lw_tbl := lw_at lw_m3 80 rfl
theorem q625 : (Jvm.Cond.fieldLinkNest "Massclaim" (287 : Nat) "Massclaim$Person" "isDrawn" "Z" "Massclaim") ∈ lw_tbl := lw_at lw_m3 81 rfl
theorem q626 : (Jvm.Cond.fieldLinkNest "Massclaim" (302 : Nat) "Massclaim$Person" "hasVerdict" "Z" "Massclaim") ∈ lw_tbl := lw_at lw_m3 82 rfl
theorem q628 : (Jvm.Cond.fieldLinkNest "Massclaim" (362 : Nat) "Massclaim$Person" "vote" "I" "Massclaim") ∈ lw_tbl := lw_at lw_m3 84 rfl
theorem q629 : (Jvm.Cond.fieldLinkNest "Massclaim" (365 : Nat) "Massclaim$Person" "objects" "Z" "Massclaim") ∈ lw_tbl := lw_at lw_m3 85 rfl
theorem q631 : (Jvm.Cond.fieldLinkNest "Massclaim" (251 : Nat) "Massclaim$Person" "claim" "LMassclaim$Claim;" "Massclaim") ∈ lw_tbl := lw_at lw_m3 87 rfl
theorem q633 : (Jvm.Cond.fieldLinkNest "Massclaim" (266 : Nat) "Massclaim$Person" "delivered" "J" "Massclaim") ∈ lw_tbl := lw_at lw_m3 89 rfl
theorem q635 : (Jvm.Cond.fieldLinkNest "Massclaim" (191 : Nat) "Massclaim$Person" "blocked" "J" "Massclaim") ∈ lw_tbl := lw_at lw_m3 91 rfl
theorem q638 : (Jvm.Cond.fieldLinkNest "Massclaim" (269 : Nat) "Massclaim$Person" "heldBack" "J" "Massclaim") ∈ lw_tbl := lw_at lw_m3 94 rfl
theorem q640 : (Jvm.Cond.fieldLinkNest "Massclaim" (198 : Nat) "Massclaim$Person" "yearly" "Ljava/util/List;" "Massclaim") ∈ lw_tbl := lw_at lw_m3 96 rfl
theorem q642 : (Jvm.Cond.fieldLinkNest "Massclaim" (188 : Nat) "Massclaim$Person" "heirs" "[J" "Massclaim") ∈ lw_tbl := lw_at lw_m3 98 rfl
theorem q689 : (Jvm.Cond.methodLink "Massclaim" (174 : Nat) ({ cls := "Massclaim$Row", name := "add", desc := "(LMassclaim$Numbered;)I" } : Jvm.MethodName)) ∈ lw_all := lw_g (lw_at lw_m3 145 rfl) rfl
theorem q698 : (Jvm.Cond.static ({ cls := "Massclaim", name := "requireState", desc := "(Z)V" } : Jvm.MethodName)) ∈ lw_all := lw_g (lw_at lw_m3 154 rfl) rfl
theorem q699 : (Jvm.Cond.code ({ cls := "Massclaim", name := "requireState", desc := "(Z)V" } : Jvm.MethodName) prog_1_method_4_code (1 : Nat) (Option.none : Option Jvm.ClassFile.FieldType)) ∈ lw_all := lw_g (lw_at lw_m3 155 rfl) rfl
theorem q700 : (Jvm.Cond.classLink "Massclaim" (10 : Nat) "java/lang/IllegalStateException") ∈ lw_all := lw_g (lw_at lw_m3 156 rfl) rfl
theorem q709 : (Jvm.Cond.methodLink "Massclaim" (12 : Nat) ({ cls := "java/lang/IllegalStateException", name := "<init>", desc := "()V" } : Jvm.MethodName)) ∈ lw_all := lw_g (lw_at lw_m3 165 rfl) rfl
theorem q752 : (Jvm.Cond.selects "Massclaim" ({ cls := "java/lang/Object", name := "getClass", desc := "()Ljava/lang/Class;" } : Jvm.MethodName) ({ cls := "java/lang/Object", name := "getClass", desc := "()Ljava/lang/Class;" } : Jvm.MethodName)) ∈ lw_all := lw_g (lw_at lw_m3 208 rfl) rfl
theorem q863 : (Jvm.Cond.instanceMethod ({ cls := "Massclaim", name := "sick", desc := "(II)I" } : Jvm.MethodName)) ∈ lw_all := lw_g (lw_at lw_m4 79 rfl) rfl
theorem q864 : (Jvm.Cond.selects "Massclaim" ({ cls := "Massclaim", name := "sick", desc := "(II)I" } : Jvm.MethodName) ({ cls := "Massclaim", name := "sick", desc := "(II)I" } : Jvm.MethodName)) ∈ lw_all := lw_g (lw_at lw_m4 80 rfl) rfl
theorem q865 : (Jvm.Cond.code ({ cls := "Massclaim", name := "sick", desc := "(II)I" } : Jvm.MethodName) prog_1_method_16_code (5 : Nat) (Option.some Jvm.ClassFile.FieldType.int)) ∈ lw_all := lw_g (lw_at lw_m4 81 rfl) rfl
theorem q866 : (Jvm.Cond.constantLong "Massclaim" (177 : Nat) (5 : Int64)) ∈ lw_all := lw_g (lw_at lw_m4 82 rfl) rfl
theorem q867 : (Jvm.Cond.methodLink "Massclaim" (179 : Nat) ({ cls := "Massclaim$Person", name := "isDead", desc := "()Z" } : Jvm.MethodName)) ∈ lw_all := lw_g (lw_at lw_m4 83 rfl) rfl
theorem q868 : (Jvm.Cond.methodLink "Massclaim" (182 : Nat) ({ cls := "Massclaim", name := "requireState", desc := "(Z)V" } : Jvm.MethodName)) ∈ lw_all := lw_g (lw_at lw_m4 84 rfl) rfl
theorem q873 : (Jvm.Cond.instanceMethod ({ cls := "Massclaim", name := "die", desc := "(II)J" } : Jvm.MethodName)) ∈ lw_all := lw_g (lw_at lw_m4 89 rfl) rfl
theorem q874 : (Jvm.Cond.selects "Massclaim" ({ cls := "Massclaim", name := "die", desc := "(II)J" } : Jvm.MethodName) ({ cls := "Massclaim", name := "die", desc := "(II)J" } : Jvm.MethodName)) ∈ lw_all := lw_g (lw_at lw_m4 90 rfl) rfl
theorem q875 : (Jvm.Cond.code ({ cls := "Massclaim", name := "die", desc := "(II)J" } : Jvm.MethodName) prog_1_method_17_code (6 : Nat) (Option.some Jvm.ClassFile.FieldType.long)) ∈ lw_all := lw_g (lw_at lw_m4 91 rfl) rfl
theorem q876 : (Jvm.Cond.interfaceEntry "Massclaim" (202 : Nat)) ∈ lw_tbl := lw_at lw_m4 92 rfl
theorem q877 : (Jvm.Cond.methodLink "Massclaim" (202 : Nat) ({ cls := "java/util/List", name := "clear", desc := "()V" } : Jvm.MethodName)) ∈ lw_all := lw_g (lw_at lw_m4 93 rfl) rfl
theorem q878 : (Jvm.Cond.methodLink "Massclaim" (204 : Nat) ({ cls := "Massclaim$Person", name := "gets", desc := "(J)V" } : Jvm.MethodName)) ∈ lw_all := lw_g (lw_at lw_m4 94 rfl) rfl
theorem q883 : (Jvm.Cond.instanceMethod ({ cls := "Massclaim", name := "define", desc := "(III)I" } : Jvm.MethodName)) ∈ lw_all := lw_g (lw_at lw_m4 99 rfl) rfl
theorem q884 : (Jvm.Cond.selects "Massclaim" ({ cls := "Massclaim", name := "define", desc := "(III)I" } : Jvm.MethodName) ({ cls := "Massclaim", name := "define", desc := "(III)I" } : Jvm.MethodName)) ∈ lw_all := lw_g (lw_at lw_m4 100 rfl) rfl
theorem q885 : (Jvm.Cond.code ({ cls := "Massclaim", name := "define", desc := "(III)I" } : Jvm.MethodName) prog_1_method_19_code (4 : Nat) (Option.some Jvm.ClassFile.FieldType.int)) ∈ lw_all := lw_g (lw_at lw_m4 101 rfl) rfl
theorem q886 : (Jvm.Cond.constantLong "Massclaim" (221 : Nat) (15 : Int64)) ∈ lw_all := lw_g (lw_at lw_m4 102 rfl) rfl
theorem q887 : (Jvm.Cond.constantLong "Massclaim" (223 : Nat) (1023 : Int64)) ∈ lw_all := lw_g (lw_at lw_m4 103 rfl) rfl
theorem q888 : (Jvm.Cond.methodLink "Massclaim" (225 : Nat) ({ cls := "Massclaim", name := "isDone", desc := "()Z" } : Jvm.MethodName)) ∈ lw_all := lw_g (lw_at lw_m4 104 rfl) rfl
theorem q889 : (Jvm.Cond.privateMethod ({ cls := "Massclaim", name := "isDone", desc := "()Z" } : Jvm.MethodName)) ∈ lw_tbl := lw_at lw_m4 105 rfl
theorem q890 : (Jvm.Cond.instanceMethod ({ cls := "Massclaim", name := "isDone", desc := "()Z" } : Jvm.MethodName)) ∈ lw_all := lw_g (lw_at lw_m4 106 rfl) rfl
theorem q891 : (Jvm.Cond.code ({ cls := "Massclaim", name := "isDone", desc := "()Z" } : Jvm.MethodName) prog_1_method_13_code (1 : Nat) (Option.some Jvm.ClassFile.FieldType.boolean)) ∈ lw_all := lw_g (lw_at lw_m4 107 rfl) rfl
theorem q892 : (Jvm.Cond.methodLink "Massclaim" (123 : Nat) ({ cls := "Massclaim", name := "stage", desc := "()I" } : Jvm.MethodName)) ∈ lw_all := lw_g (lw_at lw_m4 108 rfl) rfl
theorem q893 : (Jvm.Cond.privateMethod ({ cls := "Massclaim", name := "stage", desc := "()I" } : Jvm.MethodName)) ∈ lw_tbl := lw_at lw_m4 109 rfl
theorem q894 : (Jvm.Cond.instanceMethod ({ cls := "Massclaim", name := "stage", desc := "()I" } : Jvm.MethodName)) ∈ lw_all := lw_g (lw_at lw_m4 110 rfl) rfl
theorem q895 : (Jvm.Cond.code ({ cls := "Massclaim", name := "stage", desc := "()I" } : Jvm.MethodName) prog_1_method_12_code (1 : Nat) (Option.some Jvm.ClassFile.FieldType.int)) ∈ lw_all := lw_g (lw_at lw_m4 111 rfl) rfl
theorem q896 : (Jvm.Cond.methodLink "Massclaim" (228 : Nat) ({ cls := "Massclaim", name := "members", desc := "()I" } : Jvm.MethodName)) ∈ lw_all := lw_g (lw_at lw_m4 112 rfl) rfl
theorem q897 : (Jvm.Cond.privateMethod ({ cls := "Massclaim", name := "members", desc := "()I" } : Jvm.MethodName)) ∈ lw_tbl := lw_at lw_m4 113 rfl
theorem q898 : (Jvm.Cond.instanceMethod ({ cls := "Massclaim", name := "members", desc := "()I" } : Jvm.MethodName)) ∈ lw_all := lw_g (lw_at lw_m4 114 rfl) rfl
theorem q899 : (Jvm.Cond.code ({ cls := "Massclaim", name := "members", desc := "()I" } : Jvm.MethodName) prog_1_method_18_code (4 : Nat) (Option.some Jvm.ClassFile.FieldType.int)) ∈ lw_all := lw_g (lw_at lw_m4 115 rfl) rfl
theorem q904 : (Jvm.Cond.instanceMethod ({ cls := "Massclaim", name := "subclass", desc := "(IIZ)I" } : Jvm.MethodName)) ∈ lw_all := lw_g (lw_at lw_m4 120 rfl) rfl
theorem q905 : (Jvm.Cond.selects "Massclaim" ({ cls := "Massclaim", name := "subclass", desc := "(IIZ)I" } : Jvm.MethodName) ({ cls := "Massclaim", name := "subclass", desc := "(IIZ)I" } : Jvm.MethodName)) ∈ lw_all := lw_g (lw_at lw_m4 121 rfl) rfl
theorem q906 : (Jvm.Cond.code ({ cls := "Massclaim", name := "subclass", desc := "(IIZ)I" } : Jvm.MethodName) prog_1_method_20_code (4 : Nat) (Option.some Jvm.ClassFile.FieldType.int)) ∈ lw_all := lw_g (lw_at lw_m4 122 rfl) rfl
theorem q907 : (Jvm.Cond.classLink "Massclaim" (231 : Nat) "Massclaim$Subclass") ∈ lw_all := lw_g (lw_at lw_m4 123 rfl) rfl
theorem q909 : (Jvm.Cond.methodLink "Massclaim" (233 : Nat) ({ cls := "Massclaim$Subclass", name := "<init>", desc := "(IIIZ)V" } : Jvm.MethodName)) ∈ lw_all := lw_g (lw_at lw_m4 125 rfl) rfl
theorem q914 : (Jvm.Cond.fieldLinkNest "Massclaim" (242 : Nat) "Massclaim$Subclass" "number" "I" "Massclaim") ∈ lw_tbl := lw_at lw_m4 130 rfl
theorem q918 : (Jvm.Cond.fieldLinkNest "Massclaim" (368 : Nat) "Massclaim$Subclass" "isCut" "Z" "Massclaim") ∈ lw_tbl := lw_at lw_m4 134 rfl
theorem q932 : (Jvm.Cond.instanceMethod ({ cls := "Massclaim", name := "personAt", desc := "(II)I" } : Jvm.MethodName)) ∈ lw_all := lw_g (lw_at lw_m4 148 rfl) rfl
theorem q933 : (Jvm.Cond.selects "Massclaim" ({ cls := "Massclaim", name := "personAt", desc := "(II)I" } : Jvm.MethodName) ({ cls := "Massclaim", name := "personAt", desc := "(II)I" } : Jvm.MethodName)) ∈ lw_all := lw_g (lw_at lw_m4 149 rfl) rfl
theorem q934 : (Jvm.Cond.code ({ cls := "Massclaim", name := "personAt", desc := "(II)I" } : Jvm.MethodName) prog_1_method_21_code (4 : Nat) (Option.some Jvm.ClassFile.FieldType.int)) ∈ lw_all := lw_g (lw_at lw_m4 150 rfl) rfl
theorem q935 : (Jvm.Cond.constantLong "Massclaim" (236 : Nat) (8 : Int64)) ∈ lw_all := lw_g (lw_at lw_m4 151 rfl) rfl
theorem q936 : (Jvm.Cond.methodLink "Massclaim" (238 : Nat) ({ cls := "Massclaim$Person", name := "subclass", desc := "()LMassclaim$Subclass;" } : Jvm.MethodName)) ∈ lw_all := lw_g (lw_at lw_m4 152 rfl) rfl
theorem q952 : (Jvm.Cond.static ({ cls := "Massclaim", name := "first", desc := "(Ljava/util/List;)LMassclaim$Numbered;" } : Jvm.MethodName)) ∈ lw_all := lw_g (lw_at lw_m4 168 rfl) rfl
theorem q953 : (Jvm.Cond.code ({ cls := "Massclaim", name := "first", desc := "(Ljava/util/List;)LMassclaim$Numbered;" } : Jvm.MethodName) prog_1_method_6_code (3 : Nat) (Option.some (Jvm.ClassFile.FieldType.object "Massclaim$Numbered"))) ∈ lw_all := lw_g (lw_at lw_m4 169 rfl) rfl
theorem q954 : (Jvm.Cond.interfaceEntry "Massclaim" (13 : Nat)) ∈ lw_tbl := lw_at lw_m4 170 rfl
theorem q955 : (Jvm.Cond.methodLink "Massclaim" (13 : Nat) ({ cls := "java/util/List", name := "size", desc := "()I" } : Jvm.MethodName)) ∈ lw_all := lw_g (lw_at lw_m4 171 rfl) rfl
theorem q956 : (Jvm.Cond.interfaceEntry "Massclaim" (19 : Nat)) ∈ lw_tbl := lw_at lw_m4 172 rfl
theorem q957 : (Jvm.Cond.methodLink "Massclaim" (19 : Nat) ({ cls := "java/util/List", name := "get", desc := "(I)Ljava/lang/Object;" } : Jvm.MethodName)) ∈ lw_all := lw_g (lw_at lw_m4 173 rfl) rfl
theorem q958 : (Jvm.Cond.classLink "Massclaim" (23 : Nat) "Massclaim$Numbered") ∈ lw_all := lw_g (lw_at lw_m4 174 rfl) rfl
theorem q959 : (Jvm.Cond.interfaceEntry "Massclaim" (25 : Nat)) ∈ lw_tbl := lw_at lw_m4 175 rfl
theorem q960 : (Jvm.Cond.methodLink "Massclaim" (25 : Nat) ({ cls := "Massclaim$Numbered", name := "compareTo", desc := "(LMassclaim$Numbered;)I" } : Jvm.MethodName)) ∈ lw_all := lw_g (lw_at lw_m4 176 rfl) rfl
theorem q973 : (Jvm.Cond.methodLink "Massclaim" (245 : Nat) ({ cls := "Massclaim$Person", name := "isBarred", desc := "()Z" } : Jvm.MethodName)) ∈ lw_all := lw_g (lw_at lw_m4 189 rfl) rfl
theorem q977 : (Jvm.Cond.methodLink "Massclaim" (256 : Nat) ({ cls := "Massclaim$Person", name := "age", desc := "(I)I" } : Jvm.MethodName)) ∈ lw_all := lw_g (lw_at lw_m4 193 rfl) rfl
theorem q982 : (Jvm.Cond.instanceMethod ({ cls := "Massclaim", name := "moneyOf", desc := "(II)J" } : Jvm.MethodName)) ∈ lw_all := lw_g (lw_at lw_m4 198 rfl) rfl
theorem q983 : (Jvm.Cond.selects "Massclaim" ({ cls := "Massclaim", name := "moneyOf", desc := "(II)J" } : Jvm.MethodName) ({ cls := "Massclaim", name := "moneyOf", desc := "(II)J" } : Jvm.MethodName)) ∈ lw_all := lw_g (lw_at lw_m4 199 rfl) rfl
theorem q984 : (Jvm.Cond.code ({ cls := "Massclaim", name := "moneyOf", desc := "(II)J" } : Jvm.MethodName) prog_1_method_22_code (4 : Nat) (Option.some Jvm.ClassFile.FieldType.long)) ∈ lw_all := lw_g (lw_at lw_m4 200 rfl) rfl
theorem q985 : (Jvm.Cond.constantLong "Massclaim" (264 : Nat) (4 : Int64)) ∈ lw_all := lw_g (lw_at lw_m4 201 rfl) rfl
theorem q986 : (Jvm.Cond.methodLink "Massclaim" (272 : Nat) ({ cls := "Massclaim$Person", name := "openLiens", desc := "()J" } : Jvm.MethodName)) ∈ lw_all := lw_g (lw_at lw_m4 202 rfl) rfl
theorem q995 : (Jvm.Cond.instanceMethod ({ cls := "Massclaim", name := "heirAt", desc := "(II)J" } : Jvm.MethodName)) ∈ lw_all := lw_g (lw_at lw_m4 211 rfl) rfl
theorem q996 : (Jvm.Cond.selects "Massclaim" ({ cls := "Massclaim", name := "heirAt", desc := "(II)J" } : Jvm.MethodName) ({ cls := "Massclaim", name := "heirAt", desc := "(II)J" } : Jvm.MethodName)) ∈ lw_all := lw_g (lw_at lw_m4 212 rfl) rfl
theorem q997 : (Jvm.Cond.code ({ cls := "Massclaim", name := "heirAt", desc := "(II)J" } : Jvm.MethodName) prog_1_method_23_code (4 : Nat) (Option.some Jvm.ClassFile.FieldType.long)) ∈ lw_all := lw_g (lw_at lw_m4 213 rfl) rfl
theorem q998 : (Jvm.Cond.methodLink "Massclaim" (275 : Nat) ({ cls := "Massclaim", name := "requireIndex", desc := "(Z)V" } : Jvm.MethodName)) ∈ lw_all := lw_g (lw_at lw_m4 214 rfl) rfl
theorem q1003 : (Jvm.Cond.instanceMethod ({ cls := "Massclaim", name := "notice", desc := "(II)I" } : Jvm.MethodName)) ∈ lw_all := lw_g (lw_at lw_m4 219 rfl) rfl
theorem q1004 : (Jvm.Cond.selects "Massclaim" ({ cls := "Massclaim", name := "notice", desc := "(II)I" } : Jvm.MethodName) ({ cls := "Massclaim", name := "notice", desc := "(II)I" } : Jvm.MethodName)) ∈ lw_all := lw_g (lw_at lw_m4 220 rfl) rfl
theorem q1005 : (Jvm.Cond.code ({ cls := "Massclaim", name := "notice", desc := "(II)I" } : Jvm.MethodName) prog_1_method_24_code (7 : Nat) (Option.some Jvm.ClassFile.FieldType.int)) ∈ lw_all := lw_g (lw_at lw_m4 221 rfl) rfl
theorem q1006 : (Jvm.Cond.constantLong "Massclaim" (278 : Nat) (2 : Int64)) ∈ lw_all := lw_g (lw_at lw_m4 222 rfl) rfl
theorem q1011 : (Jvm.Cond.instanceMethod ({ cls := "Massclaim", name := "address", desc := "(IZ)Z" } : Jvm.MethodName)) ∈ lw_all := lw_g (lw_at lw_m4 227 rfl) rfl
theorem q1012 : (Jvm.Cond.selects "Massclaim" ({ cls := "Massclaim", name := "address", desc := "(IZ)Z" } : Jvm.MethodName) ({ cls := "Massclaim", name := "address", desc := "(IZ)Z" } : Jvm.MethodName)) ∈ lw_all := lw_g (lw_at lw_m4 228 rfl) rfl
theorem q1013 : (Jvm.Cond.code ({ cls := "Massclaim", name := "address", desc := "(IZ)Z" } : Jvm.MethodName) prog_1_method_26_code (5 : Nat) (Option.some Jvm.ClassFile.FieldType.boolean)) ∈ lw_all := lw_g (lw_at lw_m4 229 rfl) rfl
theorem q1018 : (Jvm.Cond.instanceMethod ({ cls := "Massclaim", name := "optOut", desc := "(IZ)Z" } : Jvm.MethodName)) ∈ lw_all := lw_g (lw_at lw_m4 234 rfl) rfl
theorem q1019 : (Jvm.Cond.selects "Massclaim" ({ cls := "Massclaim", name := "optOut", desc := "(IZ)Z" } : Jvm.MethodName) ({ cls := "Massclaim", name := "optOut", desc := "(IZ)Z" } : Jvm.MethodName)) ∈ lw_all := lw_g (lw_at lw_m4 235 rfl) rfl
theorem q1020 : (Jvm.Cond.code ({ cls := "Massclaim", name := "optOut", desc := "(IZ)Z" } : Jvm.MethodName) prog_1_method_27_code (5 : Nat) (Option.some Jvm.ClassFile.FieldType.boolean)) ∈ lw_all := lw_g (lw_at lw_m4 236 rfl) rfl
theorem q1025 : (Jvm.Cond.instanceMethod ({ cls := "Massclaim", name := "optIn", desc := "(I)Z" } : Jvm.MethodName)) ∈ lw_all := lw_g (lw_at lw_m5 1 rfl) rfl
theorem q1026 : (Jvm.Cond.selects "Massclaim" ({ cls := "Massclaim", name := "optIn", desc := "(I)Z" } : Jvm.MethodName) ({ cls := "Massclaim", name := "optIn", desc := "(I)Z" } : Jvm.MethodName)) ∈ lw_all := lw_g (lw_at lw_m5 2 rfl) rfl
theorem q1027 : (Jvm.Cond.code ({ cls := "Massclaim", name := "optIn", desc := "(I)Z" } : Jvm.MethodName) prog_1_method_28_code (4 : Nat) (Option.some Jvm.ClassFile.FieldType.boolean)) ∈ lw_all := lw_g (lw_at lw_m5 3 rfl) rfl
theorem q1032 : (Jvm.Cond.instanceMethod ({ cls := "Massclaim", name := "draw", desc := "(I)I" } : Jvm.MethodName)) ∈ lw_all := lw_g (lw_at lw_m5 8 rfl) rfl
theorem q1033 : (Jvm.Cond.selects "Massclaim" ({ cls := "Massclaim", name := "draw", desc := "(I)I" } : Jvm.MethodName) ({ cls := "Massclaim", name := "draw", desc := "(I)I" } : Jvm.MethodName)) ∈ lw_all := lw_g (lw_at lw_m5 9 rfl) rfl
theorem q1034 : (Jvm.Cond.code ({ cls := "Massclaim", name := "draw", desc := "(I)I" } : Jvm.MethodName) prog_1_method_29_code (7 : Nat) (Option.some Jvm.ClassFile.FieldType.int)) ∈ lw_all := lw_g (lw_at lw_m5 10 rfl) rfl
theorem q1035 : (Jvm.Cond.classLink "Massclaim" (284 : Nat) "java/util/ArrayList") ∈ lw_all := lw_g (lw_at lw_m5 11 rfl) rfl
theorem q1036 : (Jvm.Cond.methodLink "Massclaim" (286 : Nat) ({ cls := "java/util/ArrayList", name := "<init>", desc := "()V" } : Jvm.MethodName)) ∈ lw_all := lw_g (lw_at lw_m5 12 rfl) rfl
theorem q1037 : (Jvm.Cond.interfaceEntry "Massclaim" (293 : Nat)) ∈ lw_tbl := lw_at lw_m5 13 rfl
theorem q1038 : (Jvm.Cond.methodLink "Massclaim" (293 : Nat) ({ cls := "java/util/List", name := "add", desc := "(ILjava/lang/Object;)V" } : Jvm.MethodName)) ∈ lw_all := lw_g (lw_at lw_m5 14 rfl) rfl
theorem q1286 : (Jvm.Cond.interfaceEntry "Massclaim" (296 : Nat)) ∈ lw_tbl := lw_at lw_m6 22 rfl
theorem q1287 : (Jvm.Cond.methodLink "Massclaim" (296 : Nat) ({ cls := "java/util/List", name := "isEmpty", desc := "()Z" } : Jvm.MethodName)) ∈ lw_all := lw_g (lw_at lw_m6 23 rfl) rfl
theorem q1299 : (Jvm.Cond.instanceMethod ({ cls := "Massclaim", name := "verdict", desc := "(II)I" } : Jvm.MethodName)) ∈ lw_all := lw_g (lw_at lw_m6 35 rfl) rfl
theorem q1300 : (Jvm.Cond.selects "Massclaim" ({ cls := "Massclaim", name := "verdict", desc := "(II)I" } : Jvm.MethodName) ({ cls := "Massclaim", name := "verdict", desc := "(II)I" } : Jvm.MethodName)) ∈ lw_all := lw_g (lw_at lw_m6 36 rfl) rfl
theorem q1301 : (Jvm.Cond.code ({ cls := "Massclaim", name := "verdict", desc := "(II)I" } : Jvm.MethodName) prog_1_method_30_code (4 : Nat) (Option.some Jvm.ClassFile.FieldType.int)) ∈ lw_all := lw_g (lw_at lw_m6 37 rfl) rfl
theorem q1302 : (Jvm.Cond.constantLong "Massclaim" (300 : Nat) (10000000 : Int64)) ∈ lw_all := lw_g (lw_at lw_m6 38 rfl) rfl
theorem q1303 : (Jvm.Cond.methodLink "Massclaim" (305 : Nat) ({ cls := "Massclaim", name := "offered", desc := "(I)I" } : Jvm.MethodName)) ∈ lw_all := lw_g (lw_at lw_m6 39 rfl) rfl
theorem q1304 : (Jvm.Cond.privateMethod ({ cls := "Massclaim", name := "offered", desc := "(I)I" } : Jvm.MethodName)) ∈ lw_tbl := lw_at lw_m6 40 rfl
theorem q1305 : (Jvm.Cond.instanceMethod ({ cls := "Massclaim", name := "offered", desc := "(I)I" } : Jvm.MethodName)) ∈ lw_all := lw_g (lw_at lw_m6 41 rfl) rfl
theorem q1306 : (Jvm.Cond.code ({ cls := "Massclaim", name := "offered", desc := "(I)I" } : Jvm.MethodName) prog_1_method_31_code (3 : Nat) (Option.some Jvm.ClassFile.FieldType.int)) ∈ lw_all := lw_g (lw_at lw_m6 42 rfl) rfl
theorem q1311 : (Jvm.Cond.instanceMethod ({ cls := "Massclaim", name := "offer", desc := "(I)I" } : Jvm.MethodName)) ∈ lw_all := lw_g (lw_at lw_m6 47 rfl) rfl
theorem q1312 : (Jvm.Cond.selects "Massclaim" ({ cls := "Massclaim", name := "offer", desc := "(I)I" } : Jvm.MethodName) ({ cls := "Massclaim", name := "offer", desc := "(I)I" } : Jvm.MethodName)) ∈ lw_all := lw_g (lw_at lw_m6 48 rfl) rfl
theorem q1313 : (Jvm.Cond.code ({ cls := "Massclaim", name := "offer", desc := "(I)I" } : Jvm.MethodName) prog_1_method_33_code (2 : Nat) (Option.some Jvm.ClassFile.FieldType.int)) ∈ lw_all := lw_g (lw_at lw_m6 49 rfl) rfl
theorem q1314 : (Jvm.Cond.methodLink "Massclaim" (308 : Nat) ({ cls := "Massclaim", name := "requireLevel", desc := "(I)V" } : Jvm.MethodName)) ∈ lw_all := lw_g (lw_at lw_m6 50 rfl) rfl
theorem q1315 : (Jvm.Cond.static ({ cls := "Massclaim", name := "requireLevel", desc := "(I)V" } : Jvm.MethodName)) ∈ lw_all := lw_g (lw_at lw_m6 51 rfl) rfl
theorem q1316 : (Jvm.Cond.code ({ cls := "Massclaim", name := "requireLevel", desc := "(I)V" } : Jvm.MethodName) prog_1_method_32_code (1 : Nat) (Option.none : Option Jvm.ClassFile.FieldType)) ∈ lw_all := lw_g (lw_at lw_m6 52 rfl) rfl
theorem q1321 : (Jvm.Cond.instanceMethod ({ cls := "Massclaim", name := "defendant", desc := "(II)I" } : Jvm.MethodName)) ∈ lw_all := lw_g (lw_at lw_m6 57 rfl) rfl
theorem q1322 : (Jvm.Cond.selects "Massclaim" ({ cls := "Massclaim", name := "defendant", desc := "(II)I" } : Jvm.MethodName) ({ cls := "Massclaim", name := "defendant", desc := "(II)I" } : Jvm.MethodName)) ∈ lw_all := lw_g (lw_at lw_m6 58 rfl) rfl
theorem q1323 : (Jvm.Cond.code ({ cls := "Massclaim", name := "defendant", desc := "(II)I" } : Jvm.MethodName) prog_1_method_35_code (3 : Nat) (Option.some Jvm.ClassFile.FieldType.int)) ∈ lw_all := lw_g (lw_at lw_m6 59 rfl) rfl
theorem q1324 : (Jvm.Cond.methodLink "Massclaim" (318 : Nat) ({ cls := "Massclaim", name := "shares", desc := "()I" } : Jvm.MethodName)) ∈ lw_all := lw_g (lw_at lw_m6 60 rfl) rfl
theorem q1325 : (Jvm.Cond.privateMethod ({ cls := "Massclaim", name := "shares", desc := "()I" } : Jvm.MethodName)) ∈ lw_tbl := lw_at lw_m6 61 rfl
theorem q1326 : (Jvm.Cond.instanceMethod ({ cls := "Massclaim", name := "shares", desc := "()I" } : Jvm.MethodName)) ∈ lw_all := lw_g (lw_at lw_m6 62 rfl) rfl
theorem q1327 : (Jvm.Cond.code ({ cls := "Massclaim", name := "shares", desc := "()I" } : Jvm.MethodName) prog_1_method_34_code (4 : Nat) (Option.some Jvm.ClassFile.FieldType.int)) ∈ lw_all := lw_g (lw_at lw_m6 63 rfl) rfl
theorem q1328 : (Jvm.Cond.constantLong "Massclaim" (321 : Nat) (1000000000 : Int64)) ∈ lw_all := lw_g (lw_at lw_m6 64 rfl) rfl
theorem q1330 : (Jvm.Cond.methodLink "Massclaim" (323 : Nat) ({ cls := "Massclaim$Defendant", name := "<init>", desc := "(III)V" } : Jvm.MethodName)) ∈ lw_all := lw_g (lw_at lw_m6 66 rfl) rfl
theorem q1336 : (Jvm.Cond.fieldLinkNest "Massclaim" (313 : Nat) "Massclaim$Defendant" "share" "I" "Massclaim") ∈ lw_tbl := lw_at lw_m6 72 rfl
theorem q1338 : (Jvm.Cond.fieldLinkNest "Massclaim" (332 : Nat) "Massclaim$Defendant" "wealth" "I" "Massclaim") ∈ lw_tbl := lw_at lw_m6 74 rfl
theorem q1339 : (Jvm.Cond.fieldLinkNest "Massclaim" (329 : Nat) "Massclaim$Defendant" "owes" "J" "Massclaim") ∈ lw_tbl := lw_at lw_m6 75 rfl
theorem q1340 : (Jvm.Cond.fieldLinkNest "Massclaim" (341 : Nat) "Massclaim$Defendant" "paid" "J" "Massclaim") ∈ lw_tbl := lw_at lw_m6 76 rfl
theorem q1341 : (Jvm.Cond.fieldLinkNest "Massclaim" (326 : Nat) "Massclaim$Defendant" "hasFailed" "Z" "Massclaim") ∈ lw_tbl := lw_at lw_m6 77 rfl
theorem q1359 : (Jvm.Cond.instanceMethod ({ cls := "Massclaim", name := "payIn", desc := "(II)J" } : Jvm.MethodName)) ∈ lw_all := lw_g (lw_at lw_m6 95 rfl) rfl
theorem q1360 : (Jvm.Cond.selects "Massclaim" ({ cls := "Massclaim", name := "payIn", desc := "(II)J" } : Jvm.MethodName) ({ cls := "Massclaim", name := "payIn", desc := "(II)J" } : Jvm.MethodName)) ∈ lw_all := lw_g (lw_at lw_m6 96 rfl) rfl
theorem q1361 : (Jvm.Cond.code ({ cls := "Massclaim", name := "payIn", desc := "(II)J" } : Jvm.MethodName) prog_1_method_36_code (6 : Nat) (Option.some Jvm.ClassFile.FieldType.long)) ∈ lw_all := lw_g (lw_at lw_m6 97 rfl) rfl
theorem q1362 : (Jvm.Cond.methodLink "Massclaim" (335 : Nat) ({ cls := "java/lang/Math", name := "min", desc := "(JJ)J" } : Jvm.MethodName)) ∈ lw_all := lw_g (lw_at lw_m6 98 rfl) rfl
theorem q1367 : (Jvm.Cond.instanceMethod ({ cls := "Massclaim", name := "fail", desc := "(I)J" } : Jvm.MethodName)) ∈ lw_all := lw_g (lw_at lw_m6 103 rfl) rfl
theorem q1368 : (Jvm.Cond.selects "Massclaim" ({ cls := "Massclaim", name := "fail", desc := "(I)J" } : Jvm.MethodName) ({ cls := "Massclaim", name := "fail", desc := "(I)J" } : Jvm.MethodName)) ∈ lw_all := lw_g (lw_at lw_m6 104 rfl) rfl
theorem q1369 : (Jvm.Cond.code ({ cls := "Massclaim", name := "fail", desc := "(I)J" } : Jvm.MethodName) prog_1_method_38_code (6 : Nat) (Option.some Jvm.ClassFile.FieldType.long)) ∈ lw_all := lw_g (lw_at lw_m6 105 rfl) rfl
theorem q1370 : (Jvm.Cond.methodLink "Massclaim" (355 : Nat) ({ cls := "Massclaim", name := "bears", desc := "(J)Z" } : Jvm.MethodName)) ∈ lw_all := lw_g (lw_at lw_m6 106 rfl) rfl
theorem q1371 : (Jvm.Cond.privateMethod ({ cls := "Massclaim", name := "bears", desc := "(J)Z" } : Jvm.MethodName)) ∈ lw_tbl := lw_at lw_m6 107 rfl
theorem q1372 : (Jvm.Cond.instanceMethod ({ cls := "Massclaim", name := "bears", desc := "(J)Z" } : Jvm.MethodName)) ∈ lw_all := lw_g (lw_at lw_m6 108 rfl) rfl
theorem q1373 : (Jvm.Cond.code ({ cls := "Massclaim", name := "bears", desc := "(J)Z" } : Jvm.MethodName) prog_1_method_37_code (10 : Nat) (Option.some Jvm.ClassFile.FieldType.boolean)) ∈ lw_all := lw_g (lw_at lw_m6 109 rfl) rfl
theorem q1374 : (Jvm.Cond.interfaceEntry "Massclaim" (344 : Nat)) ∈ lw_tbl := lw_at lw_m6 110 rfl
theorem q1375 : (Jvm.Cond.methodLink "Massclaim" (344 : Nat) ({ cls := "java/util/List", name := "add", desc := "(Ljava/lang/Object;)Z" } : Jvm.MethodName)) ∈ lw_all := lw_g (lw_at lw_m6 111 rfl) rfl
theorem q1376 : (Jvm.Cond.methodLink "Massclaim" (351 : Nat) ({ cls := "Massclaim", name := "first", desc := "(Ljava/util/List;)LMassclaim$Numbered;" } : Jvm.MethodName)) ∈ lw_all := lw_g (lw_at lw_m6 112 rfl) rfl
theorem q1381 : (Jvm.Cond.instanceMethod ({ cls := "Massclaim", name := "defendantAt", desc := "(II)J" } : Jvm.MethodName)) ∈ lw_all := lw_g (lw_at lw_m6 117 rfl) rfl
theorem q1382 : (Jvm.Cond.selects "Massclaim" ({ cls := "Massclaim", name := "defendantAt", desc := "(II)J" } : Jvm.MethodName) ({ cls := "Massclaim", name := "defendantAt", desc := "(II)J" } : Jvm.MethodName)) ∈ lw_all := lw_g (lw_at lw_m6 118 rfl) rfl
theorem q1383 : (Jvm.Cond.code ({ cls := "Massclaim", name := "defendantAt", desc := "(II)J" } : Jvm.MethodName) prog_1_method_39_code (4 : Nat) (Option.some Jvm.ClassFile.FieldType.long)) ∈ lw_all := lw_g (lw_at lw_m6 119 rfl) rfl
theorem q1388 : (Jvm.Cond.instanceMethod ({ cls := "Massclaim", name := "propose", desc := "(III)I" } : Jvm.MethodName)) ∈ lw_all := lw_g (lw_at lw_m6 124 rfl) rfl
theorem q1389 : (Jvm.Cond.selects "Massclaim" ({ cls := "Massclaim", name := "propose", desc := "(III)I" } : Jvm.MethodName) ({ cls := "Massclaim", name := "propose", desc := "(III)I" } : Jvm.MethodName)) ∈ lw_all := lw_g (lw_at lw_m6 125 rfl) rfl
theorem q1390 : (Jvm.Cond.code ({ cls := "Massclaim", name := "propose", desc := "(III)I" } : Jvm.MethodName) prog_1_method_40_code (6 : Nat) (Option.some Jvm.ClassFile.FieldType.int)) ∈ lw_all := lw_g (lw_at lw_m6 126 rfl) rfl
theorem q1391 : (Jvm.Cond.constantLong "Massclaim" (359 : Nat) (50 : Int64)) ∈ lw_all := lw_g (lw_at lw_m6 127 rfl) rfl
theorem q1392 : (Jvm.Cond.classLink "Massclaim" (119 : Nat) "Massclaim$Deal") ∈ lw_all := lw_g (lw_at lw_m6 128 rfl) rfl
theorem q1394 : (Jvm.Cond.methodLink "Massclaim" (361 : Nat) ({ cls := "Massclaim$Deal", name := "<init>", desc := "(III)V" } : Jvm.MethodName)) ∈ lw_all := lw_g (lw_at lw_m6 130 rfl) rfl
theorem q1399 : (Jvm.Cond.fieldLinkNest "Massclaim" (397 : Nat) "Massclaim$Deal" "amount" "I" "Massclaim") ∈ lw_tbl := lw_at lw_m6 135 rfl
theorem q1401 : (Jvm.Cond.fieldLinkNest "Massclaim" (387 : Nat) "Massclaim$Deal" "cap" "I" "Massclaim") ∈ lw_tbl := lw_at lw_m6 137 rfl
theorem q1403 : (Jvm.Cond.fieldLinkNest "Massclaim" (488 : Nat) "Massclaim$Deal" "reversion" "I" "Massclaim") ∈ lw_tbl := lw_at lw_m6 139 rfl
theorem q1405 : (Jvm.Cond.fieldLinkNest "Massclaim" (118 : Nat) "Massclaim$Deal" "stage" "I" "Massclaim") ∈ lw_tbl := lw_at lw_m6 141 rfl
theorem q1406 : (Jvm.Cond.fieldLinkNest "Massclaim" (381 : Nat) "Massclaim$Deal" "since" "I" "Massclaim") ∈ lw_tbl := lw_at lw_m6 142 rfl
theorem q1407 : (Jvm.Cond.fieldLinkNest "Massclaim" (394 : Nat) "Massclaim$Deal" "isTainted" "Z" "Massclaim") ∈ lw_tbl := lw_at lw_m6 143 rfl
theorem q1425 : (Jvm.Cond.instanceMethod ({ cls := "Massclaim", name := "approve", desc := "()I" } : Jvm.MethodName)) ∈ lw_all := lw_g (lw_at lw_m6 161 rfl) rfl
theorem q1426 : (Jvm.Cond.selects "Massclaim" ({ cls := "Massclaim", name := "approve", desc := "()I" } : Jvm.MethodName) ({ cls := "Massclaim", name := "approve", desc := "()I" } : Jvm.MethodName)) ∈ lw_all := lw_g (lw_at lw_m6 162 rfl) rfl
theorem q1427 : (Jvm.Cond.codeWith ({ cls := "Massclaim", name := "approve", desc := "()I" } : Jvm.MethodName) prog_1_method_46_code (2 : Nat) (Option.some Jvm.ClassFile.FieldType.int) [((24 : Nat), (28 : Nat), (31 : Nat), (29 : Nat))]) ∈ lw_all := lw_g (lw_at lw_m6 163 rfl) rfl
theorem q1428 : (Jvm.Cond.classLink "Massclaim" (29 : Nat) "Massclaim$Obstacle") ∈ lw_all := lw_g (lw_at lw_m6 164 rfl) rfl
theorem q1429 : (Jvm.Cond.methodLink "Massclaim" (400 : Nat) ({ cls := "Massclaim", name := "looksAtDeal", desc := "()V" } : Jvm.MethodName)) ∈ lw_all := lw_g (lw_at lw_m6 165 rfl) rfl
theorem q1430 : (Jvm.Cond.privateMethod ({ cls := "Massclaim", name := "looksAtDeal", desc := "()V" } : Jvm.MethodName)) ∈ lw_tbl := lw_at lw_m6 166 rfl
theorem q1431 : (Jvm.Cond.instanceMethod ({ cls := "Massclaim", name := "looksAtDeal", desc := "()V" } : Jvm.MethodName)) ∈ lw_all := lw_g (lw_at lw_m6 167 rfl) rfl
theorem q1432 : (Jvm.Cond.code ({ cls := "Massclaim", name := "looksAtDeal", desc := "()V" } : Jvm.MethodName) prog_1_method_44_code (1 : Nat) (Option.none : Option Jvm.ClassFile.FieldType)) ∈ lw_all := lw_g (lw_at lw_m6 168 rfl) rfl
theorem q1433 : (Jvm.Cond.methodLink "Massclaim" (374 : Nat) ({ cls := "Massclaim", name := "reach", desc := "()I" } : Jvm.MethodName)) ∈ lw_all := lw_g (lw_at lw_m6 169 rfl) rfl
theorem q1434 : (Jvm.Cond.privateMethod ({ cls := "Massclaim", name := "reach", desc := "()I" } : Jvm.MethodName)) ∈ lw_tbl := lw_at lw_m6 170 rfl
theorem q1435 : (Jvm.Cond.instanceMethod ({ cls := "Massclaim", name := "reach", desc := "()I" } : Jvm.MethodName)) ∈ lw_all := lw_g (lw_at lw_m6 171 rfl) rfl
theorem q1436 : (Jvm.Cond.code ({ cls := "Massclaim", name := "reach", desc := "()I" } : Jvm.MethodName) prog_1_method_25_code (4 : Nat) (Option.some Jvm.ClassFile.FieldType.int)) ∈ lw_all := lw_g (lw_at lw_m6 172 rfl) rfl
theorem q1437 : (Jvm.Cond.methodLink "Massclaim" (377 : Nat) ({ cls := "Massclaim", name := "look", desc := "(ZI)V" } : Jvm.MethodName)) ∈ lw_all := lw_g (lw_at lw_m6 173 rfl) rfl
theorem q1438 : (Jvm.Cond.static ({ cls := "Massclaim", name := "look", desc := "(ZI)V" } : Jvm.MethodName)) ∈ lw_all := lw_g (lw_at lw_m6 174 rfl) rfl
theorem q1439 : (Jvm.Cond.code ({ cls := "Massclaim", name := "look", desc := "(ZI)V" } : Jvm.MethodName) prog_1_method_7_code (2 : Nat) (Option.none : Option Jvm.ClassFile.FieldType)) ∈ lw_all := lw_g (lw_at lw_m6 175 rfl) rfl
theorem q1448 : (Jvm.Cond.methodLink "Massclaim" (31 : Nat) ({ cls := "Massclaim$Obstacle", name := "<init>", desc := "(I)V" } : Jvm.MethodName)) ∈ lw_all := lw_g (lw_at lw_m6 184 rfl) rfl
theorem q1459 : (Jvm.Cond.fieldLinkNest "Massclaim" (403 : Nat) "Massclaim$Obstacle" "cause" "I" "Massclaim") ∈ lw_tbl := lw_at lw_m6 195 rfl
theorem q1464 : (Jvm.Cond.methodLink "Massclaim" (384 : Nat) ({ cls := "Massclaim", name := "outs", desc := "()I" } : Jvm.MethodName)) ∈ lw_all := lw_g (lw_at lw_m6 200 rfl) rfl
theorem q1465 : (Jvm.Cond.privateMethod ({ cls := "Massclaim", name := "outs", desc := "()I" } : Jvm.MethodName)) ∈ lw_tbl := lw_at lw_m6 201 rfl
theorem q1466 : (Jvm.Cond.instanceMethod ({ cls := "Massclaim", name := "outs", desc := "()I" } : Jvm.MethodName)) ∈ lw_all := lw_g (lw_at lw_m6 202 rfl) rfl
theorem q1467 : (Jvm.Cond.code ({ cls := "Massclaim", name := "outs", desc := "()I" } : Jvm.MethodName) prog_1_method_43_code (4 : Nat) (Option.some Jvm.ClassFile.FieldType.int)) ∈ lw_all := lw_g (lw_at lw_m6 203 rfl) rfl
theorem q1468 : (Jvm.Cond.methodLink "Massclaim" (371 : Nat) ({ cls := "Massclaim$Person", name := "fits", desc := "()Z" } : Jvm.MethodName)) ∈ lw_all := lw_g (lw_at lw_m6 204 rfl) rfl
theorem q1469 : (Jvm.Cond.methodLink "Massclaim" (388 : Nat) ({ cls := "Massclaim", name := "areFor", desc := "()Z" } : Jvm.MethodName)) ∈ lw_all := lw_g (lw_at lw_m6 205 rfl) rfl
theorem q1470 : (Jvm.Cond.privateMethod ({ cls := "Massclaim", name := "areFor", desc := "()Z" } : Jvm.MethodName)) ∈ lw_tbl := lw_at lw_m6 206 rfl
theorem q1471 : (Jvm.Cond.instanceMethod ({ cls := "Massclaim", name := "areFor", desc := "()Z" } : Jvm.MethodName)) ∈ lw_all := lw_g (lw_at lw_m6 207 rfl) rfl
theorem q1472 : (Jvm.Cond.code ({ cls := "Massclaim", name := "areFor", desc := "()Z" } : Jvm.MethodName) prog_1_method_42_code (9 : Nat) (Option.some Jvm.ClassFile.FieldType.boolean)) ∈ lw_all := lw_g (lw_at lw_m6 208 rfl) rfl
theorem q1473 : (Jvm.Cond.methodLink "Massclaim" (391 : Nat) ({ cls := "Massclaim", name := "objectors", desc := "()I" } : Jvm.MethodName)) ∈ lw_all := lw_g (lw_at lw_m6 209 rfl) rfl
theorem q1474 : (Jvm.Cond.privateMethod ({ cls := "Massclaim", name := "objectors", desc := "()I" } : Jvm.MethodName)) ∈ lw_tbl := lw_at lw_m6 210 rfl
theorem q1475 : (Jvm.Cond.instanceMethod ({ cls := "Massclaim", name := "objectors", desc := "()I" } : Jvm.MethodName)) ∈ lw_all := lw_g (lw_at lw_m6 211 rfl) rfl
theorem q1476 : (Jvm.Cond.code ({ cls := "Massclaim", name := "objectors", desc := "()I" } : Jvm.MethodName) prog_1_method_41_code (4 : Nat) (Option.some Jvm.ClassFile.FieldType.int)) ∈ lw_all := lw_g (lw_at lw_m6 212 rfl) rfl
theorem q1477 : (Jvm.Cond.methodLink "Massclaim" (406 : Nat) ({ cls := "Massclaim", name := "becomesFinal", desc := "()V" } : Jvm.MethodName)) ∈ lw_all := lw_g (lw_at lw_m6 213 rfl) rfl
theorem q1478 : (Jvm.Cond.privateMethod ({ cls := "Massclaim", name := "becomesFinal", desc := "()V" } : Jvm.MethodName)) ∈ lw_tbl := lw_at lw_m6 214 rfl
theorem q1479 : (Jvm.Cond.instanceMethod ({ cls := "Massclaim", name := "becomesFinal", desc := "()V" } : Jvm.MethodName)) ∈ lw_all := lw_g (lw_at lw_m6 215 rfl) rfl
theorem q1480 : (Jvm.Cond.code ({ cls := "Massclaim", name := "becomesFinal", desc := "()V" } : Jvm.MethodName) prog_1_method_45_code (8 : Nat) (Option.none : Option Jvm.ClassFile.FieldType)) ∈ lw_all := lw_g (lw_at lw_m6 216 rfl) rfl
theorem q1485 : (Jvm.Cond.instanceMethod ({ cls := "Massclaim", name := "vote", desc := "(IZ)I" } : Jvm.MethodName)) ∈ lw_all := lw_g (lw_at lw_m6 221 rfl) rfl
theorem q1486 : (Jvm.Cond.selects "Massclaim" ({ cls := "Massclaim", name := "vote", desc := "(IZ)I" } : Jvm.MethodName) ({ cls := "Massclaim", name := "vote", desc := "(IZ)I" } : Jvm.MethodName)) ∈ lw_all := lw_g (lw_at lw_m6 222 rfl) rfl
theorem q1487 : (Jvm.Cond.code ({ cls := "Massclaim", name := "vote", desc := "(IZ)I" } : Jvm.MethodName) prog_1_method_47_code (7 : Nat) (Option.some Jvm.ClassFile.FieldType.int)) ∈ lw_all := lw_g (lw_at lw_m6 223 rfl) rfl
theorem q1492 : (Jvm.Cond.instanceMethod ({ cls := "Massclaim", name := "object", desc := "(II)I" } : Jvm.MethodName)) ∈ lw_all := lw_g (lw_at lw_m6 228 rfl) rfl
theorem q1493 : (Jvm.Cond.selects "Massclaim" ({ cls := "Massclaim", name := "object", desc := "(II)I" } : Jvm.MethodName) ({ cls := "Massclaim", name := "object", desc := "(II)I" } : Jvm.MethodName)) ∈ lw_all := lw_g (lw_at lw_m6 229 rfl) rfl
theorem q1494 : (Jvm.Cond.code ({ cls := "Massclaim", name := "object", desc := "(II)I" } : Jvm.MethodName) prog_1_method_48_code (7 : Nat) (Option.some Jvm.ClassFile.FieldType.int)) ∈ lw_all := lw_g (lw_at lw_m6 230 rfl) rfl
theorem q1499 : (Jvm.Cond.instanceMethod ({ cls := "Massclaim", name := "raise", desc := "(I)J" } : Jvm.MethodName)) ∈ lw_all := lw_g (lw_at lw_m6 235 rfl) rfl
theorem q1500 : (Jvm.Cond.selects "Massclaim" ({ cls := "Massclaim", name := "raise", desc := "(I)J" } : Jvm.MethodName) ({ cls := "Massclaim", name := "raise", desc := "(I)J" } : Jvm.MethodName)) ∈ lw_all := lw_g (lw_at lw_m6 236 rfl) rfl
theorem q1501 : (Jvm.Cond.code ({ cls := "Massclaim", name := "raise", desc := "(I)J" } : Jvm.MethodName) prog_1_method_50_code (2 : Nat) (Option.some Jvm.ClassFile.FieldType.long)) ∈ lw_all := lw_g (lw_at lw_m6 237 rfl) rfl
theorem q1502 : (Jvm.Cond.methodLink "Massclaim" (409 : Nat) ({ cls := "Massclaim", name := "owed", desc := "()J" } : Jvm.MethodName)) ∈ lw_all := lw_g (lw_at lw_m6 238 rfl) rfl
theorem q1503 : (Jvm.Cond.privateMethod ({ cls := "Massclaim", name := "owed", desc := "()J" } : Jvm.MethodName)) ∈ lw_tbl := lw_at lw_m6 239 rfl
theorem q1504 : (Jvm.Cond.instanceMethod ({ cls := "Massclaim", name := "owed", desc := "()J" } : Jvm.MethodName)) ∈ lw_all := lw_g (lw_at lw_m7 0 rfl) rfl
theorem q1505 : (Jvm.Cond.code ({ cls := "Massclaim", name := "owed", desc := "()J" } : Jvm.MethodName) prog_1_method_49_code (5 : Nat) (Option.some Jvm.ClassFile.FieldType.long)) ∈ lw_all := lw_g (lw_at lw_m7 1 rfl) rfl
theorem q1510 : (Jvm.Cond.instanceMethod ({ cls := "Massclaim", name := "grid", desc := "(III)I" } : Jvm.MethodName)) ∈ lw_all := lw_g (lw_at lw_m7 6 rfl) rfl
theorem q1511 : (Jvm.Cond.selects "Massclaim" ({ cls := "Massclaim", name := "grid", desc := "(III)I" } : Jvm.MethodName) ({ cls := "Massclaim", name := "grid", desc := "(III)I" } : Jvm.MethodName)) ∈ lw_all := lw_g (lw_at lw_m7 7 rfl) rfl
theorem q1512 : (Jvm.Cond.code ({ cls := "Massclaim", name := "grid", desc := "(III)I" } : Jvm.MethodName) prog_1_method_51_code (5 : Nat) (Option.some Jvm.ClassFile.FieldType.int)) ∈ lw_all := lw_g (lw_at lw_m7 8 rfl) rfl
theorem q1513 : (Jvm.Cond.constantLong "Massclaim" (412 : Nat) (1000000 : Int64)) ∈ lw_all := lw_g (lw_at lw_m7 9 rfl) rfl
theorem q1518 : (Jvm.Cond.instanceMethod ({ cls := "Massclaim", name := "settings", desc := "(III)I" } : Jvm.MethodName)) ∈ lw_all := lw_g (lw_at lw_m7 14 rfl) rfl
theorem q1519 : (Jvm.Cond.selects "Massclaim" ({ cls := "Massclaim", name := "settings", desc := "(III)I" } : Jvm.MethodName) ({ cls := "Massclaim", name := "settings", desc := "(III)I" } : Jvm.MethodName)) ∈ lw_all := lw_g (lw_at lw_m7 15 rfl) rfl
theorem q1520 : (Jvm.Cond.code ({ cls := "Massclaim", name := "settings", desc := "(III)I" } : Jvm.MethodName) prog_1_method_52_code (5 : Nat) (Option.some Jvm.ClassFile.FieldType.int)) ∈ lw_all := lw_g (lw_at lw_m7 16 rfl) rfl
theorem q1525 : (Jvm.Cond.instanceMethod ({ cls := "Massclaim", name := "claim", desc := "(IIII)I" } : Jvm.MethodName)) ∈ lw_all := lw_g (lw_at lw_m7 21 rfl) rfl
theorem q1526 : (Jvm.Cond.selects "Massclaim" ({ cls := "Massclaim", name := "claim", desc := "(IIII)I" } : Jvm.MethodName) ({ cls := "Massclaim", name := "claim", desc := "(IIII)I" } : Jvm.MethodName)) ∈ lw_all := lw_g (lw_at lw_m7 22 rfl) rfl
theorem q1527 : (Jvm.Cond.code ({ cls := "Massclaim", name := "claim", desc := "(IIII)I" } : Jvm.MethodName) prog_1_method_55_code (8 : Nat) (Option.some Jvm.ClassFile.FieldType.int)) ∈ lw_all := lw_g (lw_at lw_m7 23 rfl) rfl
theorem q1528 : (Jvm.Cond.methodLink "Massclaim" (414 : Nat) ({ cls := "Massclaim", name := "isGrade", desc := "(I)Z" } : Jvm.MethodName)) ∈ lw_all := lw_g (lw_at lw_m7 24 rfl) rfl
theorem q1529 : (Jvm.Cond.static ({ cls := "Massclaim", name := "isGrade", desc := "(I)Z" } : Jvm.MethodName)) ∈ lw_all := lw_g (lw_at lw_m7 25 rfl) rfl
theorem q1530 : (Jvm.Cond.code ({ cls := "Massclaim", name := "isGrade", desc := "(I)Z" } : Jvm.MethodName) prog_1_method_53_code (1 : Nat) (Option.some Jvm.ClassFile.FieldType.boolean)) ∈ lw_all := lw_g (lw_at lw_m7 26 rfl) rfl
theorem q1531 : (Jvm.Cond.methodLink "Massclaim" (418 : Nat) ({ cls := "Massclaim", name := "isLawyer", desc := "(I)Z" } : Jvm.MethodName)) ∈ lw_all := lw_g (lw_at lw_m7 27 rfl) rfl
theorem q1532 : (Jvm.Cond.static ({ cls := "Massclaim", name := "isLawyer", desc := "(I)Z" } : Jvm.MethodName)) ∈ lw_all := lw_g (lw_at lw_m7 28 rfl) rfl
theorem q1533 : (Jvm.Cond.code ({ cls := "Massclaim", name := "isLawyer", desc := "(I)Z" } : Jvm.MethodName) prog_1_method_54_code (1 : Nat) (Option.some Jvm.ClassFile.FieldType.boolean)) ∈ lw_all := lw_g (lw_at lw_m7 29 rfl) rfl
theorem q1535 : (Jvm.Cond.methodLink "Massclaim" (421 : Nat) ({ cls := "Massclaim$Claim", name := "<init>", desc := "(LMassclaim;ILMassclaim$Person;III)V" } : Jvm.MethodName)) ∈ lw_all := lw_g (lw_at lw_m7 31 rfl) rfl
theorem q1545 : (Jvm.Cond.fieldLinkNest "Massclaim" (255 : Nat) "Massclaim$Claim" "number" "I" "Massclaim") ∈ lw_tbl := lw_at lw_m7 41 rfl
theorem q1547 : (Jvm.Cond.fieldLinkNest "Massclaim" (453 : Nat) "Massclaim$Claim" "of" "LMassclaim$Person;" "Massclaim") ∈ lw_tbl := lw_at lw_m7 43 rfl
theorem q1549 : (Jvm.Cond.fieldLinkNest "Massclaim" (447 : Nat) "Massclaim$Claim" "grade" "I" "Massclaim") ∈ lw_tbl := lw_at lw_m7 45 rfl
theorem q1552 : (Jvm.Cond.fieldLinkNest "Massclaim" (157 : Nat) "Massclaim$Claim" "state" "I" "Massclaim") ∈ lw_tbl := lw_at lw_m7 48 rfl
theorem q1555 : (Jvm.Cond.fieldLinkNest "Massclaim" (462 : Nat) "Massclaim$Claim" "parts" "I" "Massclaim") ∈ lw_tbl := lw_at lw_m7 51 rfl
theorem q1557 : (Jvm.Cond.fieldLinkNest "Massclaim" (440 : Nat) "Massclaim$Claim" "got" "J" "Massclaim") ∈ lw_tbl := lw_at lw_m7 53 rfl
theorem q1559 : (Jvm.Cond.fieldLinkNest "Massclaim" (527 : Nat) "Massclaim$Claim" "most" "J" "Massclaim") ∈ lw_tbl := lw_at lw_m7 55 rfl
theorem q1560 : (Jvm.Cond.fieldLinkNest "Massclaim" (160 : Nat) "Massclaim$Claim" "found" "I" "Massclaim") ∈ lw_tbl := lw_at lw_m7 56 rfl
theorem q1561 : (Jvm.Cond.fieldLinkNest "Massclaim" (428 : Nat) "Massclaim$Claim" "isAudited" "Z" "Massclaim") ∈ lw_tbl := lw_at lw_m7 57 rfl
theorem q1562 : (Jvm.Cond.fieldLinkNest "Massclaim" (465 : Nat) "Massclaim$Claim" "hasAppealed" "Z" "Massclaim") ∈ lw_tbl := lw_at lw_m7 58 rfl
theorem q1564 : (Jvm.Cond.fieldLinkNest "Massclaim" (457 : Nat) "Massclaim$Claim" "lawyers" "Ljava/util/List;" "Massclaim") ∈ lw_tbl := lw_at lw_m7 60 rfl
theorem q1593 : (Jvm.Cond.methodLink "Massclaim" (424 : Nat) ({ cls := "Massclaim", name := "holdRing", desc := "(LMassclaim$Claim;)V" } : Jvm.MethodName)) ∈ lw_all := lw_g (lw_at lw_m7 89 rfl) rfl
theorem q1594 : (Jvm.Cond.privateMethod ({ cls := "Massclaim", name := "holdRing", desc := "(LMassclaim$Claim;)V" } : Jvm.MethodName)) ∈ lw_tbl := lw_at lw_m7 90 rfl
theorem q1595 : (Jvm.Cond.instanceMethod ({ cls := "Massclaim", name := "holdRing", desc := "(LMassclaim$Claim;)V" } : Jvm.MethodName)) ∈ lw_all := lw_g (lw_at lw_m7 91 rfl) rfl
theorem q1596 : (Jvm.Cond.code ({ cls := "Massclaim", name := "holdRing", desc := "(LMassclaim$Claim;)V" } : Jvm.MethodName) prog_1_method_56_code (6 : Nat) (Option.none : Option Jvm.ClassFile.FieldType)) ∈ lw_all := lw_g (lw_at lw_m7 92 rfl) rfl
theorem q1597 : (Jvm.Cond.methodLink "Massclaim" (431 : Nat) ({ cls := "Massclaim$Claim", name := "isLike", desc := "(LMassclaim$Claim;)Z" } : Jvm.MethodName)) ∈ lw_all := lw_g (lw_at lw_m7 93 rfl) rfl
theorem q1614 : (Jvm.Cond.instanceMethod ({ cls := "Massclaim", name := "claimAt", desc := "(II)I" } : Jvm.MethodName)) ∈ lw_all := lw_g (lw_at lw_m7 110 rfl) rfl
theorem q1615 : (Jvm.Cond.selects "Massclaim" ({ cls := "Massclaim", name := "claimAt", desc := "(II)I" } : Jvm.MethodName) ({ cls := "Massclaim", name := "claimAt", desc := "(II)I" } : Jvm.MethodName)) ∈ lw_all := lw_g (lw_at lw_m7 111 rfl) rfl
theorem q1616 : (Jvm.Cond.code ({ cls := "Massclaim", name := "claimAt", desc := "(II)I" } : Jvm.MethodName) prog_1_method_57_code (4 : Nat) (Option.some Jvm.ClassFile.FieldType.int)) ∈ lw_all := lw_g (lw_at lw_m7 112 rfl) rfl
theorem q1617 : (Jvm.Cond.constantLong "Massclaim" (435 : Nat) (7 : Int64)) ∈ lw_all := lw_g (lw_at lw_m7 113 rfl) rfl
theorem q1618 : (Jvm.Cond.methodLink "Massclaim" (443 : Nat) ({ cls := "Massclaim$Claim", name := "due", desc := "(I)J" } : Jvm.MethodName)) ∈ lw_all := lw_g (lw_at lw_m7 114 rfl) rfl
theorem q1626 : (Jvm.Cond.methodLink "Massclaim" (450 : Nat) ({ cls := "Massclaim$Claim", name := "lawyer", desc := "()I" } : Jvm.MethodName)) ∈ lw_all := lw_g (lw_at lw_m7 122 rfl) rfl
theorem q1631 : (Jvm.Cond.instanceMethod ({ cls := "Massclaim", name := "takeOver", desc := "(II)I" } : Jvm.MethodName)) ∈ lw_all := lw_g (lw_at lw_m7 127 rfl) rfl
theorem q1632 : (Jvm.Cond.selects "Massclaim" ({ cls := "Massclaim", name := "takeOver", desc := "(II)I" } : Jvm.MethodName) ({ cls := "Massclaim", name := "takeOver", desc := "(II)I" } : Jvm.MethodName)) ∈ lw_all := lw_g (lw_at lw_m7 128 rfl) rfl
theorem q1633 : (Jvm.Cond.code ({ cls := "Massclaim", name := "takeOver", desc := "(II)I" } : Jvm.MethodName) prog_1_method_58_code (6 : Nat) (Option.some Jvm.ClassFile.FieldType.int)) ∈ lw_all := lw_g (lw_at lw_m7 129 rfl) rfl
theorem q1638 : (Jvm.Cond.instanceMethod ({ cls := "Massclaim", name := "parts", desc := "(II)I" } : Jvm.MethodName)) ∈ lw_all := lw_g (lw_at lw_m7 134 rfl) rfl
theorem q1639 : (Jvm.Cond.selects "Massclaim" ({ cls := "Massclaim", name := "parts", desc := "(II)I" } : Jvm.MethodName) ({ cls := "Massclaim", name := "parts", desc := "(II)I" } : Jvm.MethodName)) ∈ lw_all := lw_g (lw_at lw_m7 135 rfl) rfl
theorem q1640 : (Jvm.Cond.code ({ cls := "Massclaim", name := "parts", desc := "(II)I" } : Jvm.MethodName) prog_1_method_59_code (5 : Nat) (Option.some Jvm.ClassFile.FieldType.int)) ∈ lw_all := lw_g (lw_at lw_m7 136 rfl) rfl
theorem q1641 : (Jvm.Cond.constantLong "Massclaim" (460 : Nat) (20 : Int64)) ∈ lw_all := lw_g (lw_at lw_m7 137 rfl) rfl
theorem q1646 : (Jvm.Cond.instanceMethod ({ cls := "Massclaim", name := "cure", desc := "(II)I" } : Jvm.MethodName)) ∈ lw_all := lw_g (lw_at lw_m7 142 rfl) rfl
theorem q1647 : (Jvm.Cond.selects "Massclaim" ({ cls := "Massclaim", name := "cure", desc := "(II)I" } : Jvm.MethodName) ({ cls := "Massclaim", name := "cure", desc := "(II)I" } : Jvm.MethodName)) ∈ lw_all := lw_g (lw_at lw_m7 143 rfl) rfl
theorem q1648 : (Jvm.Cond.code ({ cls := "Massclaim", name := "cure", desc := "(II)I" } : Jvm.MethodName) prog_1_method_60_code (4 : Nat) (Option.some Jvm.ClassFile.FieldType.int)) ∈ lw_all := lw_g (lw_at lw_m7 144 rfl) rfl
theorem q1653 : (Jvm.Cond.instanceMethod ({ cls := "Massclaim", name := "sample", desc := "(I)I" } : Jvm.MethodName)) ∈ lw_all := lw_g (lw_at lw_m7 149 rfl) rfl
theorem q1654 : (Jvm.Cond.selects "Massclaim" ({ cls := "Massclaim", name := "sample", desc := "(I)I" } : Jvm.MethodName) ({ cls := "Massclaim", name := "sample", desc := "(I)I" } : Jvm.MethodName)) ∈ lw_all := lw_g (lw_at lw_m7 150 rfl) rfl
theorem q1655 : (Jvm.Cond.code ({ cls := "Massclaim", name := "sample", desc := "(I)I" } : Jvm.MethodName) prog_1_method_61_code (5 : Nat) (Option.some Jvm.ClassFile.FieldType.int)) ∈ lw_all := lw_g (lw_at lw_m7 151 rfl) rfl
theorem q1660 : (Jvm.Cond.instanceMethod ({ cls := "Massclaim", name := "audit", desc := "(IZ)I" } : Jvm.MethodName)) ∈ lw_all := lw_g (lw_at lw_m7 156 rfl) rfl
theorem q1661 : (Jvm.Cond.selects "Massclaim" ({ cls := "Massclaim", name := "audit", desc := "(IZ)I" } : Jvm.MethodName) ({ cls := "Massclaim", name := "audit", desc := "(IZ)I" } : Jvm.MethodName)) ∈ lw_all := lw_g (lw_at lw_m7 157 rfl) rfl
theorem q1662 : (Jvm.Cond.code ({ cls := "Massclaim", name := "audit", desc := "(IZ)I" } : Jvm.MethodName) prog_1_method_62_code (4 : Nat) (Option.some Jvm.ClassFile.FieldType.int)) ∈ lw_all := lw_g (lw_at lw_m7 158 rfl) rfl
theorem q1667 : (Jvm.Cond.instanceMethod ({ cls := "Massclaim", name := "appeal", desc := "(IZ)I" } : Jvm.MethodName)) ∈ lw_all := lw_g (lw_at lw_m7 163 rfl) rfl
theorem q1668 : (Jvm.Cond.selects "Massclaim" ({ cls := "Massclaim", name := "appeal", desc := "(IZ)I" } : Jvm.MethodName) ({ cls := "Massclaim", name := "appeal", desc := "(IZ)I" } : Jvm.MethodName)) ∈ lw_all := lw_g (lw_at lw_m7 164 rfl) rfl
theorem q1669 : (Jvm.Cond.code ({ cls := "Massclaim", name := "appeal", desc := "(IZ)I" } : Jvm.MethodName) prog_1_method_63_code (4 : Nat) (Option.some Jvm.ClassFile.FieldType.int)) ∈ lw_all := lw_g (lw_at lw_m7 165 rfl) rfl
theorem q1674 : (Jvm.Cond.instanceMethod ({ cls := "Massclaim", name := "percent", desc := "(I)Z" } : Jvm.MethodName)) ∈ lw_all := lw_g (lw_at lw_m7 170 rfl) rfl
theorem q1675 : (Jvm.Cond.selects "Massclaim" ({ cls := "Massclaim", name := "percent", desc := "(I)Z" } : Jvm.MethodName) ({ cls := "Massclaim", name := "percent", desc := "(I)Z" } : Jvm.MethodName)) ∈ lw_all := lw_g (lw_at lw_m7 171 rfl) rfl
theorem q1676 : (Jvm.Cond.code ({ cls := "Massclaim", name := "percent", desc := "(I)Z" } : Jvm.MethodName) prog_1_method_66_code (3 : Nat) (Option.some Jvm.ClassFile.FieldType.boolean)) ∈ lw_all := lw_g (lw_at lw_m7 172 rfl) rfl
theorem q1677 : (Jvm.Cond.methodLink "Massclaim" (471 : Nat) ({ cls := "Massclaim", name := "due", desc := "(I)J" } : Jvm.MethodName)) ∈ lw_all := lw_g (lw_at lw_m7 173 rfl) rfl
theorem q1678 : (Jvm.Cond.privateMethod ({ cls := "Massclaim", name := "due", desc := "(I)J" } : Jvm.MethodName)) ∈ lw_tbl := lw_at lw_m7 174 rfl
theorem q1679 : (Jvm.Cond.instanceMethod ({ cls := "Massclaim", name := "due", desc := "(I)J" } : Jvm.MethodName)) ∈ lw_all := lw_g (lw_at lw_m7 175 rfl) rfl
theorem q1680 : (Jvm.Cond.code ({ cls := "Massclaim", name := "due", desc := "(I)J" } : Jvm.MethodName) prog_1_method_64_code (6 : Nat) (Option.some Jvm.ClassFile.FieldType.long)) ∈ lw_all := lw_g (lw_at lw_m7 176 rfl) rfl
theorem q1681 : (Jvm.Cond.methodLink "Massclaim" (472 : Nat) ({ cls := "Massclaim", name := "reserve", desc := "(I)J" } : Jvm.MethodName)) ∈ lw_all := lw_g (lw_at lw_m7 177 rfl) rfl
theorem q1682 : (Jvm.Cond.privateMethod ({ cls := "Massclaim", name := "reserve", desc := "(I)J" } : Jvm.MethodName)) ∈ lw_tbl := lw_at lw_m7 178 rfl
theorem q1683 : (Jvm.Cond.instanceMethod ({ cls := "Massclaim", name := "reserve", desc := "(I)J" } : Jvm.MethodName)) ∈ lw_all := lw_g (lw_at lw_m7 179 rfl) rfl
theorem q1684 : (Jvm.Cond.code ({ cls := "Massclaim", name := "reserve", desc := "(I)J" } : Jvm.MethodName) prog_1_method_65_code (7 : Nat) (Option.some Jvm.ClassFile.FieldType.long)) ∈ lw_all := lw_g (lw_at lw_m7 180 rfl) rfl
theorem q1685 : (Jvm.Cond.methodLink "Massclaim" (468 : Nat) ({ cls := "Massclaim", name := "band", desc := "(I)I" } : Jvm.MethodName)) ∈ lw_all := lw_g (lw_at lw_m7 181 rfl) rfl
theorem q1690 : (Jvm.Cond.instanceMethod ({ cls := "Massclaim", name := "pay", desc := "()J" } : Jvm.MethodName)) ∈ lw_all := lw_g (lw_at lw_m7 186 rfl) rfl
theorem q1691 : (Jvm.Cond.selects "Massclaim" ({ cls := "Massclaim", name := "pay", desc := "()J" } : Jvm.MethodName) ({ cls := "Massclaim", name := "pay", desc := "()J" } : Jvm.MethodName)) ∈ lw_all := lw_g (lw_at lw_m7 187 rfl) rfl
theorem q1692 : (Jvm.Cond.code ({ cls := "Massclaim", name := "pay", desc := "()J" } : Jvm.MethodName) prog_1_method_67_code (15 : Nat) (Option.some Jvm.ClassFile.FieldType.long)) ∈ lw_all := lw_g (lw_at lw_m7 188 rfl) rfl
theorem q1693 : (Jvm.Cond.methodLink "Massclaim" (475 : Nat) ({ cls := "Massclaim$Claim", name := "gets", desc := "(J)V" } : Jvm.MethodName)) ∈ lw_all := lw_g (lw_at lw_m7 189 rfl) rfl
theorem q1744 : (Jvm.Cond.instanceMethod ({ cls := "Massclaim", name := "lien", desc := "(IIZ)I" } : Jvm.MethodName)) ∈ lw_all := lw_g (lw_at lw_m8 0 rfl) rfl
theorem q1745 : (Jvm.Cond.selects "Massclaim" ({ cls := "Massclaim", name := "lien", desc := "(IIZ)I" } : Jvm.MethodName) ({ cls := "Massclaim", name := "lien", desc := "(IIZ)I" } : Jvm.MethodName)) ∈ lw_all := lw_g (lw_at lw_m8 1 rfl) rfl
theorem q1746 : (Jvm.Cond.code ({ cls := "Massclaim", name := "lien", desc := "(IIZ)I" } : Jvm.MethodName) prog_1_method_68_code (5 : Nat) (Option.some Jvm.ClassFile.FieldType.int)) ∈ lw_all := lw_g (lw_at lw_m8 2 rfl) rfl
theorem q1747 : (Jvm.Cond.classLink "Massclaim" (476 : Nat) "Massclaim$Lien") ∈ lw_all := lw_g (lw_at lw_m8 3 rfl) rfl
theorem q1749 : (Jvm.Cond.methodLink "Massclaim" (478 : Nat) ({ cls := "Massclaim$Lien", name := "<init>", desc := "(ILMassclaim$Person;IZ)V" } : Jvm.MethodName)) ∈ lw_all := lw_g (lw_at lw_m8 5 rfl) rfl
theorem q1757 : (Jvm.Cond.fieldLinkNest "Massclaim" (484 : Nat) "Massclaim$Lien" "of" "LMassclaim$Person;" "Massclaim") ∈ lw_tbl := lw_at lw_m8 13 rfl
theorem q1763 : (Jvm.Cond.fieldLinkNest "Massclaim" (481 : Nat) "Massclaim$Lien" "open" "I" "Massclaim") ∈ lw_tbl := lw_at lw_m8 19 rfl
theorem q1777 : (Jvm.Cond.instanceMethod ({ cls := "Massclaim", name := "waive", desc := "(I)I" } : Jvm.MethodName)) ∈ lw_all := lw_g (lw_at lw_m8 33 rfl) rfl
theorem q1778 : (Jvm.Cond.selects "Massclaim" ({ cls := "Massclaim", name := "waive", desc := "(I)I" } : Jvm.MethodName) ({ cls := "Massclaim", name := "waive", desc := "(I)I" } : Jvm.MethodName)) ∈ lw_all := lw_g (lw_at lw_m8 34 rfl) rfl
theorem q1779 : (Jvm.Cond.code ({ cls := "Massclaim", name := "waive", desc := "(I)I" } : Jvm.MethodName) prog_1_method_69_code (4 : Nat) (Option.some Jvm.ClassFile.FieldType.int)) ∈ lw_all := lw_g (lw_at lw_m8 35 rfl) rfl
theorem q1780 : (Jvm.Cond.methodLink "Massclaim" (485 : Nat) ({ cls := "Massclaim$Person", name := "releases", desc := "()V" } : Jvm.MethodName)) ∈ lw_all := lw_g (lw_at lw_m8 36 rfl) rfl
theorem q1785 : (Jvm.Cond.instanceMethod ({ cls := "Massclaim", name := "end", desc := "()J" } : Jvm.MethodName)) ∈ lw_all := lw_g (lw_at lw_m8 41 rfl) rfl
theorem q1786 : (Jvm.Cond.selects "Massclaim" ({ cls := "Massclaim", name := "end", desc := "()J" } : Jvm.MethodName) ({ cls := "Massclaim", name := "end", desc := "()J" } : Jvm.MethodName)) ∈ lw_all := lw_g (lw_at lw_m8 42 rfl) rfl
theorem q1787 : (Jvm.Cond.code ({ cls := "Massclaim", name := "end", desc := "()J" } : Jvm.MethodName) prog_1_method_70_code (6 : Nat) (Option.some Jvm.ClassFile.FieldType.long)) ∈ lw_all := lw_g (lw_at lw_m8 43 rfl) rfl
theorem q1792 : (Jvm.Cond.instanceMethod ({ cls := "Massclaim", name := "fundAt", desc := "(I)J" } : Jvm.MethodName)) ∈ lw_all := lw_g (lw_at lw_m8 48 rfl) rfl
theorem q1793 : (Jvm.Cond.selects "Massclaim" ({ cls := "Massclaim", name := "fundAt", desc := "(I)J" } : Jvm.MethodName) ({ cls := "Massclaim", name := "fundAt", desc := "(I)J" } : Jvm.MethodName)) ∈ lw_all := lw_g (lw_at lw_m8 49 rfl) rfl
theorem q1794 : (Jvm.Cond.code ({ cls := "Massclaim", name := "fundAt", desc := "(I)J" } : Jvm.MethodName) prog_1_method_74_code (2 : Nat) (Option.some Jvm.ClassFile.FieldType.long)) ∈ lw_all := lw_g (lw_at lw_m8 50 rfl) rfl
theorem q1795 : (Jvm.Cond.constantLong "Massclaim" (500 : Nat) (11 : Int64)) ∈ lw_all := lw_g (lw_at lw_m8 51 rfl) rfl
theorem q1796 : (Jvm.Cond.methodLink "Massclaim" (508 : Nat) ({ cls := "Massclaim$Out", name := "lawyers", desc := "()J" } : Jvm.MethodName)) ∈ lw_all := lw_g (lw_at lw_m8 52 rfl) rfl
theorem q1797 : (Jvm.Cond.methodLink "Massclaim" (517 : Nat) ({ cls := "Massclaim", name := "differs", desc := "()J" } : Jvm.MethodName)) ∈ lw_all := lw_g (lw_at lw_m8 53 rfl) rfl
theorem q1798 : (Jvm.Cond.privateMethod ({ cls := "Massclaim", name := "differs", desc := "()J" } : Jvm.MethodName)) ∈ lw_tbl := lw_at lw_m8 54 rfl
theorem q1799 : (Jvm.Cond.instanceMethod ({ cls := "Massclaim", name := "differs", desc := "()J" } : Jvm.MethodName)) ∈ lw_all := lw_g (lw_at lw_m8 55 rfl) rfl
theorem q1800 : (Jvm.Cond.code ({ cls := "Massclaim", name := "differs", desc := "()J" } : Jvm.MethodName) prog_1_method_73_code (5 : Nat) (Option.some Jvm.ClassFile.FieldType.long)) ∈ lw_all := lw_g (lw_at lw_m8 56 rfl) rfl
theorem q1801 : (Jvm.Cond.methodLink "Massclaim" (496 : Nat) ({ cls := "java/lang/Math", name := "abs", desc := "(J)J" } : Jvm.MethodName)) ∈ lw_all := lw_g (lw_at lw_m8 57 rfl) rfl
theorem q1808 : (Jvm.Cond.instanceMethod ({ cls := "Massclaim", name := "lawyerAt", desc := "(I)J" } : Jvm.MethodName)) ∈ lw_all := lw_g (lw_at lw_m8 64 rfl) rfl
theorem q1809 : (Jvm.Cond.selects "Massclaim" ({ cls := "Massclaim", name := "lawyerAt", desc := "(I)J" } : Jvm.MethodName) ({ cls := "Massclaim", name := "lawyerAt", desc := "(I)J" } : Jvm.MethodName)) ∈ lw_all := lw_g (lw_at lw_m8 65 rfl) rfl
theorem q1810 : (Jvm.Cond.code ({ cls := "Massclaim", name := "lawyerAt", desc := "(I)J" } : Jvm.MethodName) prog_1_method_75_code (2 : Nat) (Option.some Jvm.ClassFile.FieldType.long)) ∈ lw_all := lw_g (lw_at lw_m8 66 rfl) rfl
theorem q1815 : (Jvm.Cond.instanceMethod ({ cls := "Massclaim", name := "count", desc := "(I)I" } : Jvm.MethodName)) ∈ lw_all := lw_g (lw_at lw_m8 71 rfl) rfl
theorem q1816 : (Jvm.Cond.selects "Massclaim" ({ cls := "Massclaim", name := "count", desc := "(I)I" } : Jvm.MethodName) ({ cls := "Massclaim", name := "count", desc := "(I)I" } : Jvm.MethodName)) ∈ lw_all := lw_g (lw_at lw_m8 72 rfl) rfl
theorem q1817 : (Jvm.Cond.code ({ cls := "Massclaim", name := "count", desc := "(I)I" } : Jvm.MethodName) prog_1_method_77_code (6 : Nat) (Option.some Jvm.ClassFile.FieldType.int)) ∈ lw_all := lw_g (lw_at lw_m8 73 rfl) rfl
theorem q1818 : (Jvm.Cond.methodLink "Massclaim" (522 : Nat) ({ cls := "Massclaim", name := "openLiens", desc := "()I" } : Jvm.MethodName)) ∈ lw_all := lw_g (lw_at lw_m8 74 rfl) rfl
theorem q1819 : (Jvm.Cond.privateMethod ({ cls := "Massclaim", name := "openLiens", desc := "()I" } : Jvm.MethodName)) ∈ lw_tbl := lw_at lw_m8 75 rfl
theorem q1820 : (Jvm.Cond.instanceMethod ({ cls := "Massclaim", name := "openLiens", desc := "()I" } : Jvm.MethodName)) ∈ lw_all := lw_g (lw_at lw_m8 76 rfl) rfl
theorem q1821 : (Jvm.Cond.code ({ cls := "Massclaim", name := "openLiens", desc := "()I" } : Jvm.MethodName) prog_1_method_76_code (4 : Nat) (Option.some Jvm.ClassFile.FieldType.int)) ∈ lw_all := lw_g (lw_at lw_m8 77 rfl) rfl
theorem q2122 : (Jvm.Cond.selects "Massclaim" ({ cls := "java/lang/Object", name := "equals", desc := "(Ljava/lang/Object;)Z" } : Jvm.MethodName) ({ cls := "java/lang/Object", name := "equals", desc := "(Ljava/lang/Object;)Z" } : Jvm.MethodName)) ∈ lw_all := lw_g (lw_at lw_m9 138 rfl) rfl
theorem q2562 : (Jvm.Cond.castable "Massclaim" "java/lang/Object") ∈ lw_tbl := lw_at lw_m11 98 rfl
theorem in_X1 : ∀ w ∈ wsX10, w ∈ lw_all := lw_in wsX10 [257, 259, 261, 263, 265, 267, 269, 271, 273, 275, 277, 279, 281, 283, 285, 287, 289, 291, 293] (by decide +kernel) (by decide +kernel)
