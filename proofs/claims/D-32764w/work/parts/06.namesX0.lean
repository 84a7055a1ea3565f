/-! MassclaimLaw -/
set_option maxRecDepth 100000
def RX0 : String := "MassclaimLaw"
abbrev cX0_goOn : ByteArray := method_3_code
def yX0_goOn : MethodName := ⟨RX0, "goOn", "(LMassclaim;I[J)I"⟩
def dkwX0_goOn_0 : List UInt8 := [44, 3, 42, 27, 182, 0, 7, 133, 80, 167, 0, 6, 78, 4, 172, 3, 172]
abbrev dktX0_goOn_0 : List UInt8 := dkwX0_goOn_0 ++ []
theorem dksX0_goOn_0 : cX0_goOn.data.toList.drop 0 = dktX0_goOn_0 := by decide +kernel
theorem dX0_goOn_0 : decode cX0_goOn 0 = .ok (.aload_n 2, 1) := dk_44 (dk_at dksX0_goOn_0 0 rfl rfl)
theorem dX0_goOn_1 : decode cX0_goOn 1 = .ok (.iconst 0, 1) := dk_3 (dk_at dksX0_goOn_0 1 rfl rfl)
theorem dX0_goOn_2 : decode cX0_goOn 2 = .ok (.aload_n 0, 1) := dk_42 (dk_at dksX0_goOn_0 2 rfl rfl)
theorem dX0_goOn_3 : decode cX0_goOn 3 = .ok (.iload_n 1, 1) := dk_27 (dk_at dksX0_goOn_0 3 rfl rfl)
theorem dX0_goOn_4 : decode cX0_goOn 4 = .ok (.invokevirtual 7, 3) := dk_182 0 7 (dk_at dksX0_goOn_0 4 rfl rfl)
theorem dX0_goOn_7 : decode cX0_goOn 7 = .ok (.i2l, 1) := dk_133 (dk_at dksX0_goOn_0 7 rfl rfl)
theorem dX0_goOn_8 : decode cX0_goOn 8 = .ok (.lastore, 1) := dk_80 (dk_at dksX0_goOn_0 8 rfl rfl)
theorem dX0_goOn_9 : decode cX0_goOn 9 = .ok (.goto 6, 3) := dk_167 0 6 (dk_at dksX0_goOn_0 9 rfl rfl)
theorem dX0_goOn_12 : decode cX0_goOn 12 = .ok (.astore_n 3, 1) := dk_78 (dk_at dksX0_goOn_0 12 rfl rfl)
theorem dX0_goOn_13 : decode cX0_goOn 13 = .ok (.iconst 1, 1) := dk_4 (dk_at dksX0_goOn_0 13 rfl rfl)
theorem dX0_goOn_14 : decode cX0_goOn 14 = .ok (.ireturn, 1) := dk_172 (dk_at dksX0_goOn_0 14 rfl rfl)
theorem dX0_goOn_15 : decode cX0_goOn 15 = .ok (.iconst 0, 1) := dk_3 (dk_at dksX0_goOn_0 15 rfl rfl)
theorem dX0_goOn_16 : decode cX0_goOn 16 = .ok (.ireturn, 1) := dk_172 (dk_at dksX0_goOn_0 16 rfl rfl)
abbrev cX0_person : ByteArray := method_4_code
def yX0_person : MethodName := ⟨RX0, "person", "(LMassclaim;IIII[J)I"⟩
def dkwX0_person_1 : List UInt8 := [172, 3, 172]
abbrev dktX0_person_1 : List UInt8 := dkwX0_person_1 ++ []
def dkwX0_person_0 : List UInt8 := [25, 5, 3, 42, 27, 28, 29, 21, 4, 182, 0, 15, 133, 80, 167, 0, 11, 58, 6, 4, 172, 58, 6, 5]
abbrev dktX0_person_0 : List UInt8 := dkwX0_person_0 ++ dktX0_person_1
theorem dksX0_person_0 : cX0_person.data.toList.drop 0 = dktX0_person_0 := by decide +kernel
theorem dksX0_person_1 : cX0_person.data.toList.drop 24 = dktX0_person_1 := dk_seg dksX0_person_0 24 rfl rfl
theorem dX0_person_0 : decode cX0_person 0 = .ok (.aload 5, 2) := dk_25 5 (dk_at dksX0_person_0 0 rfl rfl)
theorem dX0_person_2 : decode cX0_person 2 = .ok (.iconst 0, 1) := dk_3 (dk_at dksX0_person_0 2 rfl rfl)
theorem dX0_person_3 : decode cX0_person 3 = .ok (.aload_n 0, 1) := dk_42 (dk_at dksX0_person_0 3 rfl rfl)
theorem dX0_person_4 : decode cX0_person 4 = .ok (.iload_n 1, 1) := dk_27 (dk_at dksX0_person_0 4 rfl rfl)
theorem dX0_person_5 : decode cX0_person 5 = .ok (.iload_n 2, 1) := dk_28 (dk_at dksX0_person_0 5 rfl rfl)
theorem dX0_person_6 : decode cX0_person 6 = .ok (.iload_n 3, 1) := dk_29 (dk_at dksX0_person_0 6 rfl rfl)
theorem dX0_person_7 : decode cX0_person 7 = .ok (.iload 4, 2) := dk_21 4 (dk_at dksX0_person_0 7 rfl rfl)
theorem dX0_person_9 : decode cX0_person 9 = .ok (.invokevirtual 15, 3) := dk_182 0 15 (dk_at dksX0_person_0 9 rfl rfl)
theorem dX0_person_12 : decode cX0_person 12 = .ok (.i2l, 1) := dk_133 (dk_at dksX0_person_0 12 rfl rfl)
theorem dX0_person_13 : decode cX0_person 13 = .ok (.lastore, 1) := dk_80 (dk_at dksX0_person_0 13 rfl rfl)
theorem dX0_person_14 : decode cX0_person 14 = .ok (.goto 11, 3) := dk_167 0 11 (dk_at dksX0_person_0 14 rfl rfl)
theorem dX0_person_17 : decode cX0_person 17 = .ok (.astore 6, 2) := dk_58 6 (dk_at dksX0_person_0 17 rfl rfl)
theorem dX0_person_19 : decode cX0_person 19 = .ok (.iconst 1, 1) := dk_4 (dk_at dksX0_person_0 19 rfl rfl)
theorem dX0_person_20 : decode cX0_person 20 = .ok (.ireturn, 1) := dk_172 (dk_at dksX0_person_0 20 rfl rfl)
theorem dX0_person_21 : decode cX0_person 21 = .ok (.astore 6, 2) := dk_58 6 (dk_at dksX0_person_0 21 rfl rfl)
theorem dX0_person_23 : decode cX0_person 23 = .ok (.iconst 2, 1) := dk_5 (dk_at dksX0_person_0 23 rfl rfl)
theorem dX0_person_24 : decode cX0_person 24 = .ok (.ireturn, 1) := dk_172 (dk_at dksX0_person_1 0 rfl rfl)
theorem dX0_person_25 : decode cX0_person 25 = .ok (.iconst 0, 1) := dk_3 (dk_at dksX0_person_1 1 rfl rfl)
theorem dX0_person_26 : decode cX0_person 26 = .ok (.ireturn, 1) := dk_172 (dk_at dksX0_person_1 2 rfl rfl)
abbrev cX0_sick : ByteArray := method_5_code
def yX0_sick : MethodName := ⟨RX0, "sick", "(LMassclaim;II[J)I"⟩
def dkwX0_sick_1 : List UInt8 := [172, 3, 172]
abbrev dktX0_sick_1 : List UInt8 := dkwX0_sick_1 ++ []
def dkwX0_sick_0 : List UInt8 := [45, 3, 42, 27, 28, 182, 0, 21, 133, 80, 167, 0, 15, 58, 4, 4, 172, 58, 4, 5, 172, 58, 4, 6]
abbrev dktX0_sick_0 : List UInt8 := dkwX0_sick_0 ++ dktX0_sick_1
theorem dksX0_sick_0 : cX0_sick.data.toList.drop 0 = dktX0_sick_0 := by decide +kernel
theorem dksX0_sick_1 : cX0_sick.data.toList.drop 24 = dktX0_sick_1 := dk_seg dksX0_sick_0 24 rfl rfl
theorem dX0_sick_0 : decode cX0_sick 0 = .ok (.aload_n 3, 1) := dk_45 (dk_at dksX0_sick_0 0 rfl rfl)
theorem dX0_sick_1 : decode cX0_sick 1 = .ok (.iconst 0, 1) := dk_3 (dk_at dksX0_sick_0 1 rfl rfl)
theorem dX0_sick_2 : decode cX0_sick 2 = .ok (.aload_n 0, 1) := dk_42 (dk_at dksX0_sick_0 2 rfl rfl)
theorem dX0_sick_3 : decode cX0_sick 3 = .ok (.iload_n 1, 1) := dk_27 (dk_at dksX0_sick_0 3 rfl rfl)
theorem dX0_sick_4 : decode cX0_sick 4 = .ok (.iload_n 2, 1) := dk_28 (dk_at dksX0_sick_0 4 rfl rfl)
theorem dX0_sick_5 : decode cX0_sick 5 = .ok (.invokevirtual 21, 3) := dk_182 0 21 (dk_at dksX0_sick_0 5 rfl rfl)
theorem dX0_sick_8 : decode cX0_sick 8 = .ok (.i2l, 1) := dk_133 (dk_at dksX0_sick_0 8 rfl rfl)
theorem dX0_sick_9 : decode cX0_sick 9 = .ok (.lastore, 1) := dk_80 (dk_at dksX0_sick_0 9 rfl rfl)
theorem dX0_sick_10 : decode cX0_sick 10 = .ok (.goto 15, 3) := dk_167 0 15 (dk_at dksX0_sick_0 10 rfl rfl)
theorem dX0_sick_13 : decode cX0_sick 13 = .ok (.astore 4, 2) := dk_58 4 (dk_at dksX0_sick_0 13 rfl rfl)
theorem dX0_sick_15 : decode cX0_sick 15 = .ok (.iconst 1, 1) := dk_4 (dk_at dksX0_sick_0 15 rfl rfl)
theorem dX0_sick_16 : decode cX0_sick 16 = .ok (.ireturn, 1) := dk_172 (dk_at dksX0_sick_0 16 rfl rfl)
theorem dX0_sick_17 : decode cX0_sick 17 = .ok (.astore 4, 2) := dk_58 4 (dk_at dksX0_sick_0 17 rfl rfl)
theorem dX0_sick_19 : decode cX0_sick 19 = .ok (.iconst 2, 1) := dk_5 (dk_at dksX0_sick_0 19 rfl rfl)
theorem dX0_sick_20 : decode cX0_sick 20 = .ok (.ireturn, 1) := dk_172 (dk_at dksX0_sick_0 20 rfl rfl)
theorem dX0_sick_21 : decode cX0_sick 21 = .ok (.astore 4, 2) := dk_58 4 (dk_at dksX0_sick_0 21 rfl rfl)
theorem dX0_sick_23 : decode cX0_sick 23 = .ok (.iconst 3, 1) := dk_6 (dk_at dksX0_sick_0 23 rfl rfl)
theorem dX0_sick_24 : decode cX0_sick 24 = .ok (.ireturn, 1) := dk_172 (dk_at dksX0_sick_1 0 rfl rfl)
theorem dX0_sick_25 : decode cX0_sick 25 = .ok (.iconst 0, 1) := dk_3 (dk_at dksX0_sick_1 1 rfl rfl)
theorem dX0_sick_26 : decode cX0_sick 26 = .ok (.ireturn, 1) := dk_172 (dk_at dksX0_sick_1 2 rfl rfl)
abbrev cX0_die : ByteArray := method_6_code
def yX0_die : MethodName := ⟨RX0, "die", "(LMassclaim;II[J)I"⟩
def dkwX0_die_1 : List UInt8 := [3, 172]
abbrev dktX0_die_1 : List UInt8 := dkwX0_die_1 ++ []
def dkwX0_die_0 : List UInt8 := [45, 3, 42, 27, 28, 182, 0, 27, 80, 167, 0, 15, 58, 4, 4, 172, 58, 4, 5, 172, 58, 4, 6, 172]
abbrev dktX0_die_0 : List UInt8 := dkwX0_die_0 ++ dktX0_die_1
theorem dksX0_die_0 : cX0_die.data.toList.drop 0 = dktX0_die_0 := by decide +kernel
theorem dksX0_die_1 : cX0_die.data.toList.drop 24 = dktX0_die_1 := dk_seg dksX0_die_0 24 rfl rfl
theorem dX0_die_0 : decode cX0_die 0 = .ok (.aload_n 3, 1) := dk_45 (dk_at dksX0_die_0 0 rfl rfl)
theorem dX0_die_1 : decode cX0_die 1 = .ok (.iconst 0, 1) := dk_3 (dk_at dksX0_die_0 1 rfl rfl)
theorem dX0_die_2 : decode cX0_die 2 = .ok (.aload_n 0, 1) := dk_42 (dk_at dksX0_die_0 2 rfl rfl)
theorem dX0_die_3 : decode cX0_die 3 = .ok (.iload_n 1, 1) := dk_27 (dk_at dksX0_die_0 3 rfl rfl)
theorem dX0_die_4 : decode cX0_die 4 = .ok (.iload_n 2, 1) := dk_28 (dk_at dksX0_die_0 4 rfl rfl)
theorem dX0_die_5 : decode cX0_die 5 = .ok (.invokevirtual 27, 3) := dk_182 0 27 (dk_at dksX0_die_0 5 rfl rfl)
theorem dX0_die_8 : decode cX0_die 8 = .ok (.lastore, 1) := dk_80 (dk_at dksX0_die_0 8 rfl rfl)
theorem dX0_die_9 : decode cX0_die 9 = .ok (.goto 15, 3) := dk_167 0 15 (dk_at dksX0_die_0 9 rfl rfl)
theorem dX0_die_12 : decode cX0_die 12 = .ok (.astore 4, 2) := dk_58 4 (dk_at dksX0_die_0 12 rfl rfl)
theorem dX0_die_14 : decode cX0_die 14 = .ok (.iconst 1, 1) := dk_4 (dk_at dksX0_die_0 14 rfl rfl)
theorem dX0_die_15 : decode cX0_die 15 = .ok (.ireturn, 1) := dk_172 (dk_at dksX0_die_0 15 rfl rfl)
theorem dX0_die_16 : decode cX0_die 16 = .ok (.astore 4, 2) := dk_58 4 (dk_at dksX0_die_0 16 rfl rfl)
theorem dX0_die_18 : decode cX0_die 18 = .ok (.iconst 2, 1) := dk_5 (dk_at dksX0_die_0 18 rfl rfl)
theorem dX0_die_19 : decode cX0_die 19 = .ok (.ireturn, 1) := dk_172 (dk_at dksX0_die_0 19 rfl rfl)
theorem dX0_die_20 : decode cX0_die 20 = .ok (.astore 4, 2) := dk_58 4 (dk_at dksX0_die_0 20 rfl rfl)
theorem dX0_die_22 : decode cX0_die 22 = .ok (.iconst 3, 1) := dk_6 (dk_at dksX0_die_0 22 rfl rfl)
theorem dX0_die_23 : decode cX0_die 23 = .ok (.ireturn, 1) := dk_172 (dk_at dksX0_die_0 23 rfl rfl)
theorem dX0_die_24 : decode cX0_die 24 = .ok (.iconst 0, 1) := dk_3 (dk_at dksX0_die_1 0 rfl rfl)
theorem dX0_die_25 : decode cX0_die 25 = .ok (.ireturn, 1) := dk_172 (dk_at dksX0_die_1 1 rfl rfl)
abbrev cX0_define : ByteArray := method_7_code
def yX0_define : MethodName := ⟨RX0, "define", "(LMassclaim;III[J)I"⟩
def dkwX0_define_1 : List UInt8 := [172]
abbrev dktX0_define_1 : List UInt8 := dkwX0_define_1 ++ []
def dkwX0_define_0 : List UInt8 := [25, 4, 3, 42, 27, 28, 29, 182, 0, 31, 133, 80, 167, 0, 11, 58, 5, 4, 172, 58, 5, 5, 172, 3]
abbrev dktX0_define_0 : List UInt8 := dkwX0_define_0 ++ dktX0_define_1
theorem dksX0_define_0 : cX0_define.data.toList.drop 0 = dktX0_define_0 := by decide +kernel
theorem dksX0_define_1 : cX0_define.data.toList.drop 24 = dktX0_define_1 := dk_seg dksX0_define_0 24 rfl rfl
theorem dX0_define_0 : decode cX0_define 0 = .ok (.aload 4, 2) := dk_25 4 (dk_at dksX0_define_0 0 rfl rfl)
theorem dX0_define_2 : decode cX0_define 2 = .ok (.iconst 0, 1) := dk_3 (dk_at dksX0_define_0 2 rfl rfl)
theorem dX0_define_3 : decode cX0_define 3 = .ok (.aload_n 0, 1) := dk_42 (dk_at dksX0_define_0 3 rfl rfl)
theorem dX0_define_4 : decode cX0_define 4 = .ok (.iload_n 1, 1) := dk_27 (dk_at dksX0_define_0 4 rfl rfl)
theorem dX0_define_5 : decode cX0_define 5 = .ok (.iload_n 2, 1) := dk_28 (dk_at dksX0_define_0 5 rfl rfl)
theorem dX0_define_6 : decode cX0_define 6 = .ok (.iload_n 3, 1) := dk_29 (dk_at dksX0_define_0 6 rfl rfl)
theorem dX0_define_7 : decode cX0_define 7 = .ok (.invokevirtual 31, 3) := dk_182 0 31 (dk_at dksX0_define_0 7 rfl rfl)
theorem dX0_define_10 : decode cX0_define 10 = .ok (.i2l, 1) := dk_133 (dk_at dksX0_define_0 10 rfl rfl)
theorem dX0_define_11 : decode cX0_define 11 = .ok (.lastore, 1) := dk_80 (dk_at dksX0_define_0 11 rfl rfl)
theorem dX0_define_12 : decode cX0_define 12 = .ok (.goto 11, 3) := dk_167 0 11 (dk_at dksX0_define_0 12 rfl rfl)
theorem dX0_define_15 : decode cX0_define 15 = .ok (.astore 5, 2) := dk_58 5 (dk_at dksX0_define_0 15 rfl rfl)
theorem dX0_define_17 : decode cX0_define 17 = .ok (.iconst 1, 1) := dk_4 (dk_at dksX0_define_0 17 rfl rfl)
theorem dX0_define_18 : decode cX0_define 18 = .ok (.ireturn, 1) := dk_172 (dk_at dksX0_define_0 18 rfl rfl)
theorem dX0_define_19 : decode cX0_define 19 = .ok (.astore 5, 2) := dk_58 5 (dk_at dksX0_define_0 19 rfl rfl)
theorem dX0_define_21 : decode cX0_define 21 = .ok (.iconst 2, 1) := dk_5 (dk_at dksX0_define_0 21 rfl rfl)
theorem dX0_define_22 : decode cX0_define 22 = .ok (.ireturn, 1) := dk_172 (dk_at dksX0_define_0 22 rfl rfl)
theorem dX0_define_23 : decode cX0_define 23 = .ok (.iconst 0, 1) := dk_3 (dk_at dksX0_define_0 23 rfl rfl)
theorem dX0_define_24 : decode cX0_define 24 = .ok (.ireturn, 1) := dk_172 (dk_at dksX0_define_1 0 rfl rfl)
abbrev cX0_subclass : ByteArray := method_8_code
def yX0_subclass : MethodName := ⟨RX0, "subclass", "(LMassclaim;IIZ[J)I"⟩
def dkwX0_subclass_1 : List UInt8 := [172]
abbrev dktX0_subclass_1 : List UInt8 := dkwX0_subclass_1 ++ []
def dkwX0_subclass_0 : List UInt8 := [25, 4, 3, 42, 27, 28, 29, 182, 0, 35, 133, 80, 167, 0, 11, 58, 5, 4, 172, 58, 5, 5, 172, 3]
abbrev dktX0_subclass_0 : List UInt8 := dkwX0_subclass_0 ++ dktX0_subclass_1
theorem dksX0_subclass_0 : cX0_subclass.data.toList.drop 0 = dktX0_subclass_0 := by decide +kernel
theorem dksX0_subclass_1 : cX0_subclass.data.toList.drop 24 = dktX0_subclass_1 := dk_seg dksX0_subclass_0 24 rfl rfl
theorem dX0_subclass_0 : decode cX0_subclass 0 = .ok (.aload 4, 2) := dk_25 4 (dk_at dksX0_subclass_0 0 rfl rfl)
theorem dX0_subclass_2 : decode cX0_subclass 2 = .ok (.iconst 0, 1) := dk_3 (dk_at dksX0_subclass_0 2 rfl rfl)
theorem dX0_subclass_3 : decode cX0_subclass 3 = .ok (.aload_n 0, 1) := dk_42 (dk_at dksX0_subclass_0 3 rfl rfl)
theorem dX0_subclass_4 : decode cX0_subclass 4 = .ok (.iload_n 1, 1) := dk_27 (dk_at dksX0_subclass_0 4 rfl rfl)
theorem dX0_subclass_5 : decode cX0_subclass 5 = .ok (.iload_n 2, 1) := dk_28 (dk_at dksX0_subclass_0 5 rfl rfl)
theorem dX0_subclass_6 : decode cX0_subclass 6 = .ok (.iload_n 3, 1) := dk_29 (dk_at dksX0_subclass_0 6 rfl rfl)
theorem dX0_subclass_7 : decode cX0_subclass 7 = .ok (.invokevirtual 35, 3) := dk_182 0 35 (dk_at dksX0_subclass_0 7 rfl rfl)
theorem dX0_subclass_10 : decode cX0_subclass 10 = .ok (.i2l, 1) := dk_133 (dk_at dksX0_subclass_0 10 rfl rfl)
theorem dX0_subclass_11 : decode cX0_subclass 11 = .ok (.lastore, 1) := dk_80 (dk_at dksX0_subclass_0 11 rfl rfl)
theorem dX0_subclass_12 : decode cX0_subclass 12 = .ok (.goto 11, 3) := dk_167 0 11 (dk_at dksX0_subclass_0 12 rfl rfl)
theorem dX0_subclass_15 : decode cX0_subclass 15 = .ok (.astore 5, 2) := dk_58 5 (dk_at dksX0_subclass_0 15 rfl rfl)
theorem dX0_subclass_17 : decode cX0_subclass 17 = .ok (.iconst 1, 1) := dk_4 (dk_at dksX0_subclass_0 17 rfl rfl)
theorem dX0_subclass_18 : decode cX0_subclass 18 = .ok (.ireturn, 1) := dk_172 (dk_at dksX0_subclass_0 18 rfl rfl)
theorem dX0_subclass_19 : decode cX0_subclass 19 = .ok (.astore 5, 2) := dk_58 5 (dk_at dksX0_subclass_0 19 rfl rfl)
theorem dX0_subclass_21 : decode cX0_subclass 21 = .ok (.iconst 2, 1) := dk_5 (dk_at dksX0_subclass_0 21 rfl rfl)
theorem dX0_subclass_22 : decode cX0_subclass 22 = .ok (.ireturn, 1) := dk_172 (dk_at dksX0_subclass_0 22 rfl rfl)
theorem dX0_subclass_23 : decode cX0_subclass 23 = .ok (.iconst 0, 1) := dk_3 (dk_at dksX0_subclass_0 23 rfl rfl)
theorem dX0_subclass_24 : decode cX0_subclass 24 = .ok (.ireturn, 1) := dk_172 (dk_at dksX0_subclass_1 0 rfl rfl)
abbrev cX0_personAt : ByteArray := method_9_code
def yX0_personAt : MethodName := ⟨RX0, "personAt", "(LMassclaim;II[J)I"⟩
def dkwX0_personAt_0 : List UInt8 := [45, 3, 42, 27, 28, 182, 0, 39, 133, 80, 167, 0, 11, 58, 4, 4, 172, 58, 4, 5, 172, 3, 172]
abbrev dktX0_personAt_0 : List UInt8 := dkwX0_personAt_0 ++ []
theorem dksX0_personAt_0 : cX0_personAt.data.toList.drop 0 = dktX0_personAt_0 := by decide +kernel
theorem dX0_personAt_0 : decode cX0_personAt 0 = .ok (.aload_n 3, 1) := dk_45 (dk_at dksX0_personAt_0 0 rfl rfl)
theorem dX0_personAt_1 : decode cX0_personAt 1 = .ok (.iconst 0, 1) := dk_3 (dk_at dksX0_personAt_0 1 rfl rfl)
theorem dX0_personAt_2 : decode cX0_personAt 2 = .ok (.aload_n 0, 1) := dk_42 (dk_at dksX0_personAt_0 2 rfl rfl)
theorem dX0_personAt_3 : decode cX0_personAt 3 = .ok (.iload_n 1, 1) := dk_27 (dk_at dksX0_personAt_0 3 rfl rfl)
theorem dX0_personAt_4 : decode cX0_personAt 4 = .ok (.iload_n 2, 1) := dk_28 (dk_at dksX0_personAt_0 4 rfl rfl)
theorem dX0_personAt_5 : decode cX0_personAt 5 = .ok (.invokevirtual 39, 3) := dk_182 0 39 (dk_at dksX0_personAt_0 5 rfl rfl)
theorem dX0_personAt_8 : decode cX0_personAt 8 = .ok (.i2l, 1) := dk_133 (dk_at dksX0_personAt_0 8 rfl rfl)
theorem dX0_personAt_9 : decode cX0_personAt 9 = .ok (.lastore, 1) := dk_80 (dk_at dksX0_personAt_0 9 rfl rfl)
theorem dX0_personAt_10 : decode cX0_personAt 10 = .ok (.goto 11, 3) := dk_167 0 11 (dk_at dksX0_personAt_0 10 rfl rfl)
theorem dX0_personAt_13 : decode cX0_personAt 13 = .ok (.astore 4, 2) := dk_58 4 (dk_at dksX0_personAt_0 13 rfl rfl)
theorem dX0_personAt_15 : decode cX0_personAt 15 = .ok (.iconst 1, 1) := dk_4 (dk_at dksX0_personAt_0 15 rfl rfl)
theorem dX0_personAt_16 : decode cX0_personAt 16 = .ok (.ireturn, 1) := dk_172 (dk_at dksX0_personAt_0 16 rfl rfl)
theorem dX0_personAt_17 : decode cX0_personAt 17 = .ok (.astore 4, 2) := dk_58 4 (dk_at dksX0_personAt_0 17 rfl rfl)
theorem dX0_personAt_19 : decode cX0_personAt 19 = .ok (.iconst 2, 1) := dk_5 (dk_at dksX0_personAt_0 19 rfl rfl)
theorem dX0_personAt_20 : decode cX0_personAt 20 = .ok (.ireturn, 1) := dk_172 (dk_at dksX0_personAt_0 20 rfl rfl)
theorem dX0_personAt_21 : decode cX0_personAt 21 = .ok (.iconst 0, 1) := dk_3 (dk_at dksX0_personAt_0 21 rfl rfl)
theorem dX0_personAt_22 : decode cX0_personAt 22 = .ok (.ireturn, 1) := dk_172 (dk_at dksX0_personAt_0 22 rfl rfl)
abbrev cX0_moneyOf : ByteArray := method_10_code
def yX0_moneyOf : MethodName := ⟨RX0, "moneyOf", "(LMassclaim;II[J)I"⟩
def dkwX0_moneyOf_0 : List UInt8 := [45, 3, 42, 27, 28, 182, 0, 42, 80, 167, 0, 11, 58, 4, 4, 172, 58, 4, 5, 172, 3, 172]
abbrev dktX0_moneyOf_0 : List UInt8 := dkwX0_moneyOf_0 ++ []
theorem dksX0_moneyOf_0 : cX0_moneyOf.data.toList.drop 0 = dktX0_moneyOf_0 := by decide +kernel
theorem dX0_moneyOf_0 : decode cX0_moneyOf 0 = .ok (.aload_n 3, 1) := dk_45 (dk_at dksX0_moneyOf_0 0 rfl rfl)
theorem dX0_moneyOf_1 : decode cX0_moneyOf 1 = .ok (.iconst 0, 1) := dk_3 (dk_at dksX0_moneyOf_0 1 rfl rfl)
theorem dX0_moneyOf_2 : decode cX0_moneyOf 2 = .ok (.aload_n 0, 1) := dk_42 (dk_at dksX0_moneyOf_0 2 rfl rfl)
theorem dX0_moneyOf_3 : decode cX0_moneyOf 3 = .ok (.iload_n 1, 1) := dk_27 (dk_at dksX0_moneyOf_0 3 rfl rfl)
theorem dX0_moneyOf_4 : decode cX0_moneyOf 4 = .ok (.iload_n 2, 1) := dk_28 (dk_at dksX0_moneyOf_0 4 rfl rfl)
theorem dX0_moneyOf_5 : decode cX0_moneyOf 5 = .ok (.invokevirtual 42, 3) := dk_182 0 42 (dk_at dksX0_moneyOf_0 5 rfl rfl)
theorem dX0_moneyOf_8 : decode cX0_moneyOf 8 = .ok (.lastore, 1) := dk_80 (dk_at dksX0_moneyOf_0 8 rfl rfl)
theorem dX0_moneyOf_9 : decode cX0_moneyOf 9 = .ok (.goto 11, 3) := dk_167 0 11 (dk_at dksX0_moneyOf_0 9 rfl rfl)
theorem dX0_moneyOf_12 : decode cX0_moneyOf 12 = .ok (.astore 4, 2) := dk_58 4 (dk_at dksX0_moneyOf_0 12 rfl rfl)
theorem dX0_moneyOf_14 : decode cX0_moneyOf 14 = .ok (.iconst 1, 1) := dk_4 (dk_at dksX0_moneyOf_0 14 rfl rfl)
theorem dX0_moneyOf_15 : decode cX0_moneyOf 15 = .ok (.ireturn, 1) := dk_172 (dk_at dksX0_moneyOf_0 15 rfl rfl)
theorem dX0_moneyOf_16 : decode cX0_moneyOf 16 = .ok (.astore 4, 2) := dk_58 4 (dk_at dksX0_moneyOf_0 16 rfl rfl)
theorem dX0_moneyOf_18 : decode cX0_moneyOf 18 = .ok (.iconst 2, 1) := dk_5 (dk_at dksX0_moneyOf_0 18 rfl rfl)
theorem dX0_moneyOf_19 : decode cX0_moneyOf 19 = .ok (.ireturn, 1) := dk_172 (dk_at dksX0_moneyOf_0 19 rfl rfl)
theorem dX0_moneyOf_20 : decode cX0_moneyOf 20 = .ok (.iconst 0, 1) := dk_3 (dk_at dksX0_moneyOf_0 20 rfl rfl)
theorem dX0_moneyOf_21 : decode cX0_moneyOf 21 = .ok (.ireturn, 1) := dk_172 (dk_at dksX0_moneyOf_0 21 rfl rfl)
abbrev cX0_heirAt : ByteArray := method_11_code
def yX0_heirAt : MethodName := ⟨RX0, "heirAt", "(LMassclaim;II[J)I"⟩
def dkwX0_heirAt_0 : List UInt8 := [45, 3, 42, 27, 28, 182, 0, 45, 80, 167, 0, 11, 58, 4, 4, 172, 58, 4, 5, 172, 3, 172]
abbrev dktX0_heirAt_0 : List UInt8 := dkwX0_heirAt_0 ++ []
theorem dksX0_heirAt_0 : cX0_heirAt.data.toList.drop 0 = dktX0_heirAt_0 := by decide +kernel
theorem dX0_heirAt_0 : decode cX0_heirAt 0 = .ok (.aload_n 3, 1) := dk_45 (dk_at dksX0_heirAt_0 0 rfl rfl)
theorem dX0_heirAt_1 : decode cX0_heirAt 1 = .ok (.iconst 0, 1) := dk_3 (dk_at dksX0_heirAt_0 1 rfl rfl)
theorem dX0_heirAt_2 : decode cX0_heirAt 2 = .ok (.aload_n 0, 1) := dk_42 (dk_at dksX0_heirAt_0 2 rfl rfl)
theorem dX0_heirAt_3 : decode cX0_heirAt 3 = .ok (.iload_n 1, 1) := dk_27 (dk_at dksX0_heirAt_0 3 rfl rfl)
theorem dX0_heirAt_4 : decode cX0_heirAt 4 = .ok (.iload_n 2, 1) := dk_28 (dk_at dksX0_heirAt_0 4 rfl rfl)
theorem dX0_heirAt_5 : decode cX0_heirAt 5 = .ok (.invokevirtual 45, 3) := dk_182 0 45 (dk_at dksX0_heirAt_0 5 rfl rfl)
theorem dX0_heirAt_8 : decode cX0_heirAt 8 = .ok (.lastore, 1) := dk_80 (dk_at dksX0_heirAt_0 8 rfl rfl)
theorem dX0_heirAt_9 : decode cX0_heirAt 9 = .ok (.goto 11, 3) := dk_167 0 11 (dk_at dksX0_heirAt_0 9 rfl rfl)
theorem dX0_heirAt_12 : decode cX0_heirAt 12 = .ok (.astore 4, 2) := dk_58 4 (dk_at dksX0_heirAt_0 12 rfl rfl)
theorem dX0_heirAt_14 : decode cX0_heirAt 14 = .ok (.iconst 1, 1) := dk_4 (dk_at dksX0_heirAt_0 14 rfl rfl)
theorem dX0_heirAt_15 : decode cX0_heirAt 15 = .ok (.ireturn, 1) := dk_172 (dk_at dksX0_heirAt_0 15 rfl rfl)
theorem dX0_heirAt_16 : decode cX0_heirAt 16 = .ok (.astore 4, 2) := dk_58 4 (dk_at dksX0_heirAt_0 16 rfl rfl)
theorem dX0_heirAt_18 : decode cX0_heirAt 18 = .ok (.iconst 2, 1) := dk_5 (dk_at dksX0_heirAt_0 18 rfl rfl)
theorem dX0_heirAt_19 : decode cX0_heirAt 19 = .ok (.ireturn, 1) := dk_172 (dk_at dksX0_heirAt_0 19 rfl rfl)
theorem dX0_heirAt_20 : decode cX0_heirAt 20 = .ok (.iconst 0, 1) := dk_3 (dk_at dksX0_heirAt_0 20 rfl rfl)
theorem dX0_heirAt_21 : decode cX0_heirAt 21 = .ok (.ireturn, 1) := dk_172 (dk_at dksX0_heirAt_0 21 rfl rfl)
abbrev cX0_notice : ByteArray := method_12_code
def yX0_notice : MethodName := ⟨RX0, "notice", "(LMassclaim;II[J)I"⟩
def dkwX0_notice_0 : List UInt8 := [45, 3, 42, 27, 28, 182, 0, 48, 133, 80, 167, 0, 11, 58, 4, 4, 172, 58, 4, 5, 172, 3, 172]
abbrev dktX0_notice_0 : List UInt8 := dkwX0_notice_0 ++ []
theorem dksX0_notice_0 : cX0_notice.data.toList.drop 0 = dktX0_notice_0 := by decide +kernel
theorem dX0_notice_0 : decode cX0_notice 0 = .ok (.aload_n 3, 1) := dk_45 (dk_at dksX0_notice_0 0 rfl rfl)
theorem dX0_notice_1 : decode cX0_notice 1 = .ok (.iconst 0, 1) := dk_3 (dk_at dksX0_notice_0 1 rfl rfl)
theorem dX0_notice_2 : decode cX0_notice 2 = .ok (.aload_n 0, 1) := dk_42 (dk_at dksX0_notice_0 2 rfl rfl)
theorem dX0_notice_3 : decode cX0_notice 3 = .ok (.iload_n 1, 1) := dk_27 (dk_at dksX0_notice_0 3 rfl rfl)
theorem dX0_notice_4 : decode cX0_notice 4 = .ok (.iload_n 2, 1) := dk_28 (dk_at dksX0_notice_0 4 rfl rfl)
theorem dX0_notice_5 : decode cX0_notice 5 = .ok (.invokevirtual 48, 3) := dk_182 0 48 (dk_at dksX0_notice_0 5 rfl rfl)
theorem dX0_notice_8 : decode cX0_notice 8 = .ok (.i2l, 1) := dk_133 (dk_at dksX0_notice_0 8 rfl rfl)
theorem dX0_notice_9 : decode cX0_notice 9 = .ok (.lastore, 1) := dk_80 (dk_at dksX0_notice_0 9 rfl rfl)
theorem dX0_notice_10 : decode cX0_notice 10 = .ok (.goto 11, 3) := dk_167 0 11 (dk_at dksX0_notice_0 10 rfl rfl)
theorem dX0_notice_13 : decode cX0_notice 13 = .ok (.astore 4, 2) := dk_58 4 (dk_at dksX0_notice_0 13 rfl rfl)
theorem dX0_notice_15 : decode cX0_notice 15 = .ok (.iconst 1, 1) := dk_4 (dk_at dksX0_notice_0 15 rfl rfl)
theorem dX0_notice_16 : decode cX0_notice 16 = .ok (.ireturn, 1) := dk_172 (dk_at dksX0_notice_0 16 rfl rfl)
theorem dX0_notice_17 : decode cX0_notice 17 = .ok (.astore 4, 2) := dk_58 4 (dk_at dksX0_notice_0 17 rfl rfl)
theorem dX0_notice_19 : decode cX0_notice 19 = .ok (.iconst 2, 1) := dk_5 (dk_at dksX0_notice_0 19 rfl rfl)
theorem dX0_notice_20 : decode cX0_notice 20 = .ok (.ireturn, 1) := dk_172 (dk_at dksX0_notice_0 20 rfl rfl)
theorem dX0_notice_21 : decode cX0_notice 21 = .ok (.iconst 0, 1) := dk_3 (dk_at dksX0_notice_0 21 rfl rfl)
theorem dX0_notice_22 : decode cX0_notice 22 = .ok (.ireturn, 1) := dk_172 (dk_at dksX0_notice_0 22 rfl rfl)
abbrev cX0_address : ByteArray := method_13_code
def yX0_address : MethodName := ⟨RX0, "address", "(LMassclaim;IZ[J)I"⟩
def dkwX0_address_1 : List UInt8 := [3, 172]
abbrev dktX0_address_1 : List UInt8 := dkwX0_address_1 ++ []
def dkwX0_address_0 : List UInt8 := [45, 3, 42, 27, 28, 182, 0, 51, 153, 0, 7, 10, 167, 0, 4, 9, 80, 167, 0, 7, 58, 4, 4, 172]
abbrev dktX0_address_0 : List UInt8 := dkwX0_address_0 ++ dktX0_address_1
theorem dksX0_address_0 : cX0_address.data.toList.drop 0 = dktX0_address_0 := by decide +kernel
theorem dksX0_address_1 : cX0_address.data.toList.drop 24 = dktX0_address_1 := dk_seg dksX0_address_0 24 rfl rfl
theorem dX0_address_0 : decode cX0_address 0 = .ok (.aload_n 3, 1) := dk_45 (dk_at dksX0_address_0 0 rfl rfl)
theorem dX0_address_1 : decode cX0_address 1 = .ok (.iconst 0, 1) := dk_3 (dk_at dksX0_address_0 1 rfl rfl)
theorem dX0_address_2 : decode cX0_address 2 = .ok (.aload_n 0, 1) := dk_42 (dk_at dksX0_address_0 2 rfl rfl)
theorem dX0_address_3 : decode cX0_address 3 = .ok (.iload_n 1, 1) := dk_27 (dk_at dksX0_address_0 3 rfl rfl)
theorem dX0_address_4 : decode cX0_address 4 = .ok (.iload_n 2, 1) := dk_28 (dk_at dksX0_address_0 4 rfl rfl)
theorem dX0_address_5 : decode cX0_address 5 = .ok (.invokevirtual 51, 3) := dk_182 0 51 (dk_at dksX0_address_0 5 rfl rfl)
theorem dX0_address_8 : decode cX0_address 8 = .ok (.ifCond .eq 7, 3) := dk_153 0 7 (dk_at dksX0_address_0 8 rfl rfl)
theorem dX0_address_11 : decode cX0_address 11 = .ok (.lconst 1, 1) := dk_10 (dk_at dksX0_address_0 11 rfl rfl)
theorem dX0_address_12 : decode cX0_address 12 = .ok (.goto 4, 3) := dk_167 0 4 (dk_at dksX0_address_0 12 rfl rfl)
theorem dX0_address_15 : decode cX0_address 15 = .ok (.lconst 0, 1) := dk_9 (dk_at dksX0_address_0 15 rfl rfl)
theorem dX0_address_16 : decode cX0_address 16 = .ok (.lastore, 1) := dk_80 (dk_at dksX0_address_0 16 rfl rfl)
theorem dX0_address_17 : decode cX0_address 17 = .ok (.goto 7, 3) := dk_167 0 7 (dk_at dksX0_address_0 17 rfl rfl)
theorem dX0_address_20 : decode cX0_address 20 = .ok (.astore 4, 2) := dk_58 4 (dk_at dksX0_address_0 20 rfl rfl)
theorem dX0_address_22 : decode cX0_address 22 = .ok (.iconst 1, 1) := dk_4 (dk_at dksX0_address_0 22 rfl rfl)
theorem dX0_address_23 : decode cX0_address 23 = .ok (.ireturn, 1) := dk_172 (dk_at dksX0_address_0 23 rfl rfl)
theorem dX0_address_24 : decode cX0_address 24 = .ok (.iconst 0, 1) := dk_3 (dk_at dksX0_address_1 0 rfl rfl)
theorem dX0_address_25 : decode cX0_address 25 = .ok (.ireturn, 1) := dk_172 (dk_at dksX0_address_1 1 rfl rfl)
abbrev cX0_optOut : ByteArray := method_14_code
def yX0_optOut : MethodName := ⟨RX0, "optOut", "(LMassclaim;IZ[J)I"⟩
def dkwX0_optOut_1 : List UInt8 := [3, 172]
abbrev dktX0_optOut_1 : List UInt8 := dkwX0_optOut_1 ++ []
def dkwX0_optOut_0 : List UInt8 := [45, 3, 42, 27, 28, 182, 0, 55, 153, 0, 7, 10, 167, 0, 4, 9, 80, 167, 0, 7, 58, 4, 4, 172]
abbrev dktX0_optOut_0 : List UInt8 := dkwX0_optOut_0 ++ dktX0_optOut_1
theorem dksX0_optOut_0 : cX0_optOut.data.toList.drop 0 = dktX0_optOut_0 := by decide +kernel
theorem dksX0_optOut_1 : cX0_optOut.data.toList.drop 24 = dktX0_optOut_1 := dk_seg dksX0_optOut_0 24 rfl rfl
theorem dX0_optOut_0 : decode cX0_optOut 0 = .ok (.aload_n 3, 1) := dk_45 (dk_at dksX0_optOut_0 0 rfl rfl)
theorem dX0_optOut_1 : decode cX0_optOut 1 = .ok (.iconst 0, 1) := dk_3 (dk_at dksX0_optOut_0 1 rfl rfl)
theorem dX0_optOut_2 : decode cX0_optOut 2 = .ok (.aload_n 0, 1) := dk_42 (dk_at dksX0_optOut_0 2 rfl rfl)
theorem dX0_optOut_3 : decode cX0_optOut 3 = .ok (.iload_n 1, 1) := dk_27 (dk_at dksX0_optOut_0 3 rfl rfl)
theorem dX0_optOut_4 : decode cX0_optOut 4 = .ok (.iload_n 2, 1) := dk_28 (dk_at dksX0_optOut_0 4 rfl rfl)
theorem dX0_optOut_5 : decode cX0_optOut 5 = .ok (.invokevirtual 55, 3) := dk_182 0 55 (dk_at dksX0_optOut_0 5 rfl rfl)
theorem dX0_optOut_8 : decode cX0_optOut 8 = .ok (.ifCond .eq 7, 3) := dk_153 0 7 (dk_at dksX0_optOut_0 8 rfl rfl)
theorem dX0_optOut_11 : decode cX0_optOut 11 = .ok (.lconst 1, 1) := dk_10 (dk_at dksX0_optOut_0 11 rfl rfl)
theorem dX0_optOut_12 : decode cX0_optOut 12 = .ok (.goto 4, 3) := dk_167 0 4 (dk_at dksX0_optOut_0 12 rfl rfl)
theorem dX0_optOut_15 : decode cX0_optOut 15 = .ok (.lconst 0, 1) := dk_9 (dk_at dksX0_optOut_0 15 rfl rfl)
theorem dX0_optOut_16 : decode cX0_optOut 16 = .ok (.lastore, 1) := dk_80 (dk_at dksX0_optOut_0 16 rfl rfl)
theorem dX0_optOut_17 : decode cX0_optOut 17 = .ok (.goto 7, 3) := dk_167 0 7 (dk_at dksX0_optOut_0 17 rfl rfl)
theorem dX0_optOut_20 : decode cX0_optOut 20 = .ok (.astore 4, 2) := dk_58 4 (dk_at dksX0_optOut_0 20 rfl rfl)
theorem dX0_optOut_22 : decode cX0_optOut 22 = .ok (.iconst 1, 1) := dk_4 (dk_at dksX0_optOut_0 22 rfl rfl)
theorem dX0_optOut_23 : decode cX0_optOut 23 = .ok (.ireturn, 1) := dk_172 (dk_at dksX0_optOut_0 23 rfl rfl)
theorem dX0_optOut_24 : decode cX0_optOut 24 = .ok (.iconst 0, 1) := dk_3 (dk_at dksX0_optOut_1 0 rfl rfl)
theorem dX0_optOut_25 : decode cX0_optOut 25 = .ok (.ireturn, 1) := dk_172 (dk_at dksX0_optOut_1 1 rfl rfl)
abbrev cX0_optIn : ByteArray := method_15_code
def yX0_optIn : MethodName := ⟨RX0, "optIn", "(LMassclaim;I[J)I"⟩
def dkwX0_optIn_0 : List UInt8 := [44, 3, 42, 27, 182, 0, 58, 153, 0, 7, 10, 167, 0, 4, 9, 80, 167, 0, 6, 78, 4, 172, 3, 172]
abbrev dktX0_optIn_0 : List UInt8 := dkwX0_optIn_0 ++ []
theorem dksX0_optIn_0 : cX0_optIn.data.toList.drop 0 = dktX0_optIn_0 := by decide +kernel
theorem dX0_optIn_0 : decode cX0_optIn 0 = .ok (.aload_n 2, 1) := dk_44 (dk_at dksX0_optIn_0 0 rfl rfl)
theorem dX0_optIn_1 : decode cX0_optIn 1 = .ok (.iconst 0, 1) := dk_3 (dk_at dksX0_optIn_0 1 rfl rfl)
theorem dX0_optIn_2 : decode cX0_optIn 2 = .ok (.aload_n 0, 1) := dk_42 (dk_at dksX0_optIn_0 2 rfl rfl)
theorem dX0_optIn_3 : decode cX0_optIn 3 = .ok (.iload_n 1, 1) := dk_27 (dk_at dksX0_optIn_0 3 rfl rfl)
theorem dX0_optIn_4 : decode cX0_optIn 4 = .ok (.invokevirtual 58, 3) := dk_182 0 58 (dk_at dksX0_optIn_0 4 rfl rfl)
theorem dX0_optIn_7 : decode cX0_optIn 7 = .ok (.ifCond .eq 7, 3) := dk_153 0 7 (dk_at dksX0_optIn_0 7 rfl rfl)
theorem dX0_optIn_10 : decode cX0_optIn 10 = .ok (.lconst 1, 1) := dk_10 (dk_at dksX0_optIn_0 10 rfl rfl)
theorem dX0_optIn_11 : decode cX0_optIn 11 = .ok (.goto 4, 3) := dk_167 0 4 (dk_at dksX0_optIn_0 11 rfl rfl)
theorem dX0_optIn_14 : decode cX0_optIn 14 = .ok (.lconst 0, 1) := dk_9 (dk_at dksX0_optIn_0 14 rfl rfl)
theorem dX0_optIn_15 : decode cX0_optIn 15 = .ok (.lastore, 1) := dk_80 (dk_at dksX0_optIn_0 15 rfl rfl)
theorem dX0_optIn_16 : decode cX0_optIn 16 = .ok (.goto 6, 3) := dk_167 0 6 (dk_at dksX0_optIn_0 16 rfl rfl)
theorem dX0_optIn_19 : decode cX0_optIn 19 = .ok (.astore_n 3, 1) := dk_78 (dk_at dksX0_optIn_0 19 rfl rfl)
theorem dX0_optIn_20 : decode cX0_optIn 20 = .ok (.iconst 1, 1) := dk_4 (dk_at dksX0_optIn_0 20 rfl rfl)
theorem dX0_optIn_21 : decode cX0_optIn 21 = .ok (.ireturn, 1) := dk_172 (dk_at dksX0_optIn_0 21 rfl rfl)
theorem dX0_optIn_22 : decode cX0_optIn 22 = .ok (.iconst 0, 1) := dk_3 (dk_at dksX0_optIn_0 22 rfl rfl)
theorem dX0_optIn_23 : decode cX0_optIn 23 = .ok (.ireturn, 1) := dk_172 (dk_at dksX0_optIn_0 23 rfl rfl)
abbrev cX0_draw : ByteArray := method_16_code
def yX0_draw : MethodName := ⟨RX0, "draw", "(LMassclaim;I[J)I"⟩
def dkwX0_draw_0 : List UInt8 := [44, 3, 42, 27, 182, 0, 62, 133, 80, 167, 0, 6, 78, 4, 172, 3, 172]
abbrev dktX0_draw_0 : List UInt8 := dkwX0_draw_0 ++ []
theorem dksX0_draw_0 : cX0_draw.data.toList.drop 0 = dktX0_draw_0 := by decide +kernel
theorem dX0_draw_0 : decode cX0_draw 0 = .ok (.aload_n 2, 1) := dk_44 (dk_at dksX0_draw_0 0 rfl rfl)
theorem dX0_draw_1 : decode cX0_draw 1 = .ok (.iconst 0, 1) := dk_3 (dk_at dksX0_draw_0 1 rfl rfl)
theorem dX0_draw_2 : decode cX0_draw 2 = .ok (.aload_n 0, 1) := dk_42 (dk_at dksX0_draw_0 2 rfl rfl)
theorem dX0_draw_3 : decode cX0_draw 3 = .ok (.iload_n 1, 1) := dk_27 (dk_at dksX0_draw_0 3 rfl rfl)
theorem dX0_draw_4 : decode cX0_draw 4 = .ok (.invokevirtual 62, 3) := dk_182 0 62 (dk_at dksX0_draw_0 4 rfl rfl)
theorem dX0_draw_7 : decode cX0_draw 7 = .ok (.i2l, 1) := dk_133 (dk_at dksX0_draw_0 7 rfl rfl)
theorem dX0_draw_8 : decode cX0_draw 8 = .ok (.lastore, 1) := dk_80 (dk_at dksX0_draw_0 8 rfl rfl)
theorem dX0_draw_9 : decode cX0_draw 9 = .ok (.goto 6, 3) := dk_167 0 6 (dk_at dksX0_draw_0 9 rfl rfl)
theorem dX0_draw_12 : decode cX0_draw 12 = .ok (.astore_n 3, 1) := dk_78 (dk_at dksX0_draw_0 12 rfl rfl)
theorem dX0_draw_13 : decode cX0_draw 13 = .ok (.iconst 1, 1) := dk_4 (dk_at dksX0_draw_0 13 rfl rfl)
theorem dX0_draw_14 : decode cX0_draw 14 = .ok (.ireturn, 1) := dk_172 (dk_at dksX0_draw_0 14 rfl rfl)
theorem dX0_draw_15 : decode cX0_draw 15 = .ok (.iconst 0, 1) := dk_3 (dk_at dksX0_draw_0 15 rfl rfl)
theorem dX0_draw_16 : decode cX0_draw 16 = .ok (.ireturn, 1) := dk_172 (dk_at dksX0_draw_0 16 rfl rfl)
abbrev cX0_verdict : ByteArray := method_17_code
def yX0_verdict : MethodName := ⟨RX0, "verdict", "(LMassclaim;II[J)I"⟩
def dkwX0_verdict_1 : List UInt8 := [172, 3, 172]
abbrev dktX0_verdict_1 : List UInt8 := dkwX0_verdict_1 ++ []
def dkwX0_verdict_0 : List UInt8 := [45, 3, 42, 27, 28, 182, 0, 65, 133, 80, 167, 0, 15, 58, 4, 4, 172, 58, 4, 5, 172, 58, 4, 6]
abbrev dktX0_verdict_0 : List UInt8 := dkwX0_verdict_0 ++ dktX0_verdict_1
theorem dksX0_verdict_0 : cX0_verdict.data.toList.drop 0 = dktX0_verdict_0 := by decide +kernel
theorem dksX0_verdict_1 : cX0_verdict.data.toList.drop 24 = dktX0_verdict_1 := dk_seg dksX0_verdict_0 24 rfl rfl
theorem dX0_verdict_0 : decode cX0_verdict 0 = .ok (.aload_n 3, 1) := dk_45 (dk_at dksX0_verdict_0 0 rfl rfl)
theorem dX0_verdict_1 : decode cX0_verdict 1 = .ok (.iconst 0, 1) := dk_3 (dk_at dksX0_verdict_0 1 rfl rfl)
theorem dX0_verdict_2 : decode cX0_verdict 2 = .ok (.aload_n 0, 1) := dk_42 (dk_at dksX0_verdict_0 2 rfl rfl)
theorem dX0_verdict_3 : decode cX0_verdict 3 = .ok (.iload_n 1, 1) := dk_27 (dk_at dksX0_verdict_0 3 rfl rfl)
theorem dX0_verdict_4 : decode cX0_verdict 4 = .ok (.iload_n 2, 1) := dk_28 (dk_at dksX0_verdict_0 4 rfl rfl)
theorem dX0_verdict_5 : decode cX0_verdict 5 = .ok (.invokevirtual 65, 3) := dk_182 0 65 (dk_at dksX0_verdict_0 5 rfl rfl)
theorem dX0_verdict_8 : decode cX0_verdict 8 = .ok (.i2l, 1) := dk_133 (dk_at dksX0_verdict_0 8 rfl rfl)
theorem dX0_verdict_9 : decode cX0_verdict 9 = .ok (.lastore, 1) := dk_80 (dk_at dksX0_verdict_0 9 rfl rfl)
theorem dX0_verdict_10 : decode cX0_verdict 10 = .ok (.goto 15, 3) := dk_167 0 15 (dk_at dksX0_verdict_0 10 rfl rfl)
theorem dX0_verdict_13 : decode cX0_verdict 13 = .ok (.astore 4, 2) := dk_58 4 (dk_at dksX0_verdict_0 13 rfl rfl)
theorem dX0_verdict_15 : decode cX0_verdict 15 = .ok (.iconst 1, 1) := dk_4 (dk_at dksX0_verdict_0 15 rfl rfl)
theorem dX0_verdict_16 : decode cX0_verdict 16 = .ok (.ireturn, 1) := dk_172 (dk_at dksX0_verdict_0 16 rfl rfl)
theorem dX0_verdict_17 : decode cX0_verdict 17 = .ok (.astore 4, 2) := dk_58 4 (dk_at dksX0_verdict_0 17 rfl rfl)
theorem dX0_verdict_19 : decode cX0_verdict 19 = .ok (.iconst 2, 1) := dk_5 (dk_at dksX0_verdict_0 19 rfl rfl)
theorem dX0_verdict_20 : decode cX0_verdict 20 = .ok (.ireturn, 1) := dk_172 (dk_at dksX0_verdict_0 20 rfl rfl)
theorem dX0_verdict_21 : decode cX0_verdict 21 = .ok (.astore 4, 2) := dk_58 4 (dk_at dksX0_verdict_0 21 rfl rfl)
theorem dX0_verdict_23 : decode cX0_verdict 23 = .ok (.iconst 3, 1) := dk_6 (dk_at dksX0_verdict_0 23 rfl rfl)
theorem dX0_verdict_24 : decode cX0_verdict 24 = .ok (.ireturn, 1) := dk_172 (dk_at dksX0_verdict_1 0 rfl rfl)
theorem dX0_verdict_25 : decode cX0_verdict 25 = .ok (.iconst 0, 1) := dk_3 (dk_at dksX0_verdict_1 1 rfl rfl)
theorem dX0_verdict_26 : decode cX0_verdict 26 = .ok (.ireturn, 1) := dk_172 (dk_at dksX0_verdict_1 2 rfl rfl)
abbrev cX0_offer : ByteArray := method_18_code
def yX0_offer : MethodName := ⟨RX0, "offer", "(LMassclaim;I[J)I"⟩
def dkwX0_offer_0 : List UInt8 := [44, 3, 42, 27, 182, 0, 68, 133, 80, 167, 0, 6, 78, 4, 172, 3, 172]
abbrev dktX0_offer_0 : List UInt8 := dkwX0_offer_0 ++ []
theorem dksX0_offer_0 : cX0_offer.data.toList.drop 0 = dktX0_offer_0 := by decide +kernel
theorem dX0_offer_0 : decode cX0_offer 0 = .ok (.aload_n 2, 1) := dk_44 (dk_at dksX0_offer_0 0 rfl rfl)
theorem dX0_offer_1 : decode cX0_offer 1 = .ok (.iconst 0, 1) := dk_3 (dk_at dksX0_offer_0 1 rfl rfl)
theorem dX0_offer_2 : decode cX0_offer 2 = .ok (.aload_n 0, 1) := dk_42 (dk_at dksX0_offer_0 2 rfl rfl)
theorem dX0_offer_3 : decode cX0_offer 3 = .ok (.iload_n 1, 1) := dk_27 (dk_at dksX0_offer_0 3 rfl rfl)
theorem dX0_offer_4 : decode cX0_offer 4 = .ok (.invokevirtual 68, 3) := dk_182 0 68 (dk_at dksX0_offer_0 4 rfl rfl)
theorem dX0_offer_7 : decode cX0_offer 7 = .ok (.i2l, 1) := dk_133 (dk_at dksX0_offer_0 7 rfl rfl)
theorem dX0_offer_8 : decode cX0_offer 8 = .ok (.lastore, 1) := dk_80 (dk_at dksX0_offer_0 8 rfl rfl)
theorem dX0_offer_9 : decode cX0_offer 9 = .ok (.goto 6, 3) := dk_167 0 6 (dk_at dksX0_offer_0 9 rfl rfl)
theorem dX0_offer_12 : decode cX0_offer 12 = .ok (.astore_n 3, 1) := dk_78 (dk_at dksX0_offer_0 12 rfl rfl)
theorem dX0_offer_13 : decode cX0_offer 13 = .ok (.iconst 1, 1) := dk_4 (dk_at dksX0_offer_0 13 rfl rfl)
theorem dX0_offer_14 : decode cX0_offer 14 = .ok (.ireturn, 1) := dk_172 (dk_at dksX0_offer_0 14 rfl rfl)
theorem dX0_offer_15 : decode cX0_offer 15 = .ok (.iconst 0, 1) := dk_3 (dk_at dksX0_offer_0 15 rfl rfl)
theorem dX0_offer_16 : decode cX0_offer 16 = .ok (.ireturn, 1) := dk_172 (dk_at dksX0_offer_0 16 rfl rfl)
abbrev cX0_defendant : ByteArray := method_19_code
def yX0_defendant : MethodName := ⟨RX0, "defendant", "(LMassclaim;II[J)I"⟩
def dkwX0_defendant_0 : List UInt8 := [45, 3, 42, 27, 28, 182, 0, 71, 133, 80, 167, 0, 11, 58, 4, 4, 172, 58, 4, 5, 172, 3, 172]
abbrev dktX0_defendant_0 : List UInt8 := dkwX0_defendant_0 ++ []
theorem dksX0_defendant_0 : cX0_defendant.data.toList.drop 0 = dktX0_defendant_0 := by decide +kernel
theorem dX0_defendant_0 : decode cX0_defendant 0 = .ok (.aload_n 3, 1) := dk_45 (dk_at dksX0_defendant_0 0 rfl rfl)
theorem dX0_defendant_1 : decode cX0_defendant 1 = .ok (.iconst 0, 1) := dk_3 (dk_at dksX0_defendant_0 1 rfl rfl)
theorem dX0_defendant_2 : decode cX0_defendant 2 = .ok (.aload_n 0, 1) := dk_42 (dk_at dksX0_defendant_0 2 rfl rfl)
theorem dX0_defendant_3 : decode cX0_defendant 3 = .ok (.iload_n 1, 1) := dk_27 (dk_at dksX0_defendant_0 3 rfl rfl)
theorem dX0_defendant_4 : decode cX0_defendant 4 = .ok (.iload_n 2, 1) := dk_28 (dk_at dksX0_defendant_0 4 rfl rfl)
theorem dX0_defendant_5 : decode cX0_defendant 5 = .ok (.invokevirtual 71, 3) := dk_182 0 71 (dk_at dksX0_defendant_0 5 rfl rfl)
theorem dX0_defendant_8 : decode cX0_defendant 8 = .ok (.i2l, 1) := dk_133 (dk_at dksX0_defendant_0 8 rfl rfl)
theorem dX0_defendant_9 : decode cX0_defendant 9 = .ok (.lastore, 1) := dk_80 (dk_at dksX0_defendant_0 9 rfl rfl)
theorem dX0_defendant_10 : decode cX0_defendant 10 = .ok (.goto 11, 3) := dk_167 0 11 (dk_at dksX0_defendant_0 10 rfl rfl)
theorem dX0_defendant_13 : decode cX0_defendant 13 = .ok (.astore 4, 2) := dk_58 4 (dk_at dksX0_defendant_0 13 rfl rfl)
theorem dX0_defendant_15 : decode cX0_defendant 15 = .ok (.iconst 1, 1) := dk_4 (dk_at dksX0_defendant_0 15 rfl rfl)
theorem dX0_defendant_16 : decode cX0_defendant 16 = .ok (.ireturn, 1) := dk_172 (dk_at dksX0_defendant_0 16 rfl rfl)
theorem dX0_defendant_17 : decode cX0_defendant 17 = .ok (.astore 4, 2) := dk_58 4 (dk_at dksX0_defendant_0 17 rfl rfl)
theorem dX0_defendant_19 : decode cX0_defendant 19 = .ok (.iconst 2, 1) := dk_5 (dk_at dksX0_defendant_0 19 rfl rfl)
theorem dX0_defendant_20 : decode cX0_defendant 20 = .ok (.ireturn, 1) := dk_172 (dk_at dksX0_defendant_0 20 rfl rfl)
theorem dX0_defendant_21 : decode cX0_defendant 21 = .ok (.iconst 0, 1) := dk_3 (dk_at dksX0_defendant_0 21 rfl rfl)
theorem dX0_defendant_22 : decode cX0_defendant 22 = .ok (.ireturn, 1) := dk_172 (dk_at dksX0_defendant_0 22 rfl rfl)
abbrev cX0_payIn : ByteArray := method_20_code
def yX0_payIn : MethodName := ⟨RX0, "payIn", "(LMassclaim;II[J)I"⟩
def dkwX0_payIn_1 : List UInt8 := [3, 172]
abbrev dktX0_payIn_1 : List UInt8 := dkwX0_payIn_1 ++ []
def dkwX0_payIn_0 : List UInt8 := [45, 3, 42, 27, 28, 182, 0, 74, 80, 167, 0, 15, 58, 4, 4, 172, 58, 4, 5, 172, 58, 4, 6, 172]
abbrev dktX0_payIn_0 : List UInt8 := dkwX0_payIn_0 ++ dktX0_payIn_1
theorem dksX0_payIn_0 : cX0_payIn.data.toList.drop 0 = dktX0_payIn_0 := by decide +kernel
theorem dksX0_payIn_1 : cX0_payIn.data.toList.drop 24 = dktX0_payIn_1 := dk_seg dksX0_payIn_0 24 rfl rfl
theorem dX0_payIn_0 : decode cX0_payIn 0 = .ok (.aload_n 3, 1) := dk_45 (dk_at dksX0_payIn_0 0 rfl rfl)
theorem dX0_payIn_1 : decode cX0_payIn 1 = .ok (.iconst 0, 1) := dk_3 (dk_at dksX0_payIn_0 1 rfl rfl)
theorem dX0_payIn_2 : decode cX0_payIn 2 = .ok (.aload_n 0, 1) := dk_42 (dk_at dksX0_payIn_0 2 rfl rfl)
theorem dX0_payIn_3 : decode cX0_payIn 3 = .ok (.iload_n 1, 1) := dk_27 (dk_at dksX0_payIn_0 3 rfl rfl)
theorem dX0_payIn_4 : decode cX0_payIn 4 = .ok (.iload_n 2, 1) := dk_28 (dk_at dksX0_payIn_0 4 rfl rfl)
theorem dX0_payIn_5 : decode cX0_payIn 5 = .ok (.invokevirtual 74, 3) := dk_182 0 74 (dk_at dksX0_payIn_0 5 rfl rfl)
theorem dX0_payIn_8 : decode cX0_payIn 8 = .ok (.lastore, 1) := dk_80 (dk_at dksX0_payIn_0 8 rfl rfl)
theorem dX0_payIn_9 : decode cX0_payIn 9 = .ok (.goto 15, 3) := dk_167 0 15 (dk_at dksX0_payIn_0 9 rfl rfl)
theorem dX0_payIn_12 : decode cX0_payIn 12 = .ok (.astore 4, 2) := dk_58 4 (dk_at dksX0_payIn_0 12 rfl rfl)
theorem dX0_payIn_14 : decode cX0_payIn 14 = .ok (.iconst 1, 1) := dk_4 (dk_at dksX0_payIn_0 14 rfl rfl)
theorem dX0_payIn_15 : decode cX0_payIn 15 = .ok (.ireturn, 1) := dk_172 (dk_at dksX0_payIn_0 15 rfl rfl)
theorem dX0_payIn_16 : decode cX0_payIn 16 = .ok (.astore 4, 2) := dk_58 4 (dk_at dksX0_payIn_0 16 rfl rfl)
theorem dX0_payIn_18 : decode cX0_payIn 18 = .ok (.iconst 2, 1) := dk_5 (dk_at dksX0_payIn_0 18 rfl rfl)
theorem dX0_payIn_19 : decode cX0_payIn 19 = .ok (.ireturn, 1) := dk_172 (dk_at dksX0_payIn_0 19 rfl rfl)
theorem dX0_payIn_20 : decode cX0_payIn 20 = .ok (.astore 4, 2) := dk_58 4 (dk_at dksX0_payIn_0 20 rfl rfl)
theorem dX0_payIn_22 : decode cX0_payIn 22 = .ok (.iconst 3, 1) := dk_6 (dk_at dksX0_payIn_0 22 rfl rfl)
theorem dX0_payIn_23 : decode cX0_payIn 23 = .ok (.ireturn, 1) := dk_172 (dk_at dksX0_payIn_0 23 rfl rfl)
theorem dX0_payIn_24 : decode cX0_payIn 24 = .ok (.iconst 0, 1) := dk_3 (dk_at dksX0_payIn_1 0 rfl rfl)
theorem dX0_payIn_25 : decode cX0_payIn 25 = .ok (.ireturn, 1) := dk_172 (dk_at dksX0_payIn_1 1 rfl rfl)
abbrev cX0_fail : ByteArray := method_21_code
def yX0_fail : MethodName := ⟨RX0, "fail", "(LMassclaim;I[J)I"⟩
def dkwX0_fail_0 : List UInt8 := [44, 3, 42, 27, 182, 0, 77, 80, 167, 0, 9, 78, 4, 172, 78, 5, 172, 3, 172]
abbrev dktX0_fail_0 : List UInt8 := dkwX0_fail_0 ++ []
theorem dksX0_fail_0 : cX0_fail.data.toList.drop 0 = dktX0_fail_0 := by decide +kernel
theorem dX0_fail_0 : decode cX0_fail 0 = .ok (.aload_n 2, 1) := dk_44 (dk_at dksX0_fail_0 0 rfl rfl)
theorem dX0_fail_1 : decode cX0_fail 1 = .ok (.iconst 0, 1) := dk_3 (dk_at dksX0_fail_0 1 rfl rfl)
theorem dX0_fail_2 : decode cX0_fail 2 = .ok (.aload_n 0, 1) := dk_42 (dk_at dksX0_fail_0 2 rfl rfl)
theorem dX0_fail_3 : decode cX0_fail 3 = .ok (.iload_n 1, 1) := dk_27 (dk_at dksX0_fail_0 3 rfl rfl)
theorem dX0_fail_4 : decode cX0_fail 4 = .ok (.invokevirtual 77, 3) := dk_182 0 77 (dk_at dksX0_fail_0 4 rfl rfl)
theorem dX0_fail_7 : decode cX0_fail 7 = .ok (.lastore, 1) := dk_80 (dk_at dksX0_fail_0 7 rfl rfl)
theorem dX0_fail_8 : decode cX0_fail 8 = .ok (.goto 9, 3) := dk_167 0 9 (dk_at dksX0_fail_0 8 rfl rfl)
theorem dX0_fail_11 : decode cX0_fail 11 = .ok (.astore_n 3, 1) := dk_78 (dk_at dksX0_fail_0 11 rfl rfl)
theorem dX0_fail_12 : decode cX0_fail 12 = .ok (.iconst 1, 1) := dk_4 (dk_at dksX0_fail_0 12 rfl rfl)
theorem dX0_fail_13 : decode cX0_fail 13 = .ok (.ireturn, 1) := dk_172 (dk_at dksX0_fail_0 13 rfl rfl)
theorem dX0_fail_14 : decode cX0_fail 14 = .ok (.astore_n 3, 1) := dk_78 (dk_at dksX0_fail_0 14 rfl rfl)
theorem dX0_fail_15 : decode cX0_fail 15 = .ok (.iconst 2, 1) := dk_5 (dk_at dksX0_fail_0 15 rfl rfl)
theorem dX0_fail_16 : decode cX0_fail 16 = .ok (.ireturn, 1) := dk_172 (dk_at dksX0_fail_0 16 rfl rfl)
theorem dX0_fail_17 : decode cX0_fail 17 = .ok (.iconst 0, 1) := dk_3 (dk_at dksX0_fail_0 17 rfl rfl)
theorem dX0_fail_18 : decode cX0_fail 18 = .ok (.ireturn, 1) := dk_172 (dk_at dksX0_fail_0 18 rfl rfl)
abbrev cX0_defendantAt : ByteArray := method_22_code
def yX0_defendantAt : MethodName := ⟨RX0, "defendantAt", "(LMassclaim;II[J)I"⟩
def dkwX0_defendantAt_0 : List UInt8 := [45, 3, 42, 27, 28, 182, 0, 81, 80, 167, 0, 11, 58, 4, 4, 172, 58, 4, 5, 172, 3, 172]
abbrev dktX0_defendantAt_0 : List UInt8 := dkwX0_defendantAt_0 ++ []
theorem dksX0_defendantAt_0 : cX0_defendantAt.data.toList.drop 0 = dktX0_defendantAt_0 := by decide +kernel
theorem dX0_defendantAt_0 : decode cX0_defendantAt 0 = .ok (.aload_n 3, 1) := dk_45 (dk_at dksX0_defendantAt_0 0 rfl rfl)
theorem dX0_defendantAt_1 : decode cX0_defendantAt 1 = .ok (.iconst 0, 1) := dk_3 (dk_at dksX0_defendantAt_0 1 rfl rfl)
theorem dX0_defendantAt_2 : decode cX0_defendantAt 2 = .ok (.aload_n 0, 1) := dk_42 (dk_at dksX0_defendantAt_0 2 rfl rfl)
theorem dX0_defendantAt_3 : decode cX0_defendantAt 3 = .ok (.iload_n 1, 1) := dk_27 (dk_at dksX0_defendantAt_0 3 rfl rfl)
theorem dX0_defendantAt_4 : decode cX0_defendantAt 4 = .ok (.iload_n 2, 1) := dk_28 (dk_at dksX0_defendantAt_0 4 rfl rfl)
theorem dX0_defendantAt_5 : decode cX0_defendantAt 5 = .ok (.invokevirtual 81, 3) := dk_182 0 81 (dk_at dksX0_defendantAt_0 5 rfl rfl)
theorem dX0_defendantAt_8 : decode cX0_defendantAt 8 = .ok (.lastore, 1) := dk_80 (dk_at dksX0_defendantAt_0 8 rfl rfl)
theorem dX0_defendantAt_9 : decode cX0_defendantAt 9 = .ok (.goto 11, 3) := dk_167 0 11 (dk_at dksX0_defendantAt_0 9 rfl rfl)
theorem dX0_defendantAt_12 : decode cX0_defendantAt 12 = .ok (.astore 4, 2) := dk_58 4 (dk_at dksX0_defendantAt_0 12 rfl rfl)
theorem dX0_defendantAt_14 : decode cX0_defendantAt 14 = .ok (.iconst 1, 1) := dk_4 (dk_at dksX0_defendantAt_0 14 rfl rfl)
theorem dX0_defendantAt_15 : decode cX0_defendantAt 15 = .ok (.ireturn, 1) := dk_172 (dk_at dksX0_defendantAt_0 15 rfl rfl)
theorem dX0_defendantAt_16 : decode cX0_defendantAt 16 = .ok (.astore 4, 2) := dk_58 4 (dk_at dksX0_defendantAt_0 16 rfl rfl)
theorem dX0_defendantAt_18 : decode cX0_defendantAt 18 = .ok (.iconst 2, 1) := dk_5 (dk_at dksX0_defendantAt_0 18 rfl rfl)
theorem dX0_defendantAt_19 : decode cX0_defendantAt 19 = .ok (.ireturn, 1) := dk_172 (dk_at dksX0_defendantAt_0 19 rfl rfl)
theorem dX0_defendantAt_20 : decode cX0_defendantAt 20 = .ok (.iconst 0, 1) := dk_3 (dk_at dksX0_defendantAt_0 20 rfl rfl)
theorem dX0_defendantAt_21 : decode cX0_defendantAt 21 = .ok (.ireturn, 1) := dk_172 (dk_at dksX0_defendantAt_0 21 rfl rfl)
abbrev cX0_propose : ByteArray := method_23_code
def yX0_propose : MethodName := ⟨RX0, "propose", "(LMassclaim;III[J)I"⟩
def dkwX0_propose_1 : List UInt8 := [172]
abbrev dktX0_propose_1 : List UInt8 := dkwX0_propose_1 ++ []
def dkwX0_propose_0 : List UInt8 := [25, 4, 3, 42, 27, 28, 29, 182, 0, 84, 133, 80, 167, 0, 11, 58, 5, 4, 172, 58, 5, 5, 172, 3]
abbrev dktX0_propose_0 : List UInt8 := dkwX0_propose_0 ++ dktX0_propose_1
theorem dksX0_propose_0 : cX0_propose.data.toList.drop 0 = dktX0_propose_0 := by decide +kernel
theorem dksX0_propose_1 : cX0_propose.data.toList.drop 24 = dktX0_propose_1 := dk_seg dksX0_propose_0 24 rfl rfl
theorem dX0_propose_0 : decode cX0_propose 0 = .ok (.aload 4, 2) := dk_25 4 (dk_at dksX0_propose_0 0 rfl rfl)
theorem dX0_propose_2 : decode cX0_propose 2 = .ok (.iconst 0, 1) := dk_3 (dk_at dksX0_propose_0 2 rfl rfl)
theorem dX0_propose_3 : decode cX0_propose 3 = .ok (.aload_n 0, 1) := dk_42 (dk_at dksX0_propose_0 3 rfl rfl)
theorem dX0_propose_4 : decode cX0_propose 4 = .ok (.iload_n 1, 1) := dk_27 (dk_at dksX0_propose_0 4 rfl rfl)
theorem dX0_propose_5 : decode cX0_propose 5 = .ok (.iload_n 2, 1) := dk_28 (dk_at dksX0_propose_0 5 rfl rfl)
theorem dX0_propose_6 : decode cX0_propose 6 = .ok (.iload_n 3, 1) := dk_29 (dk_at dksX0_propose_0 6 rfl rfl)
theorem dX0_propose_7 : decode cX0_propose 7 = .ok (.invokevirtual 84, 3) := dk_182 0 84 (dk_at dksX0_propose_0 7 rfl rfl)
theorem dX0_propose_10 : decode cX0_propose 10 = .ok (.i2l, 1) := dk_133 (dk_at dksX0_propose_0 10 rfl rfl)
theorem dX0_propose_11 : decode cX0_propose 11 = .ok (.lastore, 1) := dk_80 (dk_at dksX0_propose_0 11 rfl rfl)
theorem dX0_propose_12 : decode cX0_propose 12 = .ok (.goto 11, 3) := dk_167 0 11 (dk_at dksX0_propose_0 12 rfl rfl)
theorem dX0_propose_15 : decode cX0_propose 15 = .ok (.astore 5, 2) := dk_58 5 (dk_at dksX0_propose_0 15 rfl rfl)
theorem dX0_propose_17 : decode cX0_propose 17 = .ok (.iconst 1, 1) := dk_4 (dk_at dksX0_propose_0 17 rfl rfl)
theorem dX0_propose_18 : decode cX0_propose 18 = .ok (.ireturn, 1) := dk_172 (dk_at dksX0_propose_0 18 rfl rfl)
theorem dX0_propose_19 : decode cX0_propose 19 = .ok (.astore 5, 2) := dk_58 5 (dk_at dksX0_propose_0 19 rfl rfl)
theorem dX0_propose_21 : decode cX0_propose 21 = .ok (.iconst 2, 1) := dk_5 (dk_at dksX0_propose_0 21 rfl rfl)
theorem dX0_propose_22 : decode cX0_propose 22 = .ok (.ireturn, 1) := dk_172 (dk_at dksX0_propose_0 22 rfl rfl)
theorem dX0_propose_23 : decode cX0_propose 23 = .ok (.iconst 0, 1) := dk_3 (dk_at dksX0_propose_0 23 rfl rfl)
theorem dX0_propose_24 : decode cX0_propose 24 = .ok (.ireturn, 1) := dk_172 (dk_at dksX0_propose_1 0 rfl rfl)
abbrev cX0_approve : ByteArray := method_24_code
def yX0_approve : MethodName := ⟨RX0, "approve", "(LMassclaim;[J)I"⟩
def dkwX0_approve_0 : List UInt8 := [43, 3, 42, 182, 0, 87, 133, 80, 167, 0, 6, 77, 4, 172, 3, 172]
abbrev dktX0_approve_0 : List UInt8 := dkwX0_approve_0 ++ []
theorem dksX0_approve_0 : cX0_approve.data.toList.drop 0 = dktX0_approve_0 := by decide +kernel
theorem dX0_approve_0 : decode cX0_approve 0 = .ok (.aload_n 1, 1) := dk_43 (dk_at dksX0_approve_0 0 rfl rfl)
theorem dX0_approve_1 : decode cX0_approve 1 = .ok (.iconst 0, 1) := dk_3 (dk_at dksX0_approve_0 1 rfl rfl)
theorem dX0_approve_2 : decode cX0_approve 2 = .ok (.aload_n 0, 1) := dk_42 (dk_at dksX0_approve_0 2 rfl rfl)
theorem dX0_approve_3 : decode cX0_approve 3 = .ok (.invokevirtual 87, 3) := dk_182 0 87 (dk_at dksX0_approve_0 3 rfl rfl)
theorem dX0_approve_6 : decode cX0_approve 6 = .ok (.i2l, 1) := dk_133 (dk_at dksX0_approve_0 6 rfl rfl)
theorem dX0_approve_7 : decode cX0_approve 7 = .ok (.lastore, 1) := dk_80 (dk_at dksX0_approve_0 7 rfl rfl)
theorem dX0_approve_8 : decode cX0_approve 8 = .ok (.goto 6, 3) := dk_167 0 6 (dk_at dksX0_approve_0 8 rfl rfl)
theorem dX0_approve_11 : decode cX0_approve 11 = .ok (.astore_n 2, 1) := dk_77 (dk_at dksX0_approve_0 11 rfl rfl)
theorem dX0_approve_12 : decode cX0_approve 12 = .ok (.iconst 1, 1) := dk_4 (dk_at dksX0_approve_0 12 rfl rfl)
theorem dX0_approve_13 : decode cX0_approve 13 = .ok (.ireturn, 1) := dk_172 (dk_at dksX0_approve_0 13 rfl rfl)
theorem dX0_approve_14 : decode cX0_approve 14 = .ok (.iconst 0, 1) := dk_3 (dk_at dksX0_approve_0 14 rfl rfl)
theorem dX0_approve_15 : decode cX0_approve 15 = .ok (.ireturn, 1) := dk_172 (dk_at dksX0_approve_0 15 rfl rfl)
abbrev cX0_vote : ByteArray := method_25_code
def yX0_vote : MethodName := ⟨RX0, "vote", "(LMassclaim;IZ[J)I"⟩
def dkwX0_vote_0 : List UInt8 := [45, 3, 42, 27, 28, 182, 0, 91, 133, 80, 167, 0, 11, 58, 4, 4, 172, 58, 4, 5, 172, 3, 172]
abbrev dktX0_vote_0 : List UInt8 := dkwX0_vote_0 ++ []
theorem dksX0_vote_0 : cX0_vote.data.toList.drop 0 = dktX0_vote_0 := by decide +kernel
theorem dX0_vote_0 : decode cX0_vote 0 = .ok (.aload_n 3, 1) := dk_45 (dk_at dksX0_vote_0 0 rfl rfl)
theorem dX0_vote_1 : decode cX0_vote 1 = .ok (.iconst 0, 1) := dk_3 (dk_at dksX0_vote_0 1 rfl rfl)
theorem dX0_vote_2 : decode cX0_vote 2 = .ok (.aload_n 0, 1) := dk_42 (dk_at dksX0_vote_0 2 rfl rfl)
theorem dX0_vote_3 : decode cX0_vote 3 = .ok (.iload_n 1, 1) := dk_27 (dk_at dksX0_vote_0 3 rfl rfl)
theorem dX0_vote_4 : decode cX0_vote 4 = .ok (.iload_n 2, 1) := dk_28 (dk_at dksX0_vote_0 4 rfl rfl)
theorem dX0_vote_5 : decode cX0_vote 5 = .ok (.invokevirtual 91, 3) := dk_182 0 91 (dk_at dksX0_vote_0 5 rfl rfl)
theorem dX0_vote_8 : decode cX0_vote 8 = .ok (.i2l, 1) := dk_133 (dk_at dksX0_vote_0 8 rfl rfl)
theorem dX0_vote_9 : decode cX0_vote 9 = .ok (.lastore, 1) := dk_80 (dk_at dksX0_vote_0 9 rfl rfl)
theorem dX0_vote_10 : decode cX0_vote 10 = .ok (.goto 11, 3) := dk_167 0 11 (dk_at dksX0_vote_0 10 rfl rfl)
theorem dX0_vote_13 : decode cX0_vote 13 = .ok (.astore 4, 2) := dk_58 4 (dk_at dksX0_vote_0 13 rfl rfl)
theorem dX0_vote_15 : decode cX0_vote 15 = .ok (.iconst 1, 1) := dk_4 (dk_at dksX0_vote_0 15 rfl rfl)
theorem dX0_vote_16 : decode cX0_vote 16 = .ok (.ireturn, 1) := dk_172 (dk_at dksX0_vote_0 16 rfl rfl)
theorem dX0_vote_17 : decode cX0_vote 17 = .ok (.astore 4, 2) := dk_58 4 (dk_at dksX0_vote_0 17 rfl rfl)
theorem dX0_vote_19 : decode cX0_vote 19 = .ok (.iconst 2, 1) := dk_5 (dk_at dksX0_vote_0 19 rfl rfl)
theorem dX0_vote_20 : decode cX0_vote 20 = .ok (.ireturn, 1) := dk_172 (dk_at dksX0_vote_0 20 rfl rfl)
theorem dX0_vote_21 : decode cX0_vote 21 = .ok (.iconst 0, 1) := dk_3 (dk_at dksX0_vote_0 21 rfl rfl)
theorem dX0_vote_22 : decode cX0_vote 22 = .ok (.ireturn, 1) := dk_172 (dk_at dksX0_vote_0 22 rfl rfl)
abbrev cX0_object : ByteArray := method_26_code
def yX0_object : MethodName := ⟨RX0, "object", "(LMassclaim;II[J)I"⟩
def dkwX0_object_1 : List UInt8 := [172, 3, 172]
abbrev dktX0_object_1 : List UInt8 := dkwX0_object_1 ++ []
def dkwX0_object_0 : List UInt8 := [45, 3, 42, 27, 28, 182, 0, 95, 133, 80, 167, 0, 15, 58, 4, 4, 172, 58, 4, 5, 172, 58, 4, 6]
abbrev dktX0_object_0 : List UInt8 := dkwX0_object_0 ++ dktX0_object_1
theorem dksX0_object_0 : cX0_object.data.toList.drop 0 = dktX0_object_0 := by decide +kernel
theorem dksX0_object_1 : cX0_object.data.toList.drop 24 = dktX0_object_1 := dk_seg dksX0_object_0 24 rfl rfl
theorem dX0_object_0 : decode cX0_object 0 = .ok (.aload_n 3, 1) := dk_45 (dk_at dksX0_object_0 0 rfl rfl)
theorem dX0_object_1 : decode cX0_object 1 = .ok (.iconst 0, 1) := dk_3 (dk_at dksX0_object_0 1 rfl rfl)
theorem dX0_object_2 : decode cX0_object 2 = .ok (.aload_n 0, 1) := dk_42 (dk_at dksX0_object_0 2 rfl rfl)
theorem dX0_object_3 : decode cX0_object 3 = .ok (.iload_n 1, 1) := dk_27 (dk_at dksX0_object_0 3 rfl rfl)
theorem dX0_object_4 : decode cX0_object 4 = .ok (.iload_n 2, 1) := dk_28 (dk_at dksX0_object_0 4 rfl rfl)
theorem dX0_object_5 : decode cX0_object 5 = .ok (.invokevirtual 95, 3) := dk_182 0 95 (dk_at dksX0_object_0 5 rfl rfl)
theorem dX0_object_8 : decode cX0_object 8 = .ok (.i2l, 1) := dk_133 (dk_at dksX0_object_0 8 rfl rfl)
theorem dX0_object_9 : decode cX0_object 9 = .ok (.lastore, 1) := dk_80 (dk_at dksX0_object_0 9 rfl rfl)
theorem dX0_object_10 : decode cX0_object 10 = .ok (.goto 15, 3) := dk_167 0 15 (dk_at dksX0_object_0 10 rfl rfl)
theorem dX0_object_13 : decode cX0_object 13 = .ok (.astore 4, 2) := dk_58 4 (dk_at dksX0_object_0 13 rfl rfl)
theorem dX0_object_15 : decode cX0_object 15 = .ok (.iconst 1, 1) := dk_4 (dk_at dksX0_object_0 15 rfl rfl)
theorem dX0_object_16 : decode cX0_object 16 = .ok (.ireturn, 1) := dk_172 (dk_at dksX0_object_0 16 rfl rfl)
theorem dX0_object_17 : decode cX0_object 17 = .ok (.astore 4, 2) := dk_58 4 (dk_at dksX0_object_0 17 rfl rfl)
theorem dX0_object_19 : decode cX0_object 19 = .ok (.iconst 2, 1) := dk_5 (dk_at dksX0_object_0 19 rfl rfl)
theorem dX0_object_20 : decode cX0_object 20 = .ok (.ireturn, 1) := dk_172 (dk_at dksX0_object_0 20 rfl rfl)
theorem dX0_object_21 : decode cX0_object 21 = .ok (.astore 4, 2) := dk_58 4 (dk_at dksX0_object_0 21 rfl rfl)
theorem dX0_object_23 : decode cX0_object 23 = .ok (.iconst 3, 1) := dk_6 (dk_at dksX0_object_0 23 rfl rfl)
theorem dX0_object_24 : decode cX0_object 24 = .ok (.ireturn, 1) := dk_172 (dk_at dksX0_object_1 0 rfl rfl)
theorem dX0_object_25 : decode cX0_object 25 = .ok (.iconst 0, 1) := dk_3 (dk_at dksX0_object_1 1 rfl rfl)
theorem dX0_object_26 : decode cX0_object 26 = .ok (.ireturn, 1) := dk_172 (dk_at dksX0_object_1 2 rfl rfl)
abbrev cX0_raise : ByteArray := method_27_code
def yX0_raise : MethodName := ⟨RX0, "raise", "(LMassclaim;I[J)I"⟩
def dkwX0_raise_0 : List UInt8 := [44, 3, 42, 27, 182, 0, 98, 80, 167, 0, 9, 78, 4, 172, 78, 5, 172, 3, 172]
abbrev dktX0_raise_0 : List UInt8 := dkwX0_raise_0 ++ []
theorem dksX0_raise_0 : cX0_raise.data.toList.drop 0 = dktX0_raise_0 := by decide +kernel
theorem dX0_raise_0 : decode cX0_raise 0 = .ok (.aload_n 2, 1) := dk_44 (dk_at dksX0_raise_0 0 rfl rfl)
theorem dX0_raise_1 : decode cX0_raise 1 = .ok (.iconst 0, 1) := dk_3 (dk_at dksX0_raise_0 1 rfl rfl)
theorem dX0_raise_2 : decode cX0_raise 2 = .ok (.aload_n 0, 1) := dk_42 (dk_at dksX0_raise_0 2 rfl rfl)
theorem dX0_raise_3 : decode cX0_raise 3 = .ok (.iload_n 1, 1) := dk_27 (dk_at dksX0_raise_0 3 rfl rfl)
theorem dX0_raise_4 : decode cX0_raise 4 = .ok (.invokevirtual 98, 3) := dk_182 0 98 (dk_at dksX0_raise_0 4 rfl rfl)
theorem dX0_raise_7 : decode cX0_raise 7 = .ok (.lastore, 1) := dk_80 (dk_at dksX0_raise_0 7 rfl rfl)
theorem dX0_raise_8 : decode cX0_raise 8 = .ok (.goto 9, 3) := dk_167 0 9 (dk_at dksX0_raise_0 8 rfl rfl)
theorem dX0_raise_11 : decode cX0_raise 11 = .ok (.astore_n 3, 1) := dk_78 (dk_at dksX0_raise_0 11 rfl rfl)
theorem dX0_raise_12 : decode cX0_raise 12 = .ok (.iconst 1, 1) := dk_4 (dk_at dksX0_raise_0 12 rfl rfl)
theorem dX0_raise_13 : decode cX0_raise 13 = .ok (.ireturn, 1) := dk_172 (dk_at dksX0_raise_0 13 rfl rfl)
theorem dX0_raise_14 : decode cX0_raise 14 = .ok (.astore_n 3, 1) := dk_78 (dk_at dksX0_raise_0 14 rfl rfl)
theorem dX0_raise_15 : decode cX0_raise 15 = .ok (.iconst 2, 1) := dk_5 (dk_at dksX0_raise_0 15 rfl rfl)
theorem dX0_raise_16 : decode cX0_raise 16 = .ok (.ireturn, 1) := dk_172 (dk_at dksX0_raise_0 16 rfl rfl)
theorem dX0_raise_17 : decode cX0_raise 17 = .ok (.iconst 0, 1) := dk_3 (dk_at dksX0_raise_0 17 rfl rfl)
theorem dX0_raise_18 : decode cX0_raise 18 = .ok (.ireturn, 1) := dk_172 (dk_at dksX0_raise_0 18 rfl rfl)
abbrev cX0_grid : ByteArray := method_28_code
def yX0_grid : MethodName := ⟨RX0, "grid", "(LMassclaim;III[J)I"⟩
def dkwX0_grid_1 : List UInt8 := [58, 5, 6, 172, 3, 172]
abbrev dktX0_grid_1 : List UInt8 := dkwX0_grid_1 ++ []
def dkwX0_grid_0 : List UInt8 := [25, 4, 3, 42, 27, 28, 29, 182, 0, 101, 133, 80, 167, 0, 15, 58, 5, 4, 172, 58, 5, 5, 172]
abbrev dktX0_grid_0 : List UInt8 := dkwX0_grid_0 ++ dktX0_grid_1
theorem dksX0_grid_0 : cX0_grid.data.toList.drop 0 = dktX0_grid_0 := by decide +kernel
theorem dksX0_grid_1 : cX0_grid.data.toList.drop 23 = dktX0_grid_1 := dk_seg dksX0_grid_0 23 rfl rfl
theorem dX0_grid_0 : decode cX0_grid 0 = .ok (.aload 4, 2) := dk_25 4 (dk_at dksX0_grid_0 0 rfl rfl)
theorem dX0_grid_2 : decode cX0_grid 2 = .ok (.iconst 0, 1) := dk_3 (dk_at dksX0_grid_0 2 rfl rfl)
theorem dX0_grid_3 : decode cX0_grid 3 = .ok (.aload_n 0, 1) := dk_42 (dk_at dksX0_grid_0 3 rfl rfl)
theorem dX0_grid_4 : decode cX0_grid 4 = .ok (.iload_n 1, 1) := dk_27 (dk_at dksX0_grid_0 4 rfl rfl)
theorem dX0_grid_5 : decode cX0_grid 5 = .ok (.iload_n 2, 1) := dk_28 (dk_at dksX0_grid_0 5 rfl rfl)
theorem dX0_grid_6 : decode cX0_grid 6 = .ok (.iload_n 3, 1) := dk_29 (dk_at dksX0_grid_0 6 rfl rfl)
theorem dX0_grid_7 : decode cX0_grid 7 = .ok (.invokevirtual 101, 3) := dk_182 0 101 (dk_at dksX0_grid_0 7 rfl rfl)
theorem dX0_grid_10 : decode cX0_grid 10 = .ok (.i2l, 1) := dk_133 (dk_at dksX0_grid_0 10 rfl rfl)
theorem dX0_grid_11 : decode cX0_grid 11 = .ok (.lastore, 1) := dk_80 (dk_at dksX0_grid_0 11 rfl rfl)
theorem dX0_grid_12 : decode cX0_grid 12 = .ok (.goto 15, 3) := dk_167 0 15 (dk_at dksX0_grid_0 12 rfl rfl)
theorem dX0_grid_15 : decode cX0_grid 15 = .ok (.astore 5, 2) := dk_58 5 (dk_at dksX0_grid_0 15 rfl rfl)
theorem dX0_grid_17 : decode cX0_grid 17 = .ok (.iconst 1, 1) := dk_4 (dk_at dksX0_grid_0 17 rfl rfl)
theorem dX0_grid_18 : decode cX0_grid 18 = .ok (.ireturn, 1) := dk_172 (dk_at dksX0_grid_0 18 rfl rfl)
theorem dX0_grid_19 : decode cX0_grid 19 = .ok (.astore 5, 2) := dk_58 5 (dk_at dksX0_grid_0 19 rfl rfl)
theorem dX0_grid_21 : decode cX0_grid 21 = .ok (.iconst 2, 1) := dk_5 (dk_at dksX0_grid_0 21 rfl rfl)
theorem dX0_grid_22 : decode cX0_grid 22 = .ok (.ireturn, 1) := dk_172 (dk_at dksX0_grid_0 22 rfl rfl)
theorem dX0_grid_23 : decode cX0_grid 23 = .ok (.astore 5, 2) := dk_58 5 (dk_at dksX0_grid_1 0 rfl rfl)
theorem dX0_grid_25 : decode cX0_grid 25 = .ok (.iconst 3, 1) := dk_6 (dk_at dksX0_grid_1 2 rfl rfl)
theorem dX0_grid_26 : decode cX0_grid 26 = .ok (.ireturn, 1) := dk_172 (dk_at dksX0_grid_1 3 rfl rfl)
theorem dX0_grid_27 : decode cX0_grid 27 = .ok (.iconst 0, 1) := dk_3 (dk_at dksX0_grid_1 4 rfl rfl)
theorem dX0_grid_28 : decode cX0_grid 28 = .ok (.ireturn, 1) := dk_172 (dk_at dksX0_grid_1 5 rfl rfl)
abbrev cX0_settings : ByteArray := method_29_code
def yX0_settings : MethodName := ⟨RX0, "settings", "(LMassclaim;III[J)I"⟩
def dkwX0_settings_1 : List UInt8 := [172]
abbrev dktX0_settings_1 : List UInt8 := dkwX0_settings_1 ++ []
def dkwX0_settings_0 : List UInt8 := [25, 4, 3, 42, 27, 28, 29, 182, 0, 104, 133, 80, 167, 0, 11, 58, 5, 4, 172, 58, 5, 5, 172, 3]
abbrev dktX0_settings_0 : List UInt8 := dkwX0_settings_0 ++ dktX0_settings_1
theorem dksX0_settings_0 : cX0_settings.data.toList.drop 0 = dktX0_settings_0 := by decide +kernel
theorem dksX0_settings_1 : cX0_settings.data.toList.drop 24 = dktX0_settings_1 := dk_seg dksX0_settings_0 24 rfl rfl
theorem dX0_settings_0 : decode cX0_settings 0 = .ok (.aload 4, 2) := dk_25 4 (dk_at dksX0_settings_0 0 rfl rfl)
theorem dX0_settings_2 : decode cX0_settings 2 = .ok (.iconst 0, 1) := dk_3 (dk_at dksX0_settings_0 2 rfl rfl)
theorem dX0_settings_3 : decode cX0_settings 3 = .ok (.aload_n 0, 1) := dk_42 (dk_at dksX0_settings_0 3 rfl rfl)
theorem dX0_settings_4 : decode cX0_settings 4 = .ok (.iload_n 1, 1) := dk_27 (dk_at dksX0_settings_0 4 rfl rfl)
theorem dX0_settings_5 : decode cX0_settings 5 = .ok (.iload_n 2, 1) := dk_28 (dk_at dksX0_settings_0 5 rfl rfl)
theorem dX0_settings_6 : decode cX0_settings 6 = .ok (.iload_n 3, 1) := dk_29 (dk_at dksX0_settings_0 6 rfl rfl)
theorem dX0_settings_7 : decode cX0_settings 7 = .ok (.invokevirtual 104, 3) := dk_182 0 104 (dk_at dksX0_settings_0 7 rfl rfl)
theorem dX0_settings_10 : decode cX0_settings 10 = .ok (.i2l, 1) := dk_133 (dk_at dksX0_settings_0 10 rfl rfl)
theorem dX0_settings_11 : decode cX0_settings 11 = .ok (.lastore, 1) := dk_80 (dk_at dksX0_settings_0 11 rfl rfl)
theorem dX0_settings_12 : decode cX0_settings 12 = .ok (.goto 11, 3) := dk_167 0 11 (dk_at dksX0_settings_0 12 rfl rfl)
theorem dX0_settings_15 : decode cX0_settings 15 = .ok (.astore 5, 2) := dk_58 5 (dk_at dksX0_settings_0 15 rfl rfl)
theorem dX0_settings_17 : decode cX0_settings 17 = .ok (.iconst 1, 1) := dk_4 (dk_at dksX0_settings_0 17 rfl rfl)
theorem dX0_settings_18 : decode cX0_settings 18 = .ok (.ireturn, 1) := dk_172 (dk_at dksX0_settings_0 18 rfl rfl)
theorem dX0_settings_19 : decode cX0_settings 19 = .ok (.astore 5, 2) := dk_58 5 (dk_at dksX0_settings_0 19 rfl rfl)
theorem dX0_settings_21 : decode cX0_settings 21 = .ok (.iconst 2, 1) := dk_5 (dk_at dksX0_settings_0 21 rfl rfl)
theorem dX0_settings_22 : decode cX0_settings 22 = .ok (.ireturn, 1) := dk_172 (dk_at dksX0_settings_0 22 rfl rfl)
theorem dX0_settings_23 : decode cX0_settings 23 = .ok (.iconst 0, 1) := dk_3 (dk_at dksX0_settings_0 23 rfl rfl)
theorem dX0_settings_24 : decode cX0_settings 24 = .ok (.ireturn, 1) := dk_172 (dk_at dksX0_settings_1 0 rfl rfl)
abbrev cX0_claim : ByteArray := method_30_code
def yX0_claim : MethodName := ⟨RX0, "claim", "(LMassclaim;IIII[J)I"⟩
def dkwX0_claim_1 : List UInt8 := [172, 58, 6, 6, 172, 3, 172]
abbrev dktX0_claim_1 : List UInt8 := dkwX0_claim_1 ++ []
def dkwX0_claim_0 : List UInt8 := [25, 5, 3, 42, 27, 28, 29, 21, 4, 182, 0, 107, 133, 80, 167, 0, 15, 58, 6, 4, 172, 58, 6, 5]
abbrev dktX0_claim_0 : List UInt8 := dkwX0_claim_0 ++ dktX0_claim_1
theorem dksX0_claim_0 : cX0_claim.data.toList.drop 0 = dktX0_claim_0 := by decide +kernel
theorem dksX0_claim_1 : cX0_claim.data.toList.drop 24 = dktX0_claim_1 := dk_seg dksX0_claim_0 24 rfl rfl
theorem dX0_claim_0 : decode cX0_claim 0 = .ok (.aload 5, 2) := dk_25 5 (dk_at dksX0_claim_0 0 rfl rfl)
theorem dX0_claim_2 : decode cX0_claim 2 = .ok (.iconst 0, 1) := dk_3 (dk_at dksX0_claim_0 2 rfl rfl)
theorem dX0_claim_3 : decode cX0_claim 3 = .ok (.aload_n 0, 1) := dk_42 (dk_at dksX0_claim_0 3 rfl rfl)
theorem dX0_claim_4 : decode cX0_claim 4 = .ok (.iload_n 1, 1) := dk_27 (dk_at dksX0_claim_0 4 rfl rfl)
theorem dX0_claim_5 : decode cX0_claim 5 = .ok (.iload_n 2, 1) := dk_28 (dk_at dksX0_claim_0 5 rfl rfl)
theorem dX0_claim_6 : decode cX0_claim 6 = .ok (.iload_n 3, 1) := dk_29 (dk_at dksX0_claim_0 6 rfl rfl)
theorem dX0_claim_7 : decode cX0_claim 7 = .ok (.iload 4, 2) := dk_21 4 (dk_at dksX0_claim_0 7 rfl rfl)
theorem dX0_claim_9 : decode cX0_claim 9 = .ok (.invokevirtual 107, 3) := dk_182 0 107 (dk_at dksX0_claim_0 9 rfl rfl)
theorem dX0_claim_12 : decode cX0_claim 12 = .ok (.i2l, 1) := dk_133 (dk_at dksX0_claim_0 12 rfl rfl)
theorem dX0_claim_13 : decode cX0_claim 13 = .ok (.lastore, 1) := dk_80 (dk_at dksX0_claim_0 13 rfl rfl)
theorem dX0_claim_14 : decode cX0_claim 14 = .ok (.goto 15, 3) := dk_167 0 15 (dk_at dksX0_claim_0 14 rfl rfl)
theorem dX0_claim_17 : decode cX0_claim 17 = .ok (.astore 6, 2) := dk_58 6 (dk_at dksX0_claim_0 17 rfl rfl)
theorem dX0_claim_19 : decode cX0_claim 19 = .ok (.iconst 1, 1) := dk_4 (dk_at dksX0_claim_0 19 rfl rfl)
theorem dX0_claim_20 : decode cX0_claim 20 = .ok (.ireturn, 1) := dk_172 (dk_at dksX0_claim_0 20 rfl rfl)
theorem dX0_claim_21 : decode cX0_claim 21 = .ok (.astore 6, 2) := dk_58 6 (dk_at dksX0_claim_0 21 rfl rfl)
theorem dX0_claim_23 : decode cX0_claim 23 = .ok (.iconst 2, 1) := dk_5 (dk_at dksX0_claim_0 23 rfl rfl)
theorem dX0_claim_24 : decode cX0_claim 24 = .ok (.ireturn, 1) := dk_172 (dk_at dksX0_claim_1 0 rfl rfl)
theorem dX0_claim_25 : decode cX0_claim 25 = .ok (.astore 6, 2) := dk_58 6 (dk_at dksX0_claim_1 1 rfl rfl)
theorem dX0_claim_27 : decode cX0_claim 27 = .ok (.iconst 3, 1) := dk_6 (dk_at dksX0_claim_1 3 rfl rfl)
theorem dX0_claim_28 : decode cX0_claim 28 = .ok (.ireturn, 1) := dk_172 (dk_at dksX0_claim_1 4 rfl rfl)
theorem dX0_claim_29 : decode cX0_claim 29 = .ok (.iconst 0, 1) := dk_3 (dk_at dksX0_claim_1 5 rfl rfl)
theorem dX0_claim_30 : decode cX0_claim 30 = .ok (.ireturn, 1) := dk_172 (dk_at dksX0_claim_1 6 rfl rfl)
abbrev cX0_claimAt : ByteArray := method_31_code
def yX0_claimAt : MethodName := ⟨RX0, "claimAt", "(LMassclaim;II[J)I"⟩
def dkwX0_claimAt_0 : List UInt8 := [45, 3, 42, 27, 28, 182, 0, 110, 133, 80, 167, 0, 11, 58, 4, 4, 172, 58, 4, 5, 172, 3, 172]
abbrev dktX0_claimAt_0 : List UInt8 := dkwX0_claimAt_0 ++ []
theorem dksX0_claimAt_0 : cX0_claimAt.data.toList.drop 0 = dktX0_claimAt_0 := by decide +kernel
theorem dX0_claimAt_0 : decode cX0_claimAt 0 = .ok (.aload_n 3, 1) := dk_45 (dk_at dksX0_claimAt_0 0 rfl rfl)
theorem dX0_claimAt_1 : decode cX0_claimAt 1 = .ok (.iconst 0, 1) := dk_3 (dk_at dksX0_claimAt_0 1 rfl rfl)
theorem dX0_claimAt_2 : decode cX0_claimAt 2 = .ok (.aload_n 0, 1) := dk_42 (dk_at dksX0_claimAt_0 2 rfl rfl)
theorem dX0_claimAt_3 : decode cX0_claimAt 3 = .ok (.iload_n 1, 1) := dk_27 (dk_at dksX0_claimAt_0 3 rfl rfl)
theorem dX0_claimAt_4 : decode cX0_claimAt 4 = .ok (.iload_n 2, 1) := dk_28 (dk_at dksX0_claimAt_0 4 rfl rfl)
theorem dX0_claimAt_5 : decode cX0_claimAt 5 = .ok (.invokevirtual 110, 3) := dk_182 0 110 (dk_at dksX0_claimAt_0 5 rfl rfl)
theorem dX0_claimAt_8 : decode cX0_claimAt 8 = .ok (.i2l, 1) := dk_133 (dk_at dksX0_claimAt_0 8 rfl rfl)
theorem dX0_claimAt_9 : decode cX0_claimAt 9 = .ok (.lastore, 1) := dk_80 (dk_at dksX0_claimAt_0 9 rfl rfl)
theorem dX0_claimAt_10 : decode cX0_claimAt 10 = .ok (.goto 11, 3) := dk_167 0 11 (dk_at dksX0_claimAt_0 10 rfl rfl)
theorem dX0_claimAt_13 : decode cX0_claimAt 13 = .ok (.astore 4, 2) := dk_58 4 (dk_at dksX0_claimAt_0 13 rfl rfl)
theorem dX0_claimAt_15 : decode cX0_claimAt 15 = .ok (.iconst 1, 1) := dk_4 (dk_at dksX0_claimAt_0 15 rfl rfl)
theorem dX0_claimAt_16 : decode cX0_claimAt 16 = .ok (.ireturn, 1) := dk_172 (dk_at dksX0_claimAt_0 16 rfl rfl)
theorem dX0_claimAt_17 : decode cX0_claimAt 17 = .ok (.astore 4, 2) := dk_58 4 (dk_at dksX0_claimAt_0 17 rfl rfl)
theorem dX0_claimAt_19 : decode cX0_claimAt 19 = .ok (.iconst 2, 1) := dk_5 (dk_at dksX0_claimAt_0 19 rfl rfl)
theorem dX0_claimAt_20 : decode cX0_claimAt 20 = .ok (.ireturn, 1) := dk_172 (dk_at dksX0_claimAt_0 20 rfl rfl)
theorem dX0_claimAt_21 : decode cX0_claimAt 21 = .ok (.iconst 0, 1) := dk_3 (dk_at dksX0_claimAt_0 21 rfl rfl)
theorem dX0_claimAt_22 : decode cX0_claimAt 22 = .ok (.ireturn, 1) := dk_172 (dk_at dksX0_claimAt_0 22 rfl rfl)
abbrev cX0_takeOver : ByteArray := method_32_code
def yX0_takeOver : MethodName := ⟨RX0, "takeOver", "(LMassclaim;II[J)I"⟩
def dkwX0_takeOver_1 : List UInt8 := [172, 3, 172]
abbrev dktX0_takeOver_1 : List UInt8 := dkwX0_takeOver_1 ++ []
def dkwX0_takeOver_0 : List UInt8 := [45, 3, 42, 27, 28, 182, 0, 113, 133, 80, 167, 0, 15, 58, 4, 4, 172, 58, 4, 5, 172, 58, 4, 6]
abbrev dktX0_takeOver_0 : List UInt8 := dkwX0_takeOver_0 ++ dktX0_takeOver_1
theorem dksX0_takeOver_0 : cX0_takeOver.data.toList.drop 0 = dktX0_takeOver_0 := by decide +kernel
theorem dksX0_takeOver_1 : cX0_takeOver.data.toList.drop 24 = dktX0_takeOver_1 := dk_seg dksX0_takeOver_0 24 rfl rfl
theorem dX0_takeOver_0 : decode cX0_takeOver 0 = .ok (.aload_n 3, 1) := dk_45 (dk_at dksX0_takeOver_0 0 rfl rfl)
theorem dX0_takeOver_1 : decode cX0_takeOver 1 = .ok (.iconst 0, 1) := dk_3 (dk_at dksX0_takeOver_0 1 rfl rfl)
theorem dX0_takeOver_2 : decode cX0_takeOver 2 = .ok (.aload_n 0, 1) := dk_42 (dk_at dksX0_takeOver_0 2 rfl rfl)
theorem dX0_takeOver_3 : decode cX0_takeOver 3 = .ok (.iload_n 1, 1) := dk_27 (dk_at dksX0_takeOver_0 3 rfl rfl)
theorem dX0_takeOver_4 : decode cX0_takeOver 4 = .ok (.iload_n 2, 1) := dk_28 (dk_at dksX0_takeOver_0 4 rfl rfl)
theorem dX0_takeOver_5 : decode cX0_takeOver 5 = .ok (.invokevirtual 113, 3) := dk_182 0 113 (dk_at dksX0_takeOver_0 5 rfl rfl)
theorem dX0_takeOver_8 : decode cX0_takeOver 8 = .ok (.i2l, 1) := dk_133 (dk_at dksX0_takeOver_0 8 rfl rfl)
theorem dX0_takeOver_9 : decode cX0_takeOver 9 = .ok (.lastore, 1) := dk_80 (dk_at dksX0_takeOver_0 9 rfl rfl)
theorem dX0_takeOver_10 : decode cX0_takeOver 10 = .ok (.goto 15, 3) := dk_167 0 15 (dk_at dksX0_takeOver_0 10 rfl rfl)
theorem dX0_takeOver_13 : decode cX0_takeOver 13 = .ok (.astore 4, 2) := dk_58 4 (dk_at dksX0_takeOver_0 13 rfl rfl)
theorem dX0_takeOver_15 : decode cX0_takeOver 15 = .ok (.iconst 1, 1) := dk_4 (dk_at dksX0_takeOver_0 15 rfl rfl)
theorem dX0_takeOver_16 : decode cX0_takeOver 16 = .ok (.ireturn, 1) := dk_172 (dk_at dksX0_takeOver_0 16 rfl rfl)
theorem dX0_takeOver_17 : decode cX0_takeOver 17 = .ok (.astore 4, 2) := dk_58 4 (dk_at dksX0_takeOver_0 17 rfl rfl)
theorem dX0_takeOver_19 : decode cX0_takeOver 19 = .ok (.iconst 2, 1) := dk_5 (dk_at dksX0_takeOver_0 19 rfl rfl)
theorem dX0_takeOver_20 : decode cX0_takeOver 20 = .ok (.ireturn, 1) := dk_172 (dk_at dksX0_takeOver_0 20 rfl rfl)
theorem dX0_takeOver_21 : decode cX0_takeOver 21 = .ok (.astore 4, 2) := dk_58 4 (dk_at dksX0_takeOver_0 21 rfl rfl)
theorem dX0_takeOver_23 : decode cX0_takeOver 23 = .ok (.iconst 3, 1) := dk_6 (dk_at dksX0_takeOver_0 23 rfl rfl)
theorem dX0_takeOver_24 : decode cX0_takeOver 24 = .ok (.ireturn, 1) := dk_172 (dk_at dksX0_takeOver_1 0 rfl rfl)
theorem dX0_takeOver_25 : decode cX0_takeOver 25 = .ok (.iconst 0, 1) := dk_3 (dk_at dksX0_takeOver_1 1 rfl rfl)
theorem dX0_takeOver_26 : decode cX0_takeOver 26 = .ok (.ireturn, 1) := dk_172 (dk_at dksX0_takeOver_1 2 rfl rfl)
abbrev cX0_parts : ByteArray := method_33_code
def yX0_parts : MethodName := ⟨RX0, "parts", "(LMassclaim;II[J)I"⟩
def dkwX0_parts_0 : List UInt8 := [45, 3, 42, 27, 28, 182, 0, 116, 133, 80, 167, 0, 11, 58, 4, 4, 172, 58, 4, 5, 172, 3, 172]
abbrev dktX0_parts_0 : List UInt8 := dkwX0_parts_0 ++ []
theorem dksX0_parts_0 : cX0_parts.data.toList.drop 0 = dktX0_parts_0 := by decide +kernel
theorem dX0_parts_0 : decode cX0_parts 0 = .ok (.aload_n 3, 1) := dk_45 (dk_at dksX0_parts_0 0 rfl rfl)
theorem dX0_parts_1 : decode cX0_parts 1 = .ok (.iconst 0, 1) := dk_3 (dk_at dksX0_parts_0 1 rfl rfl)
theorem dX0_parts_2 : decode cX0_parts 2 = .ok (.aload_n 0, 1) := dk_42 (dk_at dksX0_parts_0 2 rfl rfl)
theorem dX0_parts_3 : decode cX0_parts 3 = .ok (.iload_n 1, 1) := dk_27 (dk_at dksX0_parts_0 3 rfl rfl)
theorem dX0_parts_4 : decode cX0_parts 4 = .ok (.iload_n 2, 1) := dk_28 (dk_at dksX0_parts_0 4 rfl rfl)
theorem dX0_parts_5 : decode cX0_parts 5 = .ok (.invokevirtual 116, 3) := dk_182 0 116 (dk_at dksX0_parts_0 5 rfl rfl)
theorem dX0_parts_8 : decode cX0_parts 8 = .ok (.i2l, 1) := dk_133 (dk_at dksX0_parts_0 8 rfl rfl)
theorem dX0_parts_9 : decode cX0_parts 9 = .ok (.lastore, 1) := dk_80 (dk_at dksX0_parts_0 9 rfl rfl)
theorem dX0_parts_10 : decode cX0_parts 10 = .ok (.goto 11, 3) := dk_167 0 11 (dk_at dksX0_parts_0 10 rfl rfl)
theorem dX0_parts_13 : decode cX0_parts 13 = .ok (.astore 4, 2) := dk_58 4 (dk_at dksX0_parts_0 13 rfl rfl)
theorem dX0_parts_15 : decode cX0_parts 15 = .ok (.iconst 1, 1) := dk_4 (dk_at dksX0_parts_0 15 rfl rfl)
theorem dX0_parts_16 : decode cX0_parts 16 = .ok (.ireturn, 1) := dk_172 (dk_at dksX0_parts_0 16 rfl rfl)
theorem dX0_parts_17 : decode cX0_parts 17 = .ok (.astore 4, 2) := dk_58 4 (dk_at dksX0_parts_0 17 rfl rfl)
theorem dX0_parts_19 : decode cX0_parts 19 = .ok (.iconst 2, 1) := dk_5 (dk_at dksX0_parts_0 19 rfl rfl)
theorem dX0_parts_20 : decode cX0_parts 20 = .ok (.ireturn, 1) := dk_172 (dk_at dksX0_parts_0 20 rfl rfl)
theorem dX0_parts_21 : decode cX0_parts 21 = .ok (.iconst 0, 1) := dk_3 (dk_at dksX0_parts_0 21 rfl rfl)
theorem dX0_parts_22 : decode cX0_parts 22 = .ok (.ireturn, 1) := dk_172 (dk_at dksX0_parts_0 22 rfl rfl)
abbrev cX0_cure : ByteArray := method_34_code
def yX0_cure : MethodName := ⟨RX0, "cure", "(LMassclaim;II[J)I"⟩
def dkwX0_cure_1 : List UInt8 := [172, 3, 172]
abbrev dktX0_cure_1 : List UInt8 := dkwX0_cure_1 ++ []
def dkwX0_cure_0 : List UInt8 := [45, 3, 42, 27, 28, 182, 0, 119, 133, 80, 167, 0, 15, 58, 4, 4, 172, 58, 4, 5, 172, 58, 4, 6]
abbrev dktX0_cure_0 : List UInt8 := dkwX0_cure_0 ++ dktX0_cure_1
theorem dksX0_cure_0 : cX0_cure.data.toList.drop 0 = dktX0_cure_0 := by decide +kernel
theorem dksX0_cure_1 : cX0_cure.data.toList.drop 24 = dktX0_cure_1 := dk_seg dksX0_cure_0 24 rfl rfl
theorem dX0_cure_0 : decode cX0_cure 0 = .ok (.aload_n 3, 1) := dk_45 (dk_at dksX0_cure_0 0 rfl rfl)
theorem dX0_cure_1 : decode cX0_cure 1 = .ok (.iconst 0, 1) := dk_3 (dk_at dksX0_cure_0 1 rfl rfl)
theorem dX0_cure_2 : decode cX0_cure 2 = .ok (.aload_n 0, 1) := dk_42 (dk_at dksX0_cure_0 2 rfl rfl)
theorem dX0_cure_3 : decode cX0_cure 3 = .ok (.iload_n 1, 1) := dk_27 (dk_at dksX0_cure_0 3 rfl rfl)
theorem dX0_cure_4 : decode cX0_cure 4 = .ok (.iload_n 2, 1) := dk_28 (dk_at dksX0_cure_0 4 rfl rfl)
theorem dX0_cure_5 : decode cX0_cure 5 = .ok (.invokevirtual 119, 3) := dk_182 0 119 (dk_at dksX0_cure_0 5 rfl rfl)
theorem dX0_cure_8 : decode cX0_cure 8 = .ok (.i2l, 1) := dk_133 (dk_at dksX0_cure_0 8 rfl rfl)
theorem dX0_cure_9 : decode cX0_cure 9 = .ok (.lastore, 1) := dk_80 (dk_at dksX0_cure_0 9 rfl rfl)
theorem dX0_cure_10 : decode cX0_cure 10 = .ok (.goto 15, 3) := dk_167 0 15 (dk_at dksX0_cure_0 10 rfl rfl)
theorem dX0_cure_13 : decode cX0_cure 13 = .ok (.astore 4, 2) := dk_58 4 (dk_at dksX0_cure_0 13 rfl rfl)
theorem dX0_cure_15 : decode cX0_cure 15 = .ok (.iconst 1, 1) := dk_4 (dk_at dksX0_cure_0 15 rfl rfl)
theorem dX0_cure_16 : decode cX0_cure 16 = .ok (.ireturn, 1) := dk_172 (dk_at dksX0_cure_0 16 rfl rfl)
theorem dX0_cure_17 : decode cX0_cure 17 = .ok (.astore 4, 2) := dk_58 4 (dk_at dksX0_cure_0 17 rfl rfl)
theorem dX0_cure_19 : decode cX0_cure 19 = .ok (.iconst 2, 1) := dk_5 (dk_at dksX0_cure_0 19 rfl rfl)
theorem dX0_cure_20 : decode cX0_cure 20 = .ok (.ireturn, 1) := dk_172 (dk_at dksX0_cure_0 20 rfl rfl)
theorem dX0_cure_21 : decode cX0_cure 21 = .ok (.astore 4, 2) := dk_58 4 (dk_at dksX0_cure_0 21 rfl rfl)
theorem dX0_cure_23 : decode cX0_cure 23 = .ok (.iconst 3, 1) := dk_6 (dk_at dksX0_cure_0 23 rfl rfl)
theorem dX0_cure_24 : decode cX0_cure 24 = .ok (.ireturn, 1) := dk_172 (dk_at dksX0_cure_1 0 rfl rfl)
theorem dX0_cure_25 : decode cX0_cure 25 = .ok (.iconst 0, 1) := dk_3 (dk_at dksX0_cure_1 1 rfl rfl)
theorem dX0_cure_26 : decode cX0_cure 26 = .ok (.ireturn, 1) := dk_172 (dk_at dksX0_cure_1 2 rfl rfl)
abbrev cX0_sample : ByteArray := method_35_code
def yX0_sample : MethodName := ⟨RX0, "sample", "(LMassclaim;I[J)I"⟩
def dkwX0_sample_0 : List UInt8 := [44, 3, 42, 27, 182, 0, 122, 133, 80, 167, 0, 6, 78, 4, 172, 3, 172]
abbrev dktX0_sample_0 : List UInt8 := dkwX0_sample_0 ++ []
theorem dksX0_sample_0 : cX0_sample.data.toList.drop 0 = dktX0_sample_0 := by decide +kernel
theorem dX0_sample_0 : decode cX0_sample 0 = .ok (.aload_n 2, 1) := dk_44 (dk_at dksX0_sample_0 0 rfl rfl)
theorem dX0_sample_1 : decode cX0_sample 1 = .ok (.iconst 0, 1) := dk_3 (dk_at dksX0_sample_0 1 rfl rfl)
theorem dX0_sample_2 : decode cX0_sample 2 = .ok (.aload_n 0, 1) := dk_42 (dk_at dksX0_sample_0 2 rfl rfl)
theorem dX0_sample_3 : decode cX0_sample 3 = .ok (.iload_n 1, 1) := dk_27 (dk_at dksX0_sample_0 3 rfl rfl)
theorem dX0_sample_4 : decode cX0_sample 4 = .ok (.invokevirtual 122, 3) := dk_182 0 122 (dk_at dksX0_sample_0 4 rfl rfl)
theorem dX0_sample_7 : decode cX0_sample 7 = .ok (.i2l, 1) := dk_133 (dk_at dksX0_sample_0 7 rfl rfl)
theorem dX0_sample_8 : decode cX0_sample 8 = .ok (.lastore, 1) := dk_80 (dk_at dksX0_sample_0 8 rfl rfl)
theorem dX0_sample_9 : decode cX0_sample 9 = .ok (.goto 6, 3) := dk_167 0 6 (dk_at dksX0_sample_0 9 rfl rfl)
theorem dX0_sample_12 : decode cX0_sample 12 = .ok (.astore_n 3, 1) := dk_78 (dk_at dksX0_sample_0 12 rfl rfl)
theorem dX0_sample_13 : decode cX0_sample 13 = .ok (.iconst 1, 1) := dk_4 (dk_at dksX0_sample_0 13 rfl rfl)
theorem dX0_sample_14 : decode cX0_sample 14 = .ok (.ireturn, 1) := dk_172 (dk_at dksX0_sample_0 14 rfl rfl)
theorem dX0_sample_15 : decode cX0_sample 15 = .ok (.iconst 0, 1) := dk_3 (dk_at dksX0_sample_0 15 rfl rfl)
theorem dX0_sample_16 : decode cX0_sample 16 = .ok (.ireturn, 1) := dk_172 (dk_at dksX0_sample_0 16 rfl rfl)
abbrev cX0_audit : ByteArray := method_36_code
def yX0_audit : MethodName := ⟨RX0, "audit", "(LMassclaim;IZ[J)I"⟩
def dkwX0_audit_0 : List UInt8 := [45, 3, 42, 27, 28, 182, 0, 125, 133, 80, 167, 0, 11, 58, 4, 4, 172, 58, 4, 5, 172, 3, 172]
abbrev dktX0_audit_0 : List UInt8 := dkwX0_audit_0 ++ []
theorem dksX0_audit_0 : cX0_audit.data.toList.drop 0 = dktX0_audit_0 := by decide +kernel
theorem dX0_audit_0 : decode cX0_audit 0 = .ok (.aload_n 3, 1) := dk_45 (dk_at dksX0_audit_0 0 rfl rfl)
theorem dX0_audit_1 : decode cX0_audit 1 = .ok (.iconst 0, 1) := dk_3 (dk_at dksX0_audit_0 1 rfl rfl)
theorem dX0_audit_2 : decode cX0_audit 2 = .ok (.aload_n 0, 1) := dk_42 (dk_at dksX0_audit_0 2 rfl rfl)
theorem dX0_audit_3 : decode cX0_audit 3 = .ok (.iload_n 1, 1) := dk_27 (dk_at dksX0_audit_0 3 rfl rfl)
theorem dX0_audit_4 : decode cX0_audit 4 = .ok (.iload_n 2, 1) := dk_28 (dk_at dksX0_audit_0 4 rfl rfl)
theorem dX0_audit_5 : decode cX0_audit 5 = .ok (.invokevirtual 125, 3) := dk_182 0 125 (dk_at dksX0_audit_0 5 rfl rfl)
theorem dX0_audit_8 : decode cX0_audit 8 = .ok (.i2l, 1) := dk_133 (dk_at dksX0_audit_0 8 rfl rfl)
theorem dX0_audit_9 : decode cX0_audit 9 = .ok (.lastore, 1) := dk_80 (dk_at dksX0_audit_0 9 rfl rfl)
theorem dX0_audit_10 : decode cX0_audit 10 = .ok (.goto 11, 3) := dk_167 0 11 (dk_at dksX0_audit_0 10 rfl rfl)
theorem dX0_audit_13 : decode cX0_audit 13 = .ok (.astore 4, 2) := dk_58 4 (dk_at dksX0_audit_0 13 rfl rfl)
theorem dX0_audit_15 : decode cX0_audit 15 = .ok (.iconst 1, 1) := dk_4 (dk_at dksX0_audit_0 15 rfl rfl)
theorem dX0_audit_16 : decode cX0_audit 16 = .ok (.ireturn, 1) := dk_172 (dk_at dksX0_audit_0 16 rfl rfl)
theorem dX0_audit_17 : decode cX0_audit 17 = .ok (.astore 4, 2) := dk_58 4 (dk_at dksX0_audit_0 17 rfl rfl)
theorem dX0_audit_19 : decode cX0_audit 19 = .ok (.iconst 2, 1) := dk_5 (dk_at dksX0_audit_0 19 rfl rfl)
theorem dX0_audit_20 : decode cX0_audit 20 = .ok (.ireturn, 1) := dk_172 (dk_at dksX0_audit_0 20 rfl rfl)
theorem dX0_audit_21 : decode cX0_audit 21 = .ok (.iconst 0, 1) := dk_3 (dk_at dksX0_audit_0 21 rfl rfl)
theorem dX0_audit_22 : decode cX0_audit 22 = .ok (.ireturn, 1) := dk_172 (dk_at dksX0_audit_0 22 rfl rfl)
abbrev cX0_appeal : ByteArray := method_37_code
def yX0_appeal : MethodName := ⟨RX0, "appeal", "(LMassclaim;IZ[J)I"⟩
def dkwX0_appeal_0 : List UInt8 := [45, 3, 42, 27, 28, 182, 0, 128, 133, 80, 167, 0, 11, 58, 4, 4, 172, 58, 4, 5, 172, 3, 172]
abbrev dktX0_appeal_0 : List UInt8 := dkwX0_appeal_0 ++ []
theorem dksX0_appeal_0 : cX0_appeal.data.toList.drop 0 = dktX0_appeal_0 := by decide +kernel
theorem dX0_appeal_0 : decode cX0_appeal 0 = .ok (.aload_n 3, 1) := dk_45 (dk_at dksX0_appeal_0 0 rfl rfl)
theorem dX0_appeal_1 : decode cX0_appeal 1 = .ok (.iconst 0, 1) := dk_3 (dk_at dksX0_appeal_0 1 rfl rfl)
theorem dX0_appeal_2 : decode cX0_appeal 2 = .ok (.aload_n 0, 1) := dk_42 (dk_at dksX0_appeal_0 2 rfl rfl)
theorem dX0_appeal_3 : decode cX0_appeal 3 = .ok (.iload_n 1, 1) := dk_27 (dk_at dksX0_appeal_0 3 rfl rfl)
theorem dX0_appeal_4 : decode cX0_appeal 4 = .ok (.iload_n 2, 1) := dk_28 (dk_at dksX0_appeal_0 4 rfl rfl)
theorem dX0_appeal_5 : decode cX0_appeal 5 = .ok (.invokevirtual 128, 3) := dk_182 0 128 (dk_at dksX0_appeal_0 5 rfl rfl)
theorem dX0_appeal_8 : decode cX0_appeal 8 = .ok (.i2l, 1) := dk_133 (dk_at dksX0_appeal_0 8 rfl rfl)
theorem dX0_appeal_9 : decode cX0_appeal 9 = .ok (.lastore, 1) := dk_80 (dk_at dksX0_appeal_0 9 rfl rfl)
theorem dX0_appeal_10 : decode cX0_appeal 10 = .ok (.goto 11, 3) := dk_167 0 11 (dk_at dksX0_appeal_0 10 rfl rfl)
theorem dX0_appeal_13 : decode cX0_appeal 13 = .ok (.astore 4, 2) := dk_58 4 (dk_at dksX0_appeal_0 13 rfl rfl)
theorem dX0_appeal_15 : decode cX0_appeal 15 = .ok (.iconst 1, 1) := dk_4 (dk_at dksX0_appeal_0 15 rfl rfl)
theorem dX0_appeal_16 : decode cX0_appeal 16 = .ok (.ireturn, 1) := dk_172 (dk_at dksX0_appeal_0 16 rfl rfl)
theorem dX0_appeal_17 : decode cX0_appeal 17 = .ok (.astore 4, 2) := dk_58 4 (dk_at dksX0_appeal_0 17 rfl rfl)
theorem dX0_appeal_19 : decode cX0_appeal 19 = .ok (.iconst 2, 1) := dk_5 (dk_at dksX0_appeal_0 19 rfl rfl)
theorem dX0_appeal_20 : decode cX0_appeal 20 = .ok (.ireturn, 1) := dk_172 (dk_at dksX0_appeal_0 20 rfl rfl)
theorem dX0_appeal_21 : decode cX0_appeal 21 = .ok (.iconst 0, 1) := dk_3 (dk_at dksX0_appeal_0 21 rfl rfl)
theorem dX0_appeal_22 : decode cX0_appeal 22 = .ok (.ireturn, 1) := dk_172 (dk_at dksX0_appeal_0 22 rfl rfl)
abbrev cX0_percent : ByteArray := method_38_code
def yX0_percent : MethodName := ⟨RX0, "percent", "(LMassclaim;I[J)I"⟩
def dkwX0_percent_1 : List UInt8 := [172, 3, 172]
abbrev dktX0_percent_1 : List UInt8 := dkwX0_percent_1 ++ []
def dkwX0_percent_0 : List UInt8 := [44, 3, 42, 27, 182, 0, 131, 153, 0, 7, 10, 167, 0, 4, 9, 80, 167, 0, 9, 78, 4, 172, 78, 5]
abbrev dktX0_percent_0 : List UInt8 := dkwX0_percent_0 ++ dktX0_percent_1
theorem dksX0_percent_0 : cX0_percent.data.toList.drop 0 = dktX0_percent_0 := by decide +kernel
theorem dksX0_percent_1 : cX0_percent.data.toList.drop 24 = dktX0_percent_1 := dk_seg dksX0_percent_0 24 rfl rfl
theorem dX0_percent_0 : decode cX0_percent 0 = .ok (.aload_n 2, 1) := dk_44 (dk_at dksX0_percent_0 0 rfl rfl)
theorem dX0_percent_1 : decode cX0_percent 1 = .ok (.iconst 0, 1) := dk_3 (dk_at dksX0_percent_0 1 rfl rfl)
theorem dX0_percent_2 : decode cX0_percent 2 = .ok (.aload_n 0, 1) := dk_42 (dk_at dksX0_percent_0 2 rfl rfl)
theorem dX0_percent_3 : decode cX0_percent 3 = .ok (.iload_n 1, 1) := dk_27 (dk_at dksX0_percent_0 3 rfl rfl)
theorem dX0_percent_4 : decode cX0_percent 4 = .ok (.invokevirtual 131, 3) := dk_182 0 131 (dk_at dksX0_percent_0 4 rfl rfl)
theorem dX0_percent_7 : decode cX0_percent 7 = .ok (.ifCond .eq 7, 3) := dk_153 0 7 (dk_at dksX0_percent_0 7 rfl rfl)
theorem dX0_percent_10 : decode cX0_percent 10 = .ok (.lconst 1, 1) := dk_10 (dk_at dksX0_percent_0 10 rfl rfl)
theorem dX0_percent_11 : decode cX0_percent 11 = .ok (.goto 4, 3) := dk_167 0 4 (dk_at dksX0_percent_0 11 rfl rfl)
theorem dX0_percent_14 : decode cX0_percent 14 = .ok (.lconst 0, 1) := dk_9 (dk_at dksX0_percent_0 14 rfl rfl)
theorem dX0_percent_15 : decode cX0_percent 15 = .ok (.lastore, 1) := dk_80 (dk_at dksX0_percent_0 15 rfl rfl)
theorem dX0_percent_16 : decode cX0_percent 16 = .ok (.goto 9, 3) := dk_167 0 9 (dk_at dksX0_percent_0 16 rfl rfl)
theorem dX0_percent_19 : decode cX0_percent 19 = .ok (.astore_n 3, 1) := dk_78 (dk_at dksX0_percent_0 19 rfl rfl)
theorem dX0_percent_20 : decode cX0_percent 20 = .ok (.iconst 1, 1) := dk_4 (dk_at dksX0_percent_0 20 rfl rfl)
theorem dX0_percent_21 : decode cX0_percent 21 = .ok (.ireturn, 1) := dk_172 (dk_at dksX0_percent_0 21 rfl rfl)
theorem dX0_percent_22 : decode cX0_percent 22 = .ok (.astore_n 3, 1) := dk_78 (dk_at dksX0_percent_0 22 rfl rfl)
theorem dX0_percent_23 : decode cX0_percent 23 = .ok (.iconst 2, 1) := dk_5 (dk_at dksX0_percent_0 23 rfl rfl)
theorem dX0_percent_24 : decode cX0_percent 24 = .ok (.ireturn, 1) := dk_172 (dk_at dksX0_percent_1 0 rfl rfl)
theorem dX0_percent_25 : decode cX0_percent 25 = .ok (.iconst 0, 1) := dk_3 (dk_at dksX0_percent_1 1 rfl rfl)
theorem dX0_percent_26 : decode cX0_percent 26 = .ok (.ireturn, 1) := dk_172 (dk_at dksX0_percent_1 2 rfl rfl)
abbrev cX0_pay : ByteArray := method_39_code
def yX0_pay : MethodName := ⟨RX0, "pay", "(LMassclaim;[J)I"⟩
def dkwX0_pay_0 : List UInt8 := [43, 3, 42, 182, 0, 134, 80, 167, 0, 6, 77, 4, 172, 3, 172]
abbrev dktX0_pay_0 : List UInt8 := dkwX0_pay_0 ++ []
theorem dksX0_pay_0 : cX0_pay.data.toList.drop 0 = dktX0_pay_0 := by decide +kernel
theorem dX0_pay_0 : decode cX0_pay 0 = .ok (.aload_n 1, 1) := dk_43 (dk_at dksX0_pay_0 0 rfl rfl)
theorem dX0_pay_1 : decode cX0_pay 1 = .ok (.iconst 0, 1) := dk_3 (dk_at dksX0_pay_0 1 rfl rfl)
theorem dX0_pay_2 : decode cX0_pay 2 = .ok (.aload_n 0, 1) := dk_42 (dk_at dksX0_pay_0 2 rfl rfl)
theorem dX0_pay_3 : decode cX0_pay 3 = .ok (.invokevirtual 134, 3) := dk_182 0 134 (dk_at dksX0_pay_0 3 rfl rfl)
theorem dX0_pay_6 : decode cX0_pay 6 = .ok (.lastore, 1) := dk_80 (dk_at dksX0_pay_0 6 rfl rfl)
theorem dX0_pay_7 : decode cX0_pay 7 = .ok (.goto 6, 3) := dk_167 0 6 (dk_at dksX0_pay_0 7 rfl rfl)
theorem dX0_pay_10 : decode cX0_pay 10 = .ok (.astore_n 2, 1) := dk_77 (dk_at dksX0_pay_0 10 rfl rfl)
theorem dX0_pay_11 : decode cX0_pay 11 = .ok (.iconst 1, 1) := dk_4 (dk_at dksX0_pay_0 11 rfl rfl)
theorem dX0_pay_12 : decode cX0_pay 12 = .ok (.ireturn, 1) := dk_172 (dk_at dksX0_pay_0 12 rfl rfl)
theorem dX0_pay_13 : decode cX0_pay 13 = .ok (.iconst 0, 1) := dk_3 (dk_at dksX0_pay_0 13 rfl rfl)
theorem dX0_pay_14 : decode cX0_pay 14 = .ok (.ireturn, 1) := dk_172 (dk_at dksX0_pay_0 14 rfl rfl)
abbrev cX0_lien : ByteArray := method_40_code
def yX0_lien : MethodName := ⟨RX0, "lien", "(LMassclaim;IIZ[J)I"⟩
def dkwX0_lien_1 : List UInt8 := [58, 5, 6, 172, 3, 172]
abbrev dktX0_lien_1 : List UInt8 := dkwX0_lien_1 ++ []
def dkwX0_lien_0 : List UInt8 := [25, 4, 3, 42, 27, 28, 29, 182, 0, 138, 133, 80, 167, 0, 15, 58, 5, 4, 172, 58, 5, 5, 172]
abbrev dktX0_lien_0 : List UInt8 := dkwX0_lien_0 ++ dktX0_lien_1
theorem dksX0_lien_0 : cX0_lien.data.toList.drop 0 = dktX0_lien_0 := by decide +kernel
theorem dksX0_lien_1 : cX0_lien.data.toList.drop 23 = dktX0_lien_1 := dk_seg dksX0_lien_0 23 rfl rfl
theorem dX0_lien_0 : decode cX0_lien 0 = .ok (.aload 4, 2) := dk_25 4 (dk_at dksX0_lien_0 0 rfl rfl)
theorem dX0_lien_2 : decode cX0_lien 2 = .ok (.iconst 0, 1) := dk_3 (dk_at dksX0_lien_0 2 rfl rfl)
theorem dX0_lien_3 : decode cX0_lien 3 = .ok (.aload_n 0, 1) := dk_42 (dk_at dksX0_lien_0 3 rfl rfl)
theorem dX0_lien_4 : decode cX0_lien 4 = .ok (.iload_n 1, 1) := dk_27 (dk_at dksX0_lien_0 4 rfl rfl)
theorem dX0_lien_5 : decode cX0_lien 5 = .ok (.iload_n 2, 1) := dk_28 (dk_at dksX0_lien_0 5 rfl rfl)
theorem dX0_lien_6 : decode cX0_lien 6 = .ok (.iload_n 3, 1) := dk_29 (dk_at dksX0_lien_0 6 rfl rfl)
theorem dX0_lien_7 : decode cX0_lien 7 = .ok (.invokevirtual 138, 3) := dk_182 0 138 (dk_at dksX0_lien_0 7 rfl rfl)
theorem dX0_lien_10 : decode cX0_lien 10 = .ok (.i2l, 1) := dk_133 (dk_at dksX0_lien_0 10 rfl rfl)
theorem dX0_lien_11 : decode cX0_lien 11 = .ok (.lastore, 1) := dk_80 (dk_at dksX0_lien_0 11 rfl rfl)
theorem dX0_lien_12 : decode cX0_lien 12 = .ok (.goto 15, 3) := dk_167 0 15 (dk_at dksX0_lien_0 12 rfl rfl)
theorem dX0_lien_15 : decode cX0_lien 15 = .ok (.astore 5, 2) := dk_58 5 (dk_at dksX0_lien_0 15 rfl rfl)
theorem dX0_lien_17 : decode cX0_lien 17 = .ok (.iconst 1, 1) := dk_4 (dk_at dksX0_lien_0 17 rfl rfl)
theorem dX0_lien_18 : decode cX0_lien 18 = .ok (.ireturn, 1) := dk_172 (dk_at dksX0_lien_0 18 rfl rfl)
theorem dX0_lien_19 : decode cX0_lien 19 = .ok (.astore 5, 2) := dk_58 5 (dk_at dksX0_lien_0 19 rfl rfl)
theorem dX0_lien_21 : decode cX0_lien 21 = .ok (.iconst 2, 1) := dk_5 (dk_at dksX0_lien_0 21 rfl rfl)
theorem dX0_lien_22 : decode cX0_lien 22 = .ok (.ireturn, 1) := dk_172 (dk_at dksX0_lien_0 22 rfl rfl)
theorem dX0_lien_23 : decode cX0_lien 23 = .ok (.astore 5, 2) := dk_58 5 (dk_at dksX0_lien_1 0 rfl rfl)
theorem dX0_lien_25 : decode cX0_lien 25 = .ok (.iconst 3, 1) := dk_6 (dk_at dksX0_lien_1 2 rfl rfl)
theorem dX0_lien_26 : decode cX0_lien 26 = .ok (.ireturn, 1) := dk_172 (dk_at dksX0_lien_1 3 rfl rfl)
theorem dX0_lien_27 : decode cX0_lien 27 = .ok (.iconst 0, 1) := dk_3 (dk_at dksX0_lien_1 4 rfl rfl)
theorem dX0_lien_28 : decode cX0_lien 28 = .ok (.ireturn, 1) := dk_172 (dk_at dksX0_lien_1 5 rfl rfl)
abbrev cX0_waive : ByteArray := method_41_code
def yX0_waive : MethodName := ⟨RX0, "waive", "(LMassclaim;I[J)I"⟩
def dkwX0_waive_0 : List UInt8 := [44, 3, 42, 27, 182, 0, 141, 133, 80, 167, 0, 6, 78, 4, 172, 3, 172]
abbrev dktX0_waive_0 : List UInt8 := dkwX0_waive_0 ++ []
theorem dksX0_waive_0 : cX0_waive.data.toList.drop 0 = dktX0_waive_0 := by decide +kernel
theorem dX0_waive_0 : decode cX0_waive 0 = .ok (.aload_n 2, 1) := dk_44 (dk_at dksX0_waive_0 0 rfl rfl)
theorem dX0_waive_1 : decode cX0_waive 1 = .ok (.iconst 0, 1) := dk_3 (dk_at dksX0_waive_0 1 rfl rfl)
theorem dX0_waive_2 : decode cX0_waive 2 = .ok (.aload_n 0, 1) := dk_42 (dk_at dksX0_waive_0 2 rfl rfl)
theorem dX0_waive_3 : decode cX0_waive 3 = .ok (.iload_n 1, 1) := dk_27 (dk_at dksX0_waive_0 3 rfl rfl)
theorem dX0_waive_4 : decode cX0_waive 4 = .ok (.invokevirtual 141, 3) := dk_182 0 141 (dk_at dksX0_waive_0 4 rfl rfl)
theorem dX0_waive_7 : decode cX0_waive 7 = .ok (.i2l, 1) := dk_133 (dk_at dksX0_waive_0 7 rfl rfl)
theorem dX0_waive_8 : decode cX0_waive 8 = .ok (.lastore, 1) := dk_80 (dk_at dksX0_waive_0 8 rfl rfl)
theorem dX0_waive_9 : decode cX0_waive 9 = .ok (.goto 6, 3) := dk_167 0 6 (dk_at dksX0_waive_0 9 rfl rfl)
theorem dX0_waive_12 : decode cX0_waive 12 = .ok (.astore_n 3, 1) := dk_78 (dk_at dksX0_waive_0 12 rfl rfl)
theorem dX0_waive_13 : decode cX0_waive 13 = .ok (.iconst 1, 1) := dk_4 (dk_at dksX0_waive_0 13 rfl rfl)
theorem dX0_waive_14 : decode cX0_waive 14 = .ok (.ireturn, 1) := dk_172 (dk_at dksX0_waive_0 14 rfl rfl)
theorem dX0_waive_15 : decode cX0_waive 15 = .ok (.iconst 0, 1) := dk_3 (dk_at dksX0_waive_0 15 rfl rfl)
theorem dX0_waive_16 : decode cX0_waive 16 = .ok (.ireturn, 1) := dk_172 (dk_at dksX0_waive_0 16 rfl rfl)
abbrev cX0_end : ByteArray := method_42_code
def yX0_end : MethodName := ⟨RX0, "end", "(LMassclaim;[J)I"⟩
def dkwX0_end_0 : List UInt8 := [43, 3, 42, 182, 0, 144, 80, 167, 0, 6, 77, 4, 172, 3, 172]
abbrev dktX0_end_0 : List UInt8 := dkwX0_end_0 ++ []
theorem dksX0_end_0 : cX0_end.data.toList.drop 0 = dktX0_end_0 := by decide +kernel
theorem dX0_end_0 : decode cX0_end 0 = .ok (.aload_n 1, 1) := dk_43 (dk_at dksX0_end_0 0 rfl rfl)
theorem dX0_end_1 : decode cX0_end 1 = .ok (.iconst 0, 1) := dk_3 (dk_at dksX0_end_0 1 rfl rfl)
theorem dX0_end_2 : decode cX0_end 2 = .ok (.aload_n 0, 1) := dk_42 (dk_at dksX0_end_0 2 rfl rfl)
theorem dX0_end_3 : decode cX0_end 3 = .ok (.invokevirtual 144, 3) := dk_182 0 144 (dk_at dksX0_end_0 3 rfl rfl)
theorem dX0_end_6 : decode cX0_end 6 = .ok (.lastore, 1) := dk_80 (dk_at dksX0_end_0 6 rfl rfl)
theorem dX0_end_7 : decode cX0_end 7 = .ok (.goto 6, 3) := dk_167 0 6 (dk_at dksX0_end_0 7 rfl rfl)
theorem dX0_end_10 : decode cX0_end 10 = .ok (.astore_n 2, 1) := dk_77 (dk_at dksX0_end_0 10 rfl rfl)
theorem dX0_end_11 : decode cX0_end 11 = .ok (.iconst 1, 1) := dk_4 (dk_at dksX0_end_0 11 rfl rfl)
theorem dX0_end_12 : decode cX0_end 12 = .ok (.ireturn, 1) := dk_172 (dk_at dksX0_end_0 12 rfl rfl)
theorem dX0_end_13 : decode cX0_end 13 = .ok (.iconst 0, 1) := dk_3 (dk_at dksX0_end_0 13 rfl rfl)
theorem dX0_end_14 : decode cX0_end 14 = .ok (.ireturn, 1) := dk_172 (dk_at dksX0_end_0 14 rfl rfl)
abbrev cX0_fundAt : ByteArray := method_43_code
def yX0_fundAt : MethodName := ⟨RX0, "fundAt", "(LMassclaim;I[J)I"⟩
def dkwX0_fundAt_0 : List UInt8 := [44, 3, 42, 27, 182, 0, 147, 80, 167, 0, 6, 78, 4, 172, 3, 172]
abbrev dktX0_fundAt_0 : List UInt8 := dkwX0_fundAt_0 ++ []
theorem dksX0_fundAt_0 : cX0_fundAt.data.toList.drop 0 = dktX0_fundAt_0 := by decide +kernel
theorem dX0_fundAt_0 : decode cX0_fundAt 0 = .ok (.aload_n 2, 1) := dk_44 (dk_at dksX0_fundAt_0 0 rfl rfl)
theorem dX0_fundAt_1 : decode cX0_fundAt 1 = .ok (.iconst 0, 1) := dk_3 (dk_at dksX0_fundAt_0 1 rfl rfl)
theorem dX0_fundAt_2 : decode cX0_fundAt 2 = .ok (.aload_n 0, 1) := dk_42 (dk_at dksX0_fundAt_0 2 rfl rfl)
theorem dX0_fundAt_3 : decode cX0_fundAt 3 = .ok (.iload_n 1, 1) := dk_27 (dk_at dksX0_fundAt_0 3 rfl rfl)
theorem dX0_fundAt_4 : decode cX0_fundAt 4 = .ok (.invokevirtual 147, 3) := dk_182 0 147 (dk_at dksX0_fundAt_0 4 rfl rfl)
theorem dX0_fundAt_7 : decode cX0_fundAt 7 = .ok (.lastore, 1) := dk_80 (dk_at dksX0_fundAt_0 7 rfl rfl)
theorem dX0_fundAt_8 : decode cX0_fundAt 8 = .ok (.goto 6, 3) := dk_167 0 6 (dk_at dksX0_fundAt_0 8 rfl rfl)
theorem dX0_fundAt_11 : decode cX0_fundAt 11 = .ok (.astore_n 3, 1) := dk_78 (dk_at dksX0_fundAt_0 11 rfl rfl)
theorem dX0_fundAt_12 : decode cX0_fundAt 12 = .ok (.iconst 1, 1) := dk_4 (dk_at dksX0_fundAt_0 12 rfl rfl)
theorem dX0_fundAt_13 : decode cX0_fundAt 13 = .ok (.ireturn, 1) := dk_172 (dk_at dksX0_fundAt_0 13 rfl rfl)
theorem dX0_fundAt_14 : decode cX0_fundAt 14 = .ok (.iconst 0, 1) := dk_3 (dk_at dksX0_fundAt_0 14 rfl rfl)
theorem dX0_fundAt_15 : decode cX0_fundAt 15 = .ok (.ireturn, 1) := dk_172 (dk_at dksX0_fundAt_0 15 rfl rfl)
abbrev cX0_lawyerAt : ByteArray := method_44_code
def yX0_lawyerAt : MethodName := ⟨RX0, "lawyerAt", "(LMassclaim;I[J)I"⟩
def dkwX0_lawyerAt_0 : List UInt8 := [44, 3, 42, 27, 182, 0, 150, 80, 167, 0, 6, 78, 4, 172, 3, 172]
abbrev dktX0_lawyerAt_0 : List UInt8 := dkwX0_lawyerAt_0 ++ []
theorem dksX0_lawyerAt_0 : cX0_lawyerAt.data.toList.drop 0 = dktX0_lawyerAt_0 := by decide +kernel
theorem dX0_lawyerAt_0 : decode cX0_lawyerAt 0 = .ok (.aload_n 2, 1) := dk_44 (dk_at dksX0_lawyerAt_0 0 rfl rfl)
theorem dX0_lawyerAt_1 : decode cX0_lawyerAt 1 = .ok (.iconst 0, 1) := dk_3 (dk_at dksX0_lawyerAt_0 1 rfl rfl)
theorem dX0_lawyerAt_2 : decode cX0_lawyerAt 2 = .ok (.aload_n 0, 1) := dk_42 (dk_at dksX0_lawyerAt_0 2 rfl rfl)
theorem dX0_lawyerAt_3 : decode cX0_lawyerAt 3 = .ok (.iload_n 1, 1) := dk_27 (dk_at dksX0_lawyerAt_0 3 rfl rfl)
theorem dX0_lawyerAt_4 : decode cX0_lawyerAt 4 = .ok (.invokevirtual 150, 3) := dk_182 0 150 (dk_at dksX0_lawyerAt_0 4 rfl rfl)
theorem dX0_lawyerAt_7 : decode cX0_lawyerAt 7 = .ok (.lastore, 1) := dk_80 (dk_at dksX0_lawyerAt_0 7 rfl rfl)
theorem dX0_lawyerAt_8 : decode cX0_lawyerAt 8 = .ok (.goto 6, 3) := dk_167 0 6 (dk_at dksX0_lawyerAt_0 8 rfl rfl)
theorem dX0_lawyerAt_11 : decode cX0_lawyerAt 11 = .ok (.astore_n 3, 1) := dk_78 (dk_at dksX0_lawyerAt_0 11 rfl rfl)
theorem dX0_lawyerAt_12 : decode cX0_lawyerAt 12 = .ok (.iconst 1, 1) := dk_4 (dk_at dksX0_lawyerAt_0 12 rfl rfl)
theorem dX0_lawyerAt_13 : decode cX0_lawyerAt 13 = .ok (.ireturn, 1) := dk_172 (dk_at dksX0_lawyerAt_0 13 rfl rfl)
theorem dX0_lawyerAt_14 : decode cX0_lawyerAt 14 = .ok (.iconst 0, 1) := dk_3 (dk_at dksX0_lawyerAt_0 14 rfl rfl)
theorem dX0_lawyerAt_15 : decode cX0_lawyerAt 15 = .ok (.ireturn, 1) := dk_172 (dk_at dksX0_lawyerAt_0 15 rfl rfl)
abbrev cX0_count : ByteArray := method_45_code
def yX0_count : MethodName := ⟨RX0, "count", "(LMassclaim;I[J)I"⟩
def dkwX0_count_0 : List UInt8 := [44, 3, 42, 27, 182, 0, 153, 133, 80, 167, 0, 6, 78, 4, 172, 3, 172]
abbrev dktX0_count_0 : List UInt8 := dkwX0_count_0 ++ []
theorem dksX0_count_0 : cX0_count.data.toList.drop 0 = dktX0_count_0 := by decide +kernel
theorem dX0_count_0 : decode cX0_count 0 = .ok (.aload_n 2, 1) := dk_44 (dk_at dksX0_count_0 0 rfl rfl)
theorem dX0_count_1 : decode cX0_count 1 = .ok (.iconst 0, 1) := dk_3 (dk_at dksX0_count_0 1 rfl rfl)
theorem dX0_count_2 : decode cX0_count 2 = .ok (.aload_n 0, 1) := dk_42 (dk_at dksX0_count_0 2 rfl rfl)
theorem dX0_count_3 : decode cX0_count 3 = .ok (.iload_n 1, 1) := dk_27 (dk_at dksX0_count_0 3 rfl rfl)
theorem dX0_count_4 : decode cX0_count 4 = .ok (.invokevirtual 153, 3) := dk_182 0 153 (dk_at dksX0_count_0 4 rfl rfl)
theorem dX0_count_7 : decode cX0_count 7 = .ok (.i2l, 1) := dk_133 (dk_at dksX0_count_0 7 rfl rfl)
theorem dX0_count_8 : decode cX0_count 8 = .ok (.lastore, 1) := dk_80 (dk_at dksX0_count_0 8 rfl rfl)
theorem dX0_count_9 : decode cX0_count 9 = .ok (.goto 6, 3) := dk_167 0 6 (dk_at dksX0_count_0 9 rfl rfl)
theorem dX0_count_12 : decode cX0_count 12 = .ok (.astore_n 3, 1) := dk_78 (dk_at dksX0_count_0 12 rfl rfl)
theorem dX0_count_13 : decode cX0_count 13 = .ok (.iconst 1, 1) := dk_4 (dk_at dksX0_count_0 13 rfl rfl)
theorem dX0_count_14 : decode cX0_count 14 = .ok (.ireturn, 1) := dk_172 (dk_at dksX0_count_0 14 rfl rfl)
theorem dX0_count_15 : decode cX0_count 15 = .ok (.iconst 0, 1) := dk_3 (dk_at dksX0_count_0 15 rfl rfl)
theorem dX0_count_16 : decode cX0_count 16 = .ok (.ireturn, 1) := dk_172 (dk_at dksX0_count_0 16 rfl rfl)
theorem q64 : (Jvm.Cond.initialized "MassclaimLaw") ∈ lw_all := lw_g (lw_at lw_m1 0 rfl) rfl
theorem q107 : (Jvm.Cond.classLink "MassclaimLaw" (8 : Nat) "Massclaim") ∈ lw_all := lw_g (lw_at lw_m1 43 rfl) rfl
theorem q109 : (Jvm.Cond.methodLink "MassclaimLaw" (156 : Nat) ({ cls := "Massclaim", name := "<init>", desc := "()V" } : Jvm.MethodName)) ∈ lw_all := lw_g (lw_at lw_m1 45 rfl) rfl
theorem q296 : (Jvm.Cond.methodLink "MassclaimLaw" (160 : Nat) ({ cls := "Massclaim", name := "begin", desc := "()I" } : Jvm.MethodName)) ∈ lw_all := lw_g (lw_at lw_m1 232 rfl) rfl
theorem q300 : (Jvm.Cond.methodLink "MassclaimLaw" (305 : Nat) ({ cls := "Massclaim", name := "errors", desc := "()I" } : Jvm.MethodName)) ∈ lw_all := lw_g (lw_at lw_m1 236 rfl) rfl
theorem q408 : (Jvm.Cond.methodLink "MassclaimLaw" (309 : Nat) ({ cls := "Massclaim", name := "paidBits", desc := "()I" } : Jvm.MethodName)) ∈ lw_all := lw_g (lw_at lw_m2 104 rfl) rfl
theorem q438 : (Jvm.Cond.methodLink "MassclaimLaw" (313 : Nat) ({ cls := "Massclaim", name := "meanDelivered", desc := "()D" } : Jvm.MethodName)) ∈ lw_all := lw_g (lw_at lw_m2 134 rfl) rfl
theorem q446 : (Jvm.Cond.methodLink "MassclaimLaw" (164 : Nat) ({ cls := "MassclaimLaw", name := "goOn", desc := "(LMassclaim;I[J)I" } : Jvm.MethodName)) ∈ lw_all := lw_g (lw_at lw_m2 142 rfl) rfl
theorem q447 : (Jvm.Cond.static ({ cls := "MassclaimLaw", name := "goOn", desc := "(LMassclaim;I[J)I" } : Jvm.MethodName)) ∈ lw_all := lw_g (lw_at lw_m2 143 rfl) rfl
theorem q448 : (Jvm.Cond.codeWith ({ cls := "MassclaimLaw", name := "goOn", desc := "(LMassclaim;I[J)I" } : Jvm.MethodName) method_3_code (4 : Nat) (Option.some Jvm.ClassFile.FieldType.int) [((0 : Nat), (9 : Nat), (12 : Nat), (13 : Nat))]) ∈ lw_all := lw_g (lw_at lw_m2 144 rfl) rfl
theorem q449 : (Jvm.Cond.classLink "MassclaimLaw" (13 : Nat) "java/lang/IllegalArgumentException") ∈ lw_all := lw_g (lw_at lw_m2 145 rfl) rfl
theorem q450 : (Jvm.Cond.methodLink "MassclaimLaw" (7 : Nat) ({ cls := "Massclaim", name := "goOn", desc := "(I)I" } : Jvm.MethodName)) ∈ lw_all := lw_g (lw_at lw_m2 146 rfl) rfl
theorem q582 : (Jvm.Cond.methodLink "MassclaimLaw" (173 : Nat) ({ cls := "MassclaimLaw", name := "person", desc := "(LMassclaim;IIII[J)I" } : Jvm.MethodName)) ∈ lw_all := lw_g (lw_at lw_m3 38 rfl) rfl
theorem q583 : (Jvm.Cond.static ({ cls := "MassclaimLaw", name := "person", desc := "(LMassclaim;IIII[J)I" } : Jvm.MethodName)) ∈ lw_all := lw_g (lw_at lw_m3 39 rfl) rfl
theorem q584 : (Jvm.Cond.codeWith ({ cls := "MassclaimLaw", name := "person", desc := "(LMassclaim;IIII[J)I" } : Jvm.MethodName) method_4_code (7 : Nat) (Option.some Jvm.ClassFile.FieldType.int) [((0 : Nat), (14 : Nat), (17 : Nat), (13 : Nat)), ((0 : Nat), (14 : Nat), (21 : Nat), (19 : Nat))]) ∈ lw_all := lw_g (lw_at lw_m3 40 rfl) rfl
theorem q585 : (Jvm.Cond.classLink "MassclaimLaw" (19 : Nat) "java/lang/IllegalStateException") ∈ lw_all := lw_g (lw_at lw_m3 41 rfl) rfl
theorem q586 : (Jvm.Cond.methodLink "MassclaimLaw" (15 : Nat) ({ cls := "Massclaim", name := "person", desc := "(IIII)I" } : Jvm.MethodName)) ∈ lw_all := lw_g (lw_at lw_m3 42 rfl) rfl
theorem q826 : (Jvm.Cond.methodLink "MassclaimLaw" (177 : Nat) ({ cls := "MassclaimLaw", name := "sick", desc := "(LMassclaim;II[J)I" } : Jvm.MethodName)) ∈ lw_all := lw_g (lw_at lw_m4 42 rfl) rfl
theorem q827 : (Jvm.Cond.static ({ cls := "MassclaimLaw", name := "sick", desc := "(LMassclaim;II[J)I" } : Jvm.MethodName)) ∈ lw_all := lw_g (lw_at lw_m4 43 rfl) rfl
theorem q828 : (Jvm.Cond.codeWith ({ cls := "MassclaimLaw", name := "sick", desc := "(LMassclaim;II[J)I" } : Jvm.MethodName) method_5_code (5 : Nat) (Option.some Jvm.ClassFile.FieldType.int) [((0 : Nat), (10 : Nat), (13 : Nat), (25 : Nat)), ((0 : Nat), (10 : Nat), (17 : Nat), (13 : Nat)), ((0 : Nat), (10 : Nat), (21 : Nat), (19 : Nat))]) ∈ lw_all := lw_g (lw_at lw_m4 44 rfl) rfl
theorem q829 : (Jvm.Cond.classLink "MassclaimLaw" (25 : Nat) "java/lang/IndexOutOfBoundsException") ∈ lw_all := lw_g (lw_at lw_m4 45 rfl) rfl
theorem q862 : (Jvm.Cond.methodLink "MassclaimLaw" (21 : Nat) ({ cls := "Massclaim", name := "sick", desc := "(II)I" } : Jvm.MethodName)) ∈ lw_all := lw_g (lw_at lw_m4 78 rfl) rfl
theorem q869 : (Jvm.Cond.methodLink "MassclaimLaw" (181 : Nat) ({ cls := "MassclaimLaw", name := "die", desc := "(LMassclaim;II[J)I" } : Jvm.MethodName)) ∈ lw_all := lw_g (lw_at lw_m4 85 rfl) rfl
theorem q870 : (Jvm.Cond.static ({ cls := "MassclaimLaw", name := "die", desc := "(LMassclaim;II[J)I" } : Jvm.MethodName)) ∈ lw_all := lw_g (lw_at lw_m4 86 rfl) rfl
theorem q871 : (Jvm.Cond.codeWith ({ cls := "MassclaimLaw", name := "die", desc := "(LMassclaim;II[J)I" } : Jvm.MethodName) method_6_code (5 : Nat) (Option.some Jvm.ClassFile.FieldType.int) [((0 : Nat), (9 : Nat), (12 : Nat), (25 : Nat)), ((0 : Nat), (9 : Nat), (16 : Nat), (13 : Nat)), ((0 : Nat), (9 : Nat), (20 : Nat), (19 : Nat))]) ∈ lw_all := lw_g (lw_at lw_m4 87 rfl) rfl
theorem q872 : (Jvm.Cond.methodLink "MassclaimLaw" (27 : Nat) ({ cls := "Massclaim", name := "die", desc := "(II)J" } : Jvm.MethodName)) ∈ lw_all := lw_g (lw_at lw_m4 88 rfl) rfl
theorem q879 : (Jvm.Cond.methodLink "MassclaimLaw" (184 : Nat) ({ cls := "MassclaimLaw", name := "define", desc := "(LMassclaim;III[J)I" } : Jvm.MethodName)) ∈ lw_all := lw_g (lw_at lw_m4 95 rfl) rfl
theorem q880 : (Jvm.Cond.static ({ cls := "MassclaimLaw", name := "define", desc := "(LMassclaim;III[J)I" } : Jvm.MethodName)) ∈ lw_all := lw_g (lw_at lw_m4 96 rfl) rfl
theorem q881 : (Jvm.Cond.codeWith ({ cls := "MassclaimLaw", name := "define", desc := "(LMassclaim;III[J)I" } : Jvm.MethodName) method_7_code (6 : Nat) (Option.some Jvm.ClassFile.FieldType.int) [((0 : Nat), (12 : Nat), (15 : Nat), (13 : Nat)), ((0 : Nat), (12 : Nat), (19 : Nat), (19 : Nat))]) ∈ lw_all := lw_g (lw_at lw_m4 97 rfl) rfl
theorem q882 : (Jvm.Cond.methodLink "MassclaimLaw" (31 : Nat) ({ cls := "Massclaim", name := "define", desc := "(III)I" } : Jvm.MethodName)) ∈ lw_all := lw_g (lw_at lw_m4 98 rfl) rfl
theorem q900 : (Jvm.Cond.methodLink "MassclaimLaw" (188 : Nat) ({ cls := "MassclaimLaw", name := "subclass", desc := "(LMassclaim;IIZ[J)I" } : Jvm.MethodName)) ∈ lw_all := lw_g (lw_at lw_m4 116 rfl) rfl
theorem q901 : (Jvm.Cond.static ({ cls := "MassclaimLaw", name := "subclass", desc := "(LMassclaim;IIZ[J)I" } : Jvm.MethodName)) ∈ lw_all := lw_g (lw_at lw_m4 117 rfl) rfl
theorem q902 : (Jvm.Cond.codeWith ({ cls := "MassclaimLaw", name := "subclass", desc := "(LMassclaim;IIZ[J)I" } : Jvm.MethodName) method_8_code (6 : Nat) (Option.some Jvm.ClassFile.FieldType.int) [((0 : Nat), (12 : Nat), (15 : Nat), (13 : Nat)), ((0 : Nat), (12 : Nat), (19 : Nat), (19 : Nat))]) ∈ lw_all := lw_g (lw_at lw_m4 118 rfl) rfl
theorem q903 : (Jvm.Cond.methodLink "MassclaimLaw" (35 : Nat) ({ cls := "Massclaim", name := "subclass", desc := "(IIZ)I" } : Jvm.MethodName)) ∈ lw_all := lw_g (lw_at lw_m4 119 rfl) rfl
theorem q928 : (Jvm.Cond.methodLink "MassclaimLaw" (192 : Nat) ({ cls := "MassclaimLaw", name := "personAt", desc := "(LMassclaim;II[J)I" } : Jvm.MethodName)) ∈ lw_all := lw_g (lw_at lw_m4 144 rfl) rfl
theorem q929 : (Jvm.Cond.static ({ cls := "MassclaimLaw", name := "personAt", desc := "(LMassclaim;II[J)I" } : Jvm.MethodName)) ∈ lw_all := lw_g (lw_at lw_m4 145 rfl) rfl
theorem q930 : (Jvm.Cond.codeWith ({ cls := "MassclaimLaw", name := "personAt", desc := "(LMassclaim;II[J)I" } : Jvm.MethodName) method_9_code (5 : Nat) (Option.some Jvm.ClassFile.FieldType.int) [((0 : Nat), (10 : Nat), (13 : Nat), (25 : Nat)), ((0 : Nat), (10 : Nat), (17 : Nat), (13 : Nat))]) ∈ lw_all := lw_g (lw_at lw_m4 146 rfl) rfl
theorem q931 : (Jvm.Cond.methodLink "MassclaimLaw" (39 : Nat) ({ cls := "Massclaim", name := "personAt", desc := "(II)I" } : Jvm.MethodName)) ∈ lw_all := lw_g (lw_at lw_m4 147 rfl) rfl
theorem q978 : (Jvm.Cond.methodLink "MassclaimLaw" (195 : Nat) ({ cls := "MassclaimLaw", name := "moneyOf", desc := "(LMassclaim;II[J)I" } : Jvm.MethodName)) ∈ lw_all := lw_g (lw_at lw_m4 194 rfl) rfl
theorem q979 : (Jvm.Cond.static ({ cls := "MassclaimLaw", name := "moneyOf", desc := "(LMassclaim;II[J)I" } : Jvm.MethodName)) ∈ lw_all := lw_g (lw_at lw_m4 195 rfl) rfl
theorem q980 : (Jvm.Cond.codeWith ({ cls := "MassclaimLaw", name := "moneyOf", desc := "(LMassclaim;II[J)I" } : Jvm.MethodName) method_10_code (5 : Nat) (Option.some Jvm.ClassFile.FieldType.int) [((0 : Nat), (9 : Nat), (12 : Nat), (25 : Nat)), ((0 : Nat), (9 : Nat), (16 : Nat), (13 : Nat))]) ∈ lw_all := lw_g (lw_at lw_m4 196 rfl) rfl
theorem q981 : (Jvm.Cond.methodLink "MassclaimLaw" (42 : Nat) ({ cls := "Massclaim", name := "moneyOf", desc := "(II)J" } : Jvm.MethodName)) ∈ lw_all := lw_g (lw_at lw_m4 197 rfl) rfl
theorem q991 : (Jvm.Cond.methodLink "MassclaimLaw" (198 : Nat) ({ cls := "MassclaimLaw", name := "heirAt", desc := "(LMassclaim;II[J)I" } : Jvm.MethodName)) ∈ lw_all := lw_g (lw_at lw_m4 207 rfl) rfl
theorem q992 : (Jvm.Cond.static ({ cls := "MassclaimLaw", name := "heirAt", desc := "(LMassclaim;II[J)I" } : Jvm.MethodName)) ∈ lw_all := lw_g (lw_at lw_m4 208 rfl) rfl
theorem q993 : (Jvm.Cond.codeWith ({ cls := "MassclaimLaw", name := "heirAt", desc := "(LMassclaim;II[J)I" } : Jvm.MethodName) method_11_code (5 : Nat) (Option.some Jvm.ClassFile.FieldType.int) [((0 : Nat), (9 : Nat), (12 : Nat), (25 : Nat)), ((0 : Nat), (9 : Nat), (16 : Nat), (19 : Nat))]) ∈ lw_all := lw_g (lw_at lw_m4 209 rfl) rfl
theorem q994 : (Jvm.Cond.methodLink "MassclaimLaw" (45 : Nat) ({ cls := "Massclaim", name := "heirAt", desc := "(II)J" } : Jvm.MethodName)) ∈ lw_all := lw_g (lw_at lw_m4 210 rfl) rfl
theorem q999 : (Jvm.Cond.methodLink "MassclaimLaw" (201 : Nat) ({ cls := "MassclaimLaw", name := "notice", desc := "(LMassclaim;II[J)I" } : Jvm.MethodName)) ∈ lw_all := lw_g (lw_at lw_m4 215 rfl) rfl
theorem q1000 : (Jvm.Cond.static ({ cls := "MassclaimLaw", name := "notice", desc := "(LMassclaim;II[J)I" } : Jvm.MethodName)) ∈ lw_all := lw_g (lw_at lw_m4 216 rfl) rfl
theorem q1001 : (Jvm.Cond.codeWith ({ cls := "MassclaimLaw", name := "notice", desc := "(LMassclaim;II[J)I" } : Jvm.MethodName) method_12_code (5 : Nat) (Option.some Jvm.ClassFile.FieldType.int) [((0 : Nat), (10 : Nat), (13 : Nat), (13 : Nat)), ((0 : Nat), (10 : Nat), (17 : Nat), (19 : Nat))]) ∈ lw_all := lw_g (lw_at lw_m4 217 rfl) rfl
theorem q1002 : (Jvm.Cond.methodLink "MassclaimLaw" (48 : Nat) ({ cls := "Massclaim", name := "notice", desc := "(II)I" } : Jvm.MethodName)) ∈ lw_all := lw_g (lw_at lw_m4 218 rfl) rfl
theorem q1007 : (Jvm.Cond.methodLink "MassclaimLaw" (204 : Nat) ({ cls := "MassclaimLaw", name := "address", desc := "(LMassclaim;IZ[J)I" } : Jvm.MethodName)) ∈ lw_all := lw_g (lw_at lw_m4 223 rfl) rfl
theorem q1008 : (Jvm.Cond.static ({ cls := "MassclaimLaw", name := "address", desc := "(LMassclaim;IZ[J)I" } : Jvm.MethodName)) ∈ lw_all := lw_g (lw_at lw_m4 224 rfl) rfl
theorem q1009 : (Jvm.Cond.codeWith ({ cls := "MassclaimLaw", name := "address", desc := "(LMassclaim;IZ[J)I" } : Jvm.MethodName) method_13_code (5 : Nat) (Option.some Jvm.ClassFile.FieldType.int) [((0 : Nat), (17 : Nat), (20 : Nat), (25 : Nat))]) ∈ lw_all := lw_g (lw_at lw_m4 225 rfl) rfl
theorem q1010 : (Jvm.Cond.methodLink "MassclaimLaw" (51 : Nat) ({ cls := "Massclaim", name := "address", desc := "(IZ)Z" } : Jvm.MethodName)) ∈ lw_all := lw_g (lw_at lw_m4 226 rfl) rfl
theorem q1014 : (Jvm.Cond.methodLink "MassclaimLaw" (208 : Nat) ({ cls := "MassclaimLaw", name := "optOut", desc := "(LMassclaim;IZ[J)I" } : Jvm.MethodName)) ∈ lw_all := lw_g (lw_at lw_m4 230 rfl) rfl
theorem q1015 : (Jvm.Cond.static ({ cls := "MassclaimLaw", name := "optOut", desc := "(LMassclaim;IZ[J)I" } : Jvm.MethodName)) ∈ lw_all := lw_g (lw_at lw_m4 231 rfl) rfl
theorem q1016 : (Jvm.Cond.codeWith ({ cls := "MassclaimLaw", name := "optOut", desc := "(LMassclaim;IZ[J)I" } : Jvm.MethodName) method_14_code (5 : Nat) (Option.some Jvm.ClassFile.FieldType.int) [((0 : Nat), (17 : Nat), (20 : Nat), (25 : Nat))]) ∈ lw_all := lw_g (lw_at lw_m4 232 rfl) rfl
theorem q1017 : (Jvm.Cond.methodLink "MassclaimLaw" (55 : Nat) ({ cls := "Massclaim", name := "optOut", desc := "(IZ)Z" } : Jvm.MethodName)) ∈ lw_all := lw_g (lw_at lw_m4 233 rfl) rfl
theorem q1021 : (Jvm.Cond.methodLink "MassclaimLaw" (211 : Nat) ({ cls := "MassclaimLaw", name := "optIn", desc := "(LMassclaim;I[J)I" } : Jvm.MethodName)) ∈ lw_all := lw_g (lw_at lw_m4 237 rfl) rfl
theorem q1022 : (Jvm.Cond.static ({ cls := "MassclaimLaw", name := "optIn", desc := "(LMassclaim;I[J)I" } : Jvm.MethodName)) ∈ lw_all := lw_g (lw_at lw_m4 238 rfl) rfl
theorem q1023 : (Jvm.Cond.codeWith ({ cls := "MassclaimLaw", name := "optIn", desc := "(LMassclaim;I[J)I" } : Jvm.MethodName) method_15_code (4 : Nat) (Option.some Jvm.ClassFile.FieldType.int) [((0 : Nat), (16 : Nat), (19 : Nat), (25 : Nat))]) ∈ lw_all := lw_g (lw_at lw_m4 239 rfl) rfl
theorem q1024 : (Jvm.Cond.methodLink "MassclaimLaw" (58 : Nat) ({ cls := "Massclaim", name := "optIn", desc := "(I)Z" } : Jvm.MethodName)) ∈ lw_all := lw_g (lw_at lw_m5 0 rfl) rfl
theorem q1028 : (Jvm.Cond.methodLink "MassclaimLaw" (214 : Nat) ({ cls := "MassclaimLaw", name := "draw", desc := "(LMassclaim;I[J)I" } : Jvm.MethodName)) ∈ lw_all := lw_g (lw_at lw_m5 4 rfl) rfl
theorem q1029 : (Jvm.Cond.static ({ cls := "MassclaimLaw", name := "draw", desc := "(LMassclaim;I[J)I" } : Jvm.MethodName)) ∈ lw_all := lw_g (lw_at lw_m5 5 rfl) rfl
theorem q1030 : (Jvm.Cond.codeWith ({ cls := "MassclaimLaw", name := "draw", desc := "(LMassclaim;I[J)I" } : Jvm.MethodName) method_16_code (4 : Nat) (Option.some Jvm.ClassFile.FieldType.int) [((0 : Nat), (9 : Nat), (12 : Nat), (25 : Nat))]) ∈ lw_all := lw_g (lw_at lw_m5 6 rfl) rfl
theorem q1031 : (Jvm.Cond.methodLink "MassclaimLaw" (62 : Nat) ({ cls := "Massclaim", name := "draw", desc := "(I)I" } : Jvm.MethodName)) ∈ lw_all := lw_g (lw_at lw_m5 7 rfl) rfl
theorem q1295 : (Jvm.Cond.methodLink "MassclaimLaw" (217 : Nat) ({ cls := "MassclaimLaw", name := "verdict", desc := "(LMassclaim;II[J)I" } : Jvm.MethodName)) ∈ lw_all := lw_g (lw_at lw_m6 31 rfl) rfl
theorem q1296 : (Jvm.Cond.static ({ cls := "MassclaimLaw", name := "verdict", desc := "(LMassclaim;II[J)I" } : Jvm.MethodName)) ∈ lw_all := lw_g (lw_at lw_m6 32 rfl) rfl
theorem q1297 : (Jvm.Cond.codeWith ({ cls := "MassclaimLaw", name := "verdict", desc := "(LMassclaim;II[J)I" } : Jvm.MethodName) method_17_code (5 : Nat) (Option.some Jvm.ClassFile.FieldType.int) [((0 : Nat), (10 : Nat), (13 : Nat), (25 : Nat)), ((0 : Nat), (10 : Nat), (17 : Nat), (13 : Nat)), ((0 : Nat), (10 : Nat), (21 : Nat), (19 : Nat))]) ∈ lw_all := lw_g (lw_at lw_m6 33 rfl) rfl
theorem q1298 : (Jvm.Cond.methodLink "MassclaimLaw" (65 : Nat) ({ cls := "Massclaim", name := "verdict", desc := "(II)I" } : Jvm.MethodName)) ∈ lw_all := lw_g (lw_at lw_m6 34 rfl) rfl
theorem q1307 : (Jvm.Cond.methodLink "MassclaimLaw" (220 : Nat) ({ cls := "MassclaimLaw", name := "offer", desc := "(LMassclaim;I[J)I" } : Jvm.MethodName)) ∈ lw_all := lw_g (lw_at lw_m6 43 rfl) rfl
theorem q1308 : (Jvm.Cond.static ({ cls := "MassclaimLaw", name := "offer", desc := "(LMassclaim;I[J)I" } : Jvm.MethodName)) ∈ lw_all := lw_g (lw_at lw_m6 44 rfl) rfl
theorem q1309 : (Jvm.Cond.codeWith ({ cls := "MassclaimLaw", name := "offer", desc := "(LMassclaim;I[J)I" } : Jvm.MethodName) method_18_code (4 : Nat) (Option.some Jvm.ClassFile.FieldType.int) [((0 : Nat), (9 : Nat), (12 : Nat), (25 : Nat))]) ∈ lw_all := lw_g (lw_at lw_m6 45 rfl) rfl
theorem q1310 : (Jvm.Cond.methodLink "MassclaimLaw" (68 : Nat) ({ cls := "Massclaim", name := "offer", desc := "(I)I" } : Jvm.MethodName)) ∈ lw_all := lw_g (lw_at lw_m6 46 rfl) rfl
theorem q1317 : (Jvm.Cond.methodLink "MassclaimLaw" (223 : Nat) ({ cls := "MassclaimLaw", name := "defendant", desc := "(LMassclaim;II[J)I" } : Jvm.MethodName)) ∈ lw_all := lw_g (lw_at lw_m6 53 rfl) rfl
theorem q1318 : (Jvm.Cond.static ({ cls := "MassclaimLaw", name := "defendant", desc := "(LMassclaim;II[J)I" } : Jvm.MethodName)) ∈ lw_all := lw_g (lw_at lw_m6 54 rfl) rfl
theorem q1319 : (Jvm.Cond.codeWith ({ cls := "MassclaimLaw", name := "defendant", desc := "(LMassclaim;II[J)I" } : Jvm.MethodName) method_19_code (5 : Nat) (Option.some Jvm.ClassFile.FieldType.int) [((0 : Nat), (10 : Nat), (13 : Nat), (13 : Nat)), ((0 : Nat), (10 : Nat), (17 : Nat), (19 : Nat))]) ∈ lw_all := lw_g (lw_at lw_m6 55 rfl) rfl
theorem q1320 : (Jvm.Cond.methodLink "MassclaimLaw" (71 : Nat) ({ cls := "Massclaim", name := "defendant", desc := "(II)I" } : Jvm.MethodName)) ∈ lw_all := lw_g (lw_at lw_m6 56 rfl) rfl
theorem q1355 : (Jvm.Cond.methodLink "MassclaimLaw" (226 : Nat) ({ cls := "MassclaimLaw", name := "payIn", desc := "(LMassclaim;II[J)I" } : Jvm.MethodName)) ∈ lw_all := lw_g (lw_at lw_m6 91 rfl) rfl
theorem q1356 : (Jvm.Cond.static ({ cls := "MassclaimLaw", name := "payIn", desc := "(LMassclaim;II[J)I" } : Jvm.MethodName)) ∈ lw_all := lw_g (lw_at lw_m6 92 rfl) rfl
theorem q1357 : (Jvm.Cond.codeWith ({ cls := "MassclaimLaw", name := "payIn", desc := "(LMassclaim;II[J)I" } : Jvm.MethodName) method_20_code (5 : Nat) (Option.some Jvm.ClassFile.FieldType.int) [((0 : Nat), (9 : Nat), (12 : Nat), (25 : Nat)), ((0 : Nat), (9 : Nat), (16 : Nat), (13 : Nat)), ((0 : Nat), (9 : Nat), (20 : Nat), (19 : Nat))]) ∈ lw_all := lw_g (lw_at lw_m6 93 rfl) rfl
theorem q1358 : (Jvm.Cond.methodLink "MassclaimLaw" (74 : Nat) ({ cls := "Massclaim", name := "payIn", desc := "(II)J" } : Jvm.MethodName)) ∈ lw_all := lw_g (lw_at lw_m6 94 rfl) rfl
theorem q1363 : (Jvm.Cond.methodLink "MassclaimLaw" (229 : Nat) ({ cls := "MassclaimLaw", name := "fail", desc := "(LMassclaim;I[J)I" } : Jvm.MethodName)) ∈ lw_all := lw_g (lw_at lw_m6 99 rfl) rfl
theorem q1364 : (Jvm.Cond.static ({ cls := "MassclaimLaw", name := "fail", desc := "(LMassclaim;I[J)I" } : Jvm.MethodName)) ∈ lw_all := lw_g (lw_at lw_m6 100 rfl) rfl
theorem q1365 : (Jvm.Cond.codeWith ({ cls := "MassclaimLaw", name := "fail", desc := "(LMassclaim;I[J)I" } : Jvm.MethodName) method_21_code (4 : Nat) (Option.some Jvm.ClassFile.FieldType.int) [((0 : Nat), (8 : Nat), (11 : Nat), (25 : Nat)), ((0 : Nat), (8 : Nat), (14 : Nat), (19 : Nat))]) ∈ lw_all := lw_g (lw_at lw_m6 101 rfl) rfl
theorem q1366 : (Jvm.Cond.methodLink "MassclaimLaw" (77 : Nat) ({ cls := "Massclaim", name := "fail", desc := "(I)J" } : Jvm.MethodName)) ∈ lw_all := lw_g (lw_at lw_m6 102 rfl) rfl
theorem q1377 : (Jvm.Cond.methodLink "MassclaimLaw" (232 : Nat) ({ cls := "MassclaimLaw", name := "defendantAt", desc := "(LMassclaim;II[J)I" } : Jvm.MethodName)) ∈ lw_all := lw_g (lw_at lw_m6 113 rfl) rfl
theorem q1378 : (Jvm.Cond.static ({ cls := "MassclaimLaw", name := "defendantAt", desc := "(LMassclaim;II[J)I" } : Jvm.MethodName)) ∈ lw_all := lw_g (lw_at lw_m6 114 rfl) rfl
theorem q1379 : (Jvm.Cond.codeWith ({ cls := "MassclaimLaw", name := "defendantAt", desc := "(LMassclaim;II[J)I" } : Jvm.MethodName) method_22_code (5 : Nat) (Option.some Jvm.ClassFile.FieldType.int) [((0 : Nat), (9 : Nat), (12 : Nat), (25 : Nat)), ((0 : Nat), (9 : Nat), (16 : Nat), (13 : Nat))]) ∈ lw_all := lw_g (lw_at lw_m6 115 rfl) rfl
theorem q1380 : (Jvm.Cond.methodLink "MassclaimLaw" (81 : Nat) ({ cls := "Massclaim", name := "defendantAt", desc := "(II)J" } : Jvm.MethodName)) ∈ lw_all := lw_g (lw_at lw_m6 116 rfl) rfl
theorem q1384 : (Jvm.Cond.methodLink "MassclaimLaw" (235 : Nat) ({ cls := "MassclaimLaw", name := "propose", desc := "(LMassclaim;III[J)I" } : Jvm.MethodName)) ∈ lw_all := lw_g (lw_at lw_m6 120 rfl) rfl
theorem q1385 : (Jvm.Cond.static ({ cls := "MassclaimLaw", name := "propose", desc := "(LMassclaim;III[J)I" } : Jvm.MethodName)) ∈ lw_all := lw_g (lw_at lw_m6 121 rfl) rfl
theorem q1386 : (Jvm.Cond.codeWith ({ cls := "MassclaimLaw", name := "propose", desc := "(LMassclaim;III[J)I" } : Jvm.MethodName) method_23_code (6 : Nat) (Option.some Jvm.ClassFile.FieldType.int) [((0 : Nat), (12 : Nat), (15 : Nat), (13 : Nat)), ((0 : Nat), (12 : Nat), (19 : Nat), (19 : Nat))]) ∈ lw_all := lw_g (lw_at lw_m6 122 rfl) rfl
theorem q1387 : (Jvm.Cond.methodLink "MassclaimLaw" (84 : Nat) ({ cls := "Massclaim", name := "propose", desc := "(III)I" } : Jvm.MethodName)) ∈ lw_all := lw_g (lw_at lw_m6 123 rfl) rfl
theorem q1421 : (Jvm.Cond.methodLink "MassclaimLaw" (238 : Nat) ({ cls := "MassclaimLaw", name := "approve", desc := "(LMassclaim;[J)I" } : Jvm.MethodName)) ∈ lw_all := lw_g (lw_at lw_m6 157 rfl) rfl
theorem q1422 : (Jvm.Cond.static ({ cls := "MassclaimLaw", name := "approve", desc := "(LMassclaim;[J)I" } : Jvm.MethodName)) ∈ lw_all := lw_g (lw_at lw_m6 158 rfl) rfl
theorem q1423 : (Jvm.Cond.codeWith ({ cls := "MassclaimLaw", name := "approve", desc := "(LMassclaim;[J)I" } : Jvm.MethodName) method_24_code (3 : Nat) (Option.some Jvm.ClassFile.FieldType.int) [((0 : Nat), (8 : Nat), (11 : Nat), (19 : Nat))]) ∈ lw_all := lw_g (lw_at lw_m6 159 rfl) rfl
theorem q1424 : (Jvm.Cond.methodLink "MassclaimLaw" (87 : Nat) ({ cls := "Massclaim", name := "approve", desc := "()I" } : Jvm.MethodName)) ∈ lw_all := lw_g (lw_at lw_m6 160 rfl) rfl
theorem q1481 : (Jvm.Cond.methodLink "MassclaimLaw" (242 : Nat) ({ cls := "MassclaimLaw", name := "vote", desc := "(LMassclaim;IZ[J)I" } : Jvm.MethodName)) ∈ lw_all := lw_g (lw_at lw_m6 217 rfl) rfl
theorem q1482 : (Jvm.Cond.static ({ cls := "MassclaimLaw", name := "vote", desc := "(LMassclaim;IZ[J)I" } : Jvm.MethodName)) ∈ lw_all := lw_g (lw_at lw_m6 218 rfl) rfl
theorem q1483 : (Jvm.Cond.codeWith ({ cls := "MassclaimLaw", name := "vote", desc := "(LMassclaim;IZ[J)I" } : Jvm.MethodName) method_25_code (5 : Nat) (Option.some Jvm.ClassFile.FieldType.int) [((0 : Nat), (10 : Nat), (13 : Nat), (25 : Nat)), ((0 : Nat), (10 : Nat), (17 : Nat), (19 : Nat))]) ∈ lw_all := lw_g (lw_at lw_m6 219 rfl) rfl
theorem q1484 : (Jvm.Cond.methodLink "MassclaimLaw" (91 : Nat) ({ cls := "Massclaim", name := "vote", desc := "(IZ)I" } : Jvm.MethodName)) ∈ lw_all := lw_g (lw_at lw_m6 220 rfl) rfl
theorem q1488 : (Jvm.Cond.methodLink "MassclaimLaw" (245 : Nat) ({ cls := "MassclaimLaw", name := "object", desc := "(LMassclaim;II[J)I" } : Jvm.MethodName)) ∈ lw_all := lw_g (lw_at lw_m6 224 rfl) rfl
theorem q1489 : (Jvm.Cond.static ({ cls := "MassclaimLaw", name := "object", desc := "(LMassclaim;II[J)I" } : Jvm.MethodName)) ∈ lw_all := lw_g (lw_at lw_m6 225 rfl) rfl
theorem q1490 : (Jvm.Cond.codeWith ({ cls := "MassclaimLaw", name := "object", desc := "(LMassclaim;II[J)I" } : Jvm.MethodName) method_26_code (5 : Nat) (Option.some Jvm.ClassFile.FieldType.int) [((0 : Nat), (10 : Nat), (13 : Nat), (25 : Nat)), ((0 : Nat), (10 : Nat), (17 : Nat), (13 : Nat)), ((0 : Nat), (10 : Nat), (21 : Nat), (19 : Nat))]) ∈ lw_all := lw_g (lw_at lw_m6 226 rfl) rfl
theorem q1491 : (Jvm.Cond.methodLink "MassclaimLaw" (95 : Nat) ({ cls := "Massclaim", name := "object", desc := "(II)I" } : Jvm.MethodName)) ∈ lw_all := lw_g (lw_at lw_m6 227 rfl) rfl
theorem q1495 : (Jvm.Cond.methodLink "MassclaimLaw" (248 : Nat) ({ cls := "MassclaimLaw", name := "raise", desc := "(LMassclaim;I[J)I" } : Jvm.MethodName)) ∈ lw_all := lw_g (lw_at lw_m6 231 rfl) rfl
theorem q1496 : (Jvm.Cond.static ({ cls := "MassclaimLaw", name := "raise", desc := "(LMassclaim;I[J)I" } : Jvm.MethodName)) ∈ lw_all := lw_g (lw_at lw_m6 232 rfl) rfl
theorem q1497 : (Jvm.Cond.codeWith ({ cls := "MassclaimLaw", name := "raise", desc := "(LMassclaim;I[J)I" } : Jvm.MethodName) method_27_code (4 : Nat) (Option.some Jvm.ClassFile.FieldType.int) [((0 : Nat), (8 : Nat), (11 : Nat), (13 : Nat)), ((0 : Nat), (8 : Nat), (14 : Nat), (19 : Nat))]) ∈ lw_all := lw_g (lw_at lw_m6 233 rfl) rfl
theorem q1498 : (Jvm.Cond.methodLink "MassclaimLaw" (98 : Nat) ({ cls := "Massclaim", name := "raise", desc := "(I)J" } : Jvm.MethodName)) ∈ lw_all := lw_g (lw_at lw_m6 234 rfl) rfl
theorem q1506 : (Jvm.Cond.methodLink "MassclaimLaw" (251 : Nat) ({ cls := "MassclaimLaw", name := "grid", desc := "(LMassclaim;III[J)I" } : Jvm.MethodName)) ∈ lw_all := lw_g (lw_at lw_m7 2 rfl) rfl
theorem q1507 : (Jvm.Cond.static ({ cls := "MassclaimLaw", name := "grid", desc := "(LMassclaim;III[J)I" } : Jvm.MethodName)) ∈ lw_all := lw_g (lw_at lw_m7 3 rfl) rfl
theorem q1508 : (Jvm.Cond.codeWith ({ cls := "MassclaimLaw", name := "grid", desc := "(LMassclaim;III[J)I" } : Jvm.MethodName) method_28_code (6 : Nat) (Option.some Jvm.ClassFile.FieldType.int) [((0 : Nat), (12 : Nat), (15 : Nat), (25 : Nat)), ((0 : Nat), (12 : Nat), (19 : Nat), (13 : Nat)), ((0 : Nat), (12 : Nat), (23 : Nat), (19 : Nat))]) ∈ lw_all := lw_g (lw_at lw_m7 4 rfl) rfl
theorem q1509 : (Jvm.Cond.methodLink "MassclaimLaw" (101 : Nat) ({ cls := "Massclaim", name := "grid", desc := "(III)I" } : Jvm.MethodName)) ∈ lw_all := lw_g (lw_at lw_m7 5 rfl) rfl
theorem q1514 : (Jvm.Cond.methodLink "MassclaimLaw" (254 : Nat) ({ cls := "MassclaimLaw", name := "settings", desc := "(LMassclaim;III[J)I" } : Jvm.MethodName)) ∈ lw_all := lw_g (lw_at lw_m7 10 rfl) rfl
theorem q1515 : (Jvm.Cond.static ({ cls := "MassclaimLaw", name := "settings", desc := "(LMassclaim;III[J)I" } : Jvm.MethodName)) ∈ lw_all := lw_g (lw_at lw_m7 11 rfl) rfl
theorem q1516 : (Jvm.Cond.codeWith ({ cls := "MassclaimLaw", name := "settings", desc := "(LMassclaim;III[J)I" } : Jvm.MethodName) method_29_code (6 : Nat) (Option.some Jvm.ClassFile.FieldType.int) [((0 : Nat), (12 : Nat), (15 : Nat), (13 : Nat)), ((0 : Nat), (12 : Nat), (19 : Nat), (19 : Nat))]) ∈ lw_all := lw_g (lw_at lw_m7 12 rfl) rfl
theorem q1517 : (Jvm.Cond.methodLink "MassclaimLaw" (104 : Nat) ({ cls := "Massclaim", name := "settings", desc := "(III)I" } : Jvm.MethodName)) ∈ lw_all := lw_g (lw_at lw_m7 13 rfl) rfl
theorem q1521 : (Jvm.Cond.methodLink "MassclaimLaw" (257 : Nat) ({ cls := "MassclaimLaw", name := "claim", desc := "(LMassclaim;IIII[J)I" } : Jvm.MethodName)) ∈ lw_all := lw_g (lw_at lw_m7 17 rfl) rfl
theorem q1522 : (Jvm.Cond.static ({ cls := "MassclaimLaw", name := "claim", desc := "(LMassclaim;IIII[J)I" } : Jvm.MethodName)) ∈ lw_all := lw_g (lw_at lw_m7 18 rfl) rfl
theorem q1523 : (Jvm.Cond.codeWith ({ cls := "MassclaimLaw", name := "claim", desc := "(LMassclaim;IIII[J)I" } : Jvm.MethodName) method_30_code (7 : Nat) (Option.some Jvm.ClassFile.FieldType.int) [((0 : Nat), (14 : Nat), (17 : Nat), (25 : Nat)), ((0 : Nat), (14 : Nat), (21 : Nat), (13 : Nat)), ((0 : Nat), (14 : Nat), (25 : Nat), (19 : Nat))]) ∈ lw_all := lw_g (lw_at lw_m7 19 rfl) rfl
theorem q1524 : (Jvm.Cond.methodLink "MassclaimLaw" (107 : Nat) ({ cls := "Massclaim", name := "claim", desc := "(IIII)I" } : Jvm.MethodName)) ∈ lw_all := lw_g (lw_at lw_m7 20 rfl) rfl
theorem q1610 : (Jvm.Cond.methodLink "MassclaimLaw" (260 : Nat) ({ cls := "MassclaimLaw", name := "claimAt", desc := "(LMassclaim;II[J)I" } : Jvm.MethodName)) ∈ lw_all := lw_g (lw_at lw_m7 106 rfl) rfl
theorem q1611 : (Jvm.Cond.static ({ cls := "MassclaimLaw", name := "claimAt", desc := "(LMassclaim;II[J)I" } : Jvm.MethodName)) ∈ lw_all := lw_g (lw_at lw_m7 107 rfl) rfl
theorem q1612 : (Jvm.Cond.codeWith ({ cls := "MassclaimLaw", name := "claimAt", desc := "(LMassclaim;II[J)I" } : Jvm.MethodName) method_31_code (5 : Nat) (Option.some Jvm.ClassFile.FieldType.int) [((0 : Nat), (10 : Nat), (13 : Nat), (25 : Nat)), ((0 : Nat), (10 : Nat), (17 : Nat), (13 : Nat))]) ∈ lw_all := lw_g (lw_at lw_m7 108 rfl) rfl
theorem q1613 : (Jvm.Cond.methodLink "MassclaimLaw" (110 : Nat) ({ cls := "Massclaim", name := "claimAt", desc := "(II)I" } : Jvm.MethodName)) ∈ lw_all := lw_g (lw_at lw_m7 109 rfl) rfl
theorem q1627 : (Jvm.Cond.methodLink "MassclaimLaw" (263 : Nat) ({ cls := "MassclaimLaw", name := "takeOver", desc := "(LMassclaim;II[J)I" } : Jvm.MethodName)) ∈ lw_all := lw_g (lw_at lw_m7 123 rfl) rfl
theorem q1628 : (Jvm.Cond.static ({ cls := "MassclaimLaw", name := "takeOver", desc := "(LMassclaim;II[J)I" } : Jvm.MethodName)) ∈ lw_all := lw_g (lw_at lw_m7 124 rfl) rfl
theorem q1629 : (Jvm.Cond.codeWith ({ cls := "MassclaimLaw", name := "takeOver", desc := "(LMassclaim;II[J)I" } : Jvm.MethodName) method_32_code (5 : Nat) (Option.some Jvm.ClassFile.FieldType.int) [((0 : Nat), (10 : Nat), (13 : Nat), (25 : Nat)), ((0 : Nat), (10 : Nat), (17 : Nat), (13 : Nat)), ((0 : Nat), (10 : Nat), (21 : Nat), (19 : Nat))]) ∈ lw_all := lw_g (lw_at lw_m7 125 rfl) rfl
theorem q1630 : (Jvm.Cond.methodLink "MassclaimLaw" (113 : Nat) ({ cls := "Massclaim", name := "takeOver", desc := "(II)I" } : Jvm.MethodName)) ∈ lw_all := lw_g (lw_at lw_m7 126 rfl) rfl
theorem q1634 : (Jvm.Cond.methodLink "MassclaimLaw" (266 : Nat) ({ cls := "MassclaimLaw", name := "parts", desc := "(LMassclaim;II[J)I" } : Jvm.MethodName)) ∈ lw_all := lw_g (lw_at lw_m7 130 rfl) rfl
theorem q1635 : (Jvm.Cond.static ({ cls := "MassclaimLaw", name := "parts", desc := "(LMassclaim;II[J)I" } : Jvm.MethodName)) ∈ lw_all := lw_g (lw_at lw_m7 131 rfl) rfl
theorem q1636 : (Jvm.Cond.codeWith ({ cls := "MassclaimLaw", name := "parts", desc := "(LMassclaim;II[J)I" } : Jvm.MethodName) method_33_code (5 : Nat) (Option.some Jvm.ClassFile.FieldType.int) [((0 : Nat), (10 : Nat), (13 : Nat), (25 : Nat)), ((0 : Nat), (10 : Nat), (17 : Nat), (13 : Nat))]) ∈ lw_all := lw_g (lw_at lw_m7 132 rfl) rfl
theorem q1637 : (Jvm.Cond.methodLink "MassclaimLaw" (116 : Nat) ({ cls := "Massclaim", name := "parts", desc := "(II)I" } : Jvm.MethodName)) ∈ lw_all := lw_g (lw_at lw_m7 133 rfl) rfl
theorem q1642 : (Jvm.Cond.methodLink "MassclaimLaw" (269 : Nat) ({ cls := "MassclaimLaw", name := "cure", desc := "(LMassclaim;II[J)I" } : Jvm.MethodName)) ∈ lw_all := lw_g (lw_at lw_m7 138 rfl) rfl
theorem q1643 : (Jvm.Cond.static ({ cls := "MassclaimLaw", name := "cure", desc := "(LMassclaim;II[J)I" } : Jvm.MethodName)) ∈ lw_all := lw_g (lw_at lw_m7 139 rfl) rfl
theorem q1644 : (Jvm.Cond.codeWith ({ cls := "MassclaimLaw", name := "cure", desc := "(LMassclaim;II[J)I" } : Jvm.MethodName) method_34_code (5 : Nat) (Option.some Jvm.ClassFile.FieldType.int) [((0 : Nat), (10 : Nat), (13 : Nat), (25 : Nat)), ((0 : Nat), (10 : Nat), (17 : Nat), (13 : Nat)), ((0 : Nat), (10 : Nat), (21 : Nat), (19 : Nat))]) ∈ lw_all := lw_g (lw_at lw_m7 140 rfl) rfl
theorem q1645 : (Jvm.Cond.methodLink "MassclaimLaw" (119 : Nat) ({ cls := "Massclaim", name := "cure", desc := "(II)I" } : Jvm.MethodName)) ∈ lw_all := lw_g (lw_at lw_m7 141 rfl) rfl
theorem q1649 : (Jvm.Cond.methodLink "MassclaimLaw" (272 : Nat) ({ cls := "MassclaimLaw", name := "sample", desc := "(LMassclaim;I[J)I" } : Jvm.MethodName)) ∈ lw_all := lw_g (lw_at lw_m7 145 rfl) rfl
theorem q1650 : (Jvm.Cond.static ({ cls := "MassclaimLaw", name := "sample", desc := "(LMassclaim;I[J)I" } : Jvm.MethodName)) ∈ lw_all := lw_g (lw_at lw_m7 146 rfl) rfl
theorem q1651 : (Jvm.Cond.codeWith ({ cls := "MassclaimLaw", name := "sample", desc := "(LMassclaim;I[J)I" } : Jvm.MethodName) method_35_code (4 : Nat) (Option.some Jvm.ClassFile.FieldType.int) [((0 : Nat), (9 : Nat), (12 : Nat), (13 : Nat))]) ∈ lw_all := lw_g (lw_at lw_m7 147 rfl) rfl
theorem q1652 : (Jvm.Cond.methodLink "MassclaimLaw" (122 : Nat) ({ cls := "Massclaim", name := "sample", desc := "(I)I" } : Jvm.MethodName)) ∈ lw_all := lw_g (lw_at lw_m7 148 rfl) rfl
theorem q1656 : (Jvm.Cond.methodLink "MassclaimLaw" (275 : Nat) ({ cls := "MassclaimLaw", name := "audit", desc := "(LMassclaim;IZ[J)I" } : Jvm.MethodName)) ∈ lw_all := lw_g (lw_at lw_m7 152 rfl) rfl
theorem q1657 : (Jvm.Cond.static ({ cls := "MassclaimLaw", name := "audit", desc := "(LMassclaim;IZ[J)I" } : Jvm.MethodName)) ∈ lw_all := lw_g (lw_at lw_m7 153 rfl) rfl
theorem q1658 : (Jvm.Cond.codeWith ({ cls := "MassclaimLaw", name := "audit", desc := "(LMassclaim;IZ[J)I" } : Jvm.MethodName) method_36_code (5 : Nat) (Option.some Jvm.ClassFile.FieldType.int) [((0 : Nat), (10 : Nat), (13 : Nat), (25 : Nat)), ((0 : Nat), (10 : Nat), (17 : Nat), (19 : Nat))]) ∈ lw_all := lw_g (lw_at lw_m7 154 rfl) rfl
theorem q1659 : (Jvm.Cond.methodLink "MassclaimLaw" (125 : Nat) ({ cls := "Massclaim", name := "audit", desc := "(IZ)I" } : Jvm.MethodName)) ∈ lw_all := lw_g (lw_at lw_m7 155 rfl) rfl
theorem q1663 : (Jvm.Cond.methodLink "MassclaimLaw" (278 : Nat) ({ cls := "MassclaimLaw", name := "appeal", desc := "(LMassclaim;IZ[J)I" } : Jvm.MethodName)) ∈ lw_all := lw_g (lw_at lw_m7 159 rfl) rfl
theorem q1664 : (Jvm.Cond.static ({ cls := "MassclaimLaw", name := "appeal", desc := "(LMassclaim;IZ[J)I" } : Jvm.MethodName)) ∈ lw_all := lw_g (lw_at lw_m7 160 rfl) rfl
theorem q1665 : (Jvm.Cond.codeWith ({ cls := "MassclaimLaw", name := "appeal", desc := "(LMassclaim;IZ[J)I" } : Jvm.MethodName) method_37_code (5 : Nat) (Option.some Jvm.ClassFile.FieldType.int) [((0 : Nat), (10 : Nat), (13 : Nat), (25 : Nat)), ((0 : Nat), (10 : Nat), (17 : Nat), (19 : Nat))]) ∈ lw_all := lw_g (lw_at lw_m7 161 rfl) rfl
theorem q1666 : (Jvm.Cond.methodLink "MassclaimLaw" (128 : Nat) ({ cls := "Massclaim", name := "appeal", desc := "(IZ)I" } : Jvm.MethodName)) ∈ lw_all := lw_g (lw_at lw_m7 162 rfl) rfl
theorem q1670 : (Jvm.Cond.methodLink "MassclaimLaw" (281 : Nat) ({ cls := "MassclaimLaw", name := "percent", desc := "(LMassclaim;I[J)I" } : Jvm.MethodName)) ∈ lw_all := lw_g (lw_at lw_m7 166 rfl) rfl
theorem q1671 : (Jvm.Cond.static ({ cls := "MassclaimLaw", name := "percent", desc := "(LMassclaim;I[J)I" } : Jvm.MethodName)) ∈ lw_all := lw_g (lw_at lw_m7 167 rfl) rfl
theorem q1672 : (Jvm.Cond.codeWith ({ cls := "MassclaimLaw", name := "percent", desc := "(LMassclaim;I[J)I" } : Jvm.MethodName) method_38_code (4 : Nat) (Option.some Jvm.ClassFile.FieldType.int) [((0 : Nat), (16 : Nat), (19 : Nat), (13 : Nat)), ((0 : Nat), (16 : Nat), (22 : Nat), (19 : Nat))]) ∈ lw_all := lw_g (lw_at lw_m7 168 rfl) rfl
theorem q1673 : (Jvm.Cond.methodLink "MassclaimLaw" (131 : Nat) ({ cls := "Massclaim", name := "percent", desc := "(I)Z" } : Jvm.MethodName)) ∈ lw_all := lw_g (lw_at lw_m7 169 rfl) rfl
theorem q1686 : (Jvm.Cond.methodLink "MassclaimLaw" (284 : Nat) ({ cls := "MassclaimLaw", name := "pay", desc := "(LMassclaim;[J)I" } : Jvm.MethodName)) ∈ lw_all := lw_g (lw_at lw_m7 182 rfl) rfl
theorem q1687 : (Jvm.Cond.static ({ cls := "MassclaimLaw", name := "pay", desc := "(LMassclaim;[J)I" } : Jvm.MethodName)) ∈ lw_all := lw_g (lw_at lw_m7 183 rfl) rfl
theorem q1688 : (Jvm.Cond.codeWith ({ cls := "MassclaimLaw", name := "pay", desc := "(LMassclaim;[J)I" } : Jvm.MethodName) method_39_code (3 : Nat) (Option.some Jvm.ClassFile.FieldType.int) [((0 : Nat), (7 : Nat), (10 : Nat), (19 : Nat))]) ∈ lw_all := lw_g (lw_at lw_m7 184 rfl) rfl
theorem q1689 : (Jvm.Cond.methodLink "MassclaimLaw" (134 : Nat) ({ cls := "Massclaim", name := "pay", desc := "()J" } : Jvm.MethodName)) ∈ lw_all := lw_g (lw_at lw_m7 185 rfl) rfl
theorem q1740 : (Jvm.Cond.methodLink "MassclaimLaw" (287 : Nat) ({ cls := "MassclaimLaw", name := "lien", desc := "(LMassclaim;IIZ[J)I" } : Jvm.MethodName)) ∈ lw_all := lw_g (lw_at lw_m7 236 rfl) rfl
theorem q1741 : (Jvm.Cond.static ({ cls := "MassclaimLaw", name := "lien", desc := "(LMassclaim;IIZ[J)I" } : Jvm.MethodName)) ∈ lw_all := lw_g (lw_at lw_m7 237 rfl) rfl
theorem q1742 : (Jvm.Cond.codeWith ({ cls := "MassclaimLaw", name := "lien", desc := "(LMassclaim;IIZ[J)I" } : Jvm.MethodName) method_40_code (6 : Nat) (Option.some Jvm.ClassFile.FieldType.int) [((0 : Nat), (12 : Nat), (15 : Nat), (25 : Nat)), ((0 : Nat), (12 : Nat), (19 : Nat), (13 : Nat)), ((0 : Nat), (12 : Nat), (23 : Nat), (19 : Nat))]) ∈ lw_all := lw_g (lw_at lw_m7 238 rfl) rfl
theorem q1743 : (Jvm.Cond.methodLink "MassclaimLaw" (138 : Nat) ({ cls := "Massclaim", name := "lien", desc := "(IIZ)I" } : Jvm.MethodName)) ∈ lw_all := lw_g (lw_at lw_m7 239 rfl) rfl
theorem q1773 : (Jvm.Cond.methodLink "MassclaimLaw" (290 : Nat) ({ cls := "MassclaimLaw", name := "waive", desc := "(LMassclaim;I[J)I" } : Jvm.MethodName)) ∈ lw_all := lw_g (lw_at lw_m8 29 rfl) rfl
theorem q1774 : (Jvm.Cond.static ({ cls := "MassclaimLaw", name := "waive", desc := "(LMassclaim;I[J)I" } : Jvm.MethodName)) ∈ lw_all := lw_g (lw_at lw_m8 30 rfl) rfl
theorem q1775 : (Jvm.Cond.codeWith ({ cls := "MassclaimLaw", name := "waive", desc := "(LMassclaim;I[J)I" } : Jvm.MethodName) method_41_code (4 : Nat) (Option.some Jvm.ClassFile.FieldType.int) [((0 : Nat), (9 : Nat), (12 : Nat), (25 : Nat))]) ∈ lw_all := lw_g (lw_at lw_m8 31 rfl) rfl
theorem q1776 : (Jvm.Cond.methodLink "MassclaimLaw" (141 : Nat) ({ cls := "Massclaim", name := "waive", desc := "(I)I" } : Jvm.MethodName)) ∈ lw_all := lw_g (lw_at lw_m8 32 rfl) rfl
theorem q1781 : (Jvm.Cond.methodLink "MassclaimLaw" (293 : Nat) ({ cls := "MassclaimLaw", name := "end", desc := "(LMassclaim;[J)I" } : Jvm.MethodName)) ∈ lw_all := lw_g (lw_at lw_m8 37 rfl) rfl
theorem q1782 : (Jvm.Cond.static ({ cls := "MassclaimLaw", name := "end", desc := "(LMassclaim;[J)I" } : Jvm.MethodName)) ∈ lw_all := lw_g (lw_at lw_m8 38 rfl) rfl
theorem q1783 : (Jvm.Cond.codeWith ({ cls := "MassclaimLaw", name := "end", desc := "(LMassclaim;[J)I" } : Jvm.MethodName) method_42_code (3 : Nat) (Option.some Jvm.ClassFile.FieldType.int) [((0 : Nat), (7 : Nat), (10 : Nat), (19 : Nat))]) ∈ lw_all := lw_g (lw_at lw_m8 39 rfl) rfl
theorem q1784 : (Jvm.Cond.methodLink "MassclaimLaw" (144 : Nat) ({ cls := "Massclaim", name := "end", desc := "()J" } : Jvm.MethodName)) ∈ lw_all := lw_g (lw_at lw_m8 40 rfl) rfl
theorem q1788 : (Jvm.Cond.methodLink "MassclaimLaw" (296 : Nat) ({ cls := "MassclaimLaw", name := "fundAt", desc := "(LMassclaim;I[J)I" } : Jvm.MethodName)) ∈ lw_all := lw_g (lw_at lw_m8 44 rfl) rfl
theorem q1789 : (Jvm.Cond.static ({ cls := "MassclaimLaw", name := "fundAt", desc := "(LMassclaim;I[J)I" } : Jvm.MethodName)) ∈ lw_all := lw_g (lw_at lw_m8 45 rfl) rfl
theorem q1790 : (Jvm.Cond.codeWith ({ cls := "MassclaimLaw", name := "fundAt", desc := "(LMassclaim;I[J)I" } : Jvm.MethodName) method_43_code (4 : Nat) (Option.some Jvm.ClassFile.FieldType.int) [((0 : Nat), (8 : Nat), (11 : Nat), (13 : Nat))]) ∈ lw_all := lw_g (lw_at lw_m8 46 rfl) rfl
theorem q1791 : (Jvm.Cond.methodLink "MassclaimLaw" (147 : Nat) ({ cls := "Massclaim", name := "fundAt", desc := "(I)J" } : Jvm.MethodName)) ∈ lw_all := lw_g (lw_at lw_m8 47 rfl) rfl
theorem q1804 : (Jvm.Cond.methodLink "MassclaimLaw" (299 : Nat) ({ cls := "MassclaimLaw", name := "lawyerAt", desc := "(LMassclaim;I[J)I" } : Jvm.MethodName)) ∈ lw_all := lw_g (lw_at lw_m8 60 rfl) rfl
theorem q1805 : (Jvm.Cond.static ({ cls := "MassclaimLaw", name := "lawyerAt", desc := "(LMassclaim;I[J)I" } : Jvm.MethodName)) ∈ lw_all := lw_g (lw_at lw_m8 61 rfl) rfl
theorem q1806 : (Jvm.Cond.codeWith ({ cls := "MassclaimLaw", name := "lawyerAt", desc := "(LMassclaim;I[J)I" } : Jvm.MethodName) method_44_code (4 : Nat) (Option.some Jvm.ClassFile.FieldType.int) [((0 : Nat), (8 : Nat), (11 : Nat), (13 : Nat))]) ∈ lw_all := lw_g (lw_at lw_m8 62 rfl) rfl
theorem q1807 : (Jvm.Cond.methodLink "MassclaimLaw" (150 : Nat) ({ cls := "Massclaim", name := "lawyerAt", desc := "(I)J" } : Jvm.MethodName)) ∈ lw_all := lw_g (lw_at lw_m8 63 rfl) rfl
theorem q1811 : (Jvm.Cond.methodLink "MassclaimLaw" (302 : Nat) ({ cls := "MassclaimLaw", name := "count", desc := "(LMassclaim;I[J)I" } : Jvm.MethodName)) ∈ lw_all := lw_g (lw_at lw_m8 67 rfl) rfl
theorem q1812 : (Jvm.Cond.static ({ cls := "MassclaimLaw", name := "count", desc := "(LMassclaim;I[J)I" } : Jvm.MethodName)) ∈ lw_all := lw_g (lw_at lw_m8 68 rfl) rfl
theorem q1813 : (Jvm.Cond.codeWith ({ cls := "MassclaimLaw", name := "count", desc := "(LMassclaim;I[J)I" } : Jvm.MethodName) method_45_code (4 : Nat) (Option.some Jvm.ClassFile.FieldType.int) [((0 : Nat), (9 : Nat), (12 : Nat), (13 : Nat))]) ∈ lw_all := lw_g (lw_at lw_m8 69 rfl) rfl
theorem q1814 : (Jvm.Cond.methodLink "MassclaimLaw" (153 : Nat) ({ cls := "Massclaim", name := "count", desc := "(I)I" } : Jvm.MethodName)) ∈ lw_all := lw_g (lw_at lw_m8 70 rfl) rfl
theorem q1822 : (Jvm.Cond.methodLink "MassclaimLaw" (170 : Nat) ({ cls := "MassclaimModel", name := "thrown", desc := "()I" } : Jvm.MethodName)) ∈ lw_all := lw_g (lw_at lw_m8 78 rfl) rfl
theorem q1826 : (Jvm.Cond.classLink "MassclaimLaw" (157 : Nat) "MassclaimModel") ∈ lw_all := lw_g (lw_at lw_m8 82 rfl) rfl
theorem q1828 : (Jvm.Cond.methodLink "MassclaimLaw" (159 : Nat) ({ cls := "MassclaimModel", name := "<init>", desc := "()V" } : Jvm.MethodName)) ∈ lw_all := lw_g (lw_at lw_m8 84 rfl) rfl
theorem q1928 : (Jvm.Cond.methodLink "MassclaimLaw" (163 : Nat) ({ cls := "MassclaimModel", name := "begin", desc := "()I" } : Jvm.MethodName)) ∈ lw_all := lw_g (lw_at lw_m8 184 rfl) rfl
theorem q1933 : (Jvm.Cond.methodLink "MassclaimLaw" (169 : Nat) ({ cls := "MassclaimModel", name := "goOn", desc := "(I)I" } : Jvm.MethodName)) ∈ lw_all := lw_g (lw_at lw_m8 189 rfl) rfl
theorem q1972 : (Jvm.Cond.methodLink "MassclaimLaw" (176 : Nat) ({ cls := "MassclaimModel", name := "person", desc := "(IIII)I" } : Jvm.MethodName)) ∈ lw_all := lw_g (lw_at lw_m8 228 rfl) rfl
theorem q2063 : (Jvm.Cond.methodLink "MassclaimLaw" (180 : Nat) ({ cls := "MassclaimModel", name := "sick", desc := "(II)I" } : Jvm.MethodName)) ∈ lw_all := lw_g (lw_at lw_m9 79 rfl) rfl
theorem q2072 : (Jvm.Cond.methodLink "MassclaimLaw" (183 : Nat) ({ cls := "MassclaimModel", name := "die", desc := "(II)J" } : Jvm.MethodName)) ∈ lw_all := lw_g (lw_at lw_m9 88 rfl) rfl
theorem q2082 : (Jvm.Cond.methodLink "MassclaimLaw" (187 : Nat) ({ cls := "MassclaimModel", name := "define", desc := "(III)I" } : Jvm.MethodName)) ∈ lw_all := lw_g (lw_at lw_m9 98 rfl) rfl
theorem q2096 : (Jvm.Cond.methodLink "MassclaimLaw" (191 : Nat) ({ cls := "MassclaimModel", name := "subclass", desc := "(IIZ)I" } : Jvm.MethodName)) ∈ lw_all := lw_g (lw_at lw_m9 112 rfl) rfl
theorem q2100 : (Jvm.Cond.methodLink "MassclaimLaw" (194 : Nat) ({ cls := "MassclaimModel", name := "personAt", desc := "(II)I" } : Jvm.MethodName)) ∈ lw_all := lw_g (lw_at lw_m9 116 rfl) rfl
theorem q2152 : (Jvm.Cond.methodLink "MassclaimLaw" (197 : Nat) ({ cls := "MassclaimModel", name := "moneyOf", desc := "(II)J" } : Jvm.MethodName)) ∈ lw_all := lw_g (lw_at lw_m9 168 rfl) rfl
theorem q2162 : (Jvm.Cond.methodLink "MassclaimLaw" (200 : Nat) ({ cls := "MassclaimModel", name := "heirAt", desc := "(II)J" } : Jvm.MethodName)) ∈ lw_all := lw_g (lw_at lw_m9 178 rfl) rfl
theorem q2166 : (Jvm.Cond.methodLink "MassclaimLaw" (203 : Nat) ({ cls := "MassclaimModel", name := "notice", desc := "(II)I" } : Jvm.MethodName)) ∈ lw_all := lw_g (lw_at lw_m9 182 rfl) rfl
theorem q2171 : (Jvm.Cond.methodLink "MassclaimLaw" (207 : Nat) ({ cls := "MassclaimModel", name := "address", desc := "(IZ)Z" } : Jvm.MethodName)) ∈ lw_all := lw_g (lw_at lw_m9 187 rfl) rfl
theorem q2175 : (Jvm.Cond.methodLink "MassclaimLaw" (210 : Nat) ({ cls := "MassclaimModel", name := "optOut", desc := "(IZ)Z" } : Jvm.MethodName)) ∈ lw_all := lw_g (lw_at lw_m9 191 rfl) rfl
theorem q2179 : (Jvm.Cond.methodLink "MassclaimLaw" (213 : Nat) ({ cls := "MassclaimModel", name := "optIn", desc := "(I)Z" } : Jvm.MethodName)) ∈ lw_all := lw_g (lw_at lw_m9 195 rfl) rfl
theorem q2183 : (Jvm.Cond.methodLink "MassclaimLaw" (216 : Nat) ({ cls := "MassclaimModel", name := "draw", desc := "(I)I" } : Jvm.MethodName)) ∈ lw_all := lw_g (lw_at lw_m9 199 rfl) rfl
theorem q2188 : (Jvm.Cond.methodLink "MassclaimLaw" (219 : Nat) ({ cls := "MassclaimModel", name := "verdict", desc := "(II)I" } : Jvm.MethodName)) ∈ lw_all := lw_g (lw_at lw_m9 204 rfl) rfl
theorem q2197 : (Jvm.Cond.methodLink "MassclaimLaw" (222 : Nat) ({ cls := "MassclaimModel", name := "offer", desc := "(I)I" } : Jvm.MethodName)) ∈ lw_all := lw_g (lw_at lw_m9 213 rfl) rfl
theorem q2201 : (Jvm.Cond.methodLink "MassclaimLaw" (225 : Nat) ({ cls := "MassclaimModel", name := "defendant", desc := "(II)I" } : Jvm.MethodName)) ∈ lw_all := lw_g (lw_at lw_m9 217 rfl) rfl
theorem q2233 : (Jvm.Cond.methodLink "MassclaimLaw" (228 : Nat) ({ cls := "MassclaimModel", name := "payIn", desc := "(II)J" } : Jvm.MethodName)) ∈ lw_all := lw_g (lw_at lw_m10 9 rfl) rfl
theorem q2242 : (Jvm.Cond.methodLink "MassclaimLaw" (231 : Nat) ({ cls := "MassclaimModel", name := "fail", desc := "(I)J" } : Jvm.MethodName)) ∈ lw_all := lw_g (lw_at lw_m10 18 rfl) rfl
theorem q2250 : (Jvm.Cond.methodLink "MassclaimLaw" (234 : Nat) ({ cls := "MassclaimModel", name := "defendantAt", desc := "(II)J" } : Jvm.MethodName)) ∈ lw_all := lw_g (lw_at lw_m10 26 rfl) rfl
theorem q2254 : (Jvm.Cond.methodLink "MassclaimLaw" (237 : Nat) ({ cls := "MassclaimModel", name := "propose", desc := "(III)I" } : Jvm.MethodName)) ∈ lw_all := lw_g (lw_at lw_m10 30 rfl) rfl
theorem q2259 : (Jvm.Cond.methodLink "MassclaimLaw" (241 : Nat) ({ cls := "MassclaimModel", name := "approve", desc := "()I" } : Jvm.MethodName)) ∈ lw_all := lw_g (lw_at lw_m10 35 rfl) rfl
theorem q2279 : (Jvm.Cond.methodLink "MassclaimLaw" (244 : Nat) ({ cls := "MassclaimModel", name := "vote", desc := "(IZ)I" } : Jvm.MethodName)) ∈ lw_all := lw_g (lw_at lw_m10 55 rfl) rfl
theorem q2283 : (Jvm.Cond.methodLink "MassclaimLaw" (247 : Nat) ({ cls := "MassclaimModel", name := "object", desc := "(II)I" } : Jvm.MethodName)) ∈ lw_all := lw_g (lw_at lw_m10 59 rfl) rfl
theorem q2287 : (Jvm.Cond.methodLink "MassclaimLaw" (250 : Nat) ({ cls := "MassclaimModel", name := "raise", desc := "(I)J" } : Jvm.MethodName)) ∈ lw_all := lw_g (lw_at lw_m10 63 rfl) rfl
theorem q2295 : (Jvm.Cond.methodLink "MassclaimLaw" (253 : Nat) ({ cls := "MassclaimModel", name := "grid", desc := "(III)I" } : Jvm.MethodName)) ∈ lw_all := lw_g (lw_at lw_m10 71 rfl) rfl
theorem q2300 : (Jvm.Cond.methodLink "MassclaimLaw" (256 : Nat) ({ cls := "MassclaimModel", name := "settings", desc := "(III)I" } : Jvm.MethodName)) ∈ lw_all := lw_g (lw_at lw_m10 76 rfl) rfl
theorem q2304 : (Jvm.Cond.methodLink "MassclaimLaw" (259 : Nat) ({ cls := "MassclaimModel", name := "claim", desc := "(IIII)I" } : Jvm.MethodName)) ∈ lw_all := lw_g (lw_at lw_m10 80 rfl) rfl
theorem q2364 : (Jvm.Cond.methodLink "MassclaimLaw" (262 : Nat) ({ cls := "MassclaimModel", name := "claimAt", desc := "(II)I" } : Jvm.MethodName)) ∈ lw_all := lw_g (lw_at lw_m10 140 rfl) rfl
theorem q2387 : (Jvm.Cond.methodLink "MassclaimLaw" (265 : Nat) ({ cls := "MassclaimModel", name := "takeOver", desc := "(II)I" } : Jvm.MethodName)) ∈ lw_all := lw_g (lw_at lw_m10 163 rfl) rfl
theorem q2391 : (Jvm.Cond.methodLink "MassclaimLaw" (268 : Nat) ({ cls := "MassclaimModel", name := "parts", desc := "(II)I" } : Jvm.MethodName)) ∈ lw_all := lw_g (lw_at lw_m10 167 rfl) rfl
theorem q2396 : (Jvm.Cond.methodLink "MassclaimLaw" (271 : Nat) ({ cls := "MassclaimModel", name := "cure", desc := "(II)I" } : Jvm.MethodName)) ∈ lw_all := lw_g (lw_at lw_m10 172 rfl) rfl
theorem q2401 : (Jvm.Cond.methodLink "MassclaimLaw" (274 : Nat) ({ cls := "MassclaimModel", name := "sample", desc := "(I)I" } : Jvm.MethodName)) ∈ lw_all := lw_g (lw_at lw_m10 177 rfl) rfl
theorem q2405 : (Jvm.Cond.methodLink "MassclaimLaw" (277 : Nat) ({ cls := "MassclaimModel", name := "audit", desc := "(IZ)I" } : Jvm.MethodName)) ∈ lw_all := lw_g (lw_at lw_m10 181 rfl) rfl
theorem q2409 : (Jvm.Cond.methodLink "MassclaimLaw" (280 : Nat) ({ cls := "MassclaimModel", name := "appeal", desc := "(IZ)I" } : Jvm.MethodName)) ∈ lw_all := lw_g (lw_at lw_m10 185 rfl) rfl
theorem q2413 : (Jvm.Cond.methodLink "MassclaimLaw" (283 : Nat) ({ cls := "MassclaimModel", name := "percent", desc := "(I)Z" } : Jvm.MethodName)) ∈ lw_all := lw_g (lw_at lw_m10 189 rfl) rfl
theorem q2425 : (Jvm.Cond.methodLink "MassclaimLaw" (286 : Nat) ({ cls := "MassclaimModel", name := "pay", desc := "()J" } : Jvm.MethodName)) ∈ lw_all := lw_g (lw_at lw_m10 201 rfl) rfl
theorem q2471 : (Jvm.Cond.methodLink "MassclaimLaw" (289 : Nat) ({ cls := "MassclaimModel", name := "lien", desc := "(IIZ)I" } : Jvm.MethodName)) ∈ lw_all := lw_g (lw_at lw_m11 7 rfl) rfl
theorem q2490 : (Jvm.Cond.methodLink "MassclaimLaw" (292 : Nat) ({ cls := "MassclaimModel", name := "waive", desc := "(I)I" } : Jvm.MethodName)) ∈ lw_all := lw_g (lw_at lw_m11 26 rfl) rfl
theorem q2494 : (Jvm.Cond.methodLink "MassclaimLaw" (295 : Nat) ({ cls := "MassclaimModel", name := "end", desc := "()J" } : Jvm.MethodName)) ∈ lw_all := lw_g (lw_at lw_m11 30 rfl) rfl
theorem q2502 : (Jvm.Cond.methodLink "MassclaimLaw" (298 : Nat) ({ cls := "MassclaimModel", name := "fundAt", desc := "(I)J" } : Jvm.MethodName)) ∈ lw_all := lw_g (lw_at lw_m11 38 rfl) rfl
theorem q2520 : (Jvm.Cond.methodLink "MassclaimLaw" (301 : Nat) ({ cls := "MassclaimModel", name := "lawyerAt", desc := "(I)J" } : Jvm.MethodName)) ∈ lw_all := lw_g (lw_at lw_m11 56 rfl) rfl
theorem q2524 : (Jvm.Cond.methodLink "MassclaimLaw" (304 : Nat) ({ cls := "MassclaimModel", name := "count", desc := "(I)I" } : Jvm.MethodName)) ∈ lw_all := lw_g (lw_at lw_m11 60 rfl) rfl
theorem q2532 : (Jvm.Cond.methodLink "MassclaimLaw" (308 : Nat) ({ cls := "MassclaimModel", name := "errors", desc := "()I" } : Jvm.MethodName)) ∈ lw_all := lw_g (lw_at lw_m11 68 rfl) rfl
theorem q2536 : (Jvm.Cond.methodLink "MassclaimLaw" (312 : Nat) ({ cls := "MassclaimModel", name := "paidBits", desc := "()I" } : Jvm.MethodName)) ∈ lw_all := lw_g (lw_at lw_m11 72 rfl) rfl
theorem q2541 : (Jvm.Cond.methodLink "MassclaimLaw" (317 : Nat) ({ cls := "MassclaimModel", name := "meanDelivered", desc := "()D" } : Jvm.MethodName)) ∈ lw_all := lw_g (lw_at lw_m11 77 rfl) rfl
