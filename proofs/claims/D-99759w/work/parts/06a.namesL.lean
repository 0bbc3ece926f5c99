/-! DripCupsLaw -/
set_option maxRecDepth 100000
def RX0 : String := "DripCupsLaw"
abbrev cX0_cave : ByteArray := method_3_code
def yX0_cave : MethodName := ⟨RX0, "cave", "(LDripCups;I[J)I"⟩
def dkwX0_cave_0 : List UInt8 := [44, 3, 42, 27, 182, 0, 7, 133, 80, 167, 0, 6, 78, 4, 172, 3, 172]
abbrev dktX0_cave_0 : List UInt8 := dkwX0_cave_0 ++ []
theorem dksX0_cave_0 : cX0_cave.data.toList.drop 0 = dktX0_cave_0 := by decide +kernel
theorem dX0_cave_0 : decode cX0_cave 0 = .ok (.aload_n 2, 1) := dk_44 (dk_at dksX0_cave_0 0 rfl rfl)
theorem dX0_cave_1 : decode cX0_cave 1 = .ok (.iconst 0, 1) := dk_3 (dk_at dksX0_cave_0 1 rfl rfl)
theorem dX0_cave_2 : decode cX0_cave 2 = .ok (.aload_n 0, 1) := dk_42 (dk_at dksX0_cave_0 2 rfl rfl)
theorem dX0_cave_3 : decode cX0_cave 3 = .ok (.iload_n 1, 1) := dk_27 (dk_at dksX0_cave_0 3 rfl rfl)
theorem dX0_cave_4 : decode cX0_cave 4 = .ok (.invokevirtual 7, 3) := dk_182 0 7 (dk_at dksX0_cave_0 4 rfl rfl)
theorem dX0_cave_7 : decode cX0_cave 7 = .ok (.i2l, 1) := dk_133 (dk_at dksX0_cave_0 7 rfl rfl)
theorem dX0_cave_8 : decode cX0_cave 8 = .ok (.lastore, 1) := dk_80 (dk_at dksX0_cave_0 8 rfl rfl)
theorem dX0_cave_9 : decode cX0_cave 9 = .ok (.goto 6, 3) := dk_167 0 6 (dk_at dksX0_cave_0 9 rfl rfl)
theorem dX0_cave_12 : decode cX0_cave 12 = .ok (.astore_n 3, 1) := dk_78 (dk_at dksX0_cave_0 12 rfl rfl)
theorem dX0_cave_13 : decode cX0_cave 13 = .ok (.iconst 1, 1) := dk_4 (dk_at dksX0_cave_0 13 rfl rfl)
theorem dX0_cave_14 : decode cX0_cave 14 = .ok (.ireturn, 1) := dk_172 (dk_at dksX0_cave_0 14 rfl rfl)
theorem dX0_cave_15 : decode cX0_cave 15 = .ok (.iconst 0, 1) := dk_3 (dk_at dksX0_cave_0 15 rfl rfl)
theorem dX0_cave_16 : decode cX0_cave 16 = .ok (.ireturn, 1) := dk_172 (dk_at dksX0_cave_0 16 rfl rfl)
abbrev cX0_count : ByteArray := method_4_code
def yX0_count : MethodName := ⟨RX0, "count", "(LDripCups;I[J)I"⟩
def dkwX0_count_0 : List UInt8 := [44, 3, 42, 27, 182, 0, 15, 133, 80, 167, 0, 6, 78, 4, 172, 3, 172]
abbrev dktX0_count_0 : List UInt8 := dkwX0_count_0 ++ []
theorem dksX0_count_0 : cX0_count.data.toList.drop 0 = dktX0_count_0 := by decide +kernel
theorem dX0_count_0 : decode cX0_count 0 = .ok (.aload_n 2, 1) := dk_44 (dk_at dksX0_count_0 0 rfl rfl)
theorem dX0_count_1 : decode cX0_count 1 = .ok (.iconst 0, 1) := dk_3 (dk_at dksX0_count_0 1 rfl rfl)
theorem dX0_count_2 : decode cX0_count 2 = .ok (.aload_n 0, 1) := dk_42 (dk_at dksX0_count_0 2 rfl rfl)
theorem dX0_count_3 : decode cX0_count 3 = .ok (.iload_n 1, 1) := dk_27 (dk_at dksX0_count_0 3 rfl rfl)
theorem dX0_count_4 : decode cX0_count 4 = .ok (.invokevirtual 15, 3) := dk_182 0 15 (dk_at dksX0_count_0 4 rfl rfl)
theorem dX0_count_7 : decode cX0_count 7 = .ok (.i2l, 1) := dk_133 (dk_at dksX0_count_0 7 rfl rfl)
theorem dX0_count_8 : decode cX0_count 8 = .ok (.lastore, 1) := dk_80 (dk_at dksX0_count_0 8 rfl rfl)
theorem dX0_count_9 : decode cX0_count 9 = .ok (.goto 6, 3) := dk_167 0 6 (dk_at dksX0_count_0 9 rfl rfl)
theorem dX0_count_12 : decode cX0_count 12 = .ok (.astore_n 3, 1) := dk_78 (dk_at dksX0_count_0 12 rfl rfl)
theorem dX0_count_13 : decode cX0_count 13 = .ok (.iconst 1, 1) := dk_4 (dk_at dksX0_count_0 13 rfl rfl)
theorem dX0_count_14 : decode cX0_count 14 = .ok (.ireturn, 1) := dk_172 (dk_at dksX0_count_0 14 rfl rfl)
theorem dX0_count_15 : decode cX0_count 15 = .ok (.iconst 0, 1) := dk_3 (dk_at dksX0_count_0 15 rfl rfl)
theorem dX0_count_16 : decode cX0_count 16 = .ok (.ireturn, 1) := dk_172 (dk_at dksX0_count_0 16 rfl rfl)
abbrev cX0_cup : ByteArray := method_5_code
def yX0_cup : MethodName := ⟨RX0, "cup", "(LDripCups;II[J)I"⟩
def dkwX0_cup_0 : List UInt8 := [45, 3, 42, 27, 28, 182, 0, 20, 133, 80, 167, 0, 7, 58, 4, 4, 172, 3, 172]
abbrev dktX0_cup_0 : List UInt8 := dkwX0_cup_0 ++ []
theorem dksX0_cup_0 : cX0_cup.data.toList.drop 0 = dktX0_cup_0 := by decide +kernel
theorem dX0_cup_0 : decode cX0_cup 0 = .ok (.aload_n 3, 1) := dk_45 (dk_at dksX0_cup_0 0 rfl rfl)
theorem dX0_cup_1 : decode cX0_cup 1 = .ok (.iconst 0, 1) := dk_3 (dk_at dksX0_cup_0 1 rfl rfl)
theorem dX0_cup_2 : decode cX0_cup 2 = .ok (.aload_n 0, 1) := dk_42 (dk_at dksX0_cup_0 2 rfl rfl)
theorem dX0_cup_3 : decode cX0_cup 3 = .ok (.iload_n 1, 1) := dk_27 (dk_at dksX0_cup_0 3 rfl rfl)
theorem dX0_cup_4 : decode cX0_cup 4 = .ok (.iload_n 2, 1) := dk_28 (dk_at dksX0_cup_0 4 rfl rfl)
theorem dX0_cup_5 : decode cX0_cup 5 = .ok (.invokevirtual 20, 3) := dk_182 0 20 (dk_at dksX0_cup_0 5 rfl rfl)
theorem dX0_cup_8 : decode cX0_cup 8 = .ok (.i2l, 1) := dk_133 (dk_at dksX0_cup_0 8 rfl rfl)
theorem dX0_cup_9 : decode cX0_cup 9 = .ok (.lastore, 1) := dk_80 (dk_at dksX0_cup_0 9 rfl rfl)
theorem dX0_cup_10 : decode cX0_cup 10 = .ok (.goto 7, 3) := dk_167 0 7 (dk_at dksX0_cup_0 10 rfl rfl)
theorem dX0_cup_13 : decode cX0_cup 13 = .ok (.astore 4, 2) := dk_58 4 (dk_at dksX0_cup_0 13 rfl rfl)
theorem dX0_cup_15 : decode cX0_cup 15 = .ok (.iconst 1, 1) := dk_4 (dk_at dksX0_cup_0 15 rfl rfl)
theorem dX0_cup_16 : decode cX0_cup 16 = .ok (.ireturn, 1) := dk_172 (dk_at dksX0_cup_0 16 rfl rfl)
theorem dX0_cup_17 : decode cX0_cup 17 = .ok (.iconst 0, 1) := dk_3 (dk_at dksX0_cup_0 17 rfl rfl)
theorem dX0_cup_18 : decode cX0_cup 18 = .ok (.ireturn, 1) := dk_172 (dk_at dksX0_cup_0 18 rfl rfl)
abbrev cX0_lead : ByteArray := method_6_code
def yX0_lead : MethodName := ⟨RX0, "lead", "(LDripCups;II[J)I"⟩
def dkwX0_lead_1 : List UInt8 := [3, 172]
abbrev dktX0_lead_1 : List UInt8 := dkwX0_lead_1 ++ []
def dkwX0_lead_0 : List UInt8 := [45, 3, 42, 27, 28, 182, 0, 24, 153, 0, 7, 10, 167, 0, 4, 9, 80, 167, 0, 7, 58, 4, 4, 172]
abbrev dktX0_lead_0 : List UInt8 := dkwX0_lead_0 ++ dktX0_lead_1
theorem dksX0_lead_0 : cX0_lead.data.toList.drop 0 = dktX0_lead_0 := by decide +kernel
theorem dksX0_lead_1 : cX0_lead.data.toList.drop 24 = dktX0_lead_1 := dk_seg dksX0_lead_0 24 rfl rfl
theorem dX0_lead_0 : decode cX0_lead 0 = .ok (.aload_n 3, 1) := dk_45 (dk_at dksX0_lead_0 0 rfl rfl)
theorem dX0_lead_1 : decode cX0_lead 1 = .ok (.iconst 0, 1) := dk_3 (dk_at dksX0_lead_0 1 rfl rfl)
theorem dX0_lead_2 : decode cX0_lead 2 = .ok (.aload_n 0, 1) := dk_42 (dk_at dksX0_lead_0 2 rfl rfl)
theorem dX0_lead_3 : decode cX0_lead 3 = .ok (.iload_n 1, 1) := dk_27 (dk_at dksX0_lead_0 3 rfl rfl)
theorem dX0_lead_4 : decode cX0_lead 4 = .ok (.iload_n 2, 1) := dk_28 (dk_at dksX0_lead_0 4 rfl rfl)
theorem dX0_lead_5 : decode cX0_lead 5 = .ok (.invokevirtual 24, 3) := dk_182 0 24 (dk_at dksX0_lead_0 5 rfl rfl)
theorem dX0_lead_8 : decode cX0_lead 8 = .ok (.ifCond .eq 7, 3) := dk_153 0 7 (dk_at dksX0_lead_0 8 rfl rfl)
theorem dX0_lead_11 : decode cX0_lead 11 = .ok (.lconst 1, 1) := dk_10 (dk_at dksX0_lead_0 11 rfl rfl)
theorem dX0_lead_12 : decode cX0_lead 12 = .ok (.goto 4, 3) := dk_167 0 4 (dk_at dksX0_lead_0 12 rfl rfl)
theorem dX0_lead_15 : decode cX0_lead 15 = .ok (.lconst 0, 1) := dk_9 (dk_at dksX0_lead_0 15 rfl rfl)
theorem dX0_lead_16 : decode cX0_lead 16 = .ok (.lastore, 1) := dk_80 (dk_at dksX0_lead_0 16 rfl rfl)
theorem dX0_lead_17 : decode cX0_lead 17 = .ok (.goto 7, 3) := dk_167 0 7 (dk_at dksX0_lead_0 17 rfl rfl)
theorem dX0_lead_20 : decode cX0_lead 20 = .ok (.astore 4, 2) := dk_58 4 (dk_at dksX0_lead_0 20 rfl rfl)
theorem dX0_lead_22 : decode cX0_lead 22 = .ok (.iconst 1, 1) := dk_4 (dk_at dksX0_lead_0 22 rfl rfl)
theorem dX0_lead_23 : decode cX0_lead 23 = .ok (.ireturn, 1) := dk_172 (dk_at dksX0_lead_0 23 rfl rfl)
theorem dX0_lead_24 : decode cX0_lead 24 = .ok (.iconst 0, 1) := dk_3 (dk_at dksX0_lead_1 0 rfl rfl)
theorem dX0_lead_25 : decode cX0_lead 25 = .ok (.ireturn, 1) := dk_172 (dk_at dksX0_lead_1 1 rfl rfl)
abbrev cX0_plug : ByteArray := method_7_code
def yX0_plug : MethodName := ⟨RX0, "plug", "(LDripCups;IZ[J)I"⟩
def dkwX0_plug_1 : List UInt8 := [3, 172]
abbrev dktX0_plug_1 : List UInt8 := dkwX0_plug_1 ++ []
def dkwX0_plug_0 : List UInt8 := [45, 3, 42, 27, 28, 182, 0, 28, 153, 0, 7, 10, 167, 0, 4, 9, 80, 167, 0, 7, 58, 4, 4, 172]
abbrev dktX0_plug_0 : List UInt8 := dkwX0_plug_0 ++ dktX0_plug_1
theorem dksX0_plug_0 : cX0_plug.data.toList.drop 0 = dktX0_plug_0 := by decide +kernel
theorem dksX0_plug_1 : cX0_plug.data.toList.drop 24 = dktX0_plug_1 := dk_seg dksX0_plug_0 24 rfl rfl
theorem dX0_plug_0 : decode cX0_plug 0 = .ok (.aload_n 3, 1) := dk_45 (dk_at dksX0_plug_0 0 rfl rfl)
theorem dX0_plug_1 : decode cX0_plug 1 = .ok (.iconst 0, 1) := dk_3 (dk_at dksX0_plug_0 1 rfl rfl)
theorem dX0_plug_2 : decode cX0_plug 2 = .ok (.aload_n 0, 1) := dk_42 (dk_at dksX0_plug_0 2 rfl rfl)
theorem dX0_plug_3 : decode cX0_plug 3 = .ok (.iload_n 1, 1) := dk_27 (dk_at dksX0_plug_0 3 rfl rfl)
theorem dX0_plug_4 : decode cX0_plug 4 = .ok (.iload_n 2, 1) := dk_28 (dk_at dksX0_plug_0 4 rfl rfl)
theorem dX0_plug_5 : decode cX0_plug 5 = .ok (.invokevirtual 28, 3) := dk_182 0 28 (dk_at dksX0_plug_0 5 rfl rfl)
theorem dX0_plug_8 : decode cX0_plug 8 = .ok (.ifCond .eq 7, 3) := dk_153 0 7 (dk_at dksX0_plug_0 8 rfl rfl)
theorem dX0_plug_11 : decode cX0_plug 11 = .ok (.lconst 1, 1) := dk_10 (dk_at dksX0_plug_0 11 rfl rfl)
theorem dX0_plug_12 : decode cX0_plug 12 = .ok (.goto 4, 3) := dk_167 0 4 (dk_at dksX0_plug_0 12 rfl rfl)
theorem dX0_plug_15 : decode cX0_plug 15 = .ok (.lconst 0, 1) := dk_9 (dk_at dksX0_plug_0 15 rfl rfl)
theorem dX0_plug_16 : decode cX0_plug 16 = .ok (.lastore, 1) := dk_80 (dk_at dksX0_plug_0 16 rfl rfl)
theorem dX0_plug_17 : decode cX0_plug 17 = .ok (.goto 7, 3) := dk_167 0 7 (dk_at dksX0_plug_0 17 rfl rfl)
theorem dX0_plug_20 : decode cX0_plug 20 = .ok (.astore 4, 2) := dk_58 4 (dk_at dksX0_plug_0 20 rfl rfl)
theorem dX0_plug_22 : decode cX0_plug 22 = .ok (.iconst 1, 1) := dk_4 (dk_at dksX0_plug_0 22 rfl rfl)
theorem dX0_plug_23 : decode cX0_plug 23 = .ok (.ireturn, 1) := dk_172 (dk_at dksX0_plug_0 23 rfl rfl)
theorem dX0_plug_24 : decode cX0_plug 24 = .ok (.iconst 0, 1) := dk_3 (dk_at dksX0_plug_1 0 rfl rfl)
theorem dX0_plug_25 : decode cX0_plug 25 = .ok (.ireturn, 1) := dk_172 (dk_at dksX0_plug_1 1 rfl rfl)
abbrev cX0_pour : ByteArray := method_8_code
def yX0_pour : MethodName := ⟨RX0, "pour", "(LDripCups;II[J)I"⟩
def dkwX0_pour_0 : List UInt8 := [45, 3, 42, 27, 28, 182, 0, 32, 133, 80, 167, 0, 7, 58, 4, 4, 172, 3, 172]
abbrev dktX0_pour_0 : List UInt8 := dkwX0_pour_0 ++ []
theorem dksX0_pour_0 : cX0_pour.data.toList.drop 0 = dktX0_pour_0 := by decide +kernel
theorem dX0_pour_0 : decode cX0_pour 0 = .ok (.aload_n 3, 1) := dk_45 (dk_at dksX0_pour_0 0 rfl rfl)
theorem dX0_pour_1 : decode cX0_pour 1 = .ok (.iconst 0, 1) := dk_3 (dk_at dksX0_pour_0 1 rfl rfl)
theorem dX0_pour_2 : decode cX0_pour 2 = .ok (.aload_n 0, 1) := dk_42 (dk_at dksX0_pour_0 2 rfl rfl)
theorem dX0_pour_3 : decode cX0_pour 3 = .ok (.iload_n 1, 1) := dk_27 (dk_at dksX0_pour_0 3 rfl rfl)
theorem dX0_pour_4 : decode cX0_pour 4 = .ok (.iload_n 2, 1) := dk_28 (dk_at dksX0_pour_0 4 rfl rfl)
theorem dX0_pour_5 : decode cX0_pour 5 = .ok (.invokevirtual 32, 3) := dk_182 0 32 (dk_at dksX0_pour_0 5 rfl rfl)
theorem dX0_pour_8 : decode cX0_pour 8 = .ok (.i2l, 1) := dk_133 (dk_at dksX0_pour_0 8 rfl rfl)
theorem dX0_pour_9 : decode cX0_pour 9 = .ok (.lastore, 1) := dk_80 (dk_at dksX0_pour_0 9 rfl rfl)
theorem dX0_pour_10 : decode cX0_pour 10 = .ok (.goto 7, 3) := dk_167 0 7 (dk_at dksX0_pour_0 10 rfl rfl)
theorem dX0_pour_13 : decode cX0_pour 13 = .ok (.astore 4, 2) := dk_58 4 (dk_at dksX0_pour_0 13 rfl rfl)
theorem dX0_pour_15 : decode cX0_pour 15 = .ok (.iconst 1, 1) := dk_4 (dk_at dksX0_pour_0 15 rfl rfl)
theorem dX0_pour_16 : decode cX0_pour 16 = .ok (.ireturn, 1) := dk_172 (dk_at dksX0_pour_0 16 rfl rfl)
theorem dX0_pour_17 : decode cX0_pour 17 = .ok (.iconst 0, 1) := dk_3 (dk_at dksX0_pour_0 17 rfl rfl)
theorem dX0_pour_18 : decode cX0_pour 18 = .ok (.ireturn, 1) := dk_172 (dk_at dksX0_pour_0 18 rfl rfl)
abbrev cX0_crack : ByteArray := method_9_code
def yX0_crack : MethodName := ⟨RX0, "crack", "(LDripCups;II[J)I"⟩
def dkwX0_crack_0 : List UInt8 := [45, 3, 42, 27, 28, 182, 0, 35, 133, 80, 167, 0, 7, 58, 4, 4, 172, 3, 172]
abbrev dktX0_crack_0 : List UInt8 := dkwX0_crack_0 ++ []
theorem dksX0_crack_0 : cX0_crack.data.toList.drop 0 = dktX0_crack_0 := by decide +kernel
theorem dX0_crack_0 : decode cX0_crack 0 = .ok (.aload_n 3, 1) := dk_45 (dk_at dksX0_crack_0 0 rfl rfl)
theorem dX0_crack_1 : decode cX0_crack 1 = .ok (.iconst 0, 1) := dk_3 (dk_at dksX0_crack_0 1 rfl rfl)
theorem dX0_crack_2 : decode cX0_crack 2 = .ok (.aload_n 0, 1) := dk_42 (dk_at dksX0_crack_0 2 rfl rfl)
theorem dX0_crack_3 : decode cX0_crack 3 = .ok (.iload_n 1, 1) := dk_27 (dk_at dksX0_crack_0 3 rfl rfl)
theorem dX0_crack_4 : decode cX0_crack 4 = .ok (.iload_n 2, 1) := dk_28 (dk_at dksX0_crack_0 4 rfl rfl)
theorem dX0_crack_5 : decode cX0_crack 5 = .ok (.invokevirtual 35, 3) := dk_182 0 35 (dk_at dksX0_crack_0 5 rfl rfl)
theorem dX0_crack_8 : decode cX0_crack 8 = .ok (.i2l, 1) := dk_133 (dk_at dksX0_crack_0 8 rfl rfl)
theorem dX0_crack_9 : decode cX0_crack 9 = .ok (.lastore, 1) := dk_80 (dk_at dksX0_crack_0 9 rfl rfl)
theorem dX0_crack_10 : decode cX0_crack 10 = .ok (.goto 7, 3) := dk_167 0 7 (dk_at dksX0_crack_0 10 rfl rfl)
theorem dX0_crack_13 : decode cX0_crack 13 = .ok (.astore 4, 2) := dk_58 4 (dk_at dksX0_crack_0 13 rfl rfl)
theorem dX0_crack_15 : decode cX0_crack 15 = .ok (.iconst 1, 1) := dk_4 (dk_at dksX0_crack_0 15 rfl rfl)
theorem dX0_crack_16 : decode cX0_crack 16 = .ok (.ireturn, 1) := dk_172 (dk_at dksX0_crack_0 16 rfl rfl)
theorem dX0_crack_17 : decode cX0_crack 17 = .ok (.iconst 0, 1) := dk_3 (dk_at dksX0_crack_0 17 rfl rfl)
theorem dX0_crack_18 : decode cX0_crack 18 = .ok (.ireturn, 1) := dk_172 (dk_at dksX0_crack_0 18 rfl rfl)
abbrev cX0_then : ByteArray := method_10_code
def yX0_then : MethodName := ⟨RX0, "then", "(LDripCups;III[J)I"⟩
def dkwX0_then_1 : List UInt8 := [172]
abbrev dktX0_then_1 : List UInt8 := dkwX0_then_1 ++ []
def dkwX0_then_0 : List UInt8 := [25, 4, 3, 42, 27, 28, 29, 182, 0, 38, 133, 80, 167, 0, 11, 58, 5, 4, 172, 58, 5, 5, 172, 3]
abbrev dktX0_then_0 : List UInt8 := dkwX0_then_0 ++ dktX0_then_1
theorem dksX0_then_0 : cX0_then.data.toList.drop 0 = dktX0_then_0 := by decide +kernel
theorem dksX0_then_1 : cX0_then.data.toList.drop 24 = dktX0_then_1 := dk_seg dksX0_then_0 24 rfl rfl
theorem dX0_then_0 : decode cX0_then 0 = .ok (.aload 4, 2) := dk_25 4 (dk_at dksX0_then_0 0 rfl rfl)
theorem dX0_then_2 : decode cX0_then 2 = .ok (.iconst 0, 1) := dk_3 (dk_at dksX0_then_0 2 rfl rfl)
theorem dX0_then_3 : decode cX0_then 3 = .ok (.aload_n 0, 1) := dk_42 (dk_at dksX0_then_0 3 rfl rfl)
theorem dX0_then_4 : decode cX0_then 4 = .ok (.iload_n 1, 1) := dk_27 (dk_at dksX0_then_0 4 rfl rfl)
theorem dX0_then_5 : decode cX0_then 5 = .ok (.iload_n 2, 1) := dk_28 (dk_at dksX0_then_0 5 rfl rfl)
theorem dX0_then_6 : decode cX0_then 6 = .ok (.iload_n 3, 1) := dk_29 (dk_at dksX0_then_0 6 rfl rfl)
theorem dX0_then_7 : decode cX0_then 7 = .ok (.invokevirtual 38, 3) := dk_182 0 38 (dk_at dksX0_then_0 7 rfl rfl)
theorem dX0_then_10 : decode cX0_then 10 = .ok (.i2l, 1) := dk_133 (dk_at dksX0_then_0 10 rfl rfl)
theorem dX0_then_11 : decode cX0_then 11 = .ok (.lastore, 1) := dk_80 (dk_at dksX0_then_0 11 rfl rfl)
theorem dX0_then_12 : decode cX0_then 12 = .ok (.goto 11, 3) := dk_167 0 11 (dk_at dksX0_then_0 12 rfl rfl)
theorem dX0_then_15 : decode cX0_then 15 = .ok (.astore 5, 2) := dk_58 5 (dk_at dksX0_then_0 15 rfl rfl)
theorem dX0_then_17 : decode cX0_then 17 = .ok (.iconst 1, 1) := dk_4 (dk_at dksX0_then_0 17 rfl rfl)
theorem dX0_then_18 : decode cX0_then 18 = .ok (.ireturn, 1) := dk_172 (dk_at dksX0_then_0 18 rfl rfl)
theorem dX0_then_19 : decode cX0_then 19 = .ok (.astore 5, 2) := dk_58 5 (dk_at dksX0_then_0 19 rfl rfl)
theorem dX0_then_21 : decode cX0_then 21 = .ok (.iconst 2, 1) := dk_5 (dk_at dksX0_then_0 21 rfl rfl)
theorem dX0_then_22 : decode cX0_then 22 = .ok (.ireturn, 1) := dk_172 (dk_at dksX0_then_0 22 rfl rfl)
theorem dX0_then_23 : decode cX0_then 23 = .ok (.iconst 0, 1) := dk_3 (dk_at dksX0_then_0 23 rfl rfl)
theorem dX0_then_24 : decode cX0_then 24 = .ok (.ireturn, 1) := dk_172 (dk_at dksX0_then_1 0 rfl rfl)
abbrev cX0_tipping : ByteArray := method_11_code
def yX0_tipping : MethodName := ⟨RX0, "tipping", "(LDripCups;I[J)I"⟩
def dkwX0_tipping_0 : List UInt8 := [44, 3, 42, 27, 182, 0, 42, 133, 80, 167, 0, 6, 78, 4, 172, 3, 172]
abbrev dktX0_tipping_0 : List UInt8 := dkwX0_tipping_0 ++ []
theorem dksX0_tipping_0 : cX0_tipping.data.toList.drop 0 = dktX0_tipping_0 := by decide +kernel
theorem dX0_tipping_0 : decode cX0_tipping 0 = .ok (.aload_n 2, 1) := dk_44 (dk_at dksX0_tipping_0 0 rfl rfl)
theorem dX0_tipping_1 : decode cX0_tipping 1 = .ok (.iconst 0, 1) := dk_3 (dk_at dksX0_tipping_0 1 rfl rfl)
theorem dX0_tipping_2 : decode cX0_tipping 2 = .ok (.aload_n 0, 1) := dk_42 (dk_at dksX0_tipping_0 2 rfl rfl)
theorem dX0_tipping_3 : decode cX0_tipping 3 = .ok (.iload_n 1, 1) := dk_27 (dk_at dksX0_tipping_0 3 rfl rfl)
theorem dX0_tipping_4 : decode cX0_tipping 4 = .ok (.invokevirtual 42, 3) := dk_182 0 42 (dk_at dksX0_tipping_0 4 rfl rfl)
theorem dX0_tipping_7 : decode cX0_tipping 7 = .ok (.i2l, 1) := dk_133 (dk_at dksX0_tipping_0 7 rfl rfl)
theorem dX0_tipping_8 : decode cX0_tipping 8 = .ok (.lastore, 1) := dk_80 (dk_at dksX0_tipping_0 8 rfl rfl)
theorem dX0_tipping_9 : decode cX0_tipping 9 = .ok (.goto 6, 3) := dk_167 0 6 (dk_at dksX0_tipping_0 9 rfl rfl)
theorem dX0_tipping_12 : decode cX0_tipping 12 = .ok (.astore_n 3, 1) := dk_78 (dk_at dksX0_tipping_0 12 rfl rfl)
theorem dX0_tipping_13 : decode cX0_tipping 13 = .ok (.iconst 1, 1) := dk_4 (dk_at dksX0_tipping_0 13 rfl rfl)
theorem dX0_tipping_14 : decode cX0_tipping 14 = .ok (.ireturn, 1) := dk_172 (dk_at dksX0_tipping_0 14 rfl rfl)
theorem dX0_tipping_15 : decode cX0_tipping 15 = .ok (.iconst 0, 1) := dk_3 (dk_at dksX0_tipping_0 15 rfl rfl)
theorem dX0_tipping_16 : decode cX0_tipping 16 = .ok (.ireturn, 1) := dk_172 (dk_at dksX0_tipping_0 16 rfl rfl)
abbrev cX0_next : ByteArray := method_12_code
def yX0_next : MethodName := ⟨RX0, "next", "(LDripCups;I[J)I"⟩
def dkwX0_next_0 : List UInt8 := [44, 3, 42, 27, 182, 0, 45, 133, 80, 167, 0, 6, 78, 4, 172, 3, 172]
abbrev dktX0_next_0 : List UInt8 := dkwX0_next_0 ++ []
theorem dksX0_next_0 : cX0_next.data.toList.drop 0 = dktX0_next_0 := by decide +kernel
theorem dX0_next_0 : decode cX0_next 0 = .ok (.aload_n 2, 1) := dk_44 (dk_at dksX0_next_0 0 rfl rfl)
theorem dX0_next_1 : decode cX0_next 1 = .ok (.iconst 0, 1) := dk_3 (dk_at dksX0_next_0 1 rfl rfl)
theorem dX0_next_2 : decode cX0_next 2 = .ok (.aload_n 0, 1) := dk_42 (dk_at dksX0_next_0 2 rfl rfl)
theorem dX0_next_3 : decode cX0_next 3 = .ok (.iload_n 1, 1) := dk_27 (dk_at dksX0_next_0 3 rfl rfl)
theorem dX0_next_4 : decode cX0_next 4 = .ok (.invokevirtual 45, 3) := dk_182 0 45 (dk_at dksX0_next_0 4 rfl rfl)
theorem dX0_next_7 : decode cX0_next 7 = .ok (.i2l, 1) := dk_133 (dk_at dksX0_next_0 7 rfl rfl)
theorem dX0_next_8 : decode cX0_next 8 = .ok (.lastore, 1) := dk_80 (dk_at dksX0_next_0 8 rfl rfl)
theorem dX0_next_9 : decode cX0_next 9 = .ok (.goto 6, 3) := dk_167 0 6 (dk_at dksX0_next_0 9 rfl rfl)
theorem dX0_next_12 : decode cX0_next 12 = .ok (.astore_n 3, 1) := dk_78 (dk_at dksX0_next_0 12 rfl rfl)
theorem dX0_next_13 : decode cX0_next 13 = .ok (.iconst 1, 1) := dk_4 (dk_at dksX0_next_0 13 rfl rfl)
theorem dX0_next_14 : decode cX0_next 14 = .ok (.ireturn, 1) := dk_172 (dk_at dksX0_next_0 14 rfl rfl)
theorem dX0_next_15 : decode cX0_next 15 = .ok (.iconst 0, 1) := dk_3 (dk_at dksX0_next_0 15 rfl rfl)
theorem dX0_next_16 : decode cX0_next 16 = .ok (.ireturn, 1) := dk_172 (dk_at dksX0_next_0 16 rfl rfl)
abbrev cX0_together : ByteArray := method_13_code
def yX0_together : MethodName := ⟨RX0, "together", "(LDripCups;I[J)I"⟩
def dkwX0_together_0 : List UInt8 := [44, 3, 42, 27, 182, 0, 48, 133, 80, 167, 0, 6, 78, 4, 172, 3, 172]
abbrev dktX0_together_0 : List UInt8 := dkwX0_together_0 ++ []
theorem dksX0_together_0 : cX0_together.data.toList.drop 0 = dktX0_together_0 := by decide +kernel
theorem dX0_together_0 : decode cX0_together 0 = .ok (.aload_n 2, 1) := dk_44 (dk_at dksX0_together_0 0 rfl rfl)
theorem dX0_together_1 : decode cX0_together 1 = .ok (.iconst 0, 1) := dk_3 (dk_at dksX0_together_0 1 rfl rfl)
theorem dX0_together_2 : decode cX0_together 2 = .ok (.aload_n 0, 1) := dk_42 (dk_at dksX0_together_0 2 rfl rfl)
theorem dX0_together_3 : decode cX0_together 3 = .ok (.iload_n 1, 1) := dk_27 (dk_at dksX0_together_0 3 rfl rfl)
theorem dX0_together_4 : decode cX0_together 4 = .ok (.invokevirtual 48, 3) := dk_182 0 48 (dk_at dksX0_together_0 4 rfl rfl)
theorem dX0_together_7 : decode cX0_together 7 = .ok (.i2l, 1) := dk_133 (dk_at dksX0_together_0 7 rfl rfl)
theorem dX0_together_8 : decode cX0_together 8 = .ok (.lastore, 1) := dk_80 (dk_at dksX0_together_0 8 rfl rfl)
theorem dX0_together_9 : decode cX0_together 9 = .ok (.goto 6, 3) := dk_167 0 6 (dk_at dksX0_together_0 9 rfl rfl)
theorem dX0_together_12 : decode cX0_together 12 = .ok (.astore_n 3, 1) := dk_78 (dk_at dksX0_together_0 12 rfl rfl)
theorem dX0_together_13 : decode cX0_together 13 = .ok (.iconst 1, 1) := dk_4 (dk_at dksX0_together_0 13 rfl rfl)
theorem dX0_together_14 : decode cX0_together 14 = .ok (.ireturn, 1) := dk_172 (dk_at dksX0_together_0 14 rfl rfl)
theorem dX0_together_15 : decode cX0_together 15 = .ok (.iconst 0, 1) := dk_3 (dk_at dksX0_together_0 15 rfl rfl)
theorem dX0_together_16 : decode cX0_together 16 = .ok (.ireturn, 1) := dk_172 (dk_at dksX0_together_0 16 rfl rfl)
abbrev cX0_sound : ByteArray := method_14_code
def yX0_sound : MethodName := ⟨RX0, "sound", "(LDripCups;II[J)I"⟩
def dkwX0_sound_0 : List UInt8 := [45, 3, 42, 27, 28, 182, 0, 51, 133, 80, 167, 0, 11, 58, 4, 4, 172, 58, 4, 5, 172, 3, 172]
abbrev dktX0_sound_0 : List UInt8 := dkwX0_sound_0 ++ []
theorem dksX0_sound_0 : cX0_sound.data.toList.drop 0 = dktX0_sound_0 := by decide +kernel
theorem dX0_sound_0 : decode cX0_sound 0 = .ok (.aload_n 3, 1) := dk_45 (dk_at dksX0_sound_0 0 rfl rfl)
theorem dX0_sound_1 : decode cX0_sound 1 = .ok (.iconst 0, 1) := dk_3 (dk_at dksX0_sound_0 1 rfl rfl)
theorem dX0_sound_2 : decode cX0_sound 2 = .ok (.aload_n 0, 1) := dk_42 (dk_at dksX0_sound_0 2 rfl rfl)
theorem dX0_sound_3 : decode cX0_sound 3 = .ok (.iload_n 1, 1) := dk_27 (dk_at dksX0_sound_0 3 rfl rfl)
theorem dX0_sound_4 : decode cX0_sound 4 = .ok (.iload_n 2, 1) := dk_28 (dk_at dksX0_sound_0 4 rfl rfl)
theorem dX0_sound_5 : decode cX0_sound 5 = .ok (.invokevirtual 51, 3) := dk_182 0 51 (dk_at dksX0_sound_0 5 rfl rfl)
theorem dX0_sound_8 : decode cX0_sound 8 = .ok (.i2l, 1) := dk_133 (dk_at dksX0_sound_0 8 rfl rfl)
theorem dX0_sound_9 : decode cX0_sound 9 = .ok (.lastore, 1) := dk_80 (dk_at dksX0_sound_0 9 rfl rfl)
theorem dX0_sound_10 : decode cX0_sound 10 = .ok (.goto 11, 3) := dk_167 0 11 (dk_at dksX0_sound_0 10 rfl rfl)
theorem dX0_sound_13 : decode cX0_sound 13 = .ok (.astore 4, 2) := dk_58 4 (dk_at dksX0_sound_0 13 rfl rfl)
theorem dX0_sound_15 : decode cX0_sound 15 = .ok (.iconst 1, 1) := dk_4 (dk_at dksX0_sound_0 15 rfl rfl)
theorem dX0_sound_16 : decode cX0_sound 16 = .ok (.ireturn, 1) := dk_172 (dk_at dksX0_sound_0 16 rfl rfl)
theorem dX0_sound_17 : decode cX0_sound 17 = .ok (.astore 4, 2) := dk_58 4 (dk_at dksX0_sound_0 17 rfl rfl)
theorem dX0_sound_19 : decode cX0_sound 19 = .ok (.iconst 2, 1) := dk_5 (dk_at dksX0_sound_0 19 rfl rfl)
theorem dX0_sound_20 : decode cX0_sound 20 = .ok (.ireturn, 1) := dk_172 (dk_at dksX0_sound_0 20 rfl rfl)
theorem dX0_sound_21 : decode cX0_sound 21 = .ok (.iconst 0, 1) := dk_3 (dk_at dksX0_sound_0 21 rfl rfl)
theorem dX0_sound_22 : decode cX0_sound 22 = .ok (.ireturn, 1) := dk_172 (dk_at dksX0_sound_0 22 rfl rfl)
abbrev cX0_fallen : ByteArray := method_15_code
def yX0_fallen : MethodName := ⟨RX0, "fallen", "(LDripCups;II[J)I"⟩
def dkwX0_fallen_0 : List UInt8 := [45, 3, 42, 27, 28, 182, 0, 54, 133, 80, 167, 0, 11, 58, 4, 4, 172, 58, 4, 5, 172, 3, 172]
abbrev dktX0_fallen_0 : List UInt8 := dkwX0_fallen_0 ++ []
theorem dksX0_fallen_0 : cX0_fallen.data.toList.drop 0 = dktX0_fallen_0 := by decide +kernel
theorem dX0_fallen_0 : decode cX0_fallen 0 = .ok (.aload_n 3, 1) := dk_45 (dk_at dksX0_fallen_0 0 rfl rfl)
theorem dX0_fallen_1 : decode cX0_fallen 1 = .ok (.iconst 0, 1) := dk_3 (dk_at dksX0_fallen_0 1 rfl rfl)
theorem dX0_fallen_2 : decode cX0_fallen 2 = .ok (.aload_n 0, 1) := dk_42 (dk_at dksX0_fallen_0 2 rfl rfl)
theorem dX0_fallen_3 : decode cX0_fallen 3 = .ok (.iload_n 1, 1) := dk_27 (dk_at dksX0_fallen_0 3 rfl rfl)
theorem dX0_fallen_4 : decode cX0_fallen 4 = .ok (.iload_n 2, 1) := dk_28 (dk_at dksX0_fallen_0 4 rfl rfl)
theorem dX0_fallen_5 : decode cX0_fallen 5 = .ok (.invokevirtual 54, 3) := dk_182 0 54 (dk_at dksX0_fallen_0 5 rfl rfl)
theorem dX0_fallen_8 : decode cX0_fallen 8 = .ok (.i2l, 1) := dk_133 (dk_at dksX0_fallen_0 8 rfl rfl)
theorem dX0_fallen_9 : decode cX0_fallen 9 = .ok (.lastore, 1) := dk_80 (dk_at dksX0_fallen_0 9 rfl rfl)
theorem dX0_fallen_10 : decode cX0_fallen 10 = .ok (.goto 11, 3) := dk_167 0 11 (dk_at dksX0_fallen_0 10 rfl rfl)
theorem dX0_fallen_13 : decode cX0_fallen 13 = .ok (.astore 4, 2) := dk_58 4 (dk_at dksX0_fallen_0 13 rfl rfl)
theorem dX0_fallen_15 : decode cX0_fallen 15 = .ok (.iconst 1, 1) := dk_4 (dk_at dksX0_fallen_0 15 rfl rfl)
theorem dX0_fallen_16 : decode cX0_fallen 16 = .ok (.ireturn, 1) := dk_172 (dk_at dksX0_fallen_0 16 rfl rfl)
theorem dX0_fallen_17 : decode cX0_fallen 17 = .ok (.astore 4, 2) := dk_58 4 (dk_at dksX0_fallen_0 17 rfl rfl)
theorem dX0_fallen_19 : decode cX0_fallen 19 = .ok (.iconst 2, 1) := dk_5 (dk_at dksX0_fallen_0 19 rfl rfl)
theorem dX0_fallen_20 : decode cX0_fallen 20 = .ok (.ireturn, 1) := dk_172 (dk_at dksX0_fallen_0 20 rfl rfl)
theorem dX0_fallen_21 : decode cX0_fallen 21 = .ok (.iconst 0, 1) := dk_3 (dk_at dksX0_fallen_0 21 rfl rfl)
theorem dX0_fallen_22 : decode cX0_fallen 22 = .ok (.ireturn, 1) := dk_172 (dk_at dksX0_fallen_0 22 rfl rfl)
abbrev cX0_nth : ByteArray := method_16_code
def yX0_nth : MethodName := ⟨RX0, "nth", "(LDripCups;II[J)I"⟩
def dkwX0_nth_0 : List UInt8 := [45, 3, 42, 27, 28, 182, 0, 57, 133, 80, 167, 0, 11, 58, 4, 4, 172, 58, 4, 5, 172, 3, 172]
abbrev dktX0_nth_0 : List UInt8 := dkwX0_nth_0 ++ []
theorem dksX0_nth_0 : cX0_nth.data.toList.drop 0 = dktX0_nth_0 := by decide +kernel
theorem dX0_nth_0 : decode cX0_nth 0 = .ok (.aload_n 3, 1) := dk_45 (dk_at dksX0_nth_0 0 rfl rfl)
theorem dX0_nth_1 : decode cX0_nth 1 = .ok (.iconst 0, 1) := dk_3 (dk_at dksX0_nth_0 1 rfl rfl)
theorem dX0_nth_2 : decode cX0_nth 2 = .ok (.aload_n 0, 1) := dk_42 (dk_at dksX0_nth_0 2 rfl rfl)
theorem dX0_nth_3 : decode cX0_nth 3 = .ok (.iload_n 1, 1) := dk_27 (dk_at dksX0_nth_0 3 rfl rfl)
theorem dX0_nth_4 : decode cX0_nth 4 = .ok (.iload_n 2, 1) := dk_28 (dk_at dksX0_nth_0 4 rfl rfl)
theorem dX0_nth_5 : decode cX0_nth 5 = .ok (.invokevirtual 57, 3) := dk_182 0 57 (dk_at dksX0_nth_0 5 rfl rfl)
theorem dX0_nth_8 : decode cX0_nth 8 = .ok (.i2l, 1) := dk_133 (dk_at dksX0_nth_0 8 rfl rfl)
theorem dX0_nth_9 : decode cX0_nth 9 = .ok (.lastore, 1) := dk_80 (dk_at dksX0_nth_0 9 rfl rfl)
theorem dX0_nth_10 : decode cX0_nth 10 = .ok (.goto 11, 3) := dk_167 0 11 (dk_at dksX0_nth_0 10 rfl rfl)
theorem dX0_nth_13 : decode cX0_nth 13 = .ok (.astore 4, 2) := dk_58 4 (dk_at dksX0_nth_0 13 rfl rfl)
theorem dX0_nth_15 : decode cX0_nth 15 = .ok (.iconst 1, 1) := dk_4 (dk_at dksX0_nth_0 15 rfl rfl)
theorem dX0_nth_16 : decode cX0_nth 16 = .ok (.ireturn, 1) := dk_172 (dk_at dksX0_nth_0 16 rfl rfl)
theorem dX0_nth_17 : decode cX0_nth 17 = .ok (.astore 4, 2) := dk_58 4 (dk_at dksX0_nth_0 17 rfl rfl)
theorem dX0_nth_19 : decode cX0_nth 19 = .ok (.iconst 2, 1) := dk_5 (dk_at dksX0_nth_0 19 rfl rfl)
theorem dX0_nth_20 : decode cX0_nth 20 = .ok (.ireturn, 1) := dk_172 (dk_at dksX0_nth_0 20 rfl rfl)
theorem dX0_nth_21 : decode cX0_nth 21 = .ok (.iconst 0, 1) := dk_3 (dk_at dksX0_nth_0 21 rfl rfl)
theorem dX0_nth_22 : decode cX0_nth 22 = .ok (.ireturn, 1) := dk_172 (dk_at dksX0_nth_0 22 rfl rfl)
abbrev cX0_meeting : ByteArray := method_17_code
def yX0_meeting : MethodName := ⟨RX0, "meeting", "(LDripCups;I[J)I"⟩
def dkwX0_meeting_0 : List UInt8 := [44, 3, 42, 27, 182, 0, 60, 133, 80, 167, 0, 6, 78, 4, 172, 3, 172]
abbrev dktX0_meeting_0 : List UInt8 := dkwX0_meeting_0 ++ []
theorem dksX0_meeting_0 : cX0_meeting.data.toList.drop 0 = dktX0_meeting_0 := by decide +kernel
theorem dX0_meeting_0 : decode cX0_meeting 0 = .ok (.aload_n 2, 1) := dk_44 (dk_at dksX0_meeting_0 0 rfl rfl)
theorem dX0_meeting_1 : decode cX0_meeting 1 = .ok (.iconst 0, 1) := dk_3 (dk_at dksX0_meeting_0 1 rfl rfl)
theorem dX0_meeting_2 : decode cX0_meeting 2 = .ok (.aload_n 0, 1) := dk_42 (dk_at dksX0_meeting_0 2 rfl rfl)
theorem dX0_meeting_3 : decode cX0_meeting 3 = .ok (.iload_n 1, 1) := dk_27 (dk_at dksX0_meeting_0 3 rfl rfl)
theorem dX0_meeting_4 : decode cX0_meeting 4 = .ok (.invokevirtual 60, 3) := dk_182 0 60 (dk_at dksX0_meeting_0 4 rfl rfl)
theorem dX0_meeting_7 : decode cX0_meeting 7 = .ok (.i2l, 1) := dk_133 (dk_at dksX0_meeting_0 7 rfl rfl)
theorem dX0_meeting_8 : decode cX0_meeting 8 = .ok (.lastore, 1) := dk_80 (dk_at dksX0_meeting_0 8 rfl rfl)
theorem dX0_meeting_9 : decode cX0_meeting 9 = .ok (.goto 6, 3) := dk_167 0 6 (dk_at dksX0_meeting_0 9 rfl rfl)
theorem dX0_meeting_12 : decode cX0_meeting 12 = .ok (.astore_n 3, 1) := dk_78 (dk_at dksX0_meeting_0 12 rfl rfl)
theorem dX0_meeting_13 : decode cX0_meeting 13 = .ok (.iconst 1, 1) := dk_4 (dk_at dksX0_meeting_0 13 rfl rfl)
theorem dX0_meeting_14 : decode cX0_meeting 14 = .ok (.ireturn, 1) := dk_172 (dk_at dksX0_meeting_0 14 rfl rfl)
theorem dX0_meeting_15 : decode cX0_meeting 15 = .ok (.iconst 0, 1) := dk_3 (dk_at dksX0_meeting_0 15 rfl rfl)
theorem dX0_meeting_16 : decode cX0_meeting 16 = .ok (.ireturn, 1) := dk_172 (dk_at dksX0_meeting_0 16 rfl rfl)
abbrev cX0_flow : ByteArray := method_18_code
def yX0_flow : MethodName := ⟨RX0, "flow", "(LDripCups;II[J)I"⟩
def dkwX0_flow_0 : List UInt8 := [45, 3, 42, 27, 28, 182, 0, 63, 133, 80, 167, 0, 11, 58, 4, 4, 172, 58, 4, 5, 172, 3, 172]
abbrev dktX0_flow_0 : List UInt8 := dkwX0_flow_0 ++ []
theorem dksX0_flow_0 : cX0_flow.data.toList.drop 0 = dktX0_flow_0 := by decide +kernel
theorem dX0_flow_0 : decode cX0_flow 0 = .ok (.aload_n 3, 1) := dk_45 (dk_at dksX0_flow_0 0 rfl rfl)
theorem dX0_flow_1 : decode cX0_flow 1 = .ok (.iconst 0, 1) := dk_3 (dk_at dksX0_flow_0 1 rfl rfl)
theorem dX0_flow_2 : decode cX0_flow 2 = .ok (.aload_n 0, 1) := dk_42 (dk_at dksX0_flow_0 2 rfl rfl)
theorem dX0_flow_3 : decode cX0_flow 3 = .ok (.iload_n 1, 1) := dk_27 (dk_at dksX0_flow_0 3 rfl rfl)
theorem dX0_flow_4 : decode cX0_flow 4 = .ok (.iload_n 2, 1) := dk_28 (dk_at dksX0_flow_0 4 rfl rfl)
theorem dX0_flow_5 : decode cX0_flow 5 = .ok (.invokevirtual 63, 3) := dk_182 0 63 (dk_at dksX0_flow_0 5 rfl rfl)
theorem dX0_flow_8 : decode cX0_flow 8 = .ok (.i2l, 1) := dk_133 (dk_at dksX0_flow_0 8 rfl rfl)
theorem dX0_flow_9 : decode cX0_flow 9 = .ok (.lastore, 1) := dk_80 (dk_at dksX0_flow_0 9 rfl rfl)
theorem dX0_flow_10 : decode cX0_flow 10 = .ok (.goto 11, 3) := dk_167 0 11 (dk_at dksX0_flow_0 10 rfl rfl)
theorem dX0_flow_13 : decode cX0_flow 13 = .ok (.astore 4, 2) := dk_58 4 (dk_at dksX0_flow_0 13 rfl rfl)
theorem dX0_flow_15 : decode cX0_flow 15 = .ok (.iconst 1, 1) := dk_4 (dk_at dksX0_flow_0 15 rfl rfl)
theorem dX0_flow_16 : decode cX0_flow 16 = .ok (.ireturn, 1) := dk_172 (dk_at dksX0_flow_0 16 rfl rfl)
theorem dX0_flow_17 : decode cX0_flow 17 = .ok (.astore 4, 2) := dk_58 4 (dk_at dksX0_flow_0 17 rfl rfl)
theorem dX0_flow_19 : decode cX0_flow 19 = .ok (.iconst 2, 1) := dk_5 (dk_at dksX0_flow_0 19 rfl rfl)
theorem dX0_flow_20 : decode cX0_flow 20 = .ok (.ireturn, 1) := dk_172 (dk_at dksX0_flow_0 20 rfl rfl)
theorem dX0_flow_21 : decode cX0_flow 21 = .ok (.iconst 0, 1) := dk_3 (dk_at dksX0_flow_0 21 rfl rfl)
theorem dX0_flow_22 : decode cX0_flow 22 = .ok (.ireturn, 1) := dk_172 (dk_at dksX0_flow_0 22 rfl rfl)
abbrev cX0_tier : ByteArray := method_19_code
def yX0_tier : MethodName := ⟨RX0, "tier", "(LDripCups;II[J)I"⟩
def dkwX0_tier_0 : List UInt8 := [45, 3, 42, 27, 28, 182, 0, 66, 133, 80, 167, 0, 7, 58, 4, 4, 172, 3, 172]
abbrev dktX0_tier_0 : List UInt8 := dkwX0_tier_0 ++ []
theorem dksX0_tier_0 : cX0_tier.data.toList.drop 0 = dktX0_tier_0 := by decide +kernel
theorem dX0_tier_0 : decode cX0_tier 0 = .ok (.aload_n 3, 1) := dk_45 (dk_at dksX0_tier_0 0 rfl rfl)
theorem dX0_tier_1 : decode cX0_tier 1 = .ok (.iconst 0, 1) := dk_3 (dk_at dksX0_tier_0 1 rfl rfl)
theorem dX0_tier_2 : decode cX0_tier 2 = .ok (.aload_n 0, 1) := dk_42 (dk_at dksX0_tier_0 2 rfl rfl)
theorem dX0_tier_3 : decode cX0_tier 3 = .ok (.iload_n 1, 1) := dk_27 (dk_at dksX0_tier_0 3 rfl rfl)
theorem dX0_tier_4 : decode cX0_tier 4 = .ok (.iload_n 2, 1) := dk_28 (dk_at dksX0_tier_0 4 rfl rfl)
theorem dX0_tier_5 : decode cX0_tier 5 = .ok (.invokevirtual 66, 3) := dk_182 0 66 (dk_at dksX0_tier_0 5 rfl rfl)
theorem dX0_tier_8 : decode cX0_tier 8 = .ok (.i2l, 1) := dk_133 (dk_at dksX0_tier_0 8 rfl rfl)
theorem dX0_tier_9 : decode cX0_tier 9 = .ok (.lastore, 1) := dk_80 (dk_at dksX0_tier_0 9 rfl rfl)
theorem dX0_tier_10 : decode cX0_tier 10 = .ok (.goto 7, 3) := dk_167 0 7 (dk_at dksX0_tier_0 10 rfl rfl)
theorem dX0_tier_13 : decode cX0_tier 13 = .ok (.astore 4, 2) := dk_58 4 (dk_at dksX0_tier_0 13 rfl rfl)
theorem dX0_tier_15 : decode cX0_tier 15 = .ok (.iconst 1, 1) := dk_4 (dk_at dksX0_tier_0 15 rfl rfl)
theorem dX0_tier_16 : decode cX0_tier 16 = .ok (.ireturn, 1) := dk_172 (dk_at dksX0_tier_0 16 rfl rfl)
theorem dX0_tier_17 : decode cX0_tier 17 = .ok (.iconst 0, 1) := dk_3 (dk_at dksX0_tier_0 17 rfl rfl)
theorem dX0_tier_18 : decode cX0_tier 18 = .ok (.ireturn, 1) := dk_172 (dk_at dksX0_tier_0 18 rfl rfl)
abbrev cX0_toCrack : ByteArray := method_20_code
def yX0_toCrack : MethodName := ⟨RX0, "toCrack", "(LDripCups;IIII[J)I"⟩
def dkwX0_toCrack_1 : List UInt8 := [172, 3, 172]
abbrev dktX0_toCrack_1 : List UInt8 := dkwX0_toCrack_1 ++ []
def dkwX0_toCrack_0 : List UInt8 := [25, 5, 3, 42, 27, 28, 29, 21, 4, 182, 0, 69, 133, 80, 167, 0, 11, 58, 6, 4, 172, 58, 6, 5]
abbrev dktX0_toCrack_0 : List UInt8 := dkwX0_toCrack_0 ++ dktX0_toCrack_1
theorem dksX0_toCrack_0 : cX0_toCrack.data.toList.drop 0 = dktX0_toCrack_0 := by decide +kernel
theorem dksX0_toCrack_1 : cX0_toCrack.data.toList.drop 24 = dktX0_toCrack_1 := dk_seg dksX0_toCrack_0 24 rfl rfl
theorem dX0_toCrack_0 : decode cX0_toCrack 0 = .ok (.aload 5, 2) := dk_25 5 (dk_at dksX0_toCrack_0 0 rfl rfl)
theorem dX0_toCrack_2 : decode cX0_toCrack 2 = .ok (.iconst 0, 1) := dk_3 (dk_at dksX0_toCrack_0 2 rfl rfl)
theorem dX0_toCrack_3 : decode cX0_toCrack 3 = .ok (.aload_n 0, 1) := dk_42 (dk_at dksX0_toCrack_0 3 rfl rfl)
theorem dX0_toCrack_4 : decode cX0_toCrack 4 = .ok (.iload_n 1, 1) := dk_27 (dk_at dksX0_toCrack_0 4 rfl rfl)
theorem dX0_toCrack_5 : decode cX0_toCrack 5 = .ok (.iload_n 2, 1) := dk_28 (dk_at dksX0_toCrack_0 5 rfl rfl)
theorem dX0_toCrack_6 : decode cX0_toCrack 6 = .ok (.iload_n 3, 1) := dk_29 (dk_at dksX0_toCrack_0 6 rfl rfl)
theorem dX0_toCrack_7 : decode cX0_toCrack 7 = .ok (.iload 4, 2) := dk_21 4 (dk_at dksX0_toCrack_0 7 rfl rfl)
theorem dX0_toCrack_9 : decode cX0_toCrack 9 = .ok (.invokevirtual 69, 3) := dk_182 0 69 (dk_at dksX0_toCrack_0 9 rfl rfl)
theorem dX0_toCrack_12 : decode cX0_toCrack 12 = .ok (.i2l, 1) := dk_133 (dk_at dksX0_toCrack_0 12 rfl rfl)
theorem dX0_toCrack_13 : decode cX0_toCrack 13 = .ok (.lastore, 1) := dk_80 (dk_at dksX0_toCrack_0 13 rfl rfl)
theorem dX0_toCrack_14 : decode cX0_toCrack 14 = .ok (.goto 11, 3) := dk_167 0 11 (dk_at dksX0_toCrack_0 14 rfl rfl)
theorem dX0_toCrack_17 : decode cX0_toCrack 17 = .ok (.astore 6, 2) := dk_58 6 (dk_at dksX0_toCrack_0 17 rfl rfl)
theorem dX0_toCrack_19 : decode cX0_toCrack 19 = .ok (.iconst 1, 1) := dk_4 (dk_at dksX0_toCrack_0 19 rfl rfl)
theorem dX0_toCrack_20 : decode cX0_toCrack 20 = .ok (.ireturn, 1) := dk_172 (dk_at dksX0_toCrack_0 20 rfl rfl)
theorem dX0_toCrack_21 : decode cX0_toCrack 21 = .ok (.astore 6, 2) := dk_58 6 (dk_at dksX0_toCrack_0 21 rfl rfl)
theorem dX0_toCrack_23 : decode cX0_toCrack 23 = .ok (.iconst 2, 1) := dk_5 (dk_at dksX0_toCrack_0 23 rfl rfl)
theorem dX0_toCrack_24 : decode cX0_toCrack 24 = .ok (.ireturn, 1) := dk_172 (dk_at dksX0_toCrack_1 0 rfl rfl)
theorem dX0_toCrack_25 : decode cX0_toCrack 25 = .ok (.iconst 0, 1) := dk_3 (dk_at dksX0_toCrack_1 1 rfl rfl)
theorem dX0_toCrack_26 : decode cX0_toCrack 26 = .ok (.ireturn, 1) := dk_172 (dk_at dksX0_toCrack_1 2 rfl rfl)
abbrev cX0_office : ByteArray := method_21_code
def yX0_office : MethodName := ⟨RX0, "office", "(LDripCups;II[J)I"⟩
def dkwX0_office_0 : List UInt8 := [45, 3, 42, 27, 28, 182, 0, 73, 133, 80, 167, 0, 11, 58, 4, 4, 172, 58, 4, 5, 172, 3, 172]
abbrev dktX0_office_0 : List UInt8 := dkwX0_office_0 ++ []
theorem dksX0_office_0 : cX0_office.data.toList.drop 0 = dktX0_office_0 := by decide +kernel
theorem dX0_office_0 : decode cX0_office 0 = .ok (.aload_n 3, 1) := dk_45 (dk_at dksX0_office_0 0 rfl rfl)
theorem dX0_office_1 : decode cX0_office 1 = .ok (.iconst 0, 1) := dk_3 (dk_at dksX0_office_0 1 rfl rfl)
theorem dX0_office_2 : decode cX0_office 2 = .ok (.aload_n 0, 1) := dk_42 (dk_at dksX0_office_0 2 rfl rfl)
theorem dX0_office_3 : decode cX0_office 3 = .ok (.iload_n 1, 1) := dk_27 (dk_at dksX0_office_0 3 rfl rfl)
theorem dX0_office_4 : decode cX0_office 4 = .ok (.iload_n 2, 1) := dk_28 (dk_at dksX0_office_0 4 rfl rfl)
theorem dX0_office_5 : decode cX0_office 5 = .ok (.invokevirtual 73, 3) := dk_182 0 73 (dk_at dksX0_office_0 5 rfl rfl)
theorem dX0_office_8 : decode cX0_office 8 = .ok (.i2l, 1) := dk_133 (dk_at dksX0_office_0 8 rfl rfl)
theorem dX0_office_9 : decode cX0_office 9 = .ok (.lastore, 1) := dk_80 (dk_at dksX0_office_0 9 rfl rfl)
theorem dX0_office_10 : decode cX0_office 10 = .ok (.goto 11, 3) := dk_167 0 11 (dk_at dksX0_office_0 10 rfl rfl)
theorem dX0_office_13 : decode cX0_office 13 = .ok (.astore 4, 2) := dk_58 4 (dk_at dksX0_office_0 13 rfl rfl)
theorem dX0_office_15 : decode cX0_office 15 = .ok (.iconst 1, 1) := dk_4 (dk_at dksX0_office_0 15 rfl rfl)
theorem dX0_office_16 : decode cX0_office 16 = .ok (.ireturn, 1) := dk_172 (dk_at dksX0_office_0 16 rfl rfl)
theorem dX0_office_17 : decode cX0_office 17 = .ok (.astore 4, 2) := dk_58 4 (dk_at dksX0_office_0 17 rfl rfl)
theorem dX0_office_19 : decode cX0_office 19 = .ok (.iconst 2, 1) := dk_5 (dk_at dksX0_office_0 19 rfl rfl)
theorem dX0_office_20 : decode cX0_office 20 = .ok (.ireturn, 1) := dk_172 (dk_at dksX0_office_0 20 rfl rfl)
theorem dX0_office_21 : decode cX0_office 21 = .ok (.iconst 0, 1) := dk_3 (dk_at dksX0_office_0 21 rfl rfl)
theorem dX0_office_22 : decode cX0_office 22 = .ok (.ireturn, 1) := dk_172 (dk_at dksX0_office_0 22 rfl rfl)
abbrev cX0_hear : ByteArray := method_22_code
def yX0_hear : MethodName := ⟨RX0, "hear", "(LDripCups;IIZ[J)I"⟩
def dkwX0_hear_0 : List UInt8 := [25, 4, 3, 42, 27, 28, 29, 182, 0, 76, 133, 80, 167, 0, 7, 58, 5, 4, 172, 3, 172]
abbrev dktX0_hear_0 : List UInt8 := dkwX0_hear_0 ++ []
theorem dksX0_hear_0 : cX0_hear.data.toList.drop 0 = dktX0_hear_0 := by decide +kernel
theorem dX0_hear_0 : decode cX0_hear 0 = .ok (.aload 4, 2) := dk_25 4 (dk_at dksX0_hear_0 0 rfl rfl)
theorem dX0_hear_2 : decode cX0_hear 2 = .ok (.iconst 0, 1) := dk_3 (dk_at dksX0_hear_0 2 rfl rfl)
theorem dX0_hear_3 : decode cX0_hear 3 = .ok (.aload_n 0, 1) := dk_42 (dk_at dksX0_hear_0 3 rfl rfl)
theorem dX0_hear_4 : decode cX0_hear 4 = .ok (.iload_n 1, 1) := dk_27 (dk_at dksX0_hear_0 4 rfl rfl)
theorem dX0_hear_5 : decode cX0_hear 5 = .ok (.iload_n 2, 1) := dk_28 (dk_at dksX0_hear_0 5 rfl rfl)
theorem dX0_hear_6 : decode cX0_hear 6 = .ok (.iload_n 3, 1) := dk_29 (dk_at dksX0_hear_0 6 rfl rfl)
theorem dX0_hear_7 : decode cX0_hear 7 = .ok (.invokevirtual 76, 3) := dk_182 0 76 (dk_at dksX0_hear_0 7 rfl rfl)
theorem dX0_hear_10 : decode cX0_hear 10 = .ok (.i2l, 1) := dk_133 (dk_at dksX0_hear_0 10 rfl rfl)
theorem dX0_hear_11 : decode cX0_hear 11 = .ok (.lastore, 1) := dk_80 (dk_at dksX0_hear_0 11 rfl rfl)
theorem dX0_hear_12 : decode cX0_hear 12 = .ok (.goto 7, 3) := dk_167 0 7 (dk_at dksX0_hear_0 12 rfl rfl)
theorem dX0_hear_15 : decode cX0_hear 15 = .ok (.astore 5, 2) := dk_58 5 (dk_at dksX0_hear_0 15 rfl rfl)
theorem dX0_hear_17 : decode cX0_hear 17 = .ok (.iconst 1, 1) := dk_4 (dk_at dksX0_hear_0 17 rfl rfl)
theorem dX0_hear_18 : decode cX0_hear 18 = .ok (.ireturn, 1) := dk_172 (dk_at dksX0_hear_0 18 rfl rfl)
theorem dX0_hear_19 : decode cX0_hear 19 = .ok (.iconst 0, 1) := dk_3 (dk_at dksX0_hear_0 19 rfl rfl)
theorem dX0_hear_20 : decode cX0_hear 20 = .ok (.ireturn, 1) := dk_172 (dk_at dksX0_hear_0 20 rfl rfl)
abbrev cX0_led : ByteArray := method_23_code
def yX0_led : MethodName := ⟨RX0, "led", "(LDripCups;I[J)I"⟩
def dkwX0_led_0 : List UInt8 := [44, 3, 42, 27, 182, 0, 80, 133, 80, 167, 0, 6, 78, 4, 172, 3, 172]
abbrev dktX0_led_0 : List UInt8 := dkwX0_led_0 ++ []
theorem dksX0_led_0 : cX0_led.data.toList.drop 0 = dktX0_led_0 := by decide +kernel
theorem dX0_led_0 : decode cX0_led 0 = .ok (.aload_n 2, 1) := dk_44 (dk_at dksX0_led_0 0 rfl rfl)
theorem dX0_led_1 : decode cX0_led 1 = .ok (.iconst 0, 1) := dk_3 (dk_at dksX0_led_0 1 rfl rfl)
theorem dX0_led_2 : decode cX0_led 2 = .ok (.aload_n 0, 1) := dk_42 (dk_at dksX0_led_0 2 rfl rfl)
theorem dX0_led_3 : decode cX0_led 3 = .ok (.iload_n 1, 1) := dk_27 (dk_at dksX0_led_0 3 rfl rfl)
theorem dX0_led_4 : decode cX0_led 4 = .ok (.invokevirtual 80, 3) := dk_182 0 80 (dk_at dksX0_led_0 4 rfl rfl)
theorem dX0_led_7 : decode cX0_led 7 = .ok (.i2l, 1) := dk_133 (dk_at dksX0_led_0 7 rfl rfl)
theorem dX0_led_8 : decode cX0_led 8 = .ok (.lastore, 1) := dk_80 (dk_at dksX0_led_0 8 rfl rfl)
theorem dX0_led_9 : decode cX0_led 9 = .ok (.goto 6, 3) := dk_167 0 6 (dk_at dksX0_led_0 9 rfl rfl)
theorem dX0_led_12 : decode cX0_led 12 = .ok (.astore_n 3, 1) := dk_78 (dk_at dksX0_led_0 12 rfl rfl)
theorem dX0_led_13 : decode cX0_led 13 = .ok (.iconst 1, 1) := dk_4 (dk_at dksX0_led_0 13 rfl rfl)
theorem dX0_led_14 : decode cX0_led 14 = .ok (.ireturn, 1) := dk_172 (dk_at dksX0_led_0 14 rfl rfl)
theorem dX0_led_15 : decode cX0_led 15 = .ok (.iconst 0, 1) := dk_3 (dk_at dksX0_led_0 15 rfl rfl)
theorem dX0_led_16 : decode cX0_led 16 = .ok (.ireturn, 1) := dk_172 (dk_at dksX0_led_0 16 rfl rfl)
abbrev cX0_listen : ByteArray := method_24_code
def yX0_listen : MethodName := ⟨RX0, "listen", "(LDripCups;I[J)I"⟩
def dkwX0_listen_0 : List UInt8 := [44, 3, 42, 27, 182, 0, 83, 133, 80, 167, 0, 6, 78, 4, 172, 3, 172]
abbrev dktX0_listen_0 : List UInt8 := dkwX0_listen_0 ++ []
theorem dksX0_listen_0 : cX0_listen.data.toList.drop 0 = dktX0_listen_0 := by decide +kernel
theorem dX0_listen_0 : decode cX0_listen 0 = .ok (.aload_n 2, 1) := dk_44 (dk_at dksX0_listen_0 0 rfl rfl)
theorem dX0_listen_1 : decode cX0_listen 1 = .ok (.iconst 0, 1) := dk_3 (dk_at dksX0_listen_0 1 rfl rfl)
theorem dX0_listen_2 : decode cX0_listen 2 = .ok (.aload_n 0, 1) := dk_42 (dk_at dksX0_listen_0 2 rfl rfl)
theorem dX0_listen_3 : decode cX0_listen 3 = .ok (.iload_n 1, 1) := dk_27 (dk_at dksX0_listen_0 3 rfl rfl)
theorem dX0_listen_4 : decode cX0_listen 4 = .ok (.invokevirtual 83, 3) := dk_182 0 83 (dk_at dksX0_listen_0 4 rfl rfl)
theorem dX0_listen_7 : decode cX0_listen 7 = .ok (.i2l, 1) := dk_133 (dk_at dksX0_listen_0 7 rfl rfl)
theorem dX0_listen_8 : decode cX0_listen 8 = .ok (.lastore, 1) := dk_80 (dk_at dksX0_listen_0 8 rfl rfl)
theorem dX0_listen_9 : decode cX0_listen 9 = .ok (.goto 6, 3) := dk_167 0 6 (dk_at dksX0_listen_0 9 rfl rfl)
theorem dX0_listen_12 : decode cX0_listen 12 = .ok (.astore_n 3, 1) := dk_78 (dk_at dksX0_listen_0 12 rfl rfl)
theorem dX0_listen_13 : decode cX0_listen 13 = .ok (.iconst 1, 1) := dk_4 (dk_at dksX0_listen_0 13 rfl rfl)
theorem dX0_listen_14 : decode cX0_listen 14 = .ok (.ireturn, 1) := dk_172 (dk_at dksX0_listen_0 14 rfl rfl)
theorem dX0_listen_15 : decode cX0_listen 15 = .ok (.iconst 0, 1) := dk_3 (dk_at dksX0_listen_0 15 rfl rfl)
theorem dX0_listen_16 : decode cX0_listen 16 = .ok (.ireturn, 1) := dk_172 (dk_at dksX0_listen_0 16 rfl rfl)
abbrev cX0_cold : ByteArray := method_25_code
def yX0_cold : MethodName := ⟨RX0, "cold", "(LDripCups;III[J)I"⟩
def dkwX0_cold_1 : List UInt8 := [172]
abbrev dktX0_cold_1 : List UInt8 := dkwX0_cold_1 ++ []
def dkwX0_cold_0 : List UInt8 := [25, 4, 3, 42, 27, 28, 29, 182, 0, 86, 133, 80, 167, 0, 11, 58, 5, 4, 172, 58, 5, 5, 172, 3]
abbrev dktX0_cold_0 : List UInt8 := dkwX0_cold_0 ++ dktX0_cold_1
theorem dksX0_cold_0 : cX0_cold.data.toList.drop 0 = dktX0_cold_0 := by decide +kernel
theorem dksX0_cold_1 : cX0_cold.data.toList.drop 24 = dktX0_cold_1 := dk_seg dksX0_cold_0 24 rfl rfl
theorem dX0_cold_0 : decode cX0_cold 0 = .ok (.aload 4, 2) := dk_25 4 (dk_at dksX0_cold_0 0 rfl rfl)
theorem dX0_cold_2 : decode cX0_cold 2 = .ok (.iconst 0, 1) := dk_3 (dk_at dksX0_cold_0 2 rfl rfl)
theorem dX0_cold_3 : decode cX0_cold 3 = .ok (.aload_n 0, 1) := dk_42 (dk_at dksX0_cold_0 3 rfl rfl)
theorem dX0_cold_4 : decode cX0_cold 4 = .ok (.iload_n 1, 1) := dk_27 (dk_at dksX0_cold_0 4 rfl rfl)
theorem dX0_cold_5 : decode cX0_cold 5 = .ok (.iload_n 2, 1) := dk_28 (dk_at dksX0_cold_0 5 rfl rfl)
theorem dX0_cold_6 : decode cX0_cold 6 = .ok (.iload_n 3, 1) := dk_29 (dk_at dksX0_cold_0 6 rfl rfl)
theorem dX0_cold_7 : decode cX0_cold 7 = .ok (.invokevirtual 86, 3) := dk_182 0 86 (dk_at dksX0_cold_0 7 rfl rfl)
theorem dX0_cold_10 : decode cX0_cold 10 = .ok (.i2l, 1) := dk_133 (dk_at dksX0_cold_0 10 rfl rfl)
theorem dX0_cold_11 : decode cX0_cold 11 = .ok (.lastore, 1) := dk_80 (dk_at dksX0_cold_0 11 rfl rfl)
theorem dX0_cold_12 : decode cX0_cold 12 = .ok (.goto 11, 3) := dk_167 0 11 (dk_at dksX0_cold_0 12 rfl rfl)
theorem dX0_cold_15 : decode cX0_cold 15 = .ok (.astore 5, 2) := dk_58 5 (dk_at dksX0_cold_0 15 rfl rfl)
theorem dX0_cold_17 : decode cX0_cold 17 = .ok (.iconst 1, 1) := dk_4 (dk_at dksX0_cold_0 17 rfl rfl)
theorem dX0_cold_18 : decode cX0_cold 18 = .ok (.ireturn, 1) := dk_172 (dk_at dksX0_cold_0 18 rfl rfl)
theorem dX0_cold_19 : decode cX0_cold 19 = .ok (.astore 5, 2) := dk_58 5 (dk_at dksX0_cold_0 19 rfl rfl)
theorem dX0_cold_21 : decode cX0_cold 21 = .ok (.iconst 2, 1) := dk_5 (dk_at dksX0_cold_0 21 rfl rfl)
theorem dX0_cold_22 : decode cX0_cold 22 = .ok (.ireturn, 1) := dk_172 (dk_at dksX0_cold_0 22 rfl rfl)
theorem dX0_cold_23 : decode cX0_cold 23 = .ok (.iconst 0, 1) := dk_3 (dk_at dksX0_cold_0 23 rfl rfl)
theorem dX0_cold_24 : decode cX0_cold 24 = .ok (.ireturn, 1) := dk_172 (dk_at dksX0_cold_1 0 rfl rfl)
abbrev cX0_game : ByteArray := method_26_code
def yX0_game : MethodName := ⟨RX0, "game", "(LDripCups;III[J)I"⟩
def dkwX0_game_1 : List UInt8 := [172]
abbrev dktX0_game_1 : List UInt8 := dkwX0_game_1 ++ []
def dkwX0_game_0 : List UInt8 := [25, 4, 3, 42, 27, 28, 29, 182, 0, 89, 133, 80, 167, 0, 11, 58, 5, 4, 172, 58, 5, 5, 172, 3]
abbrev dktX0_game_0 : List UInt8 := dkwX0_game_0 ++ dktX0_game_1
theorem dksX0_game_0 : cX0_game.data.toList.drop 0 = dktX0_game_0 := by decide +kernel
theorem dksX0_game_1 : cX0_game.data.toList.drop 24 = dktX0_game_1 := dk_seg dksX0_game_0 24 rfl rfl
theorem dX0_game_0 : decode cX0_game 0 = .ok (.aload 4, 2) := dk_25 4 (dk_at dksX0_game_0 0 rfl rfl)
theorem dX0_game_2 : decode cX0_game 2 = .ok (.iconst 0, 1) := dk_3 (dk_at dksX0_game_0 2 rfl rfl)
theorem dX0_game_3 : decode cX0_game 3 = .ok (.aload_n 0, 1) := dk_42 (dk_at dksX0_game_0 3 rfl rfl)
theorem dX0_game_4 : decode cX0_game 4 = .ok (.iload_n 1, 1) := dk_27 (dk_at dksX0_game_0 4 rfl rfl)
theorem dX0_game_5 : decode cX0_game 5 = .ok (.iload_n 2, 1) := dk_28 (dk_at dksX0_game_0 5 rfl rfl)
theorem dX0_game_6 : decode cX0_game 6 = .ok (.iload_n 3, 1) := dk_29 (dk_at dksX0_game_0 6 rfl rfl)
theorem dX0_game_7 : decode cX0_game 7 = .ok (.invokevirtual 89, 3) := dk_182 0 89 (dk_at dksX0_game_0 7 rfl rfl)
theorem dX0_game_10 : decode cX0_game 10 = .ok (.i2l, 1) := dk_133 (dk_at dksX0_game_0 10 rfl rfl)
theorem dX0_game_11 : decode cX0_game 11 = .ok (.lastore, 1) := dk_80 (dk_at dksX0_game_0 11 rfl rfl)
theorem dX0_game_12 : decode cX0_game 12 = .ok (.goto 11, 3) := dk_167 0 11 (dk_at dksX0_game_0 12 rfl rfl)
theorem dX0_game_15 : decode cX0_game 15 = .ok (.astore 5, 2) := dk_58 5 (dk_at dksX0_game_0 15 rfl rfl)
theorem dX0_game_17 : decode cX0_game 17 = .ok (.iconst 1, 1) := dk_4 (dk_at dksX0_game_0 17 rfl rfl)
theorem dX0_game_18 : decode cX0_game 18 = .ok (.ireturn, 1) := dk_172 (dk_at dksX0_game_0 18 rfl rfl)
theorem dX0_game_19 : decode cX0_game 19 = .ok (.astore 5, 2) := dk_58 5 (dk_at dksX0_game_0 19 rfl rfl)
theorem dX0_game_21 : decode cX0_game 21 = .ok (.iconst 2, 1) := dk_5 (dk_at dksX0_game_0 21 rfl rfl)
theorem dX0_game_22 : decode cX0_game 22 = .ok (.ireturn, 1) := dk_172 (dk_at dksX0_game_0 22 rfl rfl)
theorem dX0_game_23 : decode cX0_game 23 = .ok (.iconst 0, 1) := dk_3 (dk_at dksX0_game_0 23 rfl rfl)
theorem dX0_game_24 : decode cX0_game 24 = .ok (.ireturn, 1) := dk_172 (dk_at dksX0_game_1 0 rfl rfl)
abbrev cX0_years : ByteArray := method_27_code
def yX0_years : MethodName := ⟨RX0, "years", "(LDripCups;III[J)I"⟩
def dkwX0_years_1 : List UInt8 := [172]
abbrev dktX0_years_1 : List UInt8 := dkwX0_years_1 ++ []
def dkwX0_years_0 : List UInt8 := [25, 4, 3, 42, 27, 28, 29, 182, 0, 92, 133, 80, 167, 0, 11, 58, 5, 4, 172, 58, 5, 5, 172, 3]
abbrev dktX0_years_0 : List UInt8 := dkwX0_years_0 ++ dktX0_years_1
theorem dksX0_years_0 : cX0_years.data.toList.drop 0 = dktX0_years_0 := by decide +kernel
theorem dksX0_years_1 : cX0_years.data.toList.drop 24 = dktX0_years_1 := dk_seg dksX0_years_0 24 rfl rfl
theorem dX0_years_0 : decode cX0_years 0 = .ok (.aload 4, 2) := dk_25 4 (dk_at dksX0_years_0 0 rfl rfl)
theorem dX0_years_2 : decode cX0_years 2 = .ok (.iconst 0, 1) := dk_3 (dk_at dksX0_years_0 2 rfl rfl)
theorem dX0_years_3 : decode cX0_years 3 = .ok (.aload_n 0, 1) := dk_42 (dk_at dksX0_years_0 3 rfl rfl)
theorem dX0_years_4 : decode cX0_years 4 = .ok (.iload_n 1, 1) := dk_27 (dk_at dksX0_years_0 4 rfl rfl)
theorem dX0_years_5 : decode cX0_years 5 = .ok (.iload_n 2, 1) := dk_28 (dk_at dksX0_years_0 5 rfl rfl)
theorem dX0_years_6 : decode cX0_years 6 = .ok (.iload_n 3, 1) := dk_29 (dk_at dksX0_years_0 6 rfl rfl)
theorem dX0_years_7 : decode cX0_years 7 = .ok (.invokevirtual 92, 3) := dk_182 0 92 (dk_at dksX0_years_0 7 rfl rfl)
theorem dX0_years_10 : decode cX0_years 10 = .ok (.i2l, 1) := dk_133 (dk_at dksX0_years_0 10 rfl rfl)
theorem dX0_years_11 : decode cX0_years 11 = .ok (.lastore, 1) := dk_80 (dk_at dksX0_years_0 11 rfl rfl)
theorem dX0_years_12 : decode cX0_years 12 = .ok (.goto 11, 3) := dk_167 0 11 (dk_at dksX0_years_0 12 rfl rfl)
theorem dX0_years_15 : decode cX0_years 15 = .ok (.astore 5, 2) := dk_58 5 (dk_at dksX0_years_0 15 rfl rfl)
theorem dX0_years_17 : decode cX0_years 17 = .ok (.iconst 1, 1) := dk_4 (dk_at dksX0_years_0 17 rfl rfl)
theorem dX0_years_18 : decode cX0_years 18 = .ok (.ireturn, 1) := dk_172 (dk_at dksX0_years_0 18 rfl rfl)
theorem dX0_years_19 : decode cX0_years 19 = .ok (.astore 5, 2) := dk_58 5 (dk_at dksX0_years_0 19 rfl rfl)
theorem dX0_years_21 : decode cX0_years 21 = .ok (.iconst 2, 1) := dk_5 (dk_at dksX0_years_0 21 rfl rfl)
theorem dX0_years_22 : decode cX0_years 22 = .ok (.ireturn, 1) := dk_172 (dk_at dksX0_years_0 22 rfl rfl)
theorem dX0_years_23 : decode cX0_years 23 = .ok (.iconst 0, 1) := dk_3 (dk_at dksX0_years_0 23 rfl rfl)
theorem dX0_years_24 : decode cX0_years 24 = .ok (.ireturn, 1) := dk_172 (dk_at dksX0_years_1 0 rfl rfl)
abbrev cX0_later : ByteArray := method_28_code
def yX0_later : MethodName := ⟨RX0, "later", "(LDripCups;II[J)I"⟩
def dkwX0_later_0 : List UInt8 := [45, 3, 42, 27, 28, 182, 0, 95, 133, 80, 167, 0, 11, 58, 4, 4, 172, 58, 4, 5, 172, 3, 172]
abbrev dktX0_later_0 : List UInt8 := dkwX0_later_0 ++ []
theorem dksX0_later_0 : cX0_later.data.toList.drop 0 = dktX0_later_0 := by decide +kernel
theorem dX0_later_0 : decode cX0_later 0 = .ok (.aload_n 3, 1) := dk_45 (dk_at dksX0_later_0 0 rfl rfl)
theorem dX0_later_1 : decode cX0_later 1 = .ok (.iconst 0, 1) := dk_3 (dk_at dksX0_later_0 1 rfl rfl)
theorem dX0_later_2 : decode cX0_later 2 = .ok (.aload_n 0, 1) := dk_42 (dk_at dksX0_later_0 2 rfl rfl)
theorem dX0_later_3 : decode cX0_later 3 = .ok (.iload_n 1, 1) := dk_27 (dk_at dksX0_later_0 3 rfl rfl)
theorem dX0_later_4 : decode cX0_later 4 = .ok (.iload_n 2, 1) := dk_28 (dk_at dksX0_later_0 4 rfl rfl)
theorem dX0_later_5 : decode cX0_later 5 = .ok (.invokevirtual 95, 3) := dk_182 0 95 (dk_at dksX0_later_0 5 rfl rfl)
theorem dX0_later_8 : decode cX0_later 8 = .ok (.i2l, 1) := dk_133 (dk_at dksX0_later_0 8 rfl rfl)
theorem dX0_later_9 : decode cX0_later 9 = .ok (.lastore, 1) := dk_80 (dk_at dksX0_later_0 9 rfl rfl)
theorem dX0_later_10 : decode cX0_later 10 = .ok (.goto 11, 3) := dk_167 0 11 (dk_at dksX0_later_0 10 rfl rfl)
theorem dX0_later_13 : decode cX0_later 13 = .ok (.astore 4, 2) := dk_58 4 (dk_at dksX0_later_0 13 rfl rfl)
theorem dX0_later_15 : decode cX0_later 15 = .ok (.iconst 1, 1) := dk_4 (dk_at dksX0_later_0 15 rfl rfl)
theorem dX0_later_16 : decode cX0_later 16 = .ok (.ireturn, 1) := dk_172 (dk_at dksX0_later_0 16 rfl rfl)
theorem dX0_later_17 : decode cX0_later 17 = .ok (.astore 4, 2) := dk_58 4 (dk_at dksX0_later_0 17 rfl rfl)
theorem dX0_later_19 : decode cX0_later 19 = .ok (.iconst 2, 1) := dk_5 (dk_at dksX0_later_0 19 rfl rfl)
theorem dX0_later_20 : decode cX0_later 20 = .ok (.ireturn, 1) := dk_172 (dk_at dksX0_later_0 20 rfl rfl)
theorem dX0_later_21 : decode cX0_later 21 = .ok (.iconst 0, 1) := dk_3 (dk_at dksX0_later_0 21 rfl rfl)
theorem dX0_later_22 : decode cX0_later 22 = .ok (.ireturn, 1) := dk_172 (dk_at dksX0_later_0 22 rfl rfl)
abbrev cX0_oftenest : ByteArray := method_29_code
def yX0_oftenest : MethodName := ⟨RX0, "oftenest", "(LDripCups;I[J)I"⟩
def dkwX0_oftenest_0 : List UInt8 := [44, 3, 42, 27, 182, 0, 98, 133, 80, 167, 0, 6, 78, 4, 172, 3, 172]
abbrev dktX0_oftenest_0 : List UInt8 := dkwX0_oftenest_0 ++ []
theorem dksX0_oftenest_0 : cX0_oftenest.data.toList.drop 0 = dktX0_oftenest_0 := by decide +kernel
theorem dX0_oftenest_0 : decode cX0_oftenest 0 = .ok (.aload_n 2, 1) := dk_44 (dk_at dksX0_oftenest_0 0 rfl rfl)
theorem dX0_oftenest_1 : decode cX0_oftenest 1 = .ok (.iconst 0, 1) := dk_3 (dk_at dksX0_oftenest_0 1 rfl rfl)
theorem dX0_oftenest_2 : decode cX0_oftenest 2 = .ok (.aload_n 0, 1) := dk_42 (dk_at dksX0_oftenest_0 2 rfl rfl)
theorem dX0_oftenest_3 : decode cX0_oftenest 3 = .ok (.iload_n 1, 1) := dk_27 (dk_at dksX0_oftenest_0 3 rfl rfl)
theorem dX0_oftenest_4 : decode cX0_oftenest 4 = .ok (.invokevirtual 98, 3) := dk_182 0 98 (dk_at dksX0_oftenest_0 4 rfl rfl)
theorem dX0_oftenest_7 : decode cX0_oftenest 7 = .ok (.i2l, 1) := dk_133 (dk_at dksX0_oftenest_0 7 rfl rfl)
theorem dX0_oftenest_8 : decode cX0_oftenest 8 = .ok (.lastore, 1) := dk_80 (dk_at dksX0_oftenest_0 8 rfl rfl)
theorem dX0_oftenest_9 : decode cX0_oftenest 9 = .ok (.goto 6, 3) := dk_167 0 6 (dk_at dksX0_oftenest_0 9 rfl rfl)
theorem dX0_oftenest_12 : decode cX0_oftenest 12 = .ok (.astore_n 3, 1) := dk_78 (dk_at dksX0_oftenest_0 12 rfl rfl)
theorem dX0_oftenest_13 : decode cX0_oftenest 13 = .ok (.iconst 1, 1) := dk_4 (dk_at dksX0_oftenest_0 13 rfl rfl)
theorem dX0_oftenest_14 : decode cX0_oftenest 14 = .ok (.ireturn, 1) := dk_172 (dk_at dksX0_oftenest_0 14 rfl rfl)
theorem dX0_oftenest_15 : decode cX0_oftenest 15 = .ok (.iconst 0, 1) := dk_3 (dk_at dksX0_oftenest_0 15 rfl rfl)
theorem dX0_oftenest_16 : decode cX0_oftenest 16 = .ok (.ireturn, 1) := dk_172 (dk_at dksX0_oftenest_0 16 rfl rfl)
abbrev cX0_pause : ByteArray := method_30_code
def yX0_pause : MethodName := ⟨RX0, "pause", "(LDripCups;I[J)I"⟩
def dkwX0_pause_0 : List UInt8 := [44, 3, 42, 27, 182, 0, 101, 133, 80, 167, 0, 6, 78, 4, 172, 3, 172]
abbrev dktX0_pause_0 : List UInt8 := dkwX0_pause_0 ++ []
theorem dksX0_pause_0 : cX0_pause.data.toList.drop 0 = dktX0_pause_0 := by decide +kernel
theorem dX0_pause_0 : decode cX0_pause 0 = .ok (.aload_n 2, 1) := dk_44 (dk_at dksX0_pause_0 0 rfl rfl)
theorem dX0_pause_1 : decode cX0_pause 1 = .ok (.iconst 0, 1) := dk_3 (dk_at dksX0_pause_0 1 rfl rfl)
theorem dX0_pause_2 : decode cX0_pause 2 = .ok (.aload_n 0, 1) := dk_42 (dk_at dksX0_pause_0 2 rfl rfl)
theorem dX0_pause_3 : decode cX0_pause 3 = .ok (.iload_n 1, 1) := dk_27 (dk_at dksX0_pause_0 3 rfl rfl)
theorem dX0_pause_4 : decode cX0_pause 4 = .ok (.invokevirtual 101, 3) := dk_182 0 101 (dk_at dksX0_pause_0 4 rfl rfl)
theorem dX0_pause_7 : decode cX0_pause 7 = .ok (.i2l, 1) := dk_133 (dk_at dksX0_pause_0 7 rfl rfl)
theorem dX0_pause_8 : decode cX0_pause 8 = .ok (.lastore, 1) := dk_80 (dk_at dksX0_pause_0 8 rfl rfl)
theorem dX0_pause_9 : decode cX0_pause 9 = .ok (.goto 6, 3) := dk_167 0 6 (dk_at dksX0_pause_0 9 rfl rfl)
theorem dX0_pause_12 : decode cX0_pause 12 = .ok (.astore_n 3, 1) := dk_78 (dk_at dksX0_pause_0 12 rfl rfl)
theorem dX0_pause_13 : decode cX0_pause 13 = .ok (.iconst 1, 1) := dk_4 (dk_at dksX0_pause_0 13 rfl rfl)
theorem dX0_pause_14 : decode cX0_pause 14 = .ok (.ireturn, 1) := dk_172 (dk_at dksX0_pause_0 14 rfl rfl)
theorem dX0_pause_15 : decode cX0_pause 15 = .ok (.iconst 0, 1) := dk_3 (dk_at dksX0_pause_0 15 rfl rfl)
theorem dX0_pause_16 : decode cX0_pause 16 = .ok (.ireturn, 1) := dk_172 (dk_at dksX0_pause_0 16 rfl rfl)
abbrev cX0_giver : ByteArray := method_31_code
def yX0_giver : MethodName := ⟨RX0, "giver", "(LDripCups;II[J)I"⟩
def dkwX0_giver_0 : List UInt8 := [45, 3, 42, 27, 28, 182, 0, 104, 133, 80, 167, 0, 11, 58, 4, 4, 172, 58, 4, 5, 172, 3, 172]
abbrev dktX0_giver_0 : List UInt8 := dkwX0_giver_0 ++ []
theorem dksX0_giver_0 : cX0_giver.data.toList.drop 0 = dktX0_giver_0 := by decide +kernel
theorem dX0_giver_0 : decode cX0_giver 0 = .ok (.aload_n 3, 1) := dk_45 (dk_at dksX0_giver_0 0 rfl rfl)
theorem dX0_giver_1 : decode cX0_giver 1 = .ok (.iconst 0, 1) := dk_3 (dk_at dksX0_giver_0 1 rfl rfl)
theorem dX0_giver_2 : decode cX0_giver 2 = .ok (.aload_n 0, 1) := dk_42 (dk_at dksX0_giver_0 2 rfl rfl)
theorem dX0_giver_3 : decode cX0_giver 3 = .ok (.iload_n 1, 1) := dk_27 (dk_at dksX0_giver_0 3 rfl rfl)
theorem dX0_giver_4 : decode cX0_giver 4 = .ok (.iload_n 2, 1) := dk_28 (dk_at dksX0_giver_0 4 rfl rfl)
theorem dX0_giver_5 : decode cX0_giver 5 = .ok (.invokevirtual 104, 3) := dk_182 0 104 (dk_at dksX0_giver_0 5 rfl rfl)
theorem dX0_giver_8 : decode cX0_giver 8 = .ok (.i2l, 1) := dk_133 (dk_at dksX0_giver_0 8 rfl rfl)
theorem dX0_giver_9 : decode cX0_giver 9 = .ok (.lastore, 1) := dk_80 (dk_at dksX0_giver_0 9 rfl rfl)
theorem dX0_giver_10 : decode cX0_giver 10 = .ok (.goto 11, 3) := dk_167 0 11 (dk_at dksX0_giver_0 10 rfl rfl)
theorem dX0_giver_13 : decode cX0_giver 13 = .ok (.astore 4, 2) := dk_58 4 (dk_at dksX0_giver_0 13 rfl rfl)
theorem dX0_giver_15 : decode cX0_giver 15 = .ok (.iconst 1, 1) := dk_4 (dk_at dksX0_giver_0 15 rfl rfl)
theorem dX0_giver_16 : decode cX0_giver 16 = .ok (.ireturn, 1) := dk_172 (dk_at dksX0_giver_0 16 rfl rfl)
theorem dX0_giver_17 : decode cX0_giver 17 = .ok (.astore 4, 2) := dk_58 4 (dk_at dksX0_giver_0 17 rfl rfl)
theorem dX0_giver_19 : decode cX0_giver 19 = .ok (.iconst 2, 1) := dk_5 (dk_at dksX0_giver_0 19 rfl rfl)
theorem dX0_giver_20 : decode cX0_giver 20 = .ok (.ireturn, 1) := dk_172 (dk_at dksX0_giver_0 20 rfl rfl)
theorem dX0_giver_21 : decode cX0_giver 21 = .ok (.iconst 0, 1) := dk_3 (dk_at dksX0_giver_0 21 rfl rfl)
theorem dX0_giver_22 : decode cX0_giver 22 = .ok (.ireturn, 1) := dk_172 (dk_at dksX0_giver_0 22 rfl rfl)
abbrev cX0_toPour : ByteArray := method_32_code
def yX0_toPour : MethodName := ⟨RX0, "toPour", "(LDripCups;II[J)I"⟩
def dkwX0_toPour_0 : List UInt8 := [45, 3, 42, 27, 28, 182, 0, 107, 133, 80, 167, 0, 11, 58, 4, 4, 172, 58, 4, 5, 172, 3, 172]
abbrev dktX0_toPour_0 : List UInt8 := dkwX0_toPour_0 ++ []
theorem dksX0_toPour_0 : cX0_toPour.data.toList.drop 0 = dktX0_toPour_0 := by decide +kernel
theorem dX0_toPour_0 : decode cX0_toPour 0 = .ok (.aload_n 3, 1) := dk_45 (dk_at dksX0_toPour_0 0 rfl rfl)
theorem dX0_toPour_1 : decode cX0_toPour 1 = .ok (.iconst 0, 1) := dk_3 (dk_at dksX0_toPour_0 1 rfl rfl)
theorem dX0_toPour_2 : decode cX0_toPour 2 = .ok (.aload_n 0, 1) := dk_42 (dk_at dksX0_toPour_0 2 rfl rfl)
theorem dX0_toPour_3 : decode cX0_toPour 3 = .ok (.iload_n 1, 1) := dk_27 (dk_at dksX0_toPour_0 3 rfl rfl)
theorem dX0_toPour_4 : decode cX0_toPour 4 = .ok (.iload_n 2, 1) := dk_28 (dk_at dksX0_toPour_0 4 rfl rfl)
theorem dX0_toPour_5 : decode cX0_toPour 5 = .ok (.invokevirtual 107, 3) := dk_182 0 107 (dk_at dksX0_toPour_0 5 rfl rfl)
theorem dX0_toPour_8 : decode cX0_toPour 8 = .ok (.i2l, 1) := dk_133 (dk_at dksX0_toPour_0 8 rfl rfl)
theorem dX0_toPour_9 : decode cX0_toPour 9 = .ok (.lastore, 1) := dk_80 (dk_at dksX0_toPour_0 9 rfl rfl)
theorem dX0_toPour_10 : decode cX0_toPour 10 = .ok (.goto 11, 3) := dk_167 0 11 (dk_at dksX0_toPour_0 10 rfl rfl)
theorem dX0_toPour_13 : decode cX0_toPour 13 = .ok (.astore 4, 2) := dk_58 4 (dk_at dksX0_toPour_0 13 rfl rfl)
theorem dX0_toPour_15 : decode cX0_toPour 15 = .ok (.iconst 1, 1) := dk_4 (dk_at dksX0_toPour_0 15 rfl rfl)
theorem dX0_toPour_16 : decode cX0_toPour 16 = .ok (.ireturn, 1) := dk_172 (dk_at dksX0_toPour_0 16 rfl rfl)
theorem dX0_toPour_17 : decode cX0_toPour 17 = .ok (.astore 4, 2) := dk_58 4 (dk_at dksX0_toPour_0 17 rfl rfl)
theorem dX0_toPour_19 : decode cX0_toPour 19 = .ok (.iconst 2, 1) := dk_5 (dk_at dksX0_toPour_0 19 rfl rfl)
theorem dX0_toPour_20 : decode cX0_toPour 20 = .ok (.ireturn, 1) := dk_172 (dk_at dksX0_toPour_0 20 rfl rfl)
theorem dX0_toPour_21 : decode cX0_toPour 21 = .ok (.iconst 0, 1) := dk_3 (dk_at dksX0_toPour_0 21 rfl rfl)
theorem dX0_toPour_22 : decode cX0_toPour 22 = .ok (.ireturn, 1) := dk_172 (dk_at dksX0_toPour_0 22 rfl rfl)
abbrev cX0_ways : ByteArray := method_33_code
def yX0_ways : MethodName := ⟨RX0, "ways", "(LDripCups;II[J)I"⟩
def dkwX0_ways_0 : List UInt8 := [45, 3, 42, 27, 28, 182, 0, 110, 133, 80, 167, 0, 7, 58, 4, 4, 172, 3, 172]
abbrev dktX0_ways_0 : List UInt8 := dkwX0_ways_0 ++ []
theorem dksX0_ways_0 : cX0_ways.data.toList.drop 0 = dktX0_ways_0 := by decide +kernel
theorem dX0_ways_0 : decode cX0_ways 0 = .ok (.aload_n 3, 1) := dk_45 (dk_at dksX0_ways_0 0 rfl rfl)
theorem dX0_ways_1 : decode cX0_ways 1 = .ok (.iconst 0, 1) := dk_3 (dk_at dksX0_ways_0 1 rfl rfl)
theorem dX0_ways_2 : decode cX0_ways 2 = .ok (.aload_n 0, 1) := dk_42 (dk_at dksX0_ways_0 2 rfl rfl)
theorem dX0_ways_3 : decode cX0_ways 3 = .ok (.iload_n 1, 1) := dk_27 (dk_at dksX0_ways_0 3 rfl rfl)
theorem dX0_ways_4 : decode cX0_ways 4 = .ok (.iload_n 2, 1) := dk_28 (dk_at dksX0_ways_0 4 rfl rfl)
theorem dX0_ways_5 : decode cX0_ways 5 = .ok (.invokevirtual 110, 3) := dk_182 0 110 (dk_at dksX0_ways_0 5 rfl rfl)
theorem dX0_ways_8 : decode cX0_ways 8 = .ok (.i2l, 1) := dk_133 (dk_at dksX0_ways_0 8 rfl rfl)
theorem dX0_ways_9 : decode cX0_ways 9 = .ok (.lastore, 1) := dk_80 (dk_at dksX0_ways_0 9 rfl rfl)
theorem dX0_ways_10 : decode cX0_ways 10 = .ok (.goto 7, 3) := dk_167 0 7 (dk_at dksX0_ways_0 10 rfl rfl)
theorem dX0_ways_13 : decode cX0_ways 13 = .ok (.astore 4, 2) := dk_58 4 (dk_at dksX0_ways_0 13 rfl rfl)
theorem dX0_ways_15 : decode cX0_ways 15 = .ok (.iconst 1, 1) := dk_4 (dk_at dksX0_ways_0 15 rfl rfl)
theorem dX0_ways_16 : decode cX0_ways 16 = .ok (.ireturn, 1) := dk_172 (dk_at dksX0_ways_0 16 rfl rfl)
theorem dX0_ways_17 : decode cX0_ways 17 = .ok (.iconst 0, 1) := dk_3 (dk_at dksX0_ways_0 17 rfl rfl)
theorem dX0_ways_18 : decode cX0_ways 18 = .ok (.ireturn, 1) := dk_172 (dk_at dksX0_ways_0 18 rfl rfl)
abbrev cX0_chorus : ByteArray := method_34_code
def yX0_chorus : MethodName := ⟨RX0, "chorus", "(LDripCups;II[J)I"⟩
def dkwX0_chorus_0 : List UInt8 := [45, 3, 42, 27, 28, 182, 0, 113, 133, 80, 167, 0, 7, 58, 4, 4, 172, 3, 172]
abbrev dktX0_chorus_0 : List UInt8 := dkwX0_chorus_0 ++ []
theorem dksX0_chorus_0 : cX0_chorus.data.toList.drop 0 = dktX0_chorus_0 := by decide +kernel
theorem dX0_chorus_0 : decode cX0_chorus 0 = .ok (.aload_n 3, 1) := dk_45 (dk_at dksX0_chorus_0 0 rfl rfl)
theorem dX0_chorus_1 : decode cX0_chorus 1 = .ok (.iconst 0, 1) := dk_3 (dk_at dksX0_chorus_0 1 rfl rfl)
theorem dX0_chorus_2 : decode cX0_chorus 2 = .ok (.aload_n 0, 1) := dk_42 (dk_at dksX0_chorus_0 2 rfl rfl)
theorem dX0_chorus_3 : decode cX0_chorus 3 = .ok (.iload_n 1, 1) := dk_27 (dk_at dksX0_chorus_0 3 rfl rfl)
theorem dX0_chorus_4 : decode cX0_chorus 4 = .ok (.iload_n 2, 1) := dk_28 (dk_at dksX0_chorus_0 4 rfl rfl)
theorem dX0_chorus_5 : decode cX0_chorus 5 = .ok (.invokevirtual 113, 3) := dk_182 0 113 (dk_at dksX0_chorus_0 5 rfl rfl)
theorem dX0_chorus_8 : decode cX0_chorus 8 = .ok (.i2l, 1) := dk_133 (dk_at dksX0_chorus_0 8 rfl rfl)
theorem dX0_chorus_9 : decode cX0_chorus 9 = .ok (.lastore, 1) := dk_80 (dk_at dksX0_chorus_0 9 rfl rfl)
theorem dX0_chorus_10 : decode cX0_chorus 10 = .ok (.goto 7, 3) := dk_167 0 7 (dk_at dksX0_chorus_0 10 rfl rfl)
theorem dX0_chorus_13 : decode cX0_chorus 13 = .ok (.astore 4, 2) := dk_58 4 (dk_at dksX0_chorus_0 13 rfl rfl)
theorem dX0_chorus_15 : decode cX0_chorus 15 = .ok (.iconst 1, 1) := dk_4 (dk_at dksX0_chorus_0 15 rfl rfl)
theorem dX0_chorus_16 : decode cX0_chorus 16 = .ok (.ireturn, 1) := dk_172 (dk_at dksX0_chorus_0 16 rfl rfl)
theorem dX0_chorus_17 : decode cX0_chorus 17 = .ok (.iconst 0, 1) := dk_3 (dk_at dksX0_chorus_0 17 rfl rfl)
theorem dX0_chorus_18 : decode cX0_chorus 18 = .ok (.ireturn, 1) := dk_172 (dk_at dksX0_chorus_0 18 rfl rfl)
abbrev cX0_never : ByteArray := method_35_code
def yX0_never : MethodName := ⟨RX0, "never", "(LDripCups;I[J)I"⟩
def dkwX0_never_0 : List UInt8 := [44, 3, 42, 27, 182, 0, 116, 133, 80, 167, 0, 6, 78, 4, 172, 3, 172]
abbrev dktX0_never_0 : List UInt8 := dkwX0_never_0 ++ []
theorem dksX0_never_0 : cX0_never.data.toList.drop 0 = dktX0_never_0 := by decide +kernel
theorem dX0_never_0 : decode cX0_never 0 = .ok (.aload_n 2, 1) := dk_44 (dk_at dksX0_never_0 0 rfl rfl)
theorem dX0_never_1 : decode cX0_never 1 = .ok (.iconst 0, 1) := dk_3 (dk_at dksX0_never_0 1 rfl rfl)
theorem dX0_never_2 : decode cX0_never 2 = .ok (.aload_n 0, 1) := dk_42 (dk_at dksX0_never_0 2 rfl rfl)
theorem dX0_never_3 : decode cX0_never 3 = .ok (.iload_n 1, 1) := dk_27 (dk_at dksX0_never_0 3 rfl rfl)
theorem dX0_never_4 : decode cX0_never 4 = .ok (.invokevirtual 116, 3) := dk_182 0 116 (dk_at dksX0_never_0 4 rfl rfl)
theorem dX0_never_7 : decode cX0_never 7 = .ok (.i2l, 1) := dk_133 (dk_at dksX0_never_0 7 rfl rfl)
theorem dX0_never_8 : decode cX0_never 8 = .ok (.lastore, 1) := dk_80 (dk_at dksX0_never_0 8 rfl rfl)
theorem dX0_never_9 : decode cX0_never 9 = .ok (.goto 6, 3) := dk_167 0 6 (dk_at dksX0_never_0 9 rfl rfl)
theorem dX0_never_12 : decode cX0_never 12 = .ok (.astore_n 3, 1) := dk_78 (dk_at dksX0_never_0 12 rfl rfl)
theorem dX0_never_13 : decode cX0_never 13 = .ok (.iconst 1, 1) := dk_4 (dk_at dksX0_never_0 13 rfl rfl)
theorem dX0_never_14 : decode cX0_never 14 = .ok (.ireturn, 1) := dk_172 (dk_at dksX0_never_0 14 rfl rfl)
theorem dX0_never_15 : decode cX0_never 15 = .ok (.iconst 0, 1) := dk_3 (dk_at dksX0_never_0 15 rfl rfl)
theorem dX0_never_16 : decode cX0_never 16 = .ok (.ireturn, 1) := dk_172 (dk_at dksX0_never_0 16 rfl rfl)
abbrev cX0_swell : ByteArray := method_36_code
def yX0_swell : MethodName := ⟨RX0, "swell", "(LDripCups;II[J)I"⟩
def dkwX0_swell_0 : List UInt8 := [45, 3, 42, 27, 28, 182, 0, 119, 133, 80, 167, 0, 11, 58, 4, 4, 172, 58, 4, 5, 172, 3, 172]
abbrev dktX0_swell_0 : List UInt8 := dkwX0_swell_0 ++ []
theorem dksX0_swell_0 : cX0_swell.data.toList.drop 0 = dktX0_swell_0 := by decide +kernel
theorem dX0_swell_0 : decode cX0_swell 0 = .ok (.aload_n 3, 1) := dk_45 (dk_at dksX0_swell_0 0 rfl rfl)
theorem dX0_swell_1 : decode cX0_swell 1 = .ok (.iconst 0, 1) := dk_3 (dk_at dksX0_swell_0 1 rfl rfl)
theorem dX0_swell_2 : decode cX0_swell 2 = .ok (.aload_n 0, 1) := dk_42 (dk_at dksX0_swell_0 2 rfl rfl)
theorem dX0_swell_3 : decode cX0_swell 3 = .ok (.iload_n 1, 1) := dk_27 (dk_at dksX0_swell_0 3 rfl rfl)
theorem dX0_swell_4 : decode cX0_swell 4 = .ok (.iload_n 2, 1) := dk_28 (dk_at dksX0_swell_0 4 rfl rfl)
theorem dX0_swell_5 : decode cX0_swell 5 = .ok (.invokevirtual 119, 3) := dk_182 0 119 (dk_at dksX0_swell_0 5 rfl rfl)
theorem dX0_swell_8 : decode cX0_swell 8 = .ok (.i2l, 1) := dk_133 (dk_at dksX0_swell_0 8 rfl rfl)
theorem dX0_swell_9 : decode cX0_swell 9 = .ok (.lastore, 1) := dk_80 (dk_at dksX0_swell_0 9 rfl rfl)
theorem dX0_swell_10 : decode cX0_swell 10 = .ok (.goto 11, 3) := dk_167 0 11 (dk_at dksX0_swell_0 10 rfl rfl)
theorem dX0_swell_13 : decode cX0_swell 13 = .ok (.astore 4, 2) := dk_58 4 (dk_at dksX0_swell_0 13 rfl rfl)
theorem dX0_swell_15 : decode cX0_swell 15 = .ok (.iconst 1, 1) := dk_4 (dk_at dksX0_swell_0 15 rfl rfl)
theorem dX0_swell_16 : decode cX0_swell 16 = .ok (.ireturn, 1) := dk_172 (dk_at dksX0_swell_0 16 rfl rfl)
theorem dX0_swell_17 : decode cX0_swell 17 = .ok (.astore 4, 2) := dk_58 4 (dk_at dksX0_swell_0 17 rfl rfl)
theorem dX0_swell_19 : decode cX0_swell 19 = .ok (.iconst 2, 1) := dk_5 (dk_at dksX0_swell_0 19 rfl rfl)
theorem dX0_swell_20 : decode cX0_swell 20 = .ok (.ireturn, 1) := dk_172 (dk_at dksX0_swell_0 20 rfl rfl)
theorem dX0_swell_21 : decode cX0_swell 21 = .ok (.iconst 0, 1) := dk_3 (dk_at dksX0_swell_0 21 rfl rfl)
theorem dX0_swell_22 : decode cX0_swell 22 = .ok (.ireturn, 1) := dk_172 (dk_at dksX0_swell_0 22 rfl rfl)
theorem q114 : (Jvm.Cond.initialized "DripCupsLaw") ∈ lw_all := lw_g (lw_at lw_m1 0 rfl) rfl
theorem q148 : (Jvm.Cond.classLink "DripCupsLaw" (8 : Nat) "DripCups") ∈ lw_all := lw_g (lw_at lw_m1 34 rfl) rfl
theorem q150 : (Jvm.Cond.methodLink "DripCupsLaw" (122 : Nat) ({ cls := "DripCups", name := "<init>", desc := "()V" } : Jvm.MethodName)) ∈ lw_all := lw_g (lw_at lw_m1 36 rfl) rfl
theorem q324 : (Jvm.Cond.methodLink "DripCupsLaw" (126 : Nat) ({ cls := "DripCups", name := "feed", desc := "(IIIII)I" } : Jvm.MethodName)) ∈ lw_all := lw_g (lw_at lw_m1 210 rfl) rfl
theorem q328 : (Jvm.Cond.methodLink "DripCupsLaw" (141 : Nat) ({ cls := "DripCups", name := "fault", desc := "()I" } : Jvm.MethodName)) ∈ lw_all := lw_g (lw_at lw_m1 214 rfl) rfl
theorem q332 : (Jvm.Cond.methodLink "DripCupsLaw" (152 : Nat) ({ cls := "DripCups", name := "hours", desc := "(I)I" } : Jvm.MethodName)) ∈ lw_all := lw_g (lw_at lw_m1 218 rfl) rfl
theorem q587 : (Jvm.Cond.methodLink "DripCupsLaw" (169 : Nat) ({ cls := "DripCups", name := "undo", desc := "()I" } : Jvm.MethodName)) ∈ lw_all := lw_g (lw_at lw_m2 233 rfl) rfl
theorem q600 : (Jvm.Cond.methodLink "DripCupsLaw" (215 : Nat) ({ cls := "DripCups", name := "forget", desc := "()V" } : Jvm.MethodName)) ∈ lw_all := lw_g (lw_at lw_m3 6 rfl) rfl
theorem q604 : (Jvm.Cond.methodLink "DripCupsLaw" (240 : Nat) ({ cls := "DripCups", name := "round", desc := "()I" } : Jvm.MethodName)) ∈ lw_all := lw_g (lw_at lw_m3 10 rfl) rfl
theorem q614 : (Jvm.Cond.methodLink "DripCupsLaw" (265 : Nat) ({ cls := "DripCups", name := "image", desc := "()V" } : Jvm.MethodName)) ∈ lw_all := lw_g (lw_at lw_m3 20 rfl) rfl
theorem q642 : (Jvm.Cond.methodLink "DripCupsLaw" (269 : Nat) ({ cls := "DripCups", name := "restore", desc := "()Z" } : Jvm.MethodName)) ∈ lw_all := lw_g (lw_at lw_m3 48 rfl) rfl
theorem q646 : (Jvm.Cond.methodLink "DripCupsLaw" (131 : Nat) ({ cls := "DripCupsLaw", name := "cave", desc := "(LDripCups;I[J)I" } : Jvm.MethodName)) ∈ lw_all := lw_g (lw_at lw_m3 52 rfl) rfl
theorem q647 : (Jvm.Cond.static ({ cls := "DripCupsLaw", name := "cave", desc := "(LDripCups;I[J)I" } : Jvm.MethodName)) ∈ lw_all := lw_g (lw_at lw_m3 53 rfl) rfl
theorem q648 : (Jvm.Cond.codeWith ({ cls := "DripCupsLaw", name := "cave", desc := "(LDripCups;I[J)I" } : Jvm.MethodName) method_3_code (4 : Nat) (Option.some Jvm.ClassFile.FieldType.int) [((0 : Nat), (9 : Nat), (12 : Nat), (13 : Nat))]) ∈ lw_all := lw_g (lw_at lw_m3 54 rfl) rfl
theorem q649 : (Jvm.Cond.classLink "DripCupsLaw" (13 : Nat) "java/lang/IllegalArgumentException") ∈ lw_all := lw_g (lw_at lw_m3 55 rfl) rfl
theorem q650 : (Jvm.Cond.methodLink "DripCupsLaw" (7 : Nat) ({ cls := "DripCups", name := "cave", desc := "(I)I" } : Jvm.MethodName)) ∈ lw_all := lw_g (lw_at lw_m3 56 rfl) rfl
theorem q1164 : (Jvm.Cond.methodLink "DripCupsLaw" (145 : Nat) ({ cls := "DripCupsLaw", name := "count", desc := "(LDripCups;I[J)I" } : Jvm.MethodName)) ∈ lw_all := lw_g (lw_at lw_m5 90 rfl) rfl
theorem q1165 : (Jvm.Cond.static ({ cls := "DripCupsLaw", name := "count", desc := "(LDripCups;I[J)I" } : Jvm.MethodName)) ∈ lw_all := lw_g (lw_at lw_m5 91 rfl) rfl
theorem q1166 : (Jvm.Cond.codeWith ({ cls := "DripCupsLaw", name := "count", desc := "(LDripCups;I[J)I" } : Jvm.MethodName) method_4_code (4 : Nat) (Option.some Jvm.ClassFile.FieldType.int) [((0 : Nat), (9 : Nat), (12 : Nat), (18 : Nat))]) ∈ lw_all := lw_g (lw_at lw_m5 92 rfl) rfl
theorem q1167 : (Jvm.Cond.classLink "DripCupsLaw" (18 : Nat) "java/util/NoSuchElementException") ∈ lw_all := lw_g (lw_at lw_m5 93 rfl) rfl
theorem q1168 : (Jvm.Cond.methodLink "DripCupsLaw" (15 : Nat) ({ cls := "DripCups", name := "count", desc := "(I)I" } : Jvm.MethodName)) ∈ lw_all := lw_g (lw_at lw_m5 94 rfl) rfl
theorem q1233 : (Jvm.Cond.methodLink "DripCupsLaw" (148 : Nat) ({ cls := "DripCupsLaw", name := "cup", desc := "(LDripCups;II[J)I" } : Jvm.MethodName)) ∈ lw_all := lw_g (lw_at lw_m5 159 rfl) rfl
theorem q1234 : (Jvm.Cond.static ({ cls := "DripCupsLaw", name := "cup", desc := "(LDripCups;II[J)I" } : Jvm.MethodName)) ∈ lw_all := lw_g (lw_at lw_m5 160 rfl) rfl
theorem q1235 : (Jvm.Cond.codeWith ({ cls := "DripCupsLaw", name := "cup", desc := "(LDripCups;II[J)I" } : Jvm.MethodName) method_5_code (5 : Nat) (Option.some Jvm.ClassFile.FieldType.int) [((0 : Nat), (10 : Nat), (13 : Nat), (18 : Nat))]) ∈ lw_all := lw_g (lw_at lw_m5 161 rfl) rfl
theorem q1236 : (Jvm.Cond.methodLink "DripCupsLaw" (20 : Nat) ({ cls := "DripCups", name := "cup", desc := "(II)I" } : Jvm.MethodName)) ∈ lw_all := lw_g (lw_at lw_m5 162 rfl) rfl
theorem q1251 : (Jvm.Cond.methodLink "DripCupsLaw" (156 : Nat) ({ cls := "DripCupsLaw", name := "lead", desc := "(LDripCups;II[J)I" } : Jvm.MethodName)) ∈ lw_all := lw_g (lw_at lw_m5 177 rfl) rfl
theorem q1252 : (Jvm.Cond.static ({ cls := "DripCupsLaw", name := "lead", desc := "(LDripCups;II[J)I" } : Jvm.MethodName)) ∈ lw_all := lw_g (lw_at lw_m5 178 rfl) rfl
theorem q1253 : (Jvm.Cond.codeWith ({ cls := "DripCupsLaw", name := "lead", desc := "(LDripCups;II[J)I" } : Jvm.MethodName) method_6_code (5 : Nat) (Option.some Jvm.ClassFile.FieldType.int) [((0 : Nat), (17 : Nat), (20 : Nat), (18 : Nat))]) ∈ lw_all := lw_g (lw_at lw_m5 179 rfl) rfl
theorem q1254 : (Jvm.Cond.methodLink "DripCupsLaw" (24 : Nat) ({ cls := "DripCups", name := "lead", desc := "(II)Z" } : Jvm.MethodName)) ∈ lw_all := lw_g (lw_at lw_m5 180 rfl) rfl
theorem q1270 : (Jvm.Cond.methodLink "DripCupsLaw" (159 : Nat) ({ cls := "DripCupsLaw", name := "plug", desc := "(LDripCups;IZ[J)I" } : Jvm.MethodName)) ∈ lw_all := lw_g (lw_at lw_m5 196 rfl) rfl
theorem q1271 : (Jvm.Cond.static ({ cls := "DripCupsLaw", name := "plug", desc := "(LDripCups;IZ[J)I" } : Jvm.MethodName)) ∈ lw_all := lw_g (lw_at lw_m5 197 rfl) rfl
theorem q1272 : (Jvm.Cond.codeWith ({ cls := "DripCupsLaw", name := "plug", desc := "(LDripCups;IZ[J)I" } : Jvm.MethodName) method_7_code (5 : Nat) (Option.some Jvm.ClassFile.FieldType.int) [((0 : Nat), (17 : Nat), (20 : Nat), (18 : Nat))]) ∈ lw_all := lw_g (lw_at lw_m5 198 rfl) rfl
theorem q1273 : (Jvm.Cond.methodLink "DripCupsLaw" (28 : Nat) ({ cls := "DripCups", name := "plug", desc := "(IZ)Z" } : Jvm.MethodName)) ∈ lw_all := lw_g (lw_at lw_m5 199 rfl) rfl
theorem q1277 : (Jvm.Cond.methodLink "DripCupsLaw" (163 : Nat) ({ cls := "DripCupsLaw", name := "pour", desc := "(LDripCups;II[J)I" } : Jvm.MethodName)) ∈ lw_all := lw_g (lw_at lw_m5 203 rfl) rfl
theorem q1278 : (Jvm.Cond.static ({ cls := "DripCupsLaw", name := "pour", desc := "(LDripCups;II[J)I" } : Jvm.MethodName)) ∈ lw_all := lw_g (lw_at lw_m5 204 rfl) rfl
theorem q1279 : (Jvm.Cond.codeWith ({ cls := "DripCupsLaw", name := "pour", desc := "(LDripCups;II[J)I" } : Jvm.MethodName) method_8_code (5 : Nat) (Option.some Jvm.ClassFile.FieldType.int) [((0 : Nat), (10 : Nat), (13 : Nat), (18 : Nat))]) ∈ lw_all := lw_g (lw_at lw_m5 205 rfl) rfl
theorem q1280 : (Jvm.Cond.methodLink "DripCupsLaw" (32 : Nat) ({ cls := "DripCups", name := "pour", desc := "(II)I" } : Jvm.MethodName)) ∈ lw_all := lw_g (lw_at lw_m5 206 rfl) rfl
theorem q1288 : (Jvm.Cond.methodLink "DripCupsLaw" (166 : Nat) ({ cls := "DripCupsLaw", name := "crack", desc := "(LDripCups;II[J)I" } : Jvm.MethodName)) ∈ lw_all := lw_g (lw_at lw_m5 214 rfl) rfl
theorem q1289 : (Jvm.Cond.static ({ cls := "DripCupsLaw", name := "crack", desc := "(LDripCups;II[J)I" } : Jvm.MethodName)) ∈ lw_all := lw_g (lw_at lw_m5 215 rfl) rfl
theorem q1290 : (Jvm.Cond.codeWith ({ cls := "DripCupsLaw", name := "crack", desc := "(LDripCups;II[J)I" } : Jvm.MethodName) method_9_code (5 : Nat) (Option.some Jvm.ClassFile.FieldType.int) [((0 : Nat), (10 : Nat), (13 : Nat), (18 : Nat))]) ∈ lw_all := lw_g (lw_at lw_m5 216 rfl) rfl
theorem q1291 : (Jvm.Cond.methodLink "DripCupsLaw" (35 : Nat) ({ cls := "DripCups", name := "crack", desc := "(II)I" } : Jvm.MethodName)) ∈ lw_all := lw_g (lw_at lw_m5 217 rfl) rfl
theorem q1299 : (Jvm.Cond.methodLink "DripCupsLaw" (173 : Nat) ({ cls := "DripCupsLaw", name := "then", desc := "(LDripCups;III[J)I" } : Jvm.MethodName)) ∈ lw_all := lw_g (lw_at lw_m5 225 rfl) rfl
theorem q1300 : (Jvm.Cond.static ({ cls := "DripCupsLaw", name := "then", desc := "(LDripCups;III[J)I" } : Jvm.MethodName)) ∈ lw_all := lw_g (lw_at lw_m5 226 rfl) rfl
theorem q1301 : (Jvm.Cond.codeWith ({ cls := "DripCupsLaw", name := "then", desc := "(LDripCups;III[J)I" } : Jvm.MethodName) method_10_code (6 : Nat) (Option.some Jvm.ClassFile.FieldType.int) [((0 : Nat), (12 : Nat), (15 : Nat), (18 : Nat)), ((0 : Nat), (12 : Nat), (19 : Nat), (13 : Nat))]) ∈ lw_all := lw_g (lw_at lw_m5 227 rfl) rfl
theorem q1302 : (Jvm.Cond.methodLink "DripCupsLaw" (38 : Nat) ({ cls := "DripCups", name := "then", desc := "(III)I" } : Jvm.MethodName)) ∈ lw_all := lw_g (lw_at lw_m5 228 rfl) rfl
theorem q1313 : (Jvm.Cond.methodLink "DripCupsLaw" (177 : Nat) ({ cls := "DripCupsLaw", name := "tipping", desc := "(LDripCups;I[J)I" } : Jvm.MethodName)) ∈ lw_all := lw_g (lw_at lw_m5 239 rfl) rfl
theorem q1314 : (Jvm.Cond.static ({ cls := "DripCupsLaw", name := "tipping", desc := "(LDripCups;I[J)I" } : Jvm.MethodName)) ∈ lw_all := lw_g (lw_at lw_m6 0 rfl) rfl
theorem q1315 : (Jvm.Cond.codeWith ({ cls := "DripCupsLaw", name := "tipping", desc := "(LDripCups;I[J)I" } : Jvm.MethodName) method_11_code (4 : Nat) (Option.some Jvm.ClassFile.FieldType.int) [((0 : Nat), (9 : Nat), (12 : Nat), (13 : Nat))]) ∈ lw_all := lw_g (lw_at lw_m6 1 rfl) rfl
theorem q1316 : (Jvm.Cond.methodLink "DripCupsLaw" (42 : Nat) ({ cls := "DripCups", name := "tipping", desc := "(I)I" } : Jvm.MethodName)) ∈ lw_all := lw_g (lw_at lw_m6 2 rfl) rfl
theorem q1320 : (Jvm.Cond.methodLink "DripCupsLaw" (180 : Nat) ({ cls := "DripCupsLaw", name := "next", desc := "(LDripCups;I[J)I" } : Jvm.MethodName)) ∈ lw_all := lw_g (lw_at lw_m6 6 rfl) rfl
theorem q1321 : (Jvm.Cond.static ({ cls := "DripCupsLaw", name := "next", desc := "(LDripCups;I[J)I" } : Jvm.MethodName)) ∈ lw_all := lw_g (lw_at lw_m6 7 rfl) rfl
theorem q1322 : (Jvm.Cond.codeWith ({ cls := "DripCupsLaw", name := "next", desc := "(LDripCups;I[J)I" } : Jvm.MethodName) method_12_code (4 : Nat) (Option.some Jvm.ClassFile.FieldType.int) [((0 : Nat), (9 : Nat), (12 : Nat), (18 : Nat))]) ∈ lw_all := lw_g (lw_at lw_m6 8 rfl) rfl
theorem q1323 : (Jvm.Cond.methodLink "DripCupsLaw" (45 : Nat) ({ cls := "DripCups", name := "next", desc := "(I)I" } : Jvm.MethodName)) ∈ lw_all := lw_g (lw_at lw_m6 9 rfl) rfl
theorem q1335 : (Jvm.Cond.methodLink "DripCupsLaw" (183 : Nat) ({ cls := "DripCupsLaw", name := "together", desc := "(LDripCups;I[J)I" } : Jvm.MethodName)) ∈ lw_all := lw_g (lw_at lw_m6 21 rfl) rfl
theorem q1336 : (Jvm.Cond.static ({ cls := "DripCupsLaw", name := "together", desc := "(LDripCups;I[J)I" } : Jvm.MethodName)) ∈ lw_all := lw_g (lw_at lw_m6 22 rfl) rfl
theorem q1337 : (Jvm.Cond.codeWith ({ cls := "DripCupsLaw", name := "together", desc := "(LDripCups;I[J)I" } : Jvm.MethodName) method_13_code (4 : Nat) (Option.some Jvm.ClassFile.FieldType.int) [((0 : Nat), (9 : Nat), (12 : Nat), (13 : Nat))]) ∈ lw_all := lw_g (lw_at lw_m6 23 rfl) rfl
theorem q1338 : (Jvm.Cond.methodLink "DripCupsLaw" (48 : Nat) ({ cls := "DripCups", name := "together", desc := "(I)I" } : Jvm.MethodName)) ∈ lw_all := lw_g (lw_at lw_m6 24 rfl) rfl
theorem q1346 : (Jvm.Cond.methodLink "DripCupsLaw" (186 : Nat) ({ cls := "DripCupsLaw", name := "sound", desc := "(LDripCups;II[J)I" } : Jvm.MethodName)) ∈ lw_all := lw_g (lw_at lw_m6 32 rfl) rfl
theorem q1347 : (Jvm.Cond.static ({ cls := "DripCupsLaw", name := "sound", desc := "(LDripCups;II[J)I" } : Jvm.MethodName)) ∈ lw_all := lw_g (lw_at lw_m6 33 rfl) rfl
theorem q1348 : (Jvm.Cond.codeWith ({ cls := "DripCupsLaw", name := "sound", desc := "(LDripCups;II[J)I" } : Jvm.MethodName) method_14_code (5 : Nat) (Option.some Jvm.ClassFile.FieldType.int) [((0 : Nat), (10 : Nat), (13 : Nat), (18 : Nat)), ((0 : Nat), (10 : Nat), (17 : Nat), (13 : Nat))]) ∈ lw_all := lw_g (lw_at lw_m6 34 rfl) rfl
theorem q1349 : (Jvm.Cond.methodLink "DripCupsLaw" (51 : Nat) ({ cls := "DripCups", name := "sound", desc := "(II)I" } : Jvm.MethodName)) ∈ lw_all := lw_g (lw_at lw_m6 35 rfl) rfl
theorem q1359 : (Jvm.Cond.methodLink "DripCupsLaw" (189 : Nat) ({ cls := "DripCupsLaw", name := "fallen", desc := "(LDripCups;II[J)I" } : Jvm.MethodName)) ∈ lw_all := lw_g (lw_at lw_m6 45 rfl) rfl
theorem q1360 : (Jvm.Cond.static ({ cls := "DripCupsLaw", name := "fallen", desc := "(LDripCups;II[J)I" } : Jvm.MethodName)) ∈ lw_all := lw_g (lw_at lw_m6 46 rfl) rfl
theorem q1361 : (Jvm.Cond.codeWith ({ cls := "DripCupsLaw", name := "fallen", desc := "(LDripCups;II[J)I" } : Jvm.MethodName) method_15_code (5 : Nat) (Option.some Jvm.ClassFile.FieldType.int) [((0 : Nat), (10 : Nat), (13 : Nat), (18 : Nat)), ((0 : Nat), (10 : Nat), (17 : Nat), (13 : Nat))]) ∈ lw_all := lw_g (lw_at lw_m6 47 rfl) rfl
theorem q1362 : (Jvm.Cond.methodLink "DripCupsLaw" (54 : Nat) ({ cls := "DripCups", name := "fallen", desc := "(II)I" } : Jvm.MethodName)) ∈ lw_all := lw_g (lw_at lw_m6 48 rfl) rfl
theorem q1373 : (Jvm.Cond.methodLink "DripCupsLaw" (192 : Nat) ({ cls := "DripCupsLaw", name := "nth", desc := "(LDripCups;II[J)I" } : Jvm.MethodName)) ∈ lw_all := lw_g (lw_at lw_m6 59 rfl) rfl
theorem q1374 : (Jvm.Cond.static ({ cls := "DripCupsLaw", name := "nth", desc := "(LDripCups;II[J)I" } : Jvm.MethodName)) ∈ lw_all := lw_g (lw_at lw_m6 60 rfl) rfl
theorem q1375 : (Jvm.Cond.codeWith ({ cls := "DripCupsLaw", name := "nth", desc := "(LDripCups;II[J)I" } : Jvm.MethodName) method_16_code (5 : Nat) (Option.some Jvm.ClassFile.FieldType.int) [((0 : Nat), (10 : Nat), (13 : Nat), (18 : Nat)), ((0 : Nat), (10 : Nat), (17 : Nat), (13 : Nat))]) ∈ lw_all := lw_g (lw_at lw_m6 61 rfl) rfl
theorem q1376 : (Jvm.Cond.methodLink "DripCupsLaw" (57 : Nat) ({ cls := "DripCups", name := "nth", desc := "(II)I" } : Jvm.MethodName)) ∈ lw_all := lw_g (lw_at lw_m6 62 rfl) rfl
theorem q1382 : (Jvm.Cond.methodLink "DripCupsLaw" (195 : Nat) ({ cls := "DripCupsLaw", name := "meeting", desc := "(LDripCups;I[J)I" } : Jvm.MethodName)) ∈ lw_all := lw_g (lw_at lw_m6 68 rfl) rfl
theorem q1383 : (Jvm.Cond.static ({ cls := "DripCupsLaw", name := "meeting", desc := "(LDripCups;I[J)I" } : Jvm.MethodName)) ∈ lw_all := lw_g (lw_at lw_m6 69 rfl) rfl
theorem q1384 : (Jvm.Cond.codeWith ({ cls := "DripCupsLaw", name := "meeting", desc := "(LDripCups;I[J)I" } : Jvm.MethodName) method_17_code (4 : Nat) (Option.some Jvm.ClassFile.FieldType.int) [((0 : Nat), (9 : Nat), (12 : Nat), (13 : Nat))]) ∈ lw_all := lw_g (lw_at lw_m6 70 rfl) rfl
theorem q1385 : (Jvm.Cond.methodLink "DripCupsLaw" (60 : Nat) ({ cls := "DripCups", name := "meeting", desc := "(I)I" } : Jvm.MethodName)) ∈ lw_all := lw_g (lw_at lw_m6 71 rfl) rfl
theorem q1393 : (Jvm.Cond.methodLink "DripCupsLaw" (198 : Nat) ({ cls := "DripCupsLaw", name := "flow", desc := "(LDripCups;II[J)I" } : Jvm.MethodName)) ∈ lw_all := lw_g (lw_at lw_m6 79 rfl) rfl
theorem q1394 : (Jvm.Cond.static ({ cls := "DripCupsLaw", name := "flow", desc := "(LDripCups;II[J)I" } : Jvm.MethodName)) ∈ lw_all := lw_g (lw_at lw_m6 80 rfl) rfl
theorem q1395 : (Jvm.Cond.codeWith ({ cls := "DripCupsLaw", name := "flow", desc := "(LDripCups;II[J)I" } : Jvm.MethodName) method_18_code (5 : Nat) (Option.some Jvm.ClassFile.FieldType.int) [((0 : Nat), (10 : Nat), (13 : Nat), (18 : Nat)), ((0 : Nat), (10 : Nat), (17 : Nat), (13 : Nat))]) ∈ lw_all := lw_g (lw_at lw_m6 81 rfl) rfl
theorem q1396 : (Jvm.Cond.methodLink "DripCupsLaw" (63 : Nat) ({ cls := "DripCups", name := "flow", desc := "(II)I" } : Jvm.MethodName)) ∈ lw_all := lw_g (lw_at lw_m6 82 rfl) rfl
theorem q1400 : (Jvm.Cond.methodLink "DripCupsLaw" (201 : Nat) ({ cls := "DripCupsLaw", name := "tier", desc := "(LDripCups;II[J)I" } : Jvm.MethodName)) ∈ lw_all := lw_g (lw_at lw_m6 86 rfl) rfl
theorem q1401 : (Jvm.Cond.static ({ cls := "DripCupsLaw", name := "tier", desc := "(LDripCups;II[J)I" } : Jvm.MethodName)) ∈ lw_all := lw_g (lw_at lw_m6 87 rfl) rfl
theorem q1402 : (Jvm.Cond.codeWith ({ cls := "DripCupsLaw", name := "tier", desc := "(LDripCups;II[J)I" } : Jvm.MethodName) method_19_code (5 : Nat) (Option.some Jvm.ClassFile.FieldType.int) [((0 : Nat), (10 : Nat), (13 : Nat), (18 : Nat))]) ∈ lw_all := lw_g (lw_at lw_m6 88 rfl) rfl
theorem q1403 : (Jvm.Cond.methodLink "DripCupsLaw" (66 : Nat) ({ cls := "DripCups", name := "tier", desc := "(II)I" } : Jvm.MethodName)) ∈ lw_all := lw_g (lw_at lw_m6 89 rfl) rfl
theorem q1407 : (Jvm.Cond.methodLink "DripCupsLaw" (204 : Nat) ({ cls := "DripCupsLaw", name := "toCrack", desc := "(LDripCups;IIII[J)I" } : Jvm.MethodName)) ∈ lw_all := lw_g (lw_at lw_m6 93 rfl) rfl
theorem q1408 : (Jvm.Cond.static ({ cls := "DripCupsLaw", name := "toCrack", desc := "(LDripCups;IIII[J)I" } : Jvm.MethodName)) ∈ lw_all := lw_g (lw_at lw_m6 94 rfl) rfl
theorem q1409 : (Jvm.Cond.codeWith ({ cls := "DripCupsLaw", name := "toCrack", desc := "(LDripCups;IIII[J)I" } : Jvm.MethodName) method_20_code (7 : Nat) (Option.some Jvm.ClassFile.FieldType.int) [((0 : Nat), (14 : Nat), (17 : Nat), (18 : Nat)), ((0 : Nat), (14 : Nat), (21 : Nat), (13 : Nat))]) ∈ lw_all := lw_g (lw_at lw_m6 95 rfl) rfl
theorem q1410 : (Jvm.Cond.methodLink "DripCupsLaw" (69 : Nat) ({ cls := "DripCups", name := "toCrack", desc := "(IIII)I" } : Jvm.MethodName)) ∈ lw_all := lw_g (lw_at lw_m6 96 rfl) rfl
theorem q1418 : (Jvm.Cond.methodLink "DripCupsLaw" (208 : Nat) ({ cls := "DripCupsLaw", name := "office", desc := "(LDripCups;II[J)I" } : Jvm.MethodName)) ∈ lw_all := lw_g (lw_at lw_m6 104 rfl) rfl
theorem q1419 : (Jvm.Cond.static ({ cls := "DripCupsLaw", name := "office", desc := "(LDripCups;II[J)I" } : Jvm.MethodName)) ∈ lw_all := lw_g (lw_at lw_m6 105 rfl) rfl
theorem q1420 : (Jvm.Cond.codeWith ({ cls := "DripCupsLaw", name := "office", desc := "(LDripCups;II[J)I" } : Jvm.MethodName) method_21_code (5 : Nat) (Option.some Jvm.ClassFile.FieldType.int) [((0 : Nat), (10 : Nat), (13 : Nat), (18 : Nat)), ((0 : Nat), (10 : Nat), (17 : Nat), (13 : Nat))]) ∈ lw_all := lw_g (lw_at lw_m6 106 rfl) rfl
theorem q1421 : (Jvm.Cond.methodLink "DripCupsLaw" (73 : Nat) ({ cls := "DripCups", name := "office", desc := "(II)I" } : Jvm.MethodName)) ∈ lw_all := lw_g (lw_at lw_m6 107 rfl) rfl
theorem q1429 : (Jvm.Cond.methodLink "DripCupsLaw" (211 : Nat) ({ cls := "DripCupsLaw", name := "hear", desc := "(LDripCups;IIZ[J)I" } : Jvm.MethodName)) ∈ lw_all := lw_g (lw_at lw_m6 115 rfl) rfl
theorem q1430 : (Jvm.Cond.static ({ cls := "DripCupsLaw", name := "hear", desc := "(LDripCups;IIZ[J)I" } : Jvm.MethodName)) ∈ lw_all := lw_g (lw_at lw_m6 116 rfl) rfl
theorem q1431 : (Jvm.Cond.codeWith ({ cls := "DripCupsLaw", name := "hear", desc := "(LDripCups;IIZ[J)I" } : Jvm.MethodName) method_22_code (6 : Nat) (Option.some Jvm.ClassFile.FieldType.int) [((0 : Nat), (12 : Nat), (15 : Nat), (18 : Nat))]) ∈ lw_all := lw_g (lw_at lw_m6 117 rfl) rfl
theorem q1432 : (Jvm.Cond.methodLink "DripCupsLaw" (76 : Nat) ({ cls := "DripCups", name := "hear", desc := "(IIZ)I" } : Jvm.MethodName)) ∈ lw_all := lw_g (lw_at lw_m6 118 rfl) rfl
theorem q1436 : (Jvm.Cond.methodLink "DripCupsLaw" (219 : Nat) ({ cls := "DripCupsLaw", name := "led", desc := "(LDripCups;I[J)I" } : Jvm.MethodName)) ∈ lw_all := lw_g (lw_at lw_m6 122 rfl) rfl
theorem q1437 : (Jvm.Cond.static ({ cls := "DripCupsLaw", name := "led", desc := "(LDripCups;I[J)I" } : Jvm.MethodName)) ∈ lw_all := lw_g (lw_at lw_m6 123 rfl) rfl
theorem q1438 : (Jvm.Cond.codeWith ({ cls := "DripCupsLaw", name := "led", desc := "(LDripCups;I[J)I" } : Jvm.MethodName) method_23_code (4 : Nat) (Option.some Jvm.ClassFile.FieldType.int) [((0 : Nat), (9 : Nat), (12 : Nat), (18 : Nat))]) ∈ lw_all := lw_g (lw_at lw_m6 124 rfl) rfl
theorem q1439 : (Jvm.Cond.methodLink "DripCupsLaw" (80 : Nat) ({ cls := "DripCups", name := "led", desc := "(I)I" } : Jvm.MethodName)) ∈ lw_all := lw_g (lw_at lw_m6 125 rfl) rfl
theorem q1457 : (Jvm.Cond.methodLink "DripCupsLaw" (222 : Nat) ({ cls := "DripCupsLaw", name := "listen", desc := "(LDripCups;I[J)I" } : Jvm.MethodName)) ∈ lw_all := lw_g (lw_at lw_m6 143 rfl) rfl
theorem q1458 : (Jvm.Cond.static ({ cls := "DripCupsLaw", name := "listen", desc := "(LDripCups;I[J)I" } : Jvm.MethodName)) ∈ lw_all := lw_g (lw_at lw_m6 144 rfl) rfl
theorem q1459 : (Jvm.Cond.codeWith ({ cls := "DripCupsLaw", name := "listen", desc := "(LDripCups;I[J)I" } : Jvm.MethodName) method_24_code (4 : Nat) (Option.some Jvm.ClassFile.FieldType.int) [((0 : Nat), (9 : Nat), (12 : Nat), (18 : Nat))]) ∈ lw_all := lw_g (lw_at lw_m6 145 rfl) rfl
theorem q1460 : (Jvm.Cond.methodLink "DripCupsLaw" (83 : Nat) ({ cls := "DripCups", name := "listen", desc := "(I)I" } : Jvm.MethodName)) ∈ lw_all := lw_g (lw_at lw_m6 146 rfl) rfl
theorem q1466 : (Jvm.Cond.methodLink "DripCupsLaw" (225 : Nat) ({ cls := "DripCupsLaw", name := "cold", desc := "(LDripCups;III[J)I" } : Jvm.MethodName)) ∈ lw_all := lw_g (lw_at lw_m6 152 rfl) rfl
theorem q1467 : (Jvm.Cond.static ({ cls := "DripCupsLaw", name := "cold", desc := "(LDripCups;III[J)I" } : Jvm.MethodName)) ∈ lw_all := lw_g (lw_at lw_m6 153 rfl) rfl
theorem q1468 : (Jvm.Cond.codeWith ({ cls := "DripCupsLaw", name := "cold", desc := "(LDripCups;III[J)I" } : Jvm.MethodName) method_25_code (6 : Nat) (Option.some Jvm.ClassFile.FieldType.int) [((0 : Nat), (12 : Nat), (15 : Nat), (18 : Nat)), ((0 : Nat), (12 : Nat), (19 : Nat), (13 : Nat))]) ∈ lw_all := lw_g (lw_at lw_m6 154 rfl) rfl
theorem q1469 : (Jvm.Cond.methodLink "DripCupsLaw" (86 : Nat) ({ cls := "DripCups", name := "cold", desc := "(III)I" } : Jvm.MethodName)) ∈ lw_all := lw_g (lw_at lw_m6 155 rfl) rfl
theorem q1473 : (Jvm.Cond.methodLink "DripCupsLaw" (228 : Nat) ({ cls := "DripCupsLaw", name := "game", desc := "(LDripCups;III[J)I" } : Jvm.MethodName)) ∈ lw_all := lw_g (lw_at lw_m6 159 rfl) rfl
theorem q1474 : (Jvm.Cond.static ({ cls := "DripCupsLaw", name := "game", desc := "(LDripCups;III[J)I" } : Jvm.MethodName)) ∈ lw_all := lw_g (lw_at lw_m6 160 rfl) rfl
theorem q1475 : (Jvm.Cond.codeWith ({ cls := "DripCupsLaw", name := "game", desc := "(LDripCups;III[J)I" } : Jvm.MethodName) method_26_code (6 : Nat) (Option.some Jvm.ClassFile.FieldType.int) [((0 : Nat), (12 : Nat), (15 : Nat), (18 : Nat)), ((0 : Nat), (12 : Nat), (19 : Nat), (13 : Nat))]) ∈ lw_all := lw_g (lw_at lw_m6 161 rfl) rfl
theorem q1476 : (Jvm.Cond.methodLink "DripCupsLaw" (89 : Nat) ({ cls := "DripCups", name := "game", desc := "(III)I" } : Jvm.MethodName)) ∈ lw_all := lw_g (lw_at lw_m6 162 rfl) rfl
theorem q1484 : (Jvm.Cond.methodLink "DripCupsLaw" (231 : Nat) ({ cls := "DripCupsLaw", name := "years", desc := "(LDripCups;III[J)I" } : Jvm.MethodName)) ∈ lw_all := lw_g (lw_at lw_m6 170 rfl) rfl
theorem q1485 : (Jvm.Cond.static ({ cls := "DripCupsLaw", name := "years", desc := "(LDripCups;III[J)I" } : Jvm.MethodName)) ∈ lw_all := lw_g (lw_at lw_m6 171 rfl) rfl
theorem q1486 : (Jvm.Cond.codeWith ({ cls := "DripCupsLaw", name := "years", desc := "(LDripCups;III[J)I" } : Jvm.MethodName) method_27_code (6 : Nat) (Option.some Jvm.ClassFile.FieldType.int) [((0 : Nat), (12 : Nat), (15 : Nat), (18 : Nat)), ((0 : Nat), (12 : Nat), (19 : Nat), (13 : Nat))]) ∈ lw_all := lw_g (lw_at lw_m6 172 rfl) rfl
theorem q1487 : (Jvm.Cond.methodLink "DripCupsLaw" (92 : Nat) ({ cls := "DripCups", name := "years", desc := "(III)I" } : Jvm.MethodName)) ∈ lw_all := lw_g (lw_at lw_m6 173 rfl) rfl
theorem q1500 : (Jvm.Cond.methodLink "DripCupsLaw" (234 : Nat) ({ cls := "DripCupsLaw", name := "later", desc := "(LDripCups;II[J)I" } : Jvm.MethodName)) ∈ lw_all := lw_g (lw_at lw_m6 186 rfl) rfl
theorem q1501 : (Jvm.Cond.static ({ cls := "DripCupsLaw", name := "later", desc := "(LDripCups;II[J)I" } : Jvm.MethodName)) ∈ lw_all := lw_g (lw_at lw_m6 187 rfl) rfl
theorem q1502 : (Jvm.Cond.codeWith ({ cls := "DripCupsLaw", name := "later", desc := "(LDripCups;II[J)I" } : Jvm.MethodName) method_28_code (5 : Nat) (Option.some Jvm.ClassFile.FieldType.int) [((0 : Nat), (10 : Nat), (13 : Nat), (18 : Nat)), ((0 : Nat), (10 : Nat), (17 : Nat), (13 : Nat))]) ∈ lw_all := lw_g (lw_at lw_m6 188 rfl) rfl
theorem q1503 : (Jvm.Cond.methodLink "DripCupsLaw" (95 : Nat) ({ cls := "DripCups", name := "later", desc := "(II)I" } : Jvm.MethodName)) ∈ lw_all := lw_g (lw_at lw_m6 189 rfl) rfl
theorem q1515 : (Jvm.Cond.methodLink "DripCupsLaw" (237 : Nat) ({ cls := "DripCupsLaw", name := "oftenest", desc := "(LDripCups;I[J)I" } : Jvm.MethodName)) ∈ lw_all := lw_g (lw_at lw_m6 201 rfl) rfl
theorem q1516 : (Jvm.Cond.static ({ cls := "DripCupsLaw", name := "oftenest", desc := "(LDripCups;I[J)I" } : Jvm.MethodName)) ∈ lw_all := lw_g (lw_at lw_m6 202 rfl) rfl
theorem q1517 : (Jvm.Cond.codeWith ({ cls := "DripCupsLaw", name := "oftenest", desc := "(LDripCups;I[J)I" } : Jvm.MethodName) method_29_code (4 : Nat) (Option.some Jvm.ClassFile.FieldType.int) [((0 : Nat), (9 : Nat), (12 : Nat), (13 : Nat))]) ∈ lw_all := lw_g (lw_at lw_m6 203 rfl) rfl
theorem q1518 : (Jvm.Cond.methodLink "DripCupsLaw" (98 : Nat) ({ cls := "DripCups", name := "oftenest", desc := "(I)I" } : Jvm.MethodName)) ∈ lw_all := lw_g (lw_at lw_m6 204 rfl) rfl
theorem q1522 : (Jvm.Cond.methodLink "DripCupsLaw" (244 : Nat) ({ cls := "DripCupsLaw", name := "pause", desc := "(LDripCups;I[J)I" } : Jvm.MethodName)) ∈ lw_all := lw_g (lw_at lw_m6 208 rfl) rfl
theorem q1523 : (Jvm.Cond.static ({ cls := "DripCupsLaw", name := "pause", desc := "(LDripCups;I[J)I" } : Jvm.MethodName)) ∈ lw_all := lw_g (lw_at lw_m6 209 rfl) rfl
theorem q1524 : (Jvm.Cond.codeWith ({ cls := "DripCupsLaw", name := "pause", desc := "(LDripCups;I[J)I" } : Jvm.MethodName) method_30_code (4 : Nat) (Option.some Jvm.ClassFile.FieldType.int) [((0 : Nat), (9 : Nat), (12 : Nat), (18 : Nat))]) ∈ lw_all := lw_g (lw_at lw_m6 210 rfl) rfl
theorem q1525 : (Jvm.Cond.methodLink "DripCupsLaw" (101 : Nat) ({ cls := "DripCups", name := "pause", desc := "(I)I" } : Jvm.MethodName)) ∈ lw_all := lw_g (lw_at lw_m6 211 rfl) rfl
theorem q1529 : (Jvm.Cond.methodLink "DripCupsLaw" (247 : Nat) ({ cls := "DripCupsLaw", name := "giver", desc := "(LDripCups;II[J)I" } : Jvm.MethodName)) ∈ lw_all := lw_g (lw_at lw_m6 215 rfl) rfl
theorem q1530 : (Jvm.Cond.static ({ cls := "DripCupsLaw", name := "giver", desc := "(LDripCups;II[J)I" } : Jvm.MethodName)) ∈ lw_all := lw_g (lw_at lw_m6 216 rfl) rfl
theorem q1531 : (Jvm.Cond.codeWith ({ cls := "DripCupsLaw", name := "giver", desc := "(LDripCups;II[J)I" } : Jvm.MethodName) method_31_code (5 : Nat) (Option.some Jvm.ClassFile.FieldType.int) [((0 : Nat), (10 : Nat), (13 : Nat), (18 : Nat)), ((0 : Nat), (10 : Nat), (17 : Nat), (13 : Nat))]) ∈ lw_all := lw_g (lw_at lw_m6 217 rfl) rfl
theorem q1532 : (Jvm.Cond.methodLink "DripCupsLaw" (104 : Nat) ({ cls := "DripCups", name := "giver", desc := "(II)I" } : Jvm.MethodName)) ∈ lw_all := lw_g (lw_at lw_m6 218 rfl) rfl
theorem q1542 : (Jvm.Cond.methodLink "DripCupsLaw" (250 : Nat) ({ cls := "DripCupsLaw", name := "toPour", desc := "(LDripCups;II[J)I" } : Jvm.MethodName)) ∈ lw_all := lw_g (lw_at lw_m6 228 rfl) rfl
theorem q1543 : (Jvm.Cond.static ({ cls := "DripCupsLaw", name := "toPour", desc := "(LDripCups;II[J)I" } : Jvm.MethodName)) ∈ lw_all := lw_g (lw_at lw_m6 229 rfl) rfl
theorem q1544 : (Jvm.Cond.codeWith ({ cls := "DripCupsLaw", name := "toPour", desc := "(LDripCups;II[J)I" } : Jvm.MethodName) method_32_code (5 : Nat) (Option.some Jvm.ClassFile.FieldType.int) [((0 : Nat), (10 : Nat), (13 : Nat), (18 : Nat)), ((0 : Nat), (10 : Nat), (17 : Nat), (13 : Nat))]) ∈ lw_all := lw_g (lw_at lw_m6 230 rfl) rfl
theorem q1545 : (Jvm.Cond.methodLink "DripCupsLaw" (107 : Nat) ({ cls := "DripCups", name := "toPour", desc := "(II)I" } : Jvm.MethodName)) ∈ lw_all := lw_g (lw_at lw_m6 231 rfl) rfl
theorem q1549 : (Jvm.Cond.methodLink "DripCupsLaw" (253 : Nat) ({ cls := "DripCupsLaw", name := "ways", desc := "(LDripCups;II[J)I" } : Jvm.MethodName)) ∈ lw_all := lw_g (lw_at lw_m6 235 rfl) rfl
theorem q1550 : (Jvm.Cond.static ({ cls := "DripCupsLaw", name := "ways", desc := "(LDripCups;II[J)I" } : Jvm.MethodName)) ∈ lw_all := lw_g (lw_at lw_m6 236 rfl) rfl
theorem q1551 : (Jvm.Cond.codeWith ({ cls := "DripCupsLaw", name := "ways", desc := "(LDripCups;II[J)I" } : Jvm.MethodName) method_33_code (5 : Nat) (Option.some Jvm.ClassFile.FieldType.int) [((0 : Nat), (10 : Nat), (13 : Nat), (18 : Nat))]) ∈ lw_all := lw_g (lw_at lw_m6 237 rfl) rfl
theorem q1552 : (Jvm.Cond.methodLink "DripCupsLaw" (110 : Nat) ({ cls := "DripCups", name := "ways", desc := "(II)I" } : Jvm.MethodName)) ∈ lw_all := lw_g (lw_at lw_m6 238 rfl) rfl
theorem q1560 : (Jvm.Cond.methodLink "DripCupsLaw" (256 : Nat) ({ cls := "DripCupsLaw", name := "chorus", desc := "(LDripCups;II[J)I" } : Jvm.MethodName)) ∈ lw_all := lw_g (lw_at lw_m7 6 rfl) rfl
theorem q1561 : (Jvm.Cond.static ({ cls := "DripCupsLaw", name := "chorus", desc := "(LDripCups;II[J)I" } : Jvm.MethodName)) ∈ lw_all := lw_g (lw_at lw_m7 7 rfl) rfl
theorem q1562 : (Jvm.Cond.codeWith ({ cls := "DripCupsLaw", name := "chorus", desc := "(LDripCups;II[J)I" } : Jvm.MethodName) method_34_code (5 : Nat) (Option.some Jvm.ClassFile.FieldType.int) [((0 : Nat), (10 : Nat), (13 : Nat), (13 : Nat))]) ∈ lw_all := lw_g (lw_at lw_m7 8 rfl) rfl
theorem q1563 : (Jvm.Cond.methodLink "DripCupsLaw" (113 : Nat) ({ cls := "DripCups", name := "chorus", desc := "(II)I" } : Jvm.MethodName)) ∈ lw_all := lw_g (lw_at lw_m7 9 rfl) rfl
theorem q1567 : (Jvm.Cond.methodLink "DripCupsLaw" (259 : Nat) ({ cls := "DripCupsLaw", name := "never", desc := "(LDripCups;I[J)I" } : Jvm.MethodName)) ∈ lw_all := lw_g (lw_at lw_m7 13 rfl) rfl
theorem q1568 : (Jvm.Cond.static ({ cls := "DripCupsLaw", name := "never", desc := "(LDripCups;I[J)I" } : Jvm.MethodName)) ∈ lw_all := lw_g (lw_at lw_m7 14 rfl) rfl
theorem q1569 : (Jvm.Cond.codeWith ({ cls := "DripCupsLaw", name := "never", desc := "(LDripCups;I[J)I" } : Jvm.MethodName) method_35_code (4 : Nat) (Option.some Jvm.ClassFile.FieldType.int) [((0 : Nat), (9 : Nat), (12 : Nat), (13 : Nat))]) ∈ lw_all := lw_g (lw_at lw_m7 15 rfl) rfl
theorem q1570 : (Jvm.Cond.methodLink "DripCupsLaw" (116 : Nat) ({ cls := "DripCups", name := "never", desc := "(I)I" } : Jvm.MethodName)) ∈ lw_all := lw_g (lw_at lw_m7 16 rfl) rfl
theorem q1574 : (Jvm.Cond.methodLink "DripCupsLaw" (262 : Nat) ({ cls := "DripCupsLaw", name := "swell", desc := "(LDripCups;II[J)I" } : Jvm.MethodName)) ∈ lw_all := lw_g (lw_at lw_m7 20 rfl) rfl
theorem q1575 : (Jvm.Cond.static ({ cls := "DripCupsLaw", name := "swell", desc := "(LDripCups;II[J)I" } : Jvm.MethodName)) ∈ lw_all := lw_g (lw_at lw_m7 21 rfl) rfl
theorem q1576 : (Jvm.Cond.codeWith ({ cls := "DripCupsLaw", name := "swell", desc := "(LDripCups;II[J)I" } : Jvm.MethodName) method_36_code (5 : Nat) (Option.some Jvm.ClassFile.FieldType.int) [((0 : Nat), (10 : Nat), (13 : Nat), (18 : Nat)), ((0 : Nat), (10 : Nat), (17 : Nat), (13 : Nat))]) ∈ lw_all := lw_g (lw_at lw_m7 22 rfl) rfl
theorem q1577 : (Jvm.Cond.methodLink "DripCupsLaw" (119 : Nat) ({ cls := "DripCups", name := "swell", desc := "(II)I" } : Jvm.MethodName)) ∈ lw_all := lw_g (lw_at lw_m7 23 rfl) rfl
theorem q1581 : (Jvm.Cond.classLink "DripCupsLaw" (123 : Nat) "DripCupsModel") ∈ lw_all := lw_g (lw_at lw_m7 27 rfl) rfl
theorem q1583 : (Jvm.Cond.methodLink "DripCupsLaw" (125 : Nat) ({ cls := "DripCupsModel", name := "<init>", desc := "()V" } : Jvm.MethodName)) ∈ lw_all := lw_g (lw_at lw_m7 29 rfl) rfl
theorem q1769 : (Jvm.Cond.methodLink "DripCupsLaw" (137 : Nat) ({ cls := "DripCupsModel", name := "thrown", desc := "()I" } : Jvm.MethodName)) ∈ lw_all := lw_g (lw_at lw_m7 215 rfl) rfl
theorem q1773 : (Jvm.Cond.methodLink "DripCupsLaw" (130 : Nat) ({ cls := "DripCupsModel", name := "feed", desc := "(IIIII)I" } : Jvm.MethodName)) ∈ lw_all := lw_g (lw_at lw_m7 219 rfl) rfl
theorem q1781 : (Jvm.Cond.methodLink "DripCupsLaw" (136 : Nat) ({ cls := "DripCupsModel", name := "cave", desc := "(I)I" } : Jvm.MethodName)) ∈ lw_all := lw_g (lw_at lw_m7 227 rfl) rfl
theorem q1900 : (Jvm.Cond.methodLink "DripCupsLaw" (144 : Nat) ({ cls := "DripCupsModel", name := "fault", desc := "()I" } : Jvm.MethodName)) ∈ lw_all := lw_g (lw_at lw_m8 106 rfl) rfl
theorem q1904 : (Jvm.Cond.methodLink "DripCupsLaw" (172 : Nat) ({ cls := "DripCupsModel", name := "undo", desc := "()I" } : Jvm.MethodName)) ∈ lw_all := lw_g (lw_at lw_m8 110 rfl) rfl
theorem q1908 : (Jvm.Cond.methodLink "DripCupsLaw" (147 : Nat) ({ cls := "DripCupsModel", name := "count", desc := "(I)I" } : Jvm.MethodName)) ∈ lw_all := lw_g (lw_at lw_m8 114 rfl) rfl
theorem q1943 : (Jvm.Cond.methodLink "DripCupsLaw" (151 : Nat) ({ cls := "DripCupsModel", name := "cup", desc := "(II)I" } : Jvm.MethodName)) ∈ lw_all := lw_g (lw_at lw_m8 149 rfl) rfl
theorem q1966 : (Jvm.Cond.methodLink "DripCupsLaw" (155 : Nat) ({ cls := "DripCupsModel", name := "hours", desc := "(I)I" } : Jvm.MethodName)) ∈ lw_all := lw_g (lw_at lw_m8 172 rfl) rfl
theorem q2012 : (Jvm.Cond.methodLink "DripCupsLaw" (158 : Nat) ({ cls := "DripCupsModel", name := "lead", desc := "(II)Z" } : Jvm.MethodName)) ∈ lw_all := lw_g (lw_at lw_m8 218 rfl) rfl
theorem q2020 : (Jvm.Cond.methodLink "DripCupsLaw" (162 : Nat) ({ cls := "DripCupsModel", name := "plug", desc := "(IZ)Z" } : Jvm.MethodName)) ∈ lw_all := lw_g (lw_at lw_m8 226 rfl) rfl
theorem q2024 : (Jvm.Cond.methodLink "DripCupsLaw" (165 : Nat) ({ cls := "DripCupsModel", name := "pour", desc := "(II)I" } : Jvm.MethodName)) ∈ lw_all := lw_g (lw_at lw_m8 230 rfl) rfl
theorem q2032 : (Jvm.Cond.methodLink "DripCupsLaw" (168 : Nat) ({ cls := "DripCupsModel", name := "crack", desc := "(II)I" } : Jvm.MethodName)) ∈ lw_all := lw_g (lw_at lw_m8 238 rfl) rfl
theorem q2040 : (Jvm.Cond.methodLink "DripCupsLaw" (176 : Nat) ({ cls := "DripCupsModel", name := "then", desc := "(III)I" } : Jvm.MethodName)) ∈ lw_all := lw_g (lw_at lw_m9 6 rfl) rfl
theorem q2052 : (Jvm.Cond.methodLink "DripCupsLaw" (179 : Nat) ({ cls := "DripCupsModel", name := "tipping", desc := "(I)I" } : Jvm.MethodName)) ∈ lw_all := lw_g (lw_at lw_m9 18 rfl) rfl
theorem q2060 : (Jvm.Cond.methodLink "DripCupsLaw" (182 : Nat) ({ cls := "DripCupsModel", name := "next", desc := "(I)I" } : Jvm.MethodName)) ∈ lw_all := lw_g (lw_at lw_m9 26 rfl) rfl
theorem q2068 : (Jvm.Cond.methodLink "DripCupsLaw" (185 : Nat) ({ cls := "DripCupsModel", name := "together", desc := "(I)I" } : Jvm.MethodName)) ∈ lw_all := lw_g (lw_at lw_m9 34 rfl) rfl
theorem q2076 : (Jvm.Cond.methodLink "DripCupsLaw" (246 : Nat) ({ cls := "DripCupsModel", name := "pause", desc := "(I)I" } : Jvm.MethodName)) ∈ lw_all := lw_g (lw_at lw_m9 42 rfl) rfl
theorem q2080 : (Jvm.Cond.methodLink "DripCupsLaw" (188 : Nat) ({ cls := "DripCupsModel", name := "sound", desc := "(II)I" } : Jvm.MethodName)) ∈ lw_all := lw_g (lw_at lw_m9 46 rfl) rfl
theorem q2087 : (Jvm.Cond.methodLink "DripCupsLaw" (258 : Nat) ({ cls := "DripCupsModel", name := "chorus", desc := "(II)I" } : Jvm.MethodName)) ∈ lw_all := lw_g (lw_at lw_m9 53 rfl) rfl
theorem q2091 : (Jvm.Cond.methodLink "DripCupsLaw" (261 : Nat) ({ cls := "DripCupsModel", name := "never", desc := "(I)I" } : Jvm.MethodName)) ∈ lw_all := lw_g (lw_at lw_m9 57 rfl) rfl
theorem q2095 : (Jvm.Cond.methodLink "DripCupsLaw" (264 : Nat) ({ cls := "DripCupsModel", name := "swell", desc := "(II)I" } : Jvm.MethodName)) ∈ lw_all := lw_g (lw_at lw_m9 61 rfl) rfl
theorem q2099 : (Jvm.Cond.methodLink "DripCupsLaw" (236 : Nat) ({ cls := "DripCupsModel", name := "later", desc := "(II)I" } : Jvm.MethodName)) ∈ lw_all := lw_g (lw_at lw_m9 65 rfl) rfl
theorem q2103 : (Jvm.Cond.methodLink "DripCupsLaw" (239 : Nat) ({ cls := "DripCupsModel", name := "oftenest", desc := "(I)I" } : Jvm.MethodName)) ∈ lw_all := lw_g (lw_at lw_m9 69 rfl) rfl
theorem q2107 : (Jvm.Cond.methodLink "DripCupsLaw" (243 : Nat) ({ cls := "DripCupsModel", name := "round", desc := "()I" } : Jvm.MethodName)) ∈ lw_all := lw_g (lw_at lw_m9 73 rfl) rfl
theorem q2111 : (Jvm.Cond.methodLink "DripCupsLaw" (191 : Nat) ({ cls := "DripCupsModel", name := "fallen", desc := "(II)I" } : Jvm.MethodName)) ∈ lw_all := lw_g (lw_at lw_m9 77 rfl) rfl
theorem q2124 : (Jvm.Cond.methodLink "DripCupsLaw" (200 : Nat) ({ cls := "DripCupsModel", name := "flow", desc := "(II)I" } : Jvm.MethodName)) ∈ lw_all := lw_g (lw_at lw_m9 90 rfl) rfl
theorem q2128 : (Jvm.Cond.methodLink "DripCupsLaw" (194 : Nat) ({ cls := "DripCupsModel", name := "nth", desc := "(II)I" } : Jvm.MethodName)) ∈ lw_all := lw_g (lw_at lw_m9 94 rfl) rfl
theorem q2134 : (Jvm.Cond.methodLink "DripCupsLaw" (197 : Nat) ({ cls := "DripCupsModel", name := "meeting", desc := "(I)I" } : Jvm.MethodName)) ∈ lw_all := lw_g (lw_at lw_m9 100 rfl) rfl
theorem q2138 : (Jvm.Cond.methodLink "DripCupsLaw" (249 : Nat) ({ cls := "DripCupsModel", name := "giver", desc := "(II)I" } : Jvm.MethodName)) ∈ lw_all := lw_g (lw_at lw_m9 104 rfl) rfl
theorem q2142 : (Jvm.Cond.methodLink "DripCupsLaw" (203 : Nat) ({ cls := "DripCupsModel", name := "tier", desc := "(II)I" } : Jvm.MethodName)) ∈ lw_all := lw_g (lw_at lw_m9 108 rfl) rfl
theorem q2146 : (Jvm.Cond.methodLink "DripCupsLaw" (255 : Nat) ({ cls := "DripCupsModel", name := "ways", desc := "(II)I" } : Jvm.MethodName)) ∈ lw_all := lw_g (lw_at lw_m9 112 rfl) rfl
theorem q2150 : (Jvm.Cond.methodLink "DripCupsLaw" (207 : Nat) ({ cls := "DripCupsModel", name := "toCrack", desc := "(IIII)I" } : Jvm.MethodName)) ∈ lw_all := lw_g (lw_at lw_m9 116 rfl) rfl
theorem q2154 : (Jvm.Cond.methodLink "DripCupsLaw" (252 : Nat) ({ cls := "DripCupsModel", name := "toPour", desc := "(II)I" } : Jvm.MethodName)) ∈ lw_all := lw_g (lw_at lw_m9 120 rfl) rfl
theorem q2158 : (Jvm.Cond.methodLink "DripCupsLaw" (210 : Nat) ({ cls := "DripCupsModel", name := "office", desc := "(II)I" } : Jvm.MethodName)) ∈ lw_all := lw_g (lw_at lw_m9 124 rfl) rfl
theorem q2165 : (Jvm.Cond.methodLink "DripCupsLaw" (214 : Nat) ({ cls := "DripCupsModel", name := "hear", desc := "(IIZ)I" } : Jvm.MethodName)) ∈ lw_all := lw_g (lw_at lw_m9 131 rfl) rfl
theorem q2169 : (Jvm.Cond.methodLink "DripCupsLaw" (218 : Nat) ({ cls := "DripCupsModel", name := "forget", desc := "()V" } : Jvm.MethodName)) ∈ lw_all := lw_g (lw_at lw_m9 135 rfl) rfl
theorem q2173 : (Jvm.Cond.methodLink "DripCupsLaw" (221 : Nat) ({ cls := "DripCupsModel", name := "led", desc := "(I)I" } : Jvm.MethodName)) ∈ lw_all := lw_g (lw_at lw_m9 139 rfl) rfl
theorem q2185 : (Jvm.Cond.methodLink "DripCupsLaw" (224 : Nat) ({ cls := "DripCupsModel", name := "listen", desc := "(I)I" } : Jvm.MethodName)) ∈ lw_all := lw_g (lw_at lw_m9 151 rfl) rfl
theorem q2189 : (Jvm.Cond.methodLink "DripCupsLaw" (227 : Nat) ({ cls := "DripCupsModel", name := "cold", desc := "(III)I" } : Jvm.MethodName)) ∈ lw_all := lw_g (lw_at lw_m9 155 rfl) rfl
theorem q2193 : (Jvm.Cond.methodLink "DripCupsLaw" (230 : Nat) ({ cls := "DripCupsModel", name := "game", desc := "(III)I" } : Jvm.MethodName)) ∈ lw_all := lw_g (lw_at lw_m9 159 rfl) rfl
theorem q2201 : (Jvm.Cond.methodLink "DripCupsLaw" (233 : Nat) ({ cls := "DripCupsModel", name := "years", desc := "(III)I" } : Jvm.MethodName)) ∈ lw_all := lw_g (lw_at lw_m9 167 rfl) rfl
theorem q2214 : (Jvm.Cond.methodLink "DripCupsLaw" (268 : Nat) ({ cls := "DripCupsModel", name := "image", desc := "()V" } : Jvm.MethodName)) ∈ lw_all := lw_g (lw_at lw_m9 180 rfl) rfl
theorem q2218 : (Jvm.Cond.methodLink "DripCupsLaw" (273 : Nat) ({ cls := "DripCupsModel", name := "restore", desc := "()Z" } : Jvm.MethodName)) ∈ lw_all := lw_g (lw_at lw_m9 184 rfl) rfl
/-! the law's own entry -/
set_option maxRecDepth 100000
abbrev cL_law : ByteArray := code
def dkwL_law_109 : List UInt8 := [44, 182, 1, 17, 159, 0, 5, 3, 172, 132, 4, 6, 167, 245, 130, 4, 172]
abbrev dktL_law_109 : List UInt8 := dkwL_law_109 ++ []
def dkwL_law_108 : List UInt8 := [148, 153, 0, 5, 3, 172, 167, 0, 27, 43, 182, 1, 9, 44, 182, 1, 12, 167, 0, 16, 43, 182, 1, 13]
abbrev dktL_law_108 : List UInt8 := dkwL_law_108 ++ dktL_law_109
def dkwL_law_107 : List UInt8 := [54, 6, 44, 182, 0, 137, 21, 5, 159, 0, 5, 3, 172, 21, 5, 154, 0, 15, 45, 3, 47, 21, 6, 133]
abbrev dktL_law_107 : List UInt8 := dkwL_law_107 ++ dktL_law_108
def dkwL_law_106 : List UInt8 := [46, 45, 184, 1, 6, 54, 5, 44, 42, 21, 4, 4, 96, 46, 42, 21, 4, 5, 96, 46, 182, 1, 8]
abbrev dktL_law_106 : List UInt8 := dkwL_law_106 ++ dktL_law_107
def dkwL_law_105 : List UInt8 := [21, 6, 133, 148, 153, 0, 5, 3, 172, 167, 0, 95, 43, 42, 21, 4, 4, 96, 46, 42, 21, 4, 5, 96]
abbrev dktL_law_105 : List UInt8 := dkwL_law_105 ++ dktL_law_106
def dkwL_law_104 : List UInt8 := [182, 1, 5, 54, 6, 44, 182, 0, 137, 21, 5, 159, 0, 5, 3, 172, 21, 5, 154, 0, 15, 45, 3, 47]
abbrev dktL_law_104 : List UInt8 := dkwL_law_104 ++ dktL_law_105
def dkwL_law_103 : List UInt8 := [167, 0, 151, 43, 42, 21, 4, 4, 96, 46, 45, 184, 1, 3, 54, 5, 44, 42, 21, 4, 4, 96, 46]
abbrev dktL_law_103 : List UInt8 := dkwL_law_103 ++ dktL_law_104
def dkwL_law_102 : List UInt8 := [159, 0, 5, 3, 172, 21, 5, 154, 0, 15, 45, 3, 47, 21, 6, 133, 148, 153, 0, 5, 3, 172]
abbrev dktL_law_102 : List UInt8 := dkwL_law_102 ++ dktL_law_103
def dkwL_law_101 : List UInt8 := [21, 4, 4, 96, 46, 42, 21, 4, 5, 96, 46, 182, 1, 2, 54, 6, 44, 182, 0, 137, 21, 5]
abbrev dktL_law_101 : List UInt8 := dkwL_law_101 ++ dktL_law_102
def dkwL_law_100 : List UInt8 := [167, 0, 219, 43, 42, 21, 4, 4, 96, 46, 42, 21, 4, 5, 96, 46, 45, 184, 1, 0, 54, 5, 44, 42]
abbrev dktL_law_100 : List UInt8 := dkwL_law_100 ++ dktL_law_101
def dkwL_law_99 : List UInt8 := [159, 0, 5, 3, 172, 21, 5, 154, 0, 15, 45, 3, 47, 21, 6, 133, 148, 153, 0, 5, 3, 172]
abbrev dktL_law_99 : List UInt8 := dkwL_law_99 ++ dktL_law_100
def dkwL_law_98 : List UInt8 := [21, 4, 4, 96, 46, 42, 21, 4, 5, 96, 46, 182, 0, 255, 54, 6, 44, 182, 0, 137, 21, 5]
abbrev dktL_law_98 : List UInt8 := dkwL_law_98 ++ dktL_law_99
def dkwL_law_97 : List UInt8 := [167, 1, 31, 43, 42, 21, 4, 4, 96, 46, 42, 21, 4, 5, 96, 46, 45, 184, 0, 253, 54, 5, 44, 42]
abbrev dktL_law_97 : List UInt8 := dkwL_law_97 ++ dktL_law_98
def dkwL_law_96 : List UInt8 := [159, 0, 5, 3, 172, 21, 5, 154, 0, 15, 45, 3, 47, 21, 6, 133, 148, 153, 0, 5, 3, 172]
abbrev dktL_law_96 : List UInt8 := dkwL_law_96 ++ dktL_law_97
def dkwL_law_95 : List UInt8 := [21, 4, 4, 96, 46, 42, 21, 4, 5, 96, 46, 182, 0, 252, 54, 6, 44, 182, 0, 137, 21, 5]
abbrev dktL_law_95 : List UInt8 := dkwL_law_95 ++ dktL_law_96
def dkwL_law_94 : List UInt8 := [167, 1, 99, 43, 42, 21, 4, 4, 96, 46, 42, 21, 4, 5, 96, 46, 45, 184, 0, 250, 54, 5, 44, 42]
abbrev dktL_law_94 : List UInt8 := dkwL_law_94 ++ dktL_law_95
def dkwL_law_93 : List UInt8 := [159, 0, 5, 3, 172, 21, 5, 154, 0, 15, 45, 3, 47, 21, 6, 133, 148, 153, 0, 5, 3, 172]
abbrev dktL_law_93 : List UInt8 := dkwL_law_93 ++ dktL_law_94
def dkwL_law_92 : List UInt8 := [21, 4, 4, 96, 46, 42, 21, 4, 5, 96, 46, 182, 0, 249, 54, 6, 44, 182, 0, 137, 21, 5]
abbrev dktL_law_92 : List UInt8 := dkwL_law_92 ++ dktL_law_93
def dkwL_law_91 : List UInt8 := [167, 1, 167, 43, 42, 21, 4, 4, 96, 46, 42, 21, 4, 5, 96, 46, 45, 184, 0, 247, 54, 5, 44, 42]
abbrev dktL_law_91 : List UInt8 := dkwL_law_91 ++ dktL_law_92
def dkwL_law_90 : List UInt8 := [159, 0, 5, 3, 172, 21, 5, 154, 0, 15, 45, 3, 47, 21, 6, 133, 148, 153, 0, 5, 3, 172]
abbrev dktL_law_90 : List UInt8 := dkwL_law_90 ++ dktL_law_91
def dkwL_law_89 : List UInt8 := [184, 0, 244, 54, 5, 44, 42, 21, 4, 4, 96, 46, 182, 0, 246, 54, 6, 44, 182, 0, 137, 21, 5]
abbrev dktL_law_89 : List UInt8 := dkwL_law_89 ++ dktL_law_90
def dkwL_law_88 : List UInt8 := [167, 1, 236, 43, 182, 0, 240, 44, 182, 0, 243, 159, 1, 225, 3, 172, 43, 42, 21, 4, 4, 96, 46, 45]
abbrev dktL_law_88 : List UInt8 := dkwL_law_88 ++ dktL_law_89
def dkwL_law_87 : List UInt8 := [21, 5, 159, 0, 5, 3, 172, 21, 5, 154, 0, 15, 45, 3, 47, 21, 6, 133, 148, 153, 0, 5, 3, 172]
abbrev dktL_law_87 : List UInt8 := dkwL_law_87 ++ dktL_law_88
def dkwL_law_86 : List UInt8 := [46, 45, 184, 0, 237, 54, 5, 44, 42, 21, 4, 4, 96, 46, 182, 0, 239, 54, 6, 44, 182, 0, 137]
abbrev dktL_law_86 : List UInt8 := dkwL_law_86 ++ dktL_law_87
def dkwL_law_85 : List UInt8 := [154, 0, 15, 45, 3, 47, 21, 6, 133, 148, 153, 0, 5, 3, 172, 167, 2, 36, 43, 42, 21, 4, 4, 96]
abbrev dktL_law_85 : List UInt8 := dkwL_law_85 ++ dktL_law_86
def dkwL_law_84 : List UInt8 := [21, 4, 5, 96, 46, 182, 0, 236, 54, 6, 44, 182, 0, 137, 21, 5, 159, 0, 5, 3, 172, 21, 5]
abbrev dktL_law_84 : List UInt8 := dkwL_law_84 ++ dktL_law_85
def dkwL_law_83 : List UInt8 := [4, 96, 46, 42, 21, 4, 5, 96, 46, 45, 184, 0, 234, 54, 5, 44, 42, 21, 4, 4, 96, 46, 42]
abbrev dktL_law_83 : List UInt8 := dkwL_law_83 ++ dktL_law_84
def dkwL_law_82 : List UInt8 := [21, 5, 154, 0, 15, 45, 3, 47, 21, 6, 133, 148, 153, 0, 5, 3, 172, 167, 2, 104, 43, 42, 21, 4]
abbrev dktL_law_82 : List UInt8 := dkwL_law_82 ++ dktL_law_83
def dkwL_law_81 : List UInt8 := [96, 46, 42, 21, 4, 6, 96, 46, 182, 0, 233, 54, 6, 44, 182, 0, 137, 21, 5, 159, 0, 5, 3, 172]
abbrev dktL_law_81 : List UInt8 := dkwL_law_81 ++ dktL_law_82
def dkwL_law_80 : List UInt8 := [46, 42, 21, 4, 6, 96, 46, 45, 184, 0, 231, 54, 5, 44, 42, 21, 4, 4, 96, 46, 42, 21, 4, 5]
abbrev dktL_law_80 : List UInt8 := dkwL_law_80 ++ dktL_law_81
def dkwL_law_79 : List UInt8 := [21, 6, 133, 148, 153, 0, 5, 3, 172, 167, 2, 184, 43, 42, 21, 4, 4, 96, 46, 42, 21, 4, 5, 96]
abbrev dktL_law_79 : List UInt8 := dkwL_law_79 ++ dktL_law_80
def dkwL_law_78 : List UInt8 := [182, 0, 230, 54, 6, 44, 182, 0, 137, 21, 5, 159, 0, 5, 3, 172, 21, 5, 154, 0, 15, 45, 3, 47]
abbrev dktL_law_78 : List UInt8 := dkwL_law_78 ++ dktL_law_79
def dkwL_law_77 : List UInt8 := [184, 0, 228, 54, 5, 44, 42, 21, 4, 4, 96, 46, 42, 21, 4, 5, 96, 46, 42, 21, 4, 6, 96, 46]
abbrev dktL_law_77 : List UInt8 := dkwL_law_77 ++ dktL_law_78
def dkwL_law_76 : List UInt8 := [167, 3, 8, 43, 42, 21, 4, 4, 96, 46, 42, 21, 4, 5, 96, 46, 42, 21, 4, 6, 96, 46, 45]
abbrev dktL_law_76 : List UInt8 := dkwL_law_76 ++ dktL_law_77
def dkwL_law_75 : List UInt8 := [21, 5, 159, 0, 5, 3, 172, 21, 5, 154, 0, 15, 45, 3, 47, 21, 6, 133, 148, 153, 0, 5, 3, 172]
abbrev dktL_law_75 : List UInt8 := dkwL_law_75 ++ dktL_law_76
def dkwL_law_74 : List UInt8 := [96, 46, 42, 21, 4, 5, 96, 46, 42, 21, 4, 6, 96, 46, 182, 0, 227, 54, 6, 44, 182, 0, 137]
abbrev dktL_law_74 : List UInt8 := dkwL_law_74 ++ dktL_law_75
def dkwL_law_73 : List UInt8 := [46, 42, 21, 4, 5, 96, 46, 42, 21, 4, 6, 96, 46, 45, 184, 0, 225, 54, 5, 44, 42, 21, 4, 4]
abbrev dktL_law_73 : List UInt8 := dkwL_law_73 ++ dktL_law_74
def dkwL_law_72 : List UInt8 := [154, 0, 15, 45, 3, 47, 21, 6, 133, 148, 153, 0, 5, 3, 172, 167, 3, 88, 43, 42, 21, 4, 4, 96]
abbrev dktL_law_72 : List UInt8 := dkwL_law_72 ++ dktL_law_73
def dkwL_law_71 : List UInt8 := [21, 4, 4, 96, 46, 182, 0, 224, 54, 6, 44, 182, 0, 137, 21, 5, 159, 0, 5, 3, 172, 21, 5]
abbrev dktL_law_71 : List UInt8 := dkwL_law_71 ++ dktL_law_72
def dkwL_law_70 : List UInt8 := [153, 0, 5, 3, 172, 167, 3, 144, 43, 42, 21, 4, 4, 96, 46, 45, 184, 0, 222, 54, 5, 44, 42]
abbrev dktL_law_70 : List UInt8 := dkwL_law_70 ++ dktL_law_71
def dkwL_law_69 : List UInt8 := [182, 0, 137, 21, 5, 159, 0, 5, 3, 172, 21, 5, 154, 0, 15, 45, 3, 47, 21, 6, 133, 148]
abbrev dktL_law_69 : List UInt8 := dkwL_law_69 ++ dktL_law_70
def dkwL_law_68 : List UInt8 := [4, 96, 46, 45, 184, 0, 219, 54, 5, 44, 42, 21, 4, 4, 96, 46, 182, 0, 221, 54, 6, 44]
abbrev dktL_law_68 : List UInt8 := dkwL_law_68 ++ dktL_law_69
def dkwL_law_67 : List UInt8 := [148, 153, 0, 5, 3, 172, 167, 3, 211, 43, 182, 0, 215, 44, 182, 0, 218, 167, 3, 200, 43, 42, 21, 4]
abbrev dktL_law_67 : List UInt8 := dkwL_law_67 ++ dktL_law_68
def dkwL_law_66 : List UInt8 := [54, 6, 44, 182, 0, 137, 21, 5, 159, 0, 5, 3, 172, 21, 5, 154, 0, 15, 45, 3, 47, 21, 6, 133]
abbrev dktL_law_66 : List UInt8 := dkwL_law_66 ++ dktL_law_67
def dkwL_law_65 : List UInt8 := [42, 21, 4, 5, 96, 46, 42, 21, 4, 6, 96, 46, 153, 0, 7, 4, 167, 0, 4, 3, 182, 0, 214]
abbrev dktL_law_65 : List UInt8 := dkwL_law_65 ++ dktL_law_66
def dkwL_law_64 : List UInt8 := [6, 96, 46, 153, 0, 7, 4, 167, 0, 4, 3, 45, 184, 0, 211, 54, 5, 44, 42, 21, 4, 4, 96, 46]
abbrev dktL_law_64 : List UInt8 := dkwL_law_64 ++ dktL_law_65
def dkwL_law_63 : List UInt8 := [153, 0, 5, 3, 172, 167, 4, 51, 43, 42, 21, 4, 4, 96, 46, 42, 21, 4, 5, 96, 46, 42, 21, 4]
abbrev dktL_law_63 : List UInt8 := dkwL_law_63 ++ dktL_law_64
def dkwL_law_62 : List UInt8 := [182, 0, 137, 21, 5, 159, 0, 5, 3, 172, 21, 5, 154, 0, 15, 45, 3, 47, 21, 6, 133, 148]
abbrev dktL_law_62 : List UInt8 := dkwL_law_62 ++ dktL_law_63
def dkwL_law_61 : List UInt8 := [184, 0, 208, 54, 5, 44, 42, 21, 4, 4, 96, 46, 42, 21, 4, 5, 96, 46, 182, 0, 210, 54, 6, 44]
abbrev dktL_law_61 : List UInt8 := dkwL_law_61 ++ dktL_law_62
def dkwL_law_60 : List UInt8 := [148, 153, 0, 5, 3, 172, 167, 4, 119, 43, 42, 21, 4, 4, 96, 46, 42, 21, 4, 5, 96, 46, 45]
abbrev dktL_law_60 : List UInt8 := dkwL_law_60 ++ dktL_law_61
def dkwL_law_59 : List UInt8 := [54, 6, 44, 182, 0, 137, 21, 5, 159, 0, 5, 3, 172, 21, 5, 154, 0, 15, 45, 3, 47, 21, 6, 133]
abbrev dktL_law_59 : List UInt8 := dkwL_law_59 ++ dktL_law_60
def dkwL_law_58 : List UInt8 := [96, 46, 42, 21, 4, 5, 96, 46, 42, 21, 4, 6, 96, 46, 42, 21, 4, 7, 96, 46, 182, 0, 207]
abbrev dktL_law_58 : List UInt8 := dkwL_law_58 ++ dktL_law_59
def dkwL_law_57 : List UInt8 := [46, 42, 21, 4, 6, 96, 46, 42, 21, 4, 7, 96, 46, 45, 184, 0, 204, 54, 5, 44, 42, 21, 4, 4]
abbrev dktL_law_57 : List UInt8 := dkwL_law_57 ++ dktL_law_58
def dkwL_law_56 : List UInt8 := [21, 6, 133, 148, 153, 0, 5, 3, 172, 167, 4, 211, 43, 42, 21, 4, 4, 96, 46, 42, 21, 4, 5, 96]
abbrev dktL_law_56 : List UInt8 := dkwL_law_56 ++ dktL_law_57
def dkwL_law_55 : List UInt8 := [182, 0, 203, 54, 6, 44, 182, 0, 137, 21, 5, 159, 0, 5, 3, 172, 21, 5, 154, 0, 15, 45, 3, 47]
abbrev dktL_law_55 : List UInt8 := dkwL_law_55 ++ dktL_law_56
def dkwL_law_54 : List UInt8 := [5, 96, 46, 45, 184, 0, 201, 54, 5, 44, 42, 21, 4, 4, 96, 46, 42, 21, 4, 5, 96, 46]
abbrev dktL_law_54 : List UInt8 := dkwL_law_54 ++ dktL_law_55
def dkwL_law_53 : List UInt8 := [3, 47, 21, 6, 133, 148, 153, 0, 5, 3, 172, 167, 5, 23, 43, 42, 21, 4, 4, 96, 46, 42, 21, 4]
abbrev dktL_law_53 : List UInt8 := dkwL_law_53 ++ dktL_law_54
def dkwL_law_52 : List UInt8 := [96, 46, 182, 0, 200, 54, 6, 44, 182, 0, 137, 21, 5, 159, 0, 5, 3, 172, 21, 5, 154, 0, 15, 45]
abbrev dktL_law_52 : List UInt8 := dkwL_law_52 ++ dktL_law_53
def dkwL_law_51 : List UInt8 := [46, 42, 21, 4, 5, 96, 46, 45, 184, 0, 198, 54, 5, 44, 42, 21, 4, 4, 96, 46, 42, 21, 4, 5]
abbrev dktL_law_51 : List UInt8 := dkwL_law_51 ++ dktL_law_52
def dkwL_law_50 : List UInt8 := [154, 0, 15, 45, 3, 47, 21, 6, 133, 148, 153, 0, 5, 3, 172, 167, 5, 91, 43, 42, 21, 4, 4, 96]
abbrev dktL_law_50 : List UInt8 := dkwL_law_50 ++ dktL_law_51
def dkwL_law_49 : List UInt8 := [21, 4, 4, 96, 46, 182, 0, 197, 54, 6, 44, 182, 0, 137, 21, 5, 159, 0, 5, 3, 172, 21, 5]
abbrev dktL_law_49 : List UInt8 := dkwL_law_49 ++ dktL_law_50
def dkwL_law_48 : List UInt8 := [153, 0, 5, 3, 172, 167, 5, 147, 43, 42, 21, 4, 4, 96, 46, 45, 184, 0, 195, 54, 5, 44, 42]
abbrev dktL_law_48 : List UInt8 := dkwL_law_48 ++ dktL_law_49
def dkwL_law_47 : List UInt8 := [182, 0, 137, 21, 5, 159, 0, 5, 3, 172, 21, 5, 154, 0, 15, 45, 3, 47, 21, 6, 133, 148]
abbrev dktL_law_47 : List UInt8 := dkwL_law_47 ++ dktL_law_48
def dkwL_law_46 : List UInt8 := [184, 0, 192, 54, 5, 44, 42, 21, 4, 4, 96, 46, 42, 21, 4, 5, 96, 46, 182, 0, 194, 54, 6, 44]
abbrev dktL_law_46 : List UInt8 := dkwL_law_46 ++ dktL_law_47
def dkwL_law_45 : List UInt8 := [153, 0, 5, 3, 172, 167, 5, 215, 43, 42, 21, 4, 4, 96, 46, 42, 21, 4, 5, 96, 46, 45]
abbrev dktL_law_45 : List UInt8 := dkwL_law_45 ++ dktL_law_46
def dkwL_law_44 : List UInt8 := [182, 0, 137, 21, 5, 159, 0, 5, 3, 172, 21, 5, 154, 0, 15, 45, 3, 47, 21, 6, 133, 148]
abbrev dktL_law_44 : List UInt8 := dkwL_law_44 ++ dktL_law_45
def dkwL_law_43 : List UInt8 := [184, 0, 189, 54, 5, 44, 42, 21, 4, 4, 96, 46, 42, 21, 4, 5, 96, 46, 182, 0, 191, 54, 6, 44]
abbrev dktL_law_43 : List UInt8 := dkwL_law_43 ++ dktL_law_44
def dkwL_law_42 : List UInt8 := [148, 153, 0, 5, 3, 172, 167, 6, 27, 43, 42, 21, 4, 4, 96, 46, 42, 21, 4, 5, 96, 46, 45]
abbrev dktL_law_42 : List UInt8 := dkwL_law_42 ++ dktL_law_43
def dkwL_law_41 : List UInt8 := [54, 6, 44, 182, 0, 137, 21, 5, 159, 0, 5, 3, 172, 21, 5, 154, 0, 15, 45, 3, 47, 21, 6, 133]
abbrev dktL_law_41 : List UInt8 := dkwL_law_41 ++ dktL_law_42
def dkwL_law_40 : List UInt8 := [46, 45, 184, 0, 186, 54, 5, 44, 42, 21, 4, 4, 96, 46, 42, 21, 4, 5, 96, 46, 182, 0, 188]
abbrev dktL_law_40 : List UInt8 := dkwL_law_40 ++ dktL_law_41
def dkwL_law_39 : List UInt8 := [21, 6, 133, 148, 153, 0, 5, 3, 172, 167, 6, 95, 43, 42, 21, 4, 4, 96, 46, 42, 21, 4, 5, 96]
abbrev dktL_law_39 : List UInt8 := dkwL_law_39 ++ dktL_law_40
def dkwL_law_38 : List UInt8 := [182, 0, 185, 54, 6, 44, 182, 0, 137, 21, 5, 159, 0, 5, 3, 172, 21, 5, 154, 0, 15, 45, 3, 47]
abbrev dktL_law_38 : List UInt8 := dkwL_law_38 ++ dktL_law_39
def dkwL_law_37 : List UInt8 := [167, 6, 151, 43, 42, 21, 4, 4, 96, 46, 45, 184, 0, 183, 54, 5, 44, 42, 21, 4, 4, 96, 46]
abbrev dktL_law_37 : List UInt8 := dkwL_law_37 ++ dktL_law_38
def dkwL_law_36 : List UInt8 := [21, 5, 159, 0, 5, 3, 172, 21, 5, 154, 0, 15, 45, 3, 47, 21, 6, 133, 148, 153, 0, 5, 3, 172]
abbrev dktL_law_36 : List UInt8 := dkwL_law_36 ++ dktL_law_37
def dkwL_law_35 : List UInt8 := [46, 45, 184, 0, 180, 54, 5, 44, 42, 21, 4, 4, 96, 46, 182, 0, 182, 54, 6, 44, 182, 0, 137]
abbrev dktL_law_35 : List UInt8 := dkwL_law_35 ++ dktL_law_36
def dkwL_law_34 : List UInt8 := [154, 0, 15, 45, 3, 47, 21, 6, 133, 148, 153, 0, 5, 3, 172, 167, 6, 207, 43, 42, 21, 4, 4, 96]
abbrev dktL_law_34 : List UInt8 := dkwL_law_34 ++ dktL_law_35
def dkwL_law_33 : List UInt8 := [21, 4, 4, 96, 46, 182, 0, 179, 54, 6, 44, 182, 0, 137, 21, 5, 159, 0, 5, 3, 172, 21, 5]
abbrev dktL_law_33 : List UInt8 := dkwL_law_33 ++ dktL_law_34
def dkwL_law_32 : List UInt8 := [153, 0, 5, 3, 172, 167, 7, 7, 43, 42, 21, 4, 4, 96, 46, 45, 184, 0, 177, 54, 5, 44, 42]
abbrev dktL_law_32 : List UInt8 := dkwL_law_32 ++ dktL_law_33
def dkwL_law_31 : List UInt8 := [182, 0, 137, 21, 5, 159, 0, 5, 3, 172, 21, 5, 154, 0, 15, 45, 3, 47, 21, 6, 133, 148]
abbrev dktL_law_31 : List UInt8 := dkwL_law_31 ++ dktL_law_32
def dkwL_law_30 : List UInt8 := [42, 21, 4, 4, 96, 46, 42, 21, 4, 5, 96, 46, 42, 21, 4, 6, 96, 46, 182, 0, 176, 54, 6, 44]
abbrev dktL_law_30 : List UInt8 := dkwL_law_30 ++ dktL_law_31
def dkwL_law_29 : List UInt8 := [21, 4, 4, 96, 46, 42, 21, 4, 5, 96, 46, 42, 21, 4, 6, 96, 46, 45, 184, 0, 173, 54, 5, 44]
abbrev dktL_law_29 : List UInt8 := dkwL_law_29 ++ dktL_law_30
def dkwL_law_28 : List UInt8 := [153, 0, 5, 3, 172, 167, 7, 100, 43, 182, 0, 169, 44, 182, 0, 172, 159, 7, 89, 3, 172, 43, 42]
abbrev dktL_law_28 : List UInt8 := dkwL_law_28 ++ dktL_law_29
def dkwL_law_27 : List UInt8 := [182, 0, 137, 21, 5, 159, 0, 5, 3, 172, 21, 5, 154, 0, 15, 45, 3, 47, 21, 6, 133, 148]
abbrev dktL_law_27 : List UInt8 := dkwL_law_27 ++ dktL_law_28
def dkwL_law_26 : List UInt8 := [184, 0, 166, 54, 5, 44, 42, 21, 4, 4, 96, 46, 42, 21, 4, 5, 96, 46, 182, 0, 168, 54, 6, 44]
abbrev dktL_law_26 : List UInt8 := dkwL_law_26 ++ dktL_law_27
def dkwL_law_25 : List UInt8 := [153, 0, 5, 3, 172, 167, 7, 168, 43, 42, 21, 4, 4, 96, 46, 42, 21, 4, 5, 96, 46, 45]
abbrev dktL_law_25 : List UInt8 := dkwL_law_25 ++ dktL_law_26
def dkwL_law_24 : List UInt8 := [182, 0, 137, 21, 5, 159, 0, 5, 3, 172, 21, 5, 154, 0, 15, 45, 3, 47, 21, 6, 133, 148]
abbrev dktL_law_24 : List UInt8 := dkwL_law_24 ++ dktL_law_25
def dkwL_law_23 : List UInt8 := [184, 0, 163, 54, 5, 44, 42, 21, 4, 4, 96, 46, 42, 21, 4, 5, 96, 46, 182, 0, 165, 54, 6, 44]
abbrev dktL_law_23 : List UInt8 := dkwL_law_23 ++ dktL_law_24
def dkwL_law_22 : List UInt8 := [153, 0, 5, 3, 172, 167, 7, 236, 43, 42, 21, 4, 4, 96, 46, 42, 21, 4, 5, 96, 46, 45]
abbrev dktL_law_22 : List UInt8 := dkwL_law_22 ++ dktL_law_23
def dkwL_law_21 : List UInt8 := [159, 0, 5, 3, 172, 21, 5, 154, 0, 22, 45, 3, 47, 21, 6, 153, 0, 7, 10, 167, 0, 4, 9, 148]
abbrev dktL_law_21 : List UInt8 := dkwL_law_21 ++ dktL_law_22
def dkwL_law_20 : List UInt8 := [21, 4, 5, 96, 46, 153, 0, 7, 4, 167, 0, 4, 3, 182, 0, 162, 54, 6, 44, 182, 0, 137, 21, 5]
abbrev dktL_law_20 : List UInt8 := dkwL_law_20 ++ dktL_law_21
def dkwL_law_19 : List UInt8 := [96, 46, 153, 0, 7, 4, 167, 0, 4, 3, 45, 184, 0, 159, 54, 5, 44, 42, 21, 4, 4, 96, 46, 42]
abbrev dktL_law_19 : List UInt8 := dkwL_law_19 ++ dktL_law_20
def dkwL_law_18 : List UInt8 := [167, 0, 4, 9, 148, 153, 0, 5, 3, 172, 167, 8, 71, 43, 42, 21, 4, 4, 96, 46, 42, 21, 4, 5]
abbrev dktL_law_18 : List UInt8 := dkwL_law_18 ++ dktL_law_19
def dkwL_law_17 : List UInt8 := [182, 0, 137, 21, 5, 159, 0, 5, 3, 172, 21, 5, 154, 0, 22, 45, 3, 47, 21, 6, 153, 0, 7, 10]
abbrev dktL_law_17 : List UInt8 := dkwL_law_17 ++ dktL_law_18
def dkwL_law_16 : List UInt8 := [184, 0, 156, 54, 5, 44, 42, 21, 4, 4, 96, 46, 42, 21, 4, 5, 96, 46, 182, 0, 158, 54, 6, 44]
abbrev dktL_law_16 : List UInt8 := dkwL_law_16 ++ dktL_law_17
def dkwL_law_15 : List UInt8 := [46, 182, 0, 155, 159, 8, 148, 3, 172, 43, 42, 21, 4, 4, 96, 46, 42, 21, 4, 5, 96, 46, 45]
abbrev dktL_law_15 : List UInt8 := dkwL_law_15 ++ dktL_law_16
def dkwL_law_14 : List UInt8 := [153, 0, 5, 3, 172, 167, 8, 171, 43, 42, 21, 4, 4, 96, 46, 182, 0, 152, 44, 42, 21, 4, 4, 96]
abbrev dktL_law_14 : List UInt8 := dkwL_law_14 ++ dktL_law_15
def dkwL_law_13 : List UInt8 := [182, 0, 137, 21, 5, 159, 0, 5, 3, 172, 21, 5, 154, 0, 15, 45, 3, 47, 21, 6, 133, 148]
abbrev dktL_law_13 : List UInt8 := dkwL_law_13 ++ dktL_law_14
def dkwL_law_12 : List UInt8 := [184, 0, 148, 54, 5, 44, 42, 21, 4, 4, 96, 46, 42, 21, 4, 5, 96, 46, 182, 0, 151, 54, 6, 44]
abbrev dktL_law_12 : List UInt8 := dkwL_law_12 ++ dktL_law_13
def dkwL_law_11 : List UInt8 := [153, 0, 5, 3, 172, 167, 8, 239, 43, 42, 21, 4, 4, 96, 46, 42, 21, 4, 5, 96, 46, 45]
abbrev dktL_law_11 : List UInt8 := dkwL_law_11 ++ dktL_law_12
def dkwL_law_10 : List UInt8 := [182, 0, 137, 21, 5, 159, 0, 5, 3, 172, 21, 5, 154, 0, 15, 45, 3, 47, 21, 6, 133, 148]
abbrev dktL_law_10 : List UInt8 := dkwL_law_10 ++ dktL_law_11
def dkwL_law_9 : List UInt8 := [21, 4, 4, 96, 46, 45, 184, 0, 145, 54, 5, 44, 42, 21, 4, 4, 96, 46, 182, 0, 147, 54, 6, 44]
abbrev dktL_law_9 : List UInt8 := dkwL_law_9 ++ dktL_law_10
def dkwL_law_8 : List UInt8 := [148, 153, 0, 5, 3, 172, 167, 9, 52, 43, 182, 0, 141, 44, 182, 0, 144, 159, 9, 41, 3, 172, 43, 42]
abbrev dktL_law_8 : List UInt8 := dkwL_law_8 ++ dktL_law_9
def dkwL_law_7 : List UInt8 := [54, 6, 44, 182, 0, 137, 21, 5, 159, 0, 5, 3, 172, 21, 5, 154, 0, 15, 45, 3, 47, 21, 6, 133]
abbrev dktL_law_7 : List UInt8 := dkwL_law_7 ++ dktL_law_8
def dkwL_law_6 : List UInt8 := [172, 43, 42, 21, 4, 4, 96, 46, 45, 184, 0, 131, 54, 5, 44, 42, 21, 4, 4, 96, 46, 182, 0, 136]
abbrev dktL_law_6 : List UInt8 := dkwL_law_6 ++ dktL_law_7
def dkwL_law_5 : List UInt8 := [21, 4, 6, 96, 46, 42, 21, 4, 7, 96, 46, 42, 21, 4, 8, 96, 46, 182, 0, 130, 159, 9, 110, 3]
abbrev dktL_law_5 : List UInt8 := dkwL_law_5 ++ dktL_law_6
def dkwL_law_4 : List UInt8 := [46, 42, 21, 4, 8, 96, 46, 182, 0, 126, 44, 42, 21, 4, 4, 96, 46, 42, 21, 4, 5, 96, 46, 42]
abbrev dktL_law_4 : List UInt8 := dkwL_law_4 ++ dktL_law_5
def dkwL_law_3 : List UInt8 := [43, 42, 21, 4, 4, 96, 46, 42, 21, 4, 5, 96, 46, 42, 21, 4, 6, 96, 46, 42, 21, 4, 7, 96]
abbrev dktL_law_3 : List UInt8 := dkwL_law_3 ++ dktL_law_4
def dkwL_law_2 : List UInt8 := [170, 0, 0, 0, 0, 0, 10, 106, 0, 0, 0, 0, 0, 0, 0, 41, 0, 0, 0, 184, 0, 0, 1, 1, 0, 0, 1, 57, 0, 0, 1, 70, 0, 0, 1, 126, 0, 0, 1, 194, 0, 0, 1, 219, 0, 0, 2, 38, 0, 0, 2, 129, 0, 0, 2, 197, 0, 0, 3, 9, 0, 0, 3, 22, 0, 0, 3, 102, 0, 0, 3, 158, 0, 0, 3, 214, 0, 0, 4, 14, 0, 0, 4, 82, 0, 0, 4, 150, 0, 0, 4, 218, 0, 0, 5, 18, 0, 0, 5, 86, 0, 0, 5, 154, 0, 0, 5, 246, 0, 0, 6, 58, 0, 0, 6, 154, 0, 0, 6, 165, 0, 0, 6, 221, 0, 0, 7, 21, 0, 0, 7, 101, 0, 0, 7, 181, 0, 0, 8, 5, 0, 0, 8, 73, 0, 0, 8, 129, 0, 0, 8, 142, 0, 0, 8, 198, 0, 0, 9, 10, 0, 0, 9, 78, 0, 0, 9, 146, 0, 0, 9, 214, 0, 0, 10, 14, 0, 0, 10, 82, 0, 0, 10, 93]
abbrev dktL_law_2 : List UInt8 := dkwL_law_2 ++ dktL_law_3
def dkwL_law_1 : List UInt8 := [21, 4, 42, 190, 16, 6, 100, 163, 10, 122, 42, 21, 4, 46, 16, 63, 126]
abbrev dktL_law_1 : List UInt8 := dkwL_law_1 ++ dktL_law_2
def dkwL_law_0 : List UInt8 := [187, 0, 8, 89, 183, 0, 122, 76, 187, 0, 123, 89, 183, 0, 125, 77, 4, 188, 11, 78, 3, 54, 4]
abbrev dktL_law_0 : List UInt8 := dkwL_law_0 ++ dktL_law_1
theorem dksL_law_0 : cL_law.data.toList.drop 0 = dktL_law_0 := by decide +kernel
theorem dksL_law_1 : cL_law.data.toList.drop 23 = dktL_law_1 := dk_seg dksL_law_0 23 rfl rfl
theorem dksL_law_2 : cL_law.data.toList.drop 40 = dktL_law_2 := dk_seg dksL_law_1 17 rfl rfl
theorem dksL_law_3 : cL_law.data.toList.drop 224 = dktL_law_3 := dk_seg dksL_law_2 184 rfl rfl
theorem dksL_law_4 : cL_law.data.toList.drop 248 = dktL_law_4 := dk_seg dksL_law_3 24 rfl rfl
theorem dksL_law_5 : cL_law.data.toList.drop 272 = dktL_law_5 := dk_seg dksL_law_4 24 rfl rfl
theorem dksL_law_6 : cL_law.data.toList.drop 296 = dktL_law_6 := dk_seg dksL_law_5 24 rfl rfl
theorem dksL_law_7 : cL_law.data.toList.drop 320 = dktL_law_7 := dk_seg dksL_law_6 24 rfl rfl
theorem dksL_law_8 : cL_law.data.toList.drop 344 = dktL_law_8 := dk_seg dksL_law_7 24 rfl rfl
theorem dksL_law_9 : cL_law.data.toList.drop 368 = dktL_law_9 := dk_seg dksL_law_8 24 rfl rfl
theorem dksL_law_10 : cL_law.data.toList.drop 392 = dktL_law_10 := dk_seg dksL_law_9 24 rfl rfl
theorem dksL_law_11 : cL_law.data.toList.drop 414 = dktL_law_11 := dk_seg dksL_law_10 22 rfl rfl
theorem dksL_law_12 : cL_law.data.toList.drop 436 = dktL_law_12 := dk_seg dksL_law_11 22 rfl rfl
theorem dksL_law_13 : cL_law.data.toList.drop 460 = dktL_law_13 := dk_seg dksL_law_12 24 rfl rfl
theorem dksL_law_14 : cL_law.data.toList.drop 482 = dktL_law_14 := dk_seg dksL_law_13 22 rfl rfl
theorem dksL_law_15 : cL_law.data.toList.drop 506 = dktL_law_15 := dk_seg dksL_law_14 24 rfl rfl
theorem dksL_law_16 : cL_law.data.toList.drop 529 = dktL_law_16 := dk_seg dksL_law_15 23 rfl rfl
theorem dksL_law_17 : cL_law.data.toList.drop 553 = dktL_law_17 := dk_seg dksL_law_16 24 rfl rfl
theorem dksL_law_18 : cL_law.data.toList.drop 577 = dktL_law_18 := dk_seg dksL_law_17 24 rfl rfl
theorem dksL_law_19 : cL_law.data.toList.drop 601 = dktL_law_19 := dk_seg dksL_law_18 24 rfl rfl
theorem dksL_law_20 : cL_law.data.toList.drop 625 = dktL_law_20 := dk_seg dksL_law_19 24 rfl rfl
theorem dksL_law_21 : cL_law.data.toList.drop 649 = dktL_law_21 := dk_seg dksL_law_20 24 rfl rfl
theorem dksL_law_22 : cL_law.data.toList.drop 673 = dktL_law_22 := dk_seg dksL_law_21 24 rfl rfl
theorem dksL_law_23 : cL_law.data.toList.drop 695 = dktL_law_23 := dk_seg dksL_law_22 22 rfl rfl
theorem dksL_law_24 : cL_law.data.toList.drop 719 = dktL_law_24 := dk_seg dksL_law_23 24 rfl rfl
theorem dksL_law_25 : cL_law.data.toList.drop 741 = dktL_law_25 := dk_seg dksL_law_24 22 rfl rfl
theorem dksL_law_26 : cL_law.data.toList.drop 763 = dktL_law_26 := dk_seg dksL_law_25 22 rfl rfl
theorem dksL_law_27 : cL_law.data.toList.drop 787 = dktL_law_27 := dk_seg dksL_law_26 24 rfl rfl
theorem dksL_law_28 : cL_law.data.toList.drop 809 = dktL_law_28 := dk_seg dksL_law_27 22 rfl rfl
theorem dksL_law_29 : cL_law.data.toList.drop 832 = dktL_law_29 := dk_seg dksL_law_28 23 rfl rfl
theorem dksL_law_30 : cL_law.data.toList.drop 856 = dktL_law_30 := dk_seg dksL_law_29 24 rfl rfl
theorem dksL_law_31 : cL_law.data.toList.drop 880 = dktL_law_31 := dk_seg dksL_law_30 24 rfl rfl
theorem dksL_law_32 : cL_law.data.toList.drop 902 = dktL_law_32 := dk_seg dksL_law_31 22 rfl rfl
theorem dksL_law_33 : cL_law.data.toList.drop 925 = dktL_law_33 := dk_seg dksL_law_32 23 rfl rfl
theorem dksL_law_34 : cL_law.data.toList.drop 948 = dktL_law_34 := dk_seg dksL_law_33 23 rfl rfl
theorem dksL_law_35 : cL_law.data.toList.drop 972 = dktL_law_35 := dk_seg dksL_law_34 24 rfl rfl
theorem dksL_law_36 : cL_law.data.toList.drop 995 = dktL_law_36 := dk_seg dksL_law_35 23 rfl rfl
theorem dksL_law_37 : cL_law.data.toList.drop 1019 = dktL_law_37 := dk_seg dksL_law_36 24 rfl rfl
theorem dksL_law_38 : cL_law.data.toList.drop 1042 = dktL_law_38 := dk_seg dksL_law_37 23 rfl rfl
theorem dksL_law_39 : cL_law.data.toList.drop 1066 = dktL_law_39 := dk_seg dksL_law_38 24 rfl rfl
theorem dksL_law_40 : cL_law.data.toList.drop 1090 = dktL_law_40 := dk_seg dksL_law_39 24 rfl rfl
theorem dksL_law_41 : cL_law.data.toList.drop 1113 = dktL_law_41 := dk_seg dksL_law_40 23 rfl rfl
theorem dksL_law_42 : cL_law.data.toList.drop 1137 = dktL_law_42 := dk_seg dksL_law_41 24 rfl rfl
theorem dksL_law_43 : cL_law.data.toList.drop 1160 = dktL_law_43 := dk_seg dksL_law_42 23 rfl rfl
theorem dksL_law_44 : cL_law.data.toList.drop 1184 = dktL_law_44 := dk_seg dksL_law_43 24 rfl rfl
theorem dksL_law_45 : cL_law.data.toList.drop 1206 = dktL_law_45 := dk_seg dksL_law_44 22 rfl rfl
theorem dksL_law_46 : cL_law.data.toList.drop 1228 = dktL_law_46 := dk_seg dksL_law_45 22 rfl rfl
theorem dksL_law_47 : cL_law.data.toList.drop 1252 = dktL_law_47 := dk_seg dksL_law_46 24 rfl rfl
theorem dksL_law_48 : cL_law.data.toList.drop 1274 = dktL_law_48 := dk_seg dksL_law_47 22 rfl rfl
theorem dksL_law_49 : cL_law.data.toList.drop 1297 = dktL_law_49 := dk_seg dksL_law_48 23 rfl rfl
theorem dksL_law_50 : cL_law.data.toList.drop 1320 = dktL_law_50 := dk_seg dksL_law_49 23 rfl rfl
theorem dksL_law_51 : cL_law.data.toList.drop 1344 = dktL_law_51 := dk_seg dksL_law_50 24 rfl rfl
theorem dksL_law_52 : cL_law.data.toList.drop 1368 = dktL_law_52 := dk_seg dksL_law_51 24 rfl rfl
theorem dksL_law_53 : cL_law.data.toList.drop 1392 = dktL_law_53 := dk_seg dksL_law_52 24 rfl rfl
theorem dksL_law_54 : cL_law.data.toList.drop 1416 = dktL_law_54 := dk_seg dksL_law_53 24 rfl rfl
theorem dksL_law_55 : cL_law.data.toList.drop 1438 = dktL_law_55 := dk_seg dksL_law_54 22 rfl rfl
theorem dksL_law_56 : cL_law.data.toList.drop 1462 = dktL_law_56 := dk_seg dksL_law_55 24 rfl rfl
theorem dksL_law_57 : cL_law.data.toList.drop 1486 = dktL_law_57 := dk_seg dksL_law_56 24 rfl rfl
theorem dksL_law_58 : cL_law.data.toList.drop 1510 = dktL_law_58 := dk_seg dksL_law_57 24 rfl rfl
theorem dksL_law_59 : cL_law.data.toList.drop 1533 = dktL_law_59 := dk_seg dksL_law_58 23 rfl rfl
theorem dksL_law_60 : cL_law.data.toList.drop 1557 = dktL_law_60 := dk_seg dksL_law_59 24 rfl rfl
theorem dksL_law_61 : cL_law.data.toList.drop 1580 = dktL_law_61 := dk_seg dksL_law_60 23 rfl rfl
theorem dksL_law_62 : cL_law.data.toList.drop 1604 = dktL_law_62 := dk_seg dksL_law_61 24 rfl rfl
theorem dksL_law_63 : cL_law.data.toList.drop 1626 = dktL_law_63 := dk_seg dksL_law_62 22 rfl rfl
theorem dksL_law_64 : cL_law.data.toList.drop 1650 = dktL_law_64 := dk_seg dksL_law_63 24 rfl rfl
theorem dksL_law_65 : cL_law.data.toList.drop 1674 = dktL_law_65 := dk_seg dksL_law_64 24 rfl rfl
theorem dksL_law_66 : cL_law.data.toList.drop 1697 = dktL_law_66 := dk_seg dksL_law_65 23 rfl rfl
theorem dksL_law_67 : cL_law.data.toList.drop 1721 = dktL_law_67 := dk_seg dksL_law_66 24 rfl rfl
theorem dksL_law_68 : cL_law.data.toList.drop 1745 = dktL_law_68 := dk_seg dksL_law_67 24 rfl rfl
theorem dksL_law_69 : cL_law.data.toList.drop 1767 = dktL_law_69 := dk_seg dksL_law_68 22 rfl rfl
theorem dksL_law_70 : cL_law.data.toList.drop 1789 = dktL_law_70 := dk_seg dksL_law_69 22 rfl rfl
theorem dksL_law_71 : cL_law.data.toList.drop 1812 = dktL_law_71 := dk_seg dksL_law_70 23 rfl rfl
theorem dksL_law_72 : cL_law.data.toList.drop 1835 = dktL_law_72 := dk_seg dksL_law_71 23 rfl rfl
theorem dksL_law_73 : cL_law.data.toList.drop 1859 = dktL_law_73 := dk_seg dksL_law_72 24 rfl rfl
theorem dksL_law_74 : cL_law.data.toList.drop 1883 = dktL_law_74 := dk_seg dksL_law_73 24 rfl rfl
theorem dksL_law_75 : cL_law.data.toList.drop 1906 = dktL_law_75 := dk_seg dksL_law_74 23 rfl rfl
theorem dksL_law_76 : cL_law.data.toList.drop 1930 = dktL_law_76 := dk_seg dksL_law_75 24 rfl rfl
theorem dksL_law_77 : cL_law.data.toList.drop 1953 = dktL_law_77 := dk_seg dksL_law_76 23 rfl rfl
theorem dksL_law_78 : cL_law.data.toList.drop 1977 = dktL_law_78 := dk_seg dksL_law_77 24 rfl rfl
theorem dksL_law_79 : cL_law.data.toList.drop 2001 = dktL_law_79 := dk_seg dksL_law_78 24 rfl rfl
theorem dksL_law_80 : cL_law.data.toList.drop 2025 = dktL_law_80 := dk_seg dksL_law_79 24 rfl rfl
theorem dksL_law_81 : cL_law.data.toList.drop 2049 = dktL_law_81 := dk_seg dksL_law_80 24 rfl rfl
theorem dksL_law_82 : cL_law.data.toList.drop 2073 = dktL_law_82 := dk_seg dksL_law_81 24 rfl rfl
theorem dksL_law_83 : cL_law.data.toList.drop 2097 = dktL_law_83 := dk_seg dksL_law_82 24 rfl rfl
theorem dksL_law_84 : cL_law.data.toList.drop 2120 = dktL_law_84 := dk_seg dksL_law_83 23 rfl rfl
theorem dksL_law_85 : cL_law.data.toList.drop 2143 = dktL_law_85 := dk_seg dksL_law_84 23 rfl rfl
theorem dksL_law_86 : cL_law.data.toList.drop 2167 = dktL_law_86 := dk_seg dksL_law_85 24 rfl rfl
theorem dksL_law_87 : cL_law.data.toList.drop 2190 = dktL_law_87 := dk_seg dksL_law_86 23 rfl rfl
theorem dksL_law_88 : cL_law.data.toList.drop 2214 = dktL_law_88 := dk_seg dksL_law_87 24 rfl rfl
theorem dksL_law_89 : cL_law.data.toList.drop 2238 = dktL_law_89 := dk_seg dksL_law_88 24 rfl rfl
theorem dksL_law_90 : cL_law.data.toList.drop 2261 = dktL_law_90 := dk_seg dksL_law_89 23 rfl rfl
theorem dksL_law_91 : cL_law.data.toList.drop 2283 = dktL_law_91 := dk_seg dksL_law_90 22 rfl rfl
theorem dksL_law_92 : cL_law.data.toList.drop 2307 = dktL_law_92 := dk_seg dksL_law_91 24 rfl rfl
theorem dksL_law_93 : cL_law.data.toList.drop 2329 = dktL_law_93 := dk_seg dksL_law_92 22 rfl rfl
theorem dksL_law_94 : cL_law.data.toList.drop 2351 = dktL_law_94 := dk_seg dksL_law_93 22 rfl rfl
theorem dksL_law_95 : cL_law.data.toList.drop 2375 = dktL_law_95 := dk_seg dksL_law_94 24 rfl rfl
theorem dksL_law_96 : cL_law.data.toList.drop 2397 = dktL_law_96 := dk_seg dksL_law_95 22 rfl rfl
theorem dksL_law_97 : cL_law.data.toList.drop 2419 = dktL_law_97 := dk_seg dksL_law_96 22 rfl rfl
theorem dksL_law_98 : cL_law.data.toList.drop 2443 = dktL_law_98 := dk_seg dksL_law_97 24 rfl rfl
theorem dksL_law_99 : cL_law.data.toList.drop 2465 = dktL_law_99 := dk_seg dksL_law_98 22 rfl rfl
theorem dksL_law_100 : cL_law.data.toList.drop 2487 = dktL_law_100 := dk_seg dksL_law_99 22 rfl rfl
theorem dksL_law_101 : cL_law.data.toList.drop 2511 = dktL_law_101 := dk_seg dksL_law_100 24 rfl rfl
theorem dksL_law_102 : cL_law.data.toList.drop 2533 = dktL_law_102 := dk_seg dksL_law_101 22 rfl rfl
theorem dksL_law_103 : cL_law.data.toList.drop 2555 = dktL_law_103 := dk_seg dksL_law_102 22 rfl rfl
theorem dksL_law_104 : cL_law.data.toList.drop 2578 = dktL_law_104 := dk_seg dksL_law_103 23 rfl rfl
theorem dksL_law_105 : cL_law.data.toList.drop 2602 = dktL_law_105 := dk_seg dksL_law_104 24 rfl rfl
theorem dksL_law_106 : cL_law.data.toList.drop 2626 = dktL_law_106 := dk_seg dksL_law_105 24 rfl rfl
theorem dksL_law_107 : cL_law.data.toList.drop 2649 = dktL_law_107 := dk_seg dksL_law_106 23 rfl rfl
theorem dksL_law_108 : cL_law.data.toList.drop 2673 = dktL_law_108 := dk_seg dksL_law_107 24 rfl rfl
theorem dksL_law_109 : cL_law.data.toList.drop 2697 = dktL_law_109 := dk_seg dksL_law_108 24 rfl rfl
theorem dL_law_0 : decode cL_law 0 = .ok (.new 8, 3) := dk_187 0 8 (dk_at dksL_law_0 0 rfl rfl)
theorem dL_law_3 : decode cL_law 3 = .ok (.dup, 1) := dk_89 (dk_at dksL_law_0 3 rfl rfl)
theorem dL_law_4 : decode cL_law 4 = .ok (.invokespecial 122, 3) := dk_183 0 122 (dk_at dksL_law_0 4 rfl rfl)
theorem dL_law_7 : decode cL_law 7 = .ok (.astore_n 1, 1) := dk_76 (dk_at dksL_law_0 7 rfl rfl)
theorem dL_law_8 : decode cL_law 8 = .ok (.new 123, 3) := dk_187 0 123 (dk_at dksL_law_0 8 rfl rfl)
theorem dL_law_11 : decode cL_law 11 = .ok (.dup, 1) := dk_89 (dk_at dksL_law_0 11 rfl rfl)
theorem dL_law_12 : decode cL_law 12 = .ok (.invokespecial 125, 3) := dk_183 0 125 (dk_at dksL_law_0 12 rfl rfl)
theorem dL_law_15 : decode cL_law 15 = .ok (.astore_n 2, 1) := dk_77 (dk_at dksL_law_0 15 rfl rfl)
theorem dL_law_16 : decode cL_law 16 = .ok (.iconst 1, 1) := dk_4 (dk_at dksL_law_0 16 rfl rfl)
theorem dL_law_17 : decode cL_law 17 = .ok (.newarray .long, 2) := dk_188_11 (dk_at dksL_law_0 17 rfl rfl)
theorem dL_law_19 : decode cL_law 19 = .ok (.astore_n 3, 1) := dk_78 (dk_at dksL_law_0 19 rfl rfl)
theorem dL_law_20 : decode cL_law 20 = .ok (.iconst 0, 1) := dk_3 (dk_at dksL_law_0 20 rfl rfl)
theorem dL_law_21 : decode cL_law 21 = .ok (.istore 4, 2) := dk_54 4 (dk_at dksL_law_0 21 rfl rfl)
theorem dL_law_23 : decode cL_law 23 = .ok (.iload 4, 2) := dk_21 4 (dk_at dksL_law_1 0 rfl rfl)
theorem dL_law_25 : decode cL_law 25 = .ok (.aload_n 0, 1) := dk_42 (dk_at dksL_law_1 2 rfl rfl)
theorem dL_law_26 : decode cL_law 26 = .ok (.arraylength, 1) := dk_190 (dk_at dksL_law_1 3 rfl rfl)
theorem dL_law_27 : decode cL_law 27 = .ok (.bipush 6, 2) := dk_16 6 (dk_at dksL_law_1 4 rfl rfl)
theorem dL_law_29 : decode cL_law 29 = .ok (.isub, 1) := dk_100 (dk_at dksL_law_1 6 rfl rfl)
theorem dL_law_30 : decode cL_law 30 = .ok (.if_icmp .gt 2682, 3) := dk_163 10 122 (dk_at dksL_law_1 7 rfl rfl)
theorem dL_law_33 : decode cL_law 33 = .ok (.aload_n 0, 1) := dk_42 (dk_at dksL_law_1 10 rfl rfl)
theorem dL_law_34 : decode cL_law 34 = .ok (.iload 4, 2) := dk_21 4 (dk_at dksL_law_1 11 rfl rfl)
theorem dL_law_36 : decode cL_law 36 = .ok (.iaload, 1) := dk_46 (dk_at dksL_law_1 13 rfl rfl)
theorem dL_law_37 : decode cL_law 37 = .ok (.bipush 63, 2) := dk_16 63 (dk_at dksL_law_1 14 rfl rfl)
theorem dL_law_39 : decode cL_law 39 = .ok (.iand, 1) := dk_126 (dk_at dksL_law_1 16 rfl rfl)
theorem dL_law_40 : decode cL_law 40 = .ok (.tableswitch 2666 0 41 #[184, 257, 313, 326, 382, 450, 475, 550, 641, 709, 777, 790, 870, 926, 982, 1038, 1106, 1174, 1242, 1298, 1366, 1434, 1526, 1594, 1690, 1701, 1757, 1813, 1893, 1973, 2053, 2121, 2177, 2190, 2246, 2314, 2382, 2450, 2518, 2574, 2642, 2653], 184) := by decide +kernel
theorem dL_law_224 : decode cL_law 224 = .ok (.aload_n 1, 1) := dk_43 (dk_at dksL_law_3 0 rfl rfl)
theorem dL_law_225 : decode cL_law 225 = .ok (.aload_n 0, 1) := dk_42 (dk_at dksL_law_3 1 rfl rfl)
theorem dL_law_226 : decode cL_law 226 = .ok (.iload 4, 2) := dk_21 4 (dk_at dksL_law_3 2 rfl rfl)
theorem dL_law_228 : decode cL_law 228 = .ok (.iconst 1, 1) := dk_4 (dk_at dksL_law_3 4 rfl rfl)
theorem dL_law_229 : decode cL_law 229 = .ok (.iadd, 1) := dk_96 (dk_at dksL_law_3 5 rfl rfl)
theorem dL_law_230 : decode cL_law 230 = .ok (.iaload, 1) := dk_46 (dk_at dksL_law_3 6 rfl rfl)
theorem dL_law_231 : decode cL_law 231 = .ok (.aload_n 0, 1) := dk_42 (dk_at dksL_law_3 7 rfl rfl)
theorem dL_law_232 : decode cL_law 232 = .ok (.iload 4, 2) := dk_21 4 (dk_at dksL_law_3 8 rfl rfl)
theorem dL_law_234 : decode cL_law 234 = .ok (.iconst 2, 1) := dk_5 (dk_at dksL_law_3 10 rfl rfl)
theorem dL_law_235 : decode cL_law 235 = .ok (.iadd, 1) := dk_96 (dk_at dksL_law_3 11 rfl rfl)
theorem dL_law_236 : decode cL_law 236 = .ok (.iaload, 1) := dk_46 (dk_at dksL_law_3 12 rfl rfl)
theorem dL_law_237 : decode cL_law 237 = .ok (.aload_n 0, 1) := dk_42 (dk_at dksL_law_3 13 rfl rfl)
theorem dL_law_238 : decode cL_law 238 = .ok (.iload 4, 2) := dk_21 4 (dk_at dksL_law_3 14 rfl rfl)
theorem dL_law_240 : decode cL_law 240 = .ok (.iconst 3, 1) := dk_6 (dk_at dksL_law_3 16 rfl rfl)
theorem dL_law_241 : decode cL_law 241 = .ok (.iadd, 1) := dk_96 (dk_at dksL_law_3 17 rfl rfl)
theorem dL_law_242 : decode cL_law 242 = .ok (.iaload, 1) := dk_46 (dk_at dksL_law_3 18 rfl rfl)
theorem dL_law_243 : decode cL_law 243 = .ok (.aload_n 0, 1) := dk_42 (dk_at dksL_law_3 19 rfl rfl)
theorem dL_law_244 : decode cL_law 244 = .ok (.iload 4, 2) := dk_21 4 (dk_at dksL_law_3 20 rfl rfl)
theorem dL_law_246 : decode cL_law 246 = .ok (.iconst 4, 1) := dk_7 (dk_at dksL_law_3 22 rfl rfl)
theorem dL_law_247 : decode cL_law 247 = .ok (.iadd, 1) := dk_96 (dk_at dksL_law_3 23 rfl rfl)
theorem dL_law_248 : decode cL_law 248 = .ok (.iaload, 1) := dk_46 (dk_at dksL_law_4 0 rfl rfl)
theorem dL_law_249 : decode cL_law 249 = .ok (.aload_n 0, 1) := dk_42 (dk_at dksL_law_4 1 rfl rfl)
theorem dL_law_250 : decode cL_law 250 = .ok (.iload 4, 2) := dk_21 4 (dk_at dksL_law_4 2 rfl rfl)
theorem dL_law_252 : decode cL_law 252 = .ok (.iconst 5, 1) := dk_8 (dk_at dksL_law_4 4 rfl rfl)
theorem dL_law_253 : decode cL_law 253 = .ok (.iadd, 1) := dk_96 (dk_at dksL_law_4 5 rfl rfl)
theorem dL_law_254 : decode cL_law 254 = .ok (.iaload, 1) := dk_46 (dk_at dksL_law_4 6 rfl rfl)
theorem dL_law_255 : decode cL_law 255 = .ok (.invokevirtual 126, 3) := dk_182 0 126 (dk_at dksL_law_4 7 rfl rfl)
theorem dL_law_258 : decode cL_law 258 = .ok (.aload_n 2, 1) := dk_44 (dk_at dksL_law_4 10 rfl rfl)
theorem dL_law_259 : decode cL_law 259 = .ok (.aload_n 0, 1) := dk_42 (dk_at dksL_law_4 11 rfl rfl)
theorem dL_law_260 : decode cL_law 260 = .ok (.iload 4, 2) := dk_21 4 (dk_at dksL_law_4 12 rfl rfl)
theorem dL_law_262 : decode cL_law 262 = .ok (.iconst 1, 1) := dk_4 (dk_at dksL_law_4 14 rfl rfl)
theorem dL_law_263 : decode cL_law 263 = .ok (.iadd, 1) := dk_96 (dk_at dksL_law_4 15 rfl rfl)
theorem dL_law_264 : decode cL_law 264 = .ok (.iaload, 1) := dk_46 (dk_at dksL_law_4 16 rfl rfl)
theorem dL_law_265 : decode cL_law 265 = .ok (.aload_n 0, 1) := dk_42 (dk_at dksL_law_4 17 rfl rfl)
theorem dL_law_266 : decode cL_law 266 = .ok (.iload 4, 2) := dk_21 4 (dk_at dksL_law_4 18 rfl rfl)
theorem dL_law_268 : decode cL_law 268 = .ok (.iconst 2, 1) := dk_5 (dk_at dksL_law_4 20 rfl rfl)
theorem dL_law_269 : decode cL_law 269 = .ok (.iadd, 1) := dk_96 (dk_at dksL_law_4 21 rfl rfl)
theorem dL_law_270 : decode cL_law 270 = .ok (.iaload, 1) := dk_46 (dk_at dksL_law_4 22 rfl rfl)
theorem dL_law_271 : decode cL_law 271 = .ok (.aload_n 0, 1) := dk_42 (dk_at dksL_law_4 23 rfl rfl)
theorem dL_law_272 : decode cL_law 272 = .ok (.iload 4, 2) := dk_21 4 (dk_at dksL_law_5 0 rfl rfl)
theorem dL_law_274 : decode cL_law 274 = .ok (.iconst 3, 1) := dk_6 (dk_at dksL_law_5 2 rfl rfl)
theorem dL_law_275 : decode cL_law 275 = .ok (.iadd, 1) := dk_96 (dk_at dksL_law_5 3 rfl rfl)
theorem dL_law_276 : decode cL_law 276 = .ok (.iaload, 1) := dk_46 (dk_at dksL_law_5 4 rfl rfl)
theorem dL_law_277 : decode cL_law 277 = .ok (.aload_n 0, 1) := dk_42 (dk_at dksL_law_5 5 rfl rfl)
theorem dL_law_278 : decode cL_law 278 = .ok (.iload 4, 2) := dk_21 4 (dk_at dksL_law_5 6 rfl rfl)
theorem dL_law_280 : decode cL_law 280 = .ok (.iconst 4, 1) := dk_7 (dk_at dksL_law_5 8 rfl rfl)
theorem dL_law_281 : decode cL_law 281 = .ok (.iadd, 1) := dk_96 (dk_at dksL_law_5 9 rfl rfl)
theorem dL_law_282 : decode cL_law 282 = .ok (.iaload, 1) := dk_46 (dk_at dksL_law_5 10 rfl rfl)
theorem dL_law_283 : decode cL_law 283 = .ok (.aload_n 0, 1) := dk_42 (dk_at dksL_law_5 11 rfl rfl)
theorem dL_law_284 : decode cL_law 284 = .ok (.iload 4, 2) := dk_21 4 (dk_at dksL_law_5 12 rfl rfl)
theorem dL_law_286 : decode cL_law 286 = .ok (.iconst 5, 1) := dk_8 (dk_at dksL_law_5 14 rfl rfl)
theorem dL_law_287 : decode cL_law 287 = .ok (.iadd, 1) := dk_96 (dk_at dksL_law_5 15 rfl rfl)
theorem dL_law_288 : decode cL_law 288 = .ok (.iaload, 1) := dk_46 (dk_at dksL_law_5 16 rfl rfl)
theorem dL_law_289 : decode cL_law 289 = .ok (.invokevirtual 130, 3) := dk_182 0 130 (dk_at dksL_law_5 17 rfl rfl)
theorem dL_law_292 : decode cL_law 292 = .ok (.if_icmp .eq 2414, 3) := dk_159 9 110 (dk_at dksL_law_5 20 rfl rfl)
theorem dL_law_295 : decode cL_law 295 = .ok (.iconst 0, 1) := dk_3 (dk_at dksL_law_5 23 rfl rfl)
theorem dL_law_296 : decode cL_law 296 = .ok (.ireturn, 1) := dk_172 (dk_at dksL_law_6 0 rfl rfl)
theorem dL_law_297 : decode cL_law 297 = .ok (.aload_n 1, 1) := dk_43 (dk_at dksL_law_6 1 rfl rfl)
theorem dL_law_298 : decode cL_law 298 = .ok (.aload_n 0, 1) := dk_42 (dk_at dksL_law_6 2 rfl rfl)
theorem dL_law_299 : decode cL_law 299 = .ok (.iload 4, 2) := dk_21 4 (dk_at dksL_law_6 3 rfl rfl)
theorem dL_law_301 : decode cL_law 301 = .ok (.iconst 1, 1) := dk_4 (dk_at dksL_law_6 5 rfl rfl)
theorem dL_law_302 : decode cL_law 302 = .ok (.iadd, 1) := dk_96 (dk_at dksL_law_6 6 rfl rfl)
theorem dL_law_303 : decode cL_law 303 = .ok (.iaload, 1) := dk_46 (dk_at dksL_law_6 7 rfl rfl)
theorem dL_law_304 : decode cL_law 304 = .ok (.aload_n 3, 1) := dk_45 (dk_at dksL_law_6 8 rfl rfl)
theorem dL_law_305 : decode cL_law 305 = .ok (.invokestatic 131, 3) := dk_184 0 131 (dk_at dksL_law_6 9 rfl rfl)
theorem dL_law_308 : decode cL_law 308 = .ok (.istore 5, 2) := dk_54 5 (dk_at dksL_law_6 12 rfl rfl)
theorem dL_law_310 : decode cL_law 310 = .ok (.aload_n 2, 1) := dk_44 (dk_at dksL_law_6 14 rfl rfl)
theorem dL_law_311 : decode cL_law 311 = .ok (.aload_n 0, 1) := dk_42 (dk_at dksL_law_6 15 rfl rfl)
theorem dL_law_312 : decode cL_law 312 = .ok (.iload 4, 2) := dk_21 4 (dk_at dksL_law_6 16 rfl rfl)
theorem dL_law_314 : decode cL_law 314 = .ok (.iconst 1, 1) := dk_4 (dk_at dksL_law_6 18 rfl rfl)
theorem dL_law_315 : decode cL_law 315 = .ok (.iadd, 1) := dk_96 (dk_at dksL_law_6 19 rfl rfl)
theorem dL_law_316 : decode cL_law 316 = .ok (.iaload, 1) := dk_46 (dk_at dksL_law_6 20 rfl rfl)
theorem dL_law_317 : decode cL_law 317 = .ok (.invokevirtual 136, 3) := dk_182 0 136 (dk_at dksL_law_6 21 rfl rfl)
theorem dL_law_320 : decode cL_law 320 = .ok (.istore 6, 2) := dk_54 6 (dk_at dksL_law_7 0 rfl rfl)
theorem dL_law_322 : decode cL_law 322 = .ok (.aload_n 2, 1) := dk_44 (dk_at dksL_law_7 2 rfl rfl)
theorem dL_law_323 : decode cL_law 323 = .ok (.invokevirtual 137, 3) := dk_182 0 137 (dk_at dksL_law_7 3 rfl rfl)
theorem dL_law_326 : decode cL_law 326 = .ok (.iload 5, 2) := dk_21 5 (dk_at dksL_law_7 6 rfl rfl)
theorem dL_law_328 : decode cL_law 328 = .ok (.if_icmp .eq 5, 3) := dk_159 0 5 (dk_at dksL_law_7 8 rfl rfl)
theorem dL_law_331 : decode cL_law 331 = .ok (.iconst 0, 1) := dk_3 (dk_at dksL_law_7 11 rfl rfl)
theorem dL_law_332 : decode cL_law 332 = .ok (.ireturn, 1) := dk_172 (dk_at dksL_law_7 12 rfl rfl)
theorem dL_law_333 : decode cL_law 333 = .ok (.iload 5, 2) := dk_21 5 (dk_at dksL_law_7 13 rfl rfl)
theorem dL_law_335 : decode cL_law 335 = .ok (.ifCond .ne 15, 3) := dk_154 0 15 (dk_at dksL_law_7 15 rfl rfl)
theorem dL_law_338 : decode cL_law 338 = .ok (.aload_n 3, 1) := dk_45 (dk_at dksL_law_7 18 rfl rfl)
theorem dL_law_339 : decode cL_law 339 = .ok (.iconst 0, 1) := dk_3 (dk_at dksL_law_7 19 rfl rfl)
theorem dL_law_340 : decode cL_law 340 = .ok (.laload, 1) := dk_47 (dk_at dksL_law_7 20 rfl rfl)
theorem dL_law_341 : decode cL_law 341 = .ok (.iload 6, 2) := dk_21 6 (dk_at dksL_law_7 21 rfl rfl)
theorem dL_law_343 : decode cL_law 343 = .ok (.i2l, 1) := dk_133 (dk_at dksL_law_7 23 rfl rfl)
theorem dL_law_344 : decode cL_law 344 = .ok (.lcmp, 1) := dk_148 (dk_at dksL_law_8 0 rfl rfl)
theorem dL_law_345 : decode cL_law 345 = .ok (.ifCond .eq 5, 3) := dk_153 0 5 (dk_at dksL_law_8 1 rfl rfl)
theorem dL_law_348 : decode cL_law 348 = .ok (.iconst 0, 1) := dk_3 (dk_at dksL_law_8 4 rfl rfl)
theorem dL_law_349 : decode cL_law 349 = .ok (.ireturn, 1) := dk_172 (dk_at dksL_law_8 5 rfl rfl)
theorem dL_law_350 : decode cL_law 350 = .ok (.goto 2356, 3) := dk_167 9 52 (dk_at dksL_law_8 6 rfl rfl)
theorem dL_law_353 : decode cL_law 353 = .ok (.aload_n 1, 1) := dk_43 (dk_at dksL_law_8 9 rfl rfl)
theorem dL_law_354 : decode cL_law 354 = .ok (.invokevirtual 141, 3) := dk_182 0 141 (dk_at dksL_law_8 10 rfl rfl)
theorem dL_law_357 : decode cL_law 357 = .ok (.aload_n 2, 1) := dk_44 (dk_at dksL_law_8 13 rfl rfl)
theorem dL_law_358 : decode cL_law 358 = .ok (.invokevirtual 144, 3) := dk_182 0 144 (dk_at dksL_law_8 14 rfl rfl)
theorem dL_law_361 : decode cL_law 361 = .ok (.if_icmp .eq 2345, 3) := dk_159 9 41 (dk_at dksL_law_8 17 rfl rfl)
theorem dL_law_364 : decode cL_law 364 = .ok (.iconst 0, 1) := dk_3 (dk_at dksL_law_8 20 rfl rfl)
theorem dL_law_365 : decode cL_law 365 = .ok (.ireturn, 1) := dk_172 (dk_at dksL_law_8 21 rfl rfl)
theorem dL_law_366 : decode cL_law 366 = .ok (.aload_n 1, 1) := dk_43 (dk_at dksL_law_8 22 rfl rfl)
theorem dL_law_367 : decode cL_law 367 = .ok (.aload_n 0, 1) := dk_42 (dk_at dksL_law_8 23 rfl rfl)
theorem dL_law_368 : decode cL_law 368 = .ok (.iload 4, 2) := dk_21 4 (dk_at dksL_law_9 0 rfl rfl)
theorem dL_law_370 : decode cL_law 370 = .ok (.iconst 1, 1) := dk_4 (dk_at dksL_law_9 2 rfl rfl)
theorem dL_law_371 : decode cL_law 371 = .ok (.iadd, 1) := dk_96 (dk_at dksL_law_9 3 rfl rfl)
theorem dL_law_372 : decode cL_law 372 = .ok (.iaload, 1) := dk_46 (dk_at dksL_law_9 4 rfl rfl)
theorem dL_law_373 : decode cL_law 373 = .ok (.aload_n 3, 1) := dk_45 (dk_at dksL_law_9 5 rfl rfl)
theorem dL_law_374 : decode cL_law 374 = .ok (.invokestatic 145, 3) := dk_184 0 145 (dk_at dksL_law_9 6 rfl rfl)
theorem dL_law_377 : decode cL_law 377 = .ok (.istore 5, 2) := dk_54 5 (dk_at dksL_law_9 9 rfl rfl)
theorem dL_law_379 : decode cL_law 379 = .ok (.aload_n 2, 1) := dk_44 (dk_at dksL_law_9 11 rfl rfl)
theorem dL_law_380 : decode cL_law 380 = .ok (.aload_n 0, 1) := dk_42 (dk_at dksL_law_9 12 rfl rfl)
theorem dL_law_381 : decode cL_law 381 = .ok (.iload 4, 2) := dk_21 4 (dk_at dksL_law_9 13 rfl rfl)
theorem dL_law_383 : decode cL_law 383 = .ok (.iconst 1, 1) := dk_4 (dk_at dksL_law_9 15 rfl rfl)
theorem dL_law_384 : decode cL_law 384 = .ok (.iadd, 1) := dk_96 (dk_at dksL_law_9 16 rfl rfl)
theorem dL_law_385 : decode cL_law 385 = .ok (.iaload, 1) := dk_46 (dk_at dksL_law_9 17 rfl rfl)
theorem dL_law_386 : decode cL_law 386 = .ok (.invokevirtual 147, 3) := dk_182 0 147 (dk_at dksL_law_9 18 rfl rfl)
theorem dL_law_389 : decode cL_law 389 = .ok (.istore 6, 2) := dk_54 6 (dk_at dksL_law_9 21 rfl rfl)
theorem dL_law_391 : decode cL_law 391 = .ok (.aload_n 2, 1) := dk_44 (dk_at dksL_law_9 23 rfl rfl)
theorem dL_law_392 : decode cL_law 392 = .ok (.invokevirtual 137, 3) := dk_182 0 137 (dk_at dksL_law_10 0 rfl rfl)
theorem dL_law_395 : decode cL_law 395 = .ok (.iload 5, 2) := dk_21 5 (dk_at dksL_law_10 3 rfl rfl)
theorem dL_law_397 : decode cL_law 397 = .ok (.if_icmp .eq 5, 3) := dk_159 0 5 (dk_at dksL_law_10 5 rfl rfl)
theorem dL_law_400 : decode cL_law 400 = .ok (.iconst 0, 1) := dk_3 (dk_at dksL_law_10 8 rfl rfl)
theorem dL_law_401 : decode cL_law 401 = .ok (.ireturn, 1) := dk_172 (dk_at dksL_law_10 9 rfl rfl)
theorem dL_law_402 : decode cL_law 402 = .ok (.iload 5, 2) := dk_21 5 (dk_at dksL_law_10 10 rfl rfl)
theorem dL_law_404 : decode cL_law 404 = .ok (.ifCond .ne 15, 3) := dk_154 0 15 (dk_at dksL_law_10 12 rfl rfl)
theorem dL_law_407 : decode cL_law 407 = .ok (.aload_n 3, 1) := dk_45 (dk_at dksL_law_10 15 rfl rfl)
theorem dL_law_408 : decode cL_law 408 = .ok (.iconst 0, 1) := dk_3 (dk_at dksL_law_10 16 rfl rfl)
theorem dL_law_409 : decode cL_law 409 = .ok (.laload, 1) := dk_47 (dk_at dksL_law_10 17 rfl rfl)
theorem dL_law_410 : decode cL_law 410 = .ok (.iload 6, 2) := dk_21 6 (dk_at dksL_law_10 18 rfl rfl)
theorem dL_law_412 : decode cL_law 412 = .ok (.i2l, 1) := dk_133 (dk_at dksL_law_10 20 rfl rfl)
theorem dL_law_413 : decode cL_law 413 = .ok (.lcmp, 1) := dk_148 (dk_at dksL_law_10 21 rfl rfl)
theorem dL_law_414 : decode cL_law 414 = .ok (.ifCond .eq 5, 3) := dk_153 0 5 (dk_at dksL_law_11 0 rfl rfl)
theorem dL_law_417 : decode cL_law 417 = .ok (.iconst 0, 1) := dk_3 (dk_at dksL_law_11 3 rfl rfl)
theorem dL_law_418 : decode cL_law 418 = .ok (.ireturn, 1) := dk_172 (dk_at dksL_law_11 4 rfl rfl)
theorem dL_law_419 : decode cL_law 419 = .ok (.goto 2287, 3) := dk_167 8 239 (dk_at dksL_law_11 5 rfl rfl)
theorem dL_law_422 : decode cL_law 422 = .ok (.aload_n 1, 1) := dk_43 (dk_at dksL_law_11 8 rfl rfl)
theorem dL_law_423 : decode cL_law 423 = .ok (.aload_n 0, 1) := dk_42 (dk_at dksL_law_11 9 rfl rfl)
theorem dL_law_424 : decode cL_law 424 = .ok (.iload 4, 2) := dk_21 4 (dk_at dksL_law_11 10 rfl rfl)
theorem dL_law_426 : decode cL_law 426 = .ok (.iconst 1, 1) := dk_4 (dk_at dksL_law_11 12 rfl rfl)
theorem dL_law_427 : decode cL_law 427 = .ok (.iadd, 1) := dk_96 (dk_at dksL_law_11 13 rfl rfl)
theorem dL_law_428 : decode cL_law 428 = .ok (.iaload, 1) := dk_46 (dk_at dksL_law_11 14 rfl rfl)
theorem dL_law_429 : decode cL_law 429 = .ok (.aload_n 0, 1) := dk_42 (dk_at dksL_law_11 15 rfl rfl)
theorem dL_law_430 : decode cL_law 430 = .ok (.iload 4, 2) := dk_21 4 (dk_at dksL_law_11 16 rfl rfl)
theorem dL_law_432 : decode cL_law 432 = .ok (.iconst 2, 1) := dk_5 (dk_at dksL_law_11 18 rfl rfl)
theorem dL_law_433 : decode cL_law 433 = .ok (.iadd, 1) := dk_96 (dk_at dksL_law_11 19 rfl rfl)
theorem dL_law_434 : decode cL_law 434 = .ok (.iaload, 1) := dk_46 (dk_at dksL_law_11 20 rfl rfl)
theorem dL_law_435 : decode cL_law 435 = .ok (.aload_n 3, 1) := dk_45 (dk_at dksL_law_11 21 rfl rfl)
theorem dL_law_436 : decode cL_law 436 = .ok (.invokestatic 148, 3) := dk_184 0 148 (dk_at dksL_law_12 0 rfl rfl)
theorem dL_law_439 : decode cL_law 439 = .ok (.istore 5, 2) := dk_54 5 (dk_at dksL_law_12 3 rfl rfl)
theorem dL_law_441 : decode cL_law 441 = .ok (.aload_n 2, 1) := dk_44 (dk_at dksL_law_12 5 rfl rfl)
theorem dL_law_442 : decode cL_law 442 = .ok (.aload_n 0, 1) := dk_42 (dk_at dksL_law_12 6 rfl rfl)
theorem dL_law_443 : decode cL_law 443 = .ok (.iload 4, 2) := dk_21 4 (dk_at dksL_law_12 7 rfl rfl)
theorem dL_law_445 : decode cL_law 445 = .ok (.iconst 1, 1) := dk_4 (dk_at dksL_law_12 9 rfl rfl)
theorem dL_law_446 : decode cL_law 446 = .ok (.iadd, 1) := dk_96 (dk_at dksL_law_12 10 rfl rfl)
theorem dL_law_447 : decode cL_law 447 = .ok (.iaload, 1) := dk_46 (dk_at dksL_law_12 11 rfl rfl)
theorem dL_law_448 : decode cL_law 448 = .ok (.aload_n 0, 1) := dk_42 (dk_at dksL_law_12 12 rfl rfl)
theorem dL_law_449 : decode cL_law 449 = .ok (.iload 4, 2) := dk_21 4 (dk_at dksL_law_12 13 rfl rfl)
theorem dL_law_451 : decode cL_law 451 = .ok (.iconst 2, 1) := dk_5 (dk_at dksL_law_12 15 rfl rfl)
theorem dL_law_452 : decode cL_law 452 = .ok (.iadd, 1) := dk_96 (dk_at dksL_law_12 16 rfl rfl)
theorem dL_law_453 : decode cL_law 453 = .ok (.iaload, 1) := dk_46 (dk_at dksL_law_12 17 rfl rfl)
theorem dL_law_454 : decode cL_law 454 = .ok (.invokevirtual 151, 3) := dk_182 0 151 (dk_at dksL_law_12 18 rfl rfl)
theorem dL_law_457 : decode cL_law 457 = .ok (.istore 6, 2) := dk_54 6 (dk_at dksL_law_12 21 rfl rfl)
theorem dL_law_459 : decode cL_law 459 = .ok (.aload_n 2, 1) := dk_44 (dk_at dksL_law_12 23 rfl rfl)
theorem dL_law_460 : decode cL_law 460 = .ok (.invokevirtual 137, 3) := dk_182 0 137 (dk_at dksL_law_13 0 rfl rfl)
theorem dL_law_463 : decode cL_law 463 = .ok (.iload 5, 2) := dk_21 5 (dk_at dksL_law_13 3 rfl rfl)
theorem dL_law_465 : decode cL_law 465 = .ok (.if_icmp .eq 5, 3) := dk_159 0 5 (dk_at dksL_law_13 5 rfl rfl)
theorem dL_law_468 : decode cL_law 468 = .ok (.iconst 0, 1) := dk_3 (dk_at dksL_law_13 8 rfl rfl)
theorem dL_law_469 : decode cL_law 469 = .ok (.ireturn, 1) := dk_172 (dk_at dksL_law_13 9 rfl rfl)
theorem dL_law_470 : decode cL_law 470 = .ok (.iload 5, 2) := dk_21 5 (dk_at dksL_law_13 10 rfl rfl)
theorem dL_law_472 : decode cL_law 472 = .ok (.ifCond .ne 15, 3) := dk_154 0 15 (dk_at dksL_law_13 12 rfl rfl)
theorem dL_law_475 : decode cL_law 475 = .ok (.aload_n 3, 1) := dk_45 (dk_at dksL_law_13 15 rfl rfl)
theorem dL_law_476 : decode cL_law 476 = .ok (.iconst 0, 1) := dk_3 (dk_at dksL_law_13 16 rfl rfl)
theorem dL_law_477 : decode cL_law 477 = .ok (.laload, 1) := dk_47 (dk_at dksL_law_13 17 rfl rfl)
theorem dL_law_478 : decode cL_law 478 = .ok (.iload 6, 2) := dk_21 6 (dk_at dksL_law_13 18 rfl rfl)
theorem dL_law_480 : decode cL_law 480 = .ok (.i2l, 1) := dk_133 (dk_at dksL_law_13 20 rfl rfl)
theorem dL_law_481 : decode cL_law 481 = .ok (.lcmp, 1) := dk_148 (dk_at dksL_law_13 21 rfl rfl)
theorem dL_law_482 : decode cL_law 482 = .ok (.ifCond .eq 5, 3) := dk_153 0 5 (dk_at dksL_law_14 0 rfl rfl)
theorem dL_law_485 : decode cL_law 485 = .ok (.iconst 0, 1) := dk_3 (dk_at dksL_law_14 3 rfl rfl)
theorem dL_law_486 : decode cL_law 486 = .ok (.ireturn, 1) := dk_172 (dk_at dksL_law_14 4 rfl rfl)
theorem dL_law_487 : decode cL_law 487 = .ok (.goto 2219, 3) := dk_167 8 171 (dk_at dksL_law_14 5 rfl rfl)
theorem dL_law_490 : decode cL_law 490 = .ok (.aload_n 1, 1) := dk_43 (dk_at dksL_law_14 8 rfl rfl)
theorem dL_law_491 : decode cL_law 491 = .ok (.aload_n 0, 1) := dk_42 (dk_at dksL_law_14 9 rfl rfl)
theorem dL_law_492 : decode cL_law 492 = .ok (.iload 4, 2) := dk_21 4 (dk_at dksL_law_14 10 rfl rfl)
theorem dL_law_494 : decode cL_law 494 = .ok (.iconst 1, 1) := dk_4 (dk_at dksL_law_14 12 rfl rfl)
theorem dL_law_495 : decode cL_law 495 = .ok (.iadd, 1) := dk_96 (dk_at dksL_law_14 13 rfl rfl)
theorem dL_law_496 : decode cL_law 496 = .ok (.iaload, 1) := dk_46 (dk_at dksL_law_14 14 rfl rfl)
theorem dL_law_497 : decode cL_law 497 = .ok (.invokevirtual 152, 3) := dk_182 0 152 (dk_at dksL_law_14 15 rfl rfl)
theorem dL_law_500 : decode cL_law 500 = .ok (.aload_n 2, 1) := dk_44 (dk_at dksL_law_14 18 rfl rfl)
theorem dL_law_501 : decode cL_law 501 = .ok (.aload_n 0, 1) := dk_42 (dk_at dksL_law_14 19 rfl rfl)
theorem dL_law_502 : decode cL_law 502 = .ok (.iload 4, 2) := dk_21 4 (dk_at dksL_law_14 20 rfl rfl)
theorem dL_law_504 : decode cL_law 504 = .ok (.iconst 1, 1) := dk_4 (dk_at dksL_law_14 22 rfl rfl)
theorem dL_law_505 : decode cL_law 505 = .ok (.iadd, 1) := dk_96 (dk_at dksL_law_14 23 rfl rfl)
theorem dL_law_506 : decode cL_law 506 = .ok (.iaload, 1) := dk_46 (dk_at dksL_law_15 0 rfl rfl)
theorem dL_law_507 : decode cL_law 507 = .ok (.invokevirtual 155, 3) := dk_182 0 155 (dk_at dksL_law_15 1 rfl rfl)
theorem dL_law_510 : decode cL_law 510 = .ok (.if_icmp .eq 2196, 3) := dk_159 8 148 (dk_at dksL_law_15 4 rfl rfl)
theorem dL_law_513 : decode cL_law 513 = .ok (.iconst 0, 1) := dk_3 (dk_at dksL_law_15 7 rfl rfl)
theorem dL_law_514 : decode cL_law 514 = .ok (.ireturn, 1) := dk_172 (dk_at dksL_law_15 8 rfl rfl)
theorem dL_law_515 : decode cL_law 515 = .ok (.aload_n 1, 1) := dk_43 (dk_at dksL_law_15 9 rfl rfl)
theorem dL_law_516 : decode cL_law 516 = .ok (.aload_n 0, 1) := dk_42 (dk_at dksL_law_15 10 rfl rfl)
theorem dL_law_517 : decode cL_law 517 = .ok (.iload 4, 2) := dk_21 4 (dk_at dksL_law_15 11 rfl rfl)
theorem dL_law_519 : decode cL_law 519 = .ok (.iconst 1, 1) := dk_4 (dk_at dksL_law_15 13 rfl rfl)
theorem dL_law_520 : decode cL_law 520 = .ok (.iadd, 1) := dk_96 (dk_at dksL_law_15 14 rfl rfl)
theorem dL_law_521 : decode cL_law 521 = .ok (.iaload, 1) := dk_46 (dk_at dksL_law_15 15 rfl rfl)
theorem dL_law_522 : decode cL_law 522 = .ok (.aload_n 0, 1) := dk_42 (dk_at dksL_law_15 16 rfl rfl)
theorem dL_law_523 : decode cL_law 523 = .ok (.iload 4, 2) := dk_21 4 (dk_at dksL_law_15 17 rfl rfl)
theorem dL_law_525 : decode cL_law 525 = .ok (.iconst 2, 1) := dk_5 (dk_at dksL_law_15 19 rfl rfl)
theorem dL_law_526 : decode cL_law 526 = .ok (.iadd, 1) := dk_96 (dk_at dksL_law_15 20 rfl rfl)
theorem dL_law_527 : decode cL_law 527 = .ok (.iaload, 1) := dk_46 (dk_at dksL_law_15 21 rfl rfl)
theorem dL_law_528 : decode cL_law 528 = .ok (.aload_n 3, 1) := dk_45 (dk_at dksL_law_15 22 rfl rfl)
theorem dL_law_529 : decode cL_law 529 = .ok (.invokestatic 156, 3) := dk_184 0 156 (dk_at dksL_law_16 0 rfl rfl)
theorem dL_law_532 : decode cL_law 532 = .ok (.istore 5, 2) := dk_54 5 (dk_at dksL_law_16 3 rfl rfl)
theorem dL_law_534 : decode cL_law 534 = .ok (.aload_n 2, 1) := dk_44 (dk_at dksL_law_16 5 rfl rfl)
theorem dL_law_535 : decode cL_law 535 = .ok (.aload_n 0, 1) := dk_42 (dk_at dksL_law_16 6 rfl rfl)
theorem dL_law_536 : decode cL_law 536 = .ok (.iload 4, 2) := dk_21 4 (dk_at dksL_law_16 7 rfl rfl)
theorem dL_law_538 : decode cL_law 538 = .ok (.iconst 1, 1) := dk_4 (dk_at dksL_law_16 9 rfl rfl)
theorem dL_law_539 : decode cL_law 539 = .ok (.iadd, 1) := dk_96 (dk_at dksL_law_16 10 rfl rfl)
theorem dL_law_540 : decode cL_law 540 = .ok (.iaload, 1) := dk_46 (dk_at dksL_law_16 11 rfl rfl)
theorem dL_law_541 : decode cL_law 541 = .ok (.aload_n 0, 1) := dk_42 (dk_at dksL_law_16 12 rfl rfl)
theorem dL_law_542 : decode cL_law 542 = .ok (.iload 4, 2) := dk_21 4 (dk_at dksL_law_16 13 rfl rfl)
theorem dL_law_544 : decode cL_law 544 = .ok (.iconst 2, 1) := dk_5 (dk_at dksL_law_16 15 rfl rfl)
theorem dL_law_545 : decode cL_law 545 = .ok (.iadd, 1) := dk_96 (dk_at dksL_law_16 16 rfl rfl)
theorem dL_law_546 : decode cL_law 546 = .ok (.iaload, 1) := dk_46 (dk_at dksL_law_16 17 rfl rfl)
theorem dL_law_547 : decode cL_law 547 = .ok (.invokevirtual 158, 3) := dk_182 0 158 (dk_at dksL_law_16 18 rfl rfl)
theorem dL_law_550 : decode cL_law 550 = .ok (.istore 6, 2) := dk_54 6 (dk_at dksL_law_16 21 rfl rfl)
theorem dL_law_552 : decode cL_law 552 = .ok (.aload_n 2, 1) := dk_44 (dk_at dksL_law_16 23 rfl rfl)
theorem dL_law_553 : decode cL_law 553 = .ok (.invokevirtual 137, 3) := dk_182 0 137 (dk_at dksL_law_17 0 rfl rfl)
theorem dL_law_556 : decode cL_law 556 = .ok (.iload 5, 2) := dk_21 5 (dk_at dksL_law_17 3 rfl rfl)
theorem dL_law_558 : decode cL_law 558 = .ok (.if_icmp .eq 5, 3) := dk_159 0 5 (dk_at dksL_law_17 5 rfl rfl)
theorem dL_law_561 : decode cL_law 561 = .ok (.iconst 0, 1) := dk_3 (dk_at dksL_law_17 8 rfl rfl)
theorem dL_law_562 : decode cL_law 562 = .ok (.ireturn, 1) := dk_172 (dk_at dksL_law_17 9 rfl rfl)
theorem dL_law_563 : decode cL_law 563 = .ok (.iload 5, 2) := dk_21 5 (dk_at dksL_law_17 10 rfl rfl)
theorem dL_law_565 : decode cL_law 565 = .ok (.ifCond .ne 22, 3) := dk_154 0 22 (dk_at dksL_law_17 12 rfl rfl)
theorem dL_law_568 : decode cL_law 568 = .ok (.aload_n 3, 1) := dk_45 (dk_at dksL_law_17 15 rfl rfl)
theorem dL_law_569 : decode cL_law 569 = .ok (.iconst 0, 1) := dk_3 (dk_at dksL_law_17 16 rfl rfl)
theorem dL_law_570 : decode cL_law 570 = .ok (.laload, 1) := dk_47 (dk_at dksL_law_17 17 rfl rfl)
theorem dL_law_571 : decode cL_law 571 = .ok (.iload 6, 2) := dk_21 6 (dk_at dksL_law_17 18 rfl rfl)
theorem dL_law_573 : decode cL_law 573 = .ok (.ifCond .eq 7, 3) := dk_153 0 7 (dk_at dksL_law_17 20 rfl rfl)
theorem dL_law_576 : decode cL_law 576 = .ok (.lconst 1, 1) := dk_10 (dk_at dksL_law_17 23 rfl rfl)
theorem dL_law_577 : decode cL_law 577 = .ok (.goto 4, 3) := dk_167 0 4 (dk_at dksL_law_18 0 rfl rfl)
theorem dL_law_580 : decode cL_law 580 = .ok (.lconst 0, 1) := dk_9 (dk_at dksL_law_18 3 rfl rfl)
theorem dL_law_581 : decode cL_law 581 = .ok (.lcmp, 1) := dk_148 (dk_at dksL_law_18 4 rfl rfl)
theorem dL_law_582 : decode cL_law 582 = .ok (.ifCond .eq 5, 3) := dk_153 0 5 (dk_at dksL_law_18 5 rfl rfl)
theorem dL_law_585 : decode cL_law 585 = .ok (.iconst 0, 1) := dk_3 (dk_at dksL_law_18 8 rfl rfl)
theorem dL_law_586 : decode cL_law 586 = .ok (.ireturn, 1) := dk_172 (dk_at dksL_law_18 9 rfl rfl)
theorem dL_law_587 : decode cL_law 587 = .ok (.goto 2119, 3) := dk_167 8 71 (dk_at dksL_law_18 10 rfl rfl)
theorem dL_law_590 : decode cL_law 590 = .ok (.aload_n 1, 1) := dk_43 (dk_at dksL_law_18 13 rfl rfl)
theorem dL_law_591 : decode cL_law 591 = .ok (.aload_n 0, 1) := dk_42 (dk_at dksL_law_18 14 rfl rfl)
theorem dL_law_592 : decode cL_law 592 = .ok (.iload 4, 2) := dk_21 4 (dk_at dksL_law_18 15 rfl rfl)
theorem dL_law_594 : decode cL_law 594 = .ok (.iconst 1, 1) := dk_4 (dk_at dksL_law_18 17 rfl rfl)
theorem dL_law_595 : decode cL_law 595 = .ok (.iadd, 1) := dk_96 (dk_at dksL_law_18 18 rfl rfl)
theorem dL_law_596 : decode cL_law 596 = .ok (.iaload, 1) := dk_46 (dk_at dksL_law_18 19 rfl rfl)
theorem dL_law_597 : decode cL_law 597 = .ok (.aload_n 0, 1) := dk_42 (dk_at dksL_law_18 20 rfl rfl)
theorem dL_law_598 : decode cL_law 598 = .ok (.iload 4, 2) := dk_21 4 (dk_at dksL_law_18 21 rfl rfl)
theorem dL_law_600 : decode cL_law 600 = .ok (.iconst 2, 1) := dk_5 (dk_at dksL_law_18 23 rfl rfl)
theorem dL_law_601 : decode cL_law 601 = .ok (.iadd, 1) := dk_96 (dk_at dksL_law_19 0 rfl rfl)
theorem dL_law_602 : decode cL_law 602 = .ok (.iaload, 1) := dk_46 (dk_at dksL_law_19 1 rfl rfl)
theorem dL_law_603 : decode cL_law 603 = .ok (.ifCond .eq 7, 3) := dk_153 0 7 (dk_at dksL_law_19 2 rfl rfl)
theorem dL_law_606 : decode cL_law 606 = .ok (.iconst 1, 1) := dk_4 (dk_at dksL_law_19 5 rfl rfl)
theorem dL_law_607 : decode cL_law 607 = .ok (.goto 4, 3) := dk_167 0 4 (dk_at dksL_law_19 6 rfl rfl)
theorem dL_law_610 : decode cL_law 610 = .ok (.iconst 0, 1) := dk_3 (dk_at dksL_law_19 9 rfl rfl)
theorem dL_law_611 : decode cL_law 611 = .ok (.aload_n 3, 1) := dk_45 (dk_at dksL_law_19 10 rfl rfl)
theorem dL_law_612 : decode cL_law 612 = .ok (.invokestatic 159, 3) := dk_184 0 159 (dk_at dksL_law_19 11 rfl rfl)
theorem dL_law_615 : decode cL_law 615 = .ok (.istore 5, 2) := dk_54 5 (dk_at dksL_law_19 14 rfl rfl)
theorem dL_law_617 : decode cL_law 617 = .ok (.aload_n 2, 1) := dk_44 (dk_at dksL_law_19 16 rfl rfl)
theorem dL_law_618 : decode cL_law 618 = .ok (.aload_n 0, 1) := dk_42 (dk_at dksL_law_19 17 rfl rfl)
theorem dL_law_619 : decode cL_law 619 = .ok (.iload 4, 2) := dk_21 4 (dk_at dksL_law_19 18 rfl rfl)
theorem dL_law_621 : decode cL_law 621 = .ok (.iconst 1, 1) := dk_4 (dk_at dksL_law_19 20 rfl rfl)
theorem dL_law_622 : decode cL_law 622 = .ok (.iadd, 1) := dk_96 (dk_at dksL_law_19 21 rfl rfl)
theorem dL_law_623 : decode cL_law 623 = .ok (.iaload, 1) := dk_46 (dk_at dksL_law_19 22 rfl rfl)
theorem dL_law_624 : decode cL_law 624 = .ok (.aload_n 0, 1) := dk_42 (dk_at dksL_law_19 23 rfl rfl)
theorem dL_law_625 : decode cL_law 625 = .ok (.iload 4, 2) := dk_21 4 (dk_at dksL_law_20 0 rfl rfl)
theorem dL_law_627 : decode cL_law 627 = .ok (.iconst 2, 1) := dk_5 (dk_at dksL_law_20 2 rfl rfl)
theorem dL_law_628 : decode cL_law 628 = .ok (.iadd, 1) := dk_96 (dk_at dksL_law_20 3 rfl rfl)
theorem dL_law_629 : decode cL_law 629 = .ok (.iaload, 1) := dk_46 (dk_at dksL_law_20 4 rfl rfl)
theorem dL_law_630 : decode cL_law 630 = .ok (.ifCond .eq 7, 3) := dk_153 0 7 (dk_at dksL_law_20 5 rfl rfl)
theorem dL_law_633 : decode cL_law 633 = .ok (.iconst 1, 1) := dk_4 (dk_at dksL_law_20 8 rfl rfl)
theorem dL_law_634 : decode cL_law 634 = .ok (.goto 4, 3) := dk_167 0 4 (dk_at dksL_law_20 9 rfl rfl)
theorem dL_law_637 : decode cL_law 637 = .ok (.iconst 0, 1) := dk_3 (dk_at dksL_law_20 12 rfl rfl)
theorem dL_law_638 : decode cL_law 638 = .ok (.invokevirtual 162, 3) := dk_182 0 162 (dk_at dksL_law_20 13 rfl rfl)
theorem dL_law_641 : decode cL_law 641 = .ok (.istore 6, 2) := dk_54 6 (dk_at dksL_law_20 16 rfl rfl)
theorem dL_law_643 : decode cL_law 643 = .ok (.aload_n 2, 1) := dk_44 (dk_at dksL_law_20 18 rfl rfl)
theorem dL_law_644 : decode cL_law 644 = .ok (.invokevirtual 137, 3) := dk_182 0 137 (dk_at dksL_law_20 19 rfl rfl)
theorem dL_law_647 : decode cL_law 647 = .ok (.iload 5, 2) := dk_21 5 (dk_at dksL_law_20 22 rfl rfl)
theorem dL_law_649 : decode cL_law 649 = .ok (.if_icmp .eq 5, 3) := dk_159 0 5 (dk_at dksL_law_21 0 rfl rfl)
theorem dL_law_652 : decode cL_law 652 = .ok (.iconst 0, 1) := dk_3 (dk_at dksL_law_21 3 rfl rfl)
theorem dL_law_653 : decode cL_law 653 = .ok (.ireturn, 1) := dk_172 (dk_at dksL_law_21 4 rfl rfl)
theorem dL_law_654 : decode cL_law 654 = .ok (.iload 5, 2) := dk_21 5 (dk_at dksL_law_21 5 rfl rfl)
theorem dL_law_656 : decode cL_law 656 = .ok (.ifCond .ne 22, 3) := dk_154 0 22 (dk_at dksL_law_21 7 rfl rfl)
theorem dL_law_659 : decode cL_law 659 = .ok (.aload_n 3, 1) := dk_45 (dk_at dksL_law_21 10 rfl rfl)
theorem dL_law_660 : decode cL_law 660 = .ok (.iconst 0, 1) := dk_3 (dk_at dksL_law_21 11 rfl rfl)
theorem dL_law_661 : decode cL_law 661 = .ok (.laload, 1) := dk_47 (dk_at dksL_law_21 12 rfl rfl)
theorem dL_law_662 : decode cL_law 662 = .ok (.iload 6, 2) := dk_21 6 (dk_at dksL_law_21 13 rfl rfl)
theorem dL_law_664 : decode cL_law 664 = .ok (.ifCond .eq 7, 3) := dk_153 0 7 (dk_at dksL_law_21 15 rfl rfl)
theorem dL_law_667 : decode cL_law 667 = .ok (.lconst 1, 1) := dk_10 (dk_at dksL_law_21 18 rfl rfl)
theorem dL_law_668 : decode cL_law 668 = .ok (.goto 4, 3) := dk_167 0 4 (dk_at dksL_law_21 19 rfl rfl)
theorem dL_law_671 : decode cL_law 671 = .ok (.lconst 0, 1) := dk_9 (dk_at dksL_law_21 22 rfl rfl)
theorem dL_law_672 : decode cL_law 672 = .ok (.lcmp, 1) := dk_148 (dk_at dksL_law_21 23 rfl rfl)
theorem dL_law_673 : decode cL_law 673 = .ok (.ifCond .eq 5, 3) := dk_153 0 5 (dk_at dksL_law_22 0 rfl rfl)
theorem dL_law_676 : decode cL_law 676 = .ok (.iconst 0, 1) := dk_3 (dk_at dksL_law_22 3 rfl rfl)
theorem dL_law_677 : decode cL_law 677 = .ok (.ireturn, 1) := dk_172 (dk_at dksL_law_22 4 rfl rfl)
theorem dL_law_678 : decode cL_law 678 = .ok (.goto 2028, 3) := dk_167 7 236 (dk_at dksL_law_22 5 rfl rfl)
theorem dL_law_681 : decode cL_law 681 = .ok (.aload_n 1, 1) := dk_43 (dk_at dksL_law_22 8 rfl rfl)
theorem dL_law_682 : decode cL_law 682 = .ok (.aload_n 0, 1) := dk_42 (dk_at dksL_law_22 9 rfl rfl)
theorem dL_law_683 : decode cL_law 683 = .ok (.iload 4, 2) := dk_21 4 (dk_at dksL_law_22 10 rfl rfl)
theorem dL_law_685 : decode cL_law 685 = .ok (.iconst 1, 1) := dk_4 (dk_at dksL_law_22 12 rfl rfl)
theorem dL_law_686 : decode cL_law 686 = .ok (.iadd, 1) := dk_96 (dk_at dksL_law_22 13 rfl rfl)
theorem dL_law_687 : decode cL_law 687 = .ok (.iaload, 1) := dk_46 (dk_at dksL_law_22 14 rfl rfl)
theorem dL_law_688 : decode cL_law 688 = .ok (.aload_n 0, 1) := dk_42 (dk_at dksL_law_22 15 rfl rfl)
theorem dL_law_689 : decode cL_law 689 = .ok (.iload 4, 2) := dk_21 4 (dk_at dksL_law_22 16 rfl rfl)
theorem dL_law_691 : decode cL_law 691 = .ok (.iconst 2, 1) := dk_5 (dk_at dksL_law_22 18 rfl rfl)
theorem dL_law_692 : decode cL_law 692 = .ok (.iadd, 1) := dk_96 (dk_at dksL_law_22 19 rfl rfl)
theorem dL_law_693 : decode cL_law 693 = .ok (.iaload, 1) := dk_46 (dk_at dksL_law_22 20 rfl rfl)
theorem dL_law_694 : decode cL_law 694 = .ok (.aload_n 3, 1) := dk_45 (dk_at dksL_law_22 21 rfl rfl)
theorem dL_law_695 : decode cL_law 695 = .ok (.invokestatic 163, 3) := dk_184 0 163 (dk_at dksL_law_23 0 rfl rfl)
theorem dL_law_698 : decode cL_law 698 = .ok (.istore 5, 2) := dk_54 5 (dk_at dksL_law_23 3 rfl rfl)
theorem dL_law_700 : decode cL_law 700 = .ok (.aload_n 2, 1) := dk_44 (dk_at dksL_law_23 5 rfl rfl)
theorem dL_law_701 : decode cL_law 701 = .ok (.aload_n 0, 1) := dk_42 (dk_at dksL_law_23 6 rfl rfl)
theorem dL_law_702 : decode cL_law 702 = .ok (.iload 4, 2) := dk_21 4 (dk_at dksL_law_23 7 rfl rfl)
theorem dL_law_704 : decode cL_law 704 = .ok (.iconst 1, 1) := dk_4 (dk_at dksL_law_23 9 rfl rfl)
theorem dL_law_705 : decode cL_law 705 = .ok (.iadd, 1) := dk_96 (dk_at dksL_law_23 10 rfl rfl)
theorem dL_law_706 : decode cL_law 706 = .ok (.iaload, 1) := dk_46 (dk_at dksL_law_23 11 rfl rfl)
theorem dL_law_707 : decode cL_law 707 = .ok (.aload_n 0, 1) := dk_42 (dk_at dksL_law_23 12 rfl rfl)
theorem dL_law_708 : decode cL_law 708 = .ok (.iload 4, 2) := dk_21 4 (dk_at dksL_law_23 13 rfl rfl)
theorem dL_law_710 : decode cL_law 710 = .ok (.iconst 2, 1) := dk_5 (dk_at dksL_law_23 15 rfl rfl)
theorem dL_law_711 : decode cL_law 711 = .ok (.iadd, 1) := dk_96 (dk_at dksL_law_23 16 rfl rfl)
theorem dL_law_712 : decode cL_law 712 = .ok (.iaload, 1) := dk_46 (dk_at dksL_law_23 17 rfl rfl)
theorem dL_law_713 : decode cL_law 713 = .ok (.invokevirtual 165, 3) := dk_182 0 165 (dk_at dksL_law_23 18 rfl rfl)
theorem dL_law_716 : decode cL_law 716 = .ok (.istore 6, 2) := dk_54 6 (dk_at dksL_law_23 21 rfl rfl)
theorem dL_law_718 : decode cL_law 718 = .ok (.aload_n 2, 1) := dk_44 (dk_at dksL_law_23 23 rfl rfl)
theorem dL_law_719 : decode cL_law 719 = .ok (.invokevirtual 137, 3) := dk_182 0 137 (dk_at dksL_law_24 0 rfl rfl)
theorem dL_law_722 : decode cL_law 722 = .ok (.iload 5, 2) := dk_21 5 (dk_at dksL_law_24 3 rfl rfl)
theorem dL_law_724 : decode cL_law 724 = .ok (.if_icmp .eq 5, 3) := dk_159 0 5 (dk_at dksL_law_24 5 rfl rfl)
theorem dL_law_727 : decode cL_law 727 = .ok (.iconst 0, 1) := dk_3 (dk_at dksL_law_24 8 rfl rfl)
theorem dL_law_728 : decode cL_law 728 = .ok (.ireturn, 1) := dk_172 (dk_at dksL_law_24 9 rfl rfl)
theorem dL_law_729 : decode cL_law 729 = .ok (.iload 5, 2) := dk_21 5 (dk_at dksL_law_24 10 rfl rfl)
theorem dL_law_731 : decode cL_law 731 = .ok (.ifCond .ne 15, 3) := dk_154 0 15 (dk_at dksL_law_24 12 rfl rfl)
theorem dL_law_734 : decode cL_law 734 = .ok (.aload_n 3, 1) := dk_45 (dk_at dksL_law_24 15 rfl rfl)
theorem dL_law_735 : decode cL_law 735 = .ok (.iconst 0, 1) := dk_3 (dk_at dksL_law_24 16 rfl rfl)
theorem dL_law_736 : decode cL_law 736 = .ok (.laload, 1) := dk_47 (dk_at dksL_law_24 17 rfl rfl)
theorem dL_law_737 : decode cL_law 737 = .ok (.iload 6, 2) := dk_21 6 (dk_at dksL_law_24 18 rfl rfl)
theorem dL_law_739 : decode cL_law 739 = .ok (.i2l, 1) := dk_133 (dk_at dksL_law_24 20 rfl rfl)
theorem dL_law_740 : decode cL_law 740 = .ok (.lcmp, 1) := dk_148 (dk_at dksL_law_24 21 rfl rfl)
theorem dL_law_741 : decode cL_law 741 = .ok (.ifCond .eq 5, 3) := dk_153 0 5 (dk_at dksL_law_25 0 rfl rfl)
theorem dL_law_744 : decode cL_law 744 = .ok (.iconst 0, 1) := dk_3 (dk_at dksL_law_25 3 rfl rfl)
theorem dL_law_745 : decode cL_law 745 = .ok (.ireturn, 1) := dk_172 (dk_at dksL_law_25 4 rfl rfl)
theorem dL_law_746 : decode cL_law 746 = .ok (.goto 1960, 3) := dk_167 7 168 (dk_at dksL_law_25 5 rfl rfl)
theorem dL_law_749 : decode cL_law 749 = .ok (.aload_n 1, 1) := dk_43 (dk_at dksL_law_25 8 rfl rfl)
theorem dL_law_750 : decode cL_law 750 = .ok (.aload_n 0, 1) := dk_42 (dk_at dksL_law_25 9 rfl rfl)
theorem dL_law_751 : decode cL_law 751 = .ok (.iload 4, 2) := dk_21 4 (dk_at dksL_law_25 10 rfl rfl)
theorem dL_law_753 : decode cL_law 753 = .ok (.iconst 1, 1) := dk_4 (dk_at dksL_law_25 12 rfl rfl)
theorem dL_law_754 : decode cL_law 754 = .ok (.iadd, 1) := dk_96 (dk_at dksL_law_25 13 rfl rfl)
theorem dL_law_755 : decode cL_law 755 = .ok (.iaload, 1) := dk_46 (dk_at dksL_law_25 14 rfl rfl)
theorem dL_law_756 : decode cL_law 756 = .ok (.aload_n 0, 1) := dk_42 (dk_at dksL_law_25 15 rfl rfl)
theorem dL_law_757 : decode cL_law 757 = .ok (.iload 4, 2) := dk_21 4 (dk_at dksL_law_25 16 rfl rfl)
theorem dL_law_759 : decode cL_law 759 = .ok (.iconst 2, 1) := dk_5 (dk_at dksL_law_25 18 rfl rfl)
theorem dL_law_760 : decode cL_law 760 = .ok (.iadd, 1) := dk_96 (dk_at dksL_law_25 19 rfl rfl)
theorem dL_law_761 : decode cL_law 761 = .ok (.iaload, 1) := dk_46 (dk_at dksL_law_25 20 rfl rfl)
theorem dL_law_762 : decode cL_law 762 = .ok (.aload_n 3, 1) := dk_45 (dk_at dksL_law_25 21 rfl rfl)
theorem dL_law_763 : decode cL_law 763 = .ok (.invokestatic 166, 3) := dk_184 0 166 (dk_at dksL_law_26 0 rfl rfl)
theorem dL_law_766 : decode cL_law 766 = .ok (.istore 5, 2) := dk_54 5 (dk_at dksL_law_26 3 rfl rfl)
theorem dL_law_768 : decode cL_law 768 = .ok (.aload_n 2, 1) := dk_44 (dk_at dksL_law_26 5 rfl rfl)
theorem dL_law_769 : decode cL_law 769 = .ok (.aload_n 0, 1) := dk_42 (dk_at dksL_law_26 6 rfl rfl)
theorem dL_law_770 : decode cL_law 770 = .ok (.iload 4, 2) := dk_21 4 (dk_at dksL_law_26 7 rfl rfl)
theorem dL_law_772 : decode cL_law 772 = .ok (.iconst 1, 1) := dk_4 (dk_at dksL_law_26 9 rfl rfl)
theorem dL_law_773 : decode cL_law 773 = .ok (.iadd, 1) := dk_96 (dk_at dksL_law_26 10 rfl rfl)
theorem dL_law_774 : decode cL_law 774 = .ok (.iaload, 1) := dk_46 (dk_at dksL_law_26 11 rfl rfl)
theorem dL_law_775 : decode cL_law 775 = .ok (.aload_n 0, 1) := dk_42 (dk_at dksL_law_26 12 rfl rfl)
theorem dL_law_776 : decode cL_law 776 = .ok (.iload 4, 2) := dk_21 4 (dk_at dksL_law_26 13 rfl rfl)
theorem dL_law_778 : decode cL_law 778 = .ok (.iconst 2, 1) := dk_5 (dk_at dksL_law_26 15 rfl rfl)
theorem dL_law_779 : decode cL_law 779 = .ok (.iadd, 1) := dk_96 (dk_at dksL_law_26 16 rfl rfl)
theorem dL_law_780 : decode cL_law 780 = .ok (.iaload, 1) := dk_46 (dk_at dksL_law_26 17 rfl rfl)
theorem dL_law_781 : decode cL_law 781 = .ok (.invokevirtual 168, 3) := dk_182 0 168 (dk_at dksL_law_26 18 rfl rfl)
theorem dL_law_784 : decode cL_law 784 = .ok (.istore 6, 2) := dk_54 6 (dk_at dksL_law_26 21 rfl rfl)
theorem dL_law_786 : decode cL_law 786 = .ok (.aload_n 2, 1) := dk_44 (dk_at dksL_law_26 23 rfl rfl)
theorem dL_law_787 : decode cL_law 787 = .ok (.invokevirtual 137, 3) := dk_182 0 137 (dk_at dksL_law_27 0 rfl rfl)
theorem dL_law_790 : decode cL_law 790 = .ok (.iload 5, 2) := dk_21 5 (dk_at dksL_law_27 3 rfl rfl)
theorem dL_law_792 : decode cL_law 792 = .ok (.if_icmp .eq 5, 3) := dk_159 0 5 (dk_at dksL_law_27 5 rfl rfl)
theorem dL_law_795 : decode cL_law 795 = .ok (.iconst 0, 1) := dk_3 (dk_at dksL_law_27 8 rfl rfl)
theorem dL_law_796 : decode cL_law 796 = .ok (.ireturn, 1) := dk_172 (dk_at dksL_law_27 9 rfl rfl)
theorem dL_law_797 : decode cL_law 797 = .ok (.iload 5, 2) := dk_21 5 (dk_at dksL_law_27 10 rfl rfl)
theorem dL_law_799 : decode cL_law 799 = .ok (.ifCond .ne 15, 3) := dk_154 0 15 (dk_at dksL_law_27 12 rfl rfl)
theorem dL_law_802 : decode cL_law 802 = .ok (.aload_n 3, 1) := dk_45 (dk_at dksL_law_27 15 rfl rfl)
theorem dL_law_803 : decode cL_law 803 = .ok (.iconst 0, 1) := dk_3 (dk_at dksL_law_27 16 rfl rfl)
theorem dL_law_804 : decode cL_law 804 = .ok (.laload, 1) := dk_47 (dk_at dksL_law_27 17 rfl rfl)
theorem dL_law_805 : decode cL_law 805 = .ok (.iload 6, 2) := dk_21 6 (dk_at dksL_law_27 18 rfl rfl)
theorem dL_law_807 : decode cL_law 807 = .ok (.i2l, 1) := dk_133 (dk_at dksL_law_27 20 rfl rfl)
theorem dL_law_808 : decode cL_law 808 = .ok (.lcmp, 1) := dk_148 (dk_at dksL_law_27 21 rfl rfl)
theorem dL_law_809 : decode cL_law 809 = .ok (.ifCond .eq 5, 3) := dk_153 0 5 (dk_at dksL_law_28 0 rfl rfl)
theorem dL_law_812 : decode cL_law 812 = .ok (.iconst 0, 1) := dk_3 (dk_at dksL_law_28 3 rfl rfl)
theorem dL_law_813 : decode cL_law 813 = .ok (.ireturn, 1) := dk_172 (dk_at dksL_law_28 4 rfl rfl)
theorem dL_law_814 : decode cL_law 814 = .ok (.goto 1892, 3) := dk_167 7 100 (dk_at dksL_law_28 5 rfl rfl)
theorem dL_law_817 : decode cL_law 817 = .ok (.aload_n 1, 1) := dk_43 (dk_at dksL_law_28 8 rfl rfl)
theorem dL_law_818 : decode cL_law 818 = .ok (.invokevirtual 169, 3) := dk_182 0 169 (dk_at dksL_law_28 9 rfl rfl)
theorem dL_law_821 : decode cL_law 821 = .ok (.aload_n 2, 1) := dk_44 (dk_at dksL_law_28 12 rfl rfl)
theorem dL_law_822 : decode cL_law 822 = .ok (.invokevirtual 172, 3) := dk_182 0 172 (dk_at dksL_law_28 13 rfl rfl)
theorem dL_law_825 : decode cL_law 825 = .ok (.if_icmp .eq 1881, 3) := dk_159 7 89 (dk_at dksL_law_28 16 rfl rfl)
theorem dL_law_828 : decode cL_law 828 = .ok (.iconst 0, 1) := dk_3 (dk_at dksL_law_28 19 rfl rfl)
theorem dL_law_829 : decode cL_law 829 = .ok (.ireturn, 1) := dk_172 (dk_at dksL_law_28 20 rfl rfl)
theorem dL_law_830 : decode cL_law 830 = .ok (.aload_n 1, 1) := dk_43 (dk_at dksL_law_28 21 rfl rfl)
theorem dL_law_831 : decode cL_law 831 = .ok (.aload_n 0, 1) := dk_42 (dk_at dksL_law_28 22 rfl rfl)
theorem dL_law_832 : decode cL_law 832 = .ok (.iload 4, 2) := dk_21 4 (dk_at dksL_law_29 0 rfl rfl)
theorem dL_law_834 : decode cL_law 834 = .ok (.iconst 1, 1) := dk_4 (dk_at dksL_law_29 2 rfl rfl)
theorem dL_law_835 : decode cL_law 835 = .ok (.iadd, 1) := dk_96 (dk_at dksL_law_29 3 rfl rfl)
theorem dL_law_836 : decode cL_law 836 = .ok (.iaload, 1) := dk_46 (dk_at dksL_law_29 4 rfl rfl)
theorem dL_law_837 : decode cL_law 837 = .ok (.aload_n 0, 1) := dk_42 (dk_at dksL_law_29 5 rfl rfl)
theorem dL_law_838 : decode cL_law 838 = .ok (.iload 4, 2) := dk_21 4 (dk_at dksL_law_29 6 rfl rfl)
theorem dL_law_840 : decode cL_law 840 = .ok (.iconst 2, 1) := dk_5 (dk_at dksL_law_29 8 rfl rfl)
theorem dL_law_841 : decode cL_law 841 = .ok (.iadd, 1) := dk_96 (dk_at dksL_law_29 9 rfl rfl)
theorem dL_law_842 : decode cL_law 842 = .ok (.iaload, 1) := dk_46 (dk_at dksL_law_29 10 rfl rfl)
theorem dL_law_843 : decode cL_law 843 = .ok (.aload_n 0, 1) := dk_42 (dk_at dksL_law_29 11 rfl rfl)
theorem dL_law_844 : decode cL_law 844 = .ok (.iload 4, 2) := dk_21 4 (dk_at dksL_law_29 12 rfl rfl)
theorem dL_law_846 : decode cL_law 846 = .ok (.iconst 3, 1) := dk_6 (dk_at dksL_law_29 14 rfl rfl)
theorem dL_law_847 : decode cL_law 847 = .ok (.iadd, 1) := dk_96 (dk_at dksL_law_29 15 rfl rfl)
theorem dL_law_848 : decode cL_law 848 = .ok (.iaload, 1) := dk_46 (dk_at dksL_law_29 16 rfl rfl)
theorem dL_law_849 : decode cL_law 849 = .ok (.aload_n 3, 1) := dk_45 (dk_at dksL_law_29 17 rfl rfl)
theorem dL_law_850 : decode cL_law 850 = .ok (.invokestatic 173, 3) := dk_184 0 173 (dk_at dksL_law_29 18 rfl rfl)
theorem dL_law_853 : decode cL_law 853 = .ok (.istore 5, 2) := dk_54 5 (dk_at dksL_law_29 21 rfl rfl)
theorem dL_law_855 : decode cL_law 855 = .ok (.aload_n 2, 1) := dk_44 (dk_at dksL_law_29 23 rfl rfl)
theorem dL_law_856 : decode cL_law 856 = .ok (.aload_n 0, 1) := dk_42 (dk_at dksL_law_30 0 rfl rfl)
theorem dL_law_857 : decode cL_law 857 = .ok (.iload 4, 2) := dk_21 4 (dk_at dksL_law_30 1 rfl rfl)
theorem dL_law_859 : decode cL_law 859 = .ok (.iconst 1, 1) := dk_4 (dk_at dksL_law_30 3 rfl rfl)
theorem dL_law_860 : decode cL_law 860 = .ok (.iadd, 1) := dk_96 (dk_at dksL_law_30 4 rfl rfl)
theorem dL_law_861 : decode cL_law 861 = .ok (.iaload, 1) := dk_46 (dk_at dksL_law_30 5 rfl rfl)
theorem dL_law_862 : decode cL_law 862 = .ok (.aload_n 0, 1) := dk_42 (dk_at dksL_law_30 6 rfl rfl)
theorem dL_law_863 : decode cL_law 863 = .ok (.iload 4, 2) := dk_21 4 (dk_at dksL_law_30 7 rfl rfl)
theorem dL_law_865 : decode cL_law 865 = .ok (.iconst 2, 1) := dk_5 (dk_at dksL_law_30 9 rfl rfl)
theorem dL_law_866 : decode cL_law 866 = .ok (.iadd, 1) := dk_96 (dk_at dksL_law_30 10 rfl rfl)
theorem dL_law_867 : decode cL_law 867 = .ok (.iaload, 1) := dk_46 (dk_at dksL_law_30 11 rfl rfl)
theorem dL_law_868 : decode cL_law 868 = .ok (.aload_n 0, 1) := dk_42 (dk_at dksL_law_30 12 rfl rfl)
theorem dL_law_869 : decode cL_law 869 = .ok (.iload 4, 2) := dk_21 4 (dk_at dksL_law_30 13 rfl rfl)
theorem dL_law_871 : decode cL_law 871 = .ok (.iconst 3, 1) := dk_6 (dk_at dksL_law_30 15 rfl rfl)
theorem dL_law_872 : decode cL_law 872 = .ok (.iadd, 1) := dk_96 (dk_at dksL_law_30 16 rfl rfl)
theorem dL_law_873 : decode cL_law 873 = .ok (.iaload, 1) := dk_46 (dk_at dksL_law_30 17 rfl rfl)
theorem dL_law_874 : decode cL_law 874 = .ok (.invokevirtual 176, 3) := dk_182 0 176 (dk_at dksL_law_30 18 rfl rfl)
theorem dL_law_877 : decode cL_law 877 = .ok (.istore 6, 2) := dk_54 6 (dk_at dksL_law_30 21 rfl rfl)
theorem dL_law_879 : decode cL_law 879 = .ok (.aload_n 2, 1) := dk_44 (dk_at dksL_law_30 23 rfl rfl)
theorem dL_law_880 : decode cL_law 880 = .ok (.invokevirtual 137, 3) := dk_182 0 137 (dk_at dksL_law_31 0 rfl rfl)
theorem dL_law_883 : decode cL_law 883 = .ok (.iload 5, 2) := dk_21 5 (dk_at dksL_law_31 3 rfl rfl)
theorem dL_law_885 : decode cL_law 885 = .ok (.if_icmp .eq 5, 3) := dk_159 0 5 (dk_at dksL_law_31 5 rfl rfl)
theorem dL_law_888 : decode cL_law 888 = .ok (.iconst 0, 1) := dk_3 (dk_at dksL_law_31 8 rfl rfl)
theorem dL_law_889 : decode cL_law 889 = .ok (.ireturn, 1) := dk_172 (dk_at dksL_law_31 9 rfl rfl)
theorem dL_law_890 : decode cL_law 890 = .ok (.iload 5, 2) := dk_21 5 (dk_at dksL_law_31 10 rfl rfl)
theorem dL_law_892 : decode cL_law 892 = .ok (.ifCond .ne 15, 3) := dk_154 0 15 (dk_at dksL_law_31 12 rfl rfl)
theorem dL_law_895 : decode cL_law 895 = .ok (.aload_n 3, 1) := dk_45 (dk_at dksL_law_31 15 rfl rfl)
theorem dL_law_896 : decode cL_law 896 = .ok (.iconst 0, 1) := dk_3 (dk_at dksL_law_31 16 rfl rfl)
theorem dL_law_897 : decode cL_law 897 = .ok (.laload, 1) := dk_47 (dk_at dksL_law_31 17 rfl rfl)
theorem dL_law_898 : decode cL_law 898 = .ok (.iload 6, 2) := dk_21 6 (dk_at dksL_law_31 18 rfl rfl)
theorem dL_law_900 : decode cL_law 900 = .ok (.i2l, 1) := dk_133 (dk_at dksL_law_31 20 rfl rfl)
theorem dL_law_901 : decode cL_law 901 = .ok (.lcmp, 1) := dk_148 (dk_at dksL_law_31 21 rfl rfl)
theorem dL_law_902 : decode cL_law 902 = .ok (.ifCond .eq 5, 3) := dk_153 0 5 (dk_at dksL_law_32 0 rfl rfl)
theorem dL_law_905 : decode cL_law 905 = .ok (.iconst 0, 1) := dk_3 (dk_at dksL_law_32 3 rfl rfl)
theorem dL_law_906 : decode cL_law 906 = .ok (.ireturn, 1) := dk_172 (dk_at dksL_law_32 4 rfl rfl)
theorem dL_law_907 : decode cL_law 907 = .ok (.goto 1799, 3) := dk_167 7 7 (dk_at dksL_law_32 5 rfl rfl)
theorem dL_law_910 : decode cL_law 910 = .ok (.aload_n 1, 1) := dk_43 (dk_at dksL_law_32 8 rfl rfl)
theorem dL_law_911 : decode cL_law 911 = .ok (.aload_n 0, 1) := dk_42 (dk_at dksL_law_32 9 rfl rfl)
theorem dL_law_912 : decode cL_law 912 = .ok (.iload 4, 2) := dk_21 4 (dk_at dksL_law_32 10 rfl rfl)
theorem dL_law_914 : decode cL_law 914 = .ok (.iconst 1, 1) := dk_4 (dk_at dksL_law_32 12 rfl rfl)
theorem dL_law_915 : decode cL_law 915 = .ok (.iadd, 1) := dk_96 (dk_at dksL_law_32 13 rfl rfl)
theorem dL_law_916 : decode cL_law 916 = .ok (.iaload, 1) := dk_46 (dk_at dksL_law_32 14 rfl rfl)
theorem dL_law_917 : decode cL_law 917 = .ok (.aload_n 3, 1) := dk_45 (dk_at dksL_law_32 15 rfl rfl)
theorem dL_law_918 : decode cL_law 918 = .ok (.invokestatic 177, 3) := dk_184 0 177 (dk_at dksL_law_32 16 rfl rfl)
theorem dL_law_921 : decode cL_law 921 = .ok (.istore 5, 2) := dk_54 5 (dk_at dksL_law_32 19 rfl rfl)
theorem dL_law_923 : decode cL_law 923 = .ok (.aload_n 2, 1) := dk_44 (dk_at dksL_law_32 21 rfl rfl)
theorem dL_law_924 : decode cL_law 924 = .ok (.aload_n 0, 1) := dk_42 (dk_at dksL_law_32 22 rfl rfl)
theorem dL_law_925 : decode cL_law 925 = .ok (.iload 4, 2) := dk_21 4 (dk_at dksL_law_33 0 rfl rfl)
theorem dL_law_927 : decode cL_law 927 = .ok (.iconst 1, 1) := dk_4 (dk_at dksL_law_33 2 rfl rfl)
theorem dL_law_928 : decode cL_law 928 = .ok (.iadd, 1) := dk_96 (dk_at dksL_law_33 3 rfl rfl)
theorem dL_law_929 : decode cL_law 929 = .ok (.iaload, 1) := dk_46 (dk_at dksL_law_33 4 rfl rfl)
theorem dL_law_930 : decode cL_law 930 = .ok (.invokevirtual 179, 3) := dk_182 0 179 (dk_at dksL_law_33 5 rfl rfl)
theorem dL_law_933 : decode cL_law 933 = .ok (.istore 6, 2) := dk_54 6 (dk_at dksL_law_33 8 rfl rfl)
theorem dL_law_935 : decode cL_law 935 = .ok (.aload_n 2, 1) := dk_44 (dk_at dksL_law_33 10 rfl rfl)
theorem dL_law_936 : decode cL_law 936 = .ok (.invokevirtual 137, 3) := dk_182 0 137 (dk_at dksL_law_33 11 rfl rfl)
theorem dL_law_939 : decode cL_law 939 = .ok (.iload 5, 2) := dk_21 5 (dk_at dksL_law_33 14 rfl rfl)
theorem dL_law_941 : decode cL_law 941 = .ok (.if_icmp .eq 5, 3) := dk_159 0 5 (dk_at dksL_law_33 16 rfl rfl)
theorem dL_law_944 : decode cL_law 944 = .ok (.iconst 0, 1) := dk_3 (dk_at dksL_law_33 19 rfl rfl)
theorem dL_law_945 : decode cL_law 945 = .ok (.ireturn, 1) := dk_172 (dk_at dksL_law_33 20 rfl rfl)
theorem dL_law_946 : decode cL_law 946 = .ok (.iload 5, 2) := dk_21 5 (dk_at dksL_law_33 21 rfl rfl)
theorem dL_law_948 : decode cL_law 948 = .ok (.ifCond .ne 15, 3) := dk_154 0 15 (dk_at dksL_law_34 0 rfl rfl)
theorem dL_law_951 : decode cL_law 951 = .ok (.aload_n 3, 1) := dk_45 (dk_at dksL_law_34 3 rfl rfl)
theorem dL_law_952 : decode cL_law 952 = .ok (.iconst 0, 1) := dk_3 (dk_at dksL_law_34 4 rfl rfl)
theorem dL_law_953 : decode cL_law 953 = .ok (.laload, 1) := dk_47 (dk_at dksL_law_34 5 rfl rfl)
theorem dL_law_954 : decode cL_law 954 = .ok (.iload 6, 2) := dk_21 6 (dk_at dksL_law_34 6 rfl rfl)
theorem dL_law_956 : decode cL_law 956 = .ok (.i2l, 1) := dk_133 (dk_at dksL_law_34 8 rfl rfl)
theorem dL_law_957 : decode cL_law 957 = .ok (.lcmp, 1) := dk_148 (dk_at dksL_law_34 9 rfl rfl)
theorem dL_law_958 : decode cL_law 958 = .ok (.ifCond .eq 5, 3) := dk_153 0 5 (dk_at dksL_law_34 10 rfl rfl)
theorem dL_law_961 : decode cL_law 961 = .ok (.iconst 0, 1) := dk_3 (dk_at dksL_law_34 13 rfl rfl)
theorem dL_law_962 : decode cL_law 962 = .ok (.ireturn, 1) := dk_172 (dk_at dksL_law_34 14 rfl rfl)
theorem dL_law_963 : decode cL_law 963 = .ok (.goto 1743, 3) := dk_167 6 207 (dk_at dksL_law_34 15 rfl rfl)
theorem dL_law_966 : decode cL_law 966 = .ok (.aload_n 1, 1) := dk_43 (dk_at dksL_law_34 18 rfl rfl)
theorem dL_law_967 : decode cL_law 967 = .ok (.aload_n 0, 1) := dk_42 (dk_at dksL_law_34 19 rfl rfl)
theorem dL_law_968 : decode cL_law 968 = .ok (.iload 4, 2) := dk_21 4 (dk_at dksL_law_34 20 rfl rfl)
theorem dL_law_970 : decode cL_law 970 = .ok (.iconst 1, 1) := dk_4 (dk_at dksL_law_34 22 rfl rfl)
theorem dL_law_971 : decode cL_law 971 = .ok (.iadd, 1) := dk_96 (dk_at dksL_law_34 23 rfl rfl)
theorem dL_law_972 : decode cL_law 972 = .ok (.iaload, 1) := dk_46 (dk_at dksL_law_35 0 rfl rfl)
theorem dL_law_973 : decode cL_law 973 = .ok (.aload_n 3, 1) := dk_45 (dk_at dksL_law_35 1 rfl rfl)
theorem dL_law_974 : decode cL_law 974 = .ok (.invokestatic 180, 3) := dk_184 0 180 (dk_at dksL_law_35 2 rfl rfl)
theorem dL_law_977 : decode cL_law 977 = .ok (.istore 5, 2) := dk_54 5 (dk_at dksL_law_35 5 rfl rfl)
theorem dL_law_979 : decode cL_law 979 = .ok (.aload_n 2, 1) := dk_44 (dk_at dksL_law_35 7 rfl rfl)
theorem dL_law_980 : decode cL_law 980 = .ok (.aload_n 0, 1) := dk_42 (dk_at dksL_law_35 8 rfl rfl)
theorem dL_law_981 : decode cL_law 981 = .ok (.iload 4, 2) := dk_21 4 (dk_at dksL_law_35 9 rfl rfl)
theorem dL_law_983 : decode cL_law 983 = .ok (.iconst 1, 1) := dk_4 (dk_at dksL_law_35 11 rfl rfl)
theorem dL_law_984 : decode cL_law 984 = .ok (.iadd, 1) := dk_96 (dk_at dksL_law_35 12 rfl rfl)
theorem dL_law_985 : decode cL_law 985 = .ok (.iaload, 1) := dk_46 (dk_at dksL_law_35 13 rfl rfl)
theorem dL_law_986 : decode cL_law 986 = .ok (.invokevirtual 182, 3) := dk_182 0 182 (dk_at dksL_law_35 14 rfl rfl)
theorem dL_law_989 : decode cL_law 989 = .ok (.istore 6, 2) := dk_54 6 (dk_at dksL_law_35 17 rfl rfl)
theorem dL_law_991 : decode cL_law 991 = .ok (.aload_n 2, 1) := dk_44 (dk_at dksL_law_35 19 rfl rfl)
theorem dL_law_992 : decode cL_law 992 = .ok (.invokevirtual 137, 3) := dk_182 0 137 (dk_at dksL_law_35 20 rfl rfl)
theorem dL_law_995 : decode cL_law 995 = .ok (.iload 5, 2) := dk_21 5 (dk_at dksL_law_36 0 rfl rfl)
theorem dL_law_997 : decode cL_law 997 = .ok (.if_icmp .eq 5, 3) := dk_159 0 5 (dk_at dksL_law_36 2 rfl rfl)
theorem dL_law_1000 : decode cL_law 1000 = .ok (.iconst 0, 1) := dk_3 (dk_at dksL_law_36 5 rfl rfl)
theorem dL_law_1001 : decode cL_law 1001 = .ok (.ireturn, 1) := dk_172 (dk_at dksL_law_36 6 rfl rfl)
theorem dL_law_1002 : decode cL_law 1002 = .ok (.iload 5, 2) := dk_21 5 (dk_at dksL_law_36 7 rfl rfl)
theorem dL_law_1004 : decode cL_law 1004 = .ok (.ifCond .ne 15, 3) := dk_154 0 15 (dk_at dksL_law_36 9 rfl rfl)
theorem dL_law_1007 : decode cL_law 1007 = .ok (.aload_n 3, 1) := dk_45 (dk_at dksL_law_36 12 rfl rfl)
theorem dL_law_1008 : decode cL_law 1008 = .ok (.iconst 0, 1) := dk_3 (dk_at dksL_law_36 13 rfl rfl)
theorem dL_law_1009 : decode cL_law 1009 = .ok (.laload, 1) := dk_47 (dk_at dksL_law_36 14 rfl rfl)
theorem dL_law_1010 : decode cL_law 1010 = .ok (.iload 6, 2) := dk_21 6 (dk_at dksL_law_36 15 rfl rfl)
theorem dL_law_1012 : decode cL_law 1012 = .ok (.i2l, 1) := dk_133 (dk_at dksL_law_36 17 rfl rfl)
theorem dL_law_1013 : decode cL_law 1013 = .ok (.lcmp, 1) := dk_148 (dk_at dksL_law_36 18 rfl rfl)
theorem dL_law_1014 : decode cL_law 1014 = .ok (.ifCond .eq 5, 3) := dk_153 0 5 (dk_at dksL_law_36 19 rfl rfl)
theorem dL_law_1017 : decode cL_law 1017 = .ok (.iconst 0, 1) := dk_3 (dk_at dksL_law_36 22 rfl rfl)
theorem dL_law_1018 : decode cL_law 1018 = .ok (.ireturn, 1) := dk_172 (dk_at dksL_law_36 23 rfl rfl)
theorem dL_law_1019 : decode cL_law 1019 = .ok (.goto 1687, 3) := dk_167 6 151 (dk_at dksL_law_37 0 rfl rfl)
theorem dL_law_1022 : decode cL_law 1022 = .ok (.aload_n 1, 1) := dk_43 (dk_at dksL_law_37 3 rfl rfl)
theorem dL_law_1023 : decode cL_law 1023 = .ok (.aload_n 0, 1) := dk_42 (dk_at dksL_law_37 4 rfl rfl)
theorem dL_law_1024 : decode cL_law 1024 = .ok (.iload 4, 2) := dk_21 4 (dk_at dksL_law_37 5 rfl rfl)
theorem dL_law_1026 : decode cL_law 1026 = .ok (.iconst 1, 1) := dk_4 (dk_at dksL_law_37 7 rfl rfl)
theorem dL_law_1027 : decode cL_law 1027 = .ok (.iadd, 1) := dk_96 (dk_at dksL_law_37 8 rfl rfl)
theorem dL_law_1028 : decode cL_law 1028 = .ok (.iaload, 1) := dk_46 (dk_at dksL_law_37 9 rfl rfl)
theorem dL_law_1029 : decode cL_law 1029 = .ok (.aload_n 3, 1) := dk_45 (dk_at dksL_law_37 10 rfl rfl)
theorem dL_law_1030 : decode cL_law 1030 = .ok (.invokestatic 183, 3) := dk_184 0 183 (dk_at dksL_law_37 11 rfl rfl)
theorem dL_law_1033 : decode cL_law 1033 = .ok (.istore 5, 2) := dk_54 5 (dk_at dksL_law_37 14 rfl rfl)
theorem dL_law_1035 : decode cL_law 1035 = .ok (.aload_n 2, 1) := dk_44 (dk_at dksL_law_37 16 rfl rfl)
theorem dL_law_1036 : decode cL_law 1036 = .ok (.aload_n 0, 1) := dk_42 (dk_at dksL_law_37 17 rfl rfl)
theorem dL_law_1037 : decode cL_law 1037 = .ok (.iload 4, 2) := dk_21 4 (dk_at dksL_law_37 18 rfl rfl)
theorem dL_law_1039 : decode cL_law 1039 = .ok (.iconst 1, 1) := dk_4 (dk_at dksL_law_37 20 rfl rfl)
theorem dL_law_1040 : decode cL_law 1040 = .ok (.iadd, 1) := dk_96 (dk_at dksL_law_37 21 rfl rfl)
theorem dL_law_1041 : decode cL_law 1041 = .ok (.iaload, 1) := dk_46 (dk_at dksL_law_37 22 rfl rfl)
theorem dL_law_1042 : decode cL_law 1042 = .ok (.invokevirtual 185, 3) := dk_182 0 185 (dk_at dksL_law_38 0 rfl rfl)
theorem dL_law_1045 : decode cL_law 1045 = .ok (.istore 6, 2) := dk_54 6 (dk_at dksL_law_38 3 rfl rfl)
theorem dL_law_1047 : decode cL_law 1047 = .ok (.aload_n 2, 1) := dk_44 (dk_at dksL_law_38 5 rfl rfl)
theorem dL_law_1048 : decode cL_law 1048 = .ok (.invokevirtual 137, 3) := dk_182 0 137 (dk_at dksL_law_38 6 rfl rfl)
theorem dL_law_1051 : decode cL_law 1051 = .ok (.iload 5, 2) := dk_21 5 (dk_at dksL_law_38 9 rfl rfl)
theorem dL_law_1053 : decode cL_law 1053 = .ok (.if_icmp .eq 5, 3) := dk_159 0 5 (dk_at dksL_law_38 11 rfl rfl)
theorem dL_law_1056 : decode cL_law 1056 = .ok (.iconst 0, 1) := dk_3 (dk_at dksL_law_38 14 rfl rfl)
theorem dL_law_1057 : decode cL_law 1057 = .ok (.ireturn, 1) := dk_172 (dk_at dksL_law_38 15 rfl rfl)
theorem dL_law_1058 : decode cL_law 1058 = .ok (.iload 5, 2) := dk_21 5 (dk_at dksL_law_38 16 rfl rfl)
theorem dL_law_1060 : decode cL_law 1060 = .ok (.ifCond .ne 15, 3) := dk_154 0 15 (dk_at dksL_law_38 18 rfl rfl)
theorem dL_law_1063 : decode cL_law 1063 = .ok (.aload_n 3, 1) := dk_45 (dk_at dksL_law_38 21 rfl rfl)
theorem dL_law_1064 : decode cL_law 1064 = .ok (.iconst 0, 1) := dk_3 (dk_at dksL_law_38 22 rfl rfl)
theorem dL_law_1065 : decode cL_law 1065 = .ok (.laload, 1) := dk_47 (dk_at dksL_law_38 23 rfl rfl)
theorem dL_law_1066 : decode cL_law 1066 = .ok (.iload 6, 2) := dk_21 6 (dk_at dksL_law_39 0 rfl rfl)
theorem dL_law_1068 : decode cL_law 1068 = .ok (.i2l, 1) := dk_133 (dk_at dksL_law_39 2 rfl rfl)
theorem dL_law_1069 : decode cL_law 1069 = .ok (.lcmp, 1) := dk_148 (dk_at dksL_law_39 3 rfl rfl)
theorem dL_law_1070 : decode cL_law 1070 = .ok (.ifCond .eq 5, 3) := dk_153 0 5 (dk_at dksL_law_39 4 rfl rfl)
theorem dL_law_1073 : decode cL_law 1073 = .ok (.iconst 0, 1) := dk_3 (dk_at dksL_law_39 7 rfl rfl)
theorem dL_law_1074 : decode cL_law 1074 = .ok (.ireturn, 1) := dk_172 (dk_at dksL_law_39 8 rfl rfl)
theorem dL_law_1075 : decode cL_law 1075 = .ok (.goto 1631, 3) := dk_167 6 95 (dk_at dksL_law_39 9 rfl rfl)
theorem dL_law_1078 : decode cL_law 1078 = .ok (.aload_n 1, 1) := dk_43 (dk_at dksL_law_39 12 rfl rfl)
theorem dL_law_1079 : decode cL_law 1079 = .ok (.aload_n 0, 1) := dk_42 (dk_at dksL_law_39 13 rfl rfl)
theorem dL_law_1080 : decode cL_law 1080 = .ok (.iload 4, 2) := dk_21 4 (dk_at dksL_law_39 14 rfl rfl)
theorem dL_law_1082 : decode cL_law 1082 = .ok (.iconst 1, 1) := dk_4 (dk_at dksL_law_39 16 rfl rfl)
theorem dL_law_1083 : decode cL_law 1083 = .ok (.iadd, 1) := dk_96 (dk_at dksL_law_39 17 rfl rfl)
theorem dL_law_1084 : decode cL_law 1084 = .ok (.iaload, 1) := dk_46 (dk_at dksL_law_39 18 rfl rfl)
theorem dL_law_1085 : decode cL_law 1085 = .ok (.aload_n 0, 1) := dk_42 (dk_at dksL_law_39 19 rfl rfl)
theorem dL_law_1086 : decode cL_law 1086 = .ok (.iload 4, 2) := dk_21 4 (dk_at dksL_law_39 20 rfl rfl)
theorem dL_law_1088 : decode cL_law 1088 = .ok (.iconst 2, 1) := dk_5 (dk_at dksL_law_39 22 rfl rfl)
theorem dL_law_1089 : decode cL_law 1089 = .ok (.iadd, 1) := dk_96 (dk_at dksL_law_39 23 rfl rfl)
theorem dL_law_1090 : decode cL_law 1090 = .ok (.iaload, 1) := dk_46 (dk_at dksL_law_40 0 rfl rfl)
theorem dL_law_1091 : decode cL_law 1091 = .ok (.aload_n 3, 1) := dk_45 (dk_at dksL_law_40 1 rfl rfl)
theorem dL_law_1092 : decode cL_law 1092 = .ok (.invokestatic 186, 3) := dk_184 0 186 (dk_at dksL_law_40 2 rfl rfl)
theorem dL_law_1095 : decode cL_law 1095 = .ok (.istore 5, 2) := dk_54 5 (dk_at dksL_law_40 5 rfl rfl)
theorem dL_law_1097 : decode cL_law 1097 = .ok (.aload_n 2, 1) := dk_44 (dk_at dksL_law_40 7 rfl rfl)
theorem dL_law_1098 : decode cL_law 1098 = .ok (.aload_n 0, 1) := dk_42 (dk_at dksL_law_40 8 rfl rfl)
theorem dL_law_1099 : decode cL_law 1099 = .ok (.iload 4, 2) := dk_21 4 (dk_at dksL_law_40 9 rfl rfl)
theorem dL_law_1101 : decode cL_law 1101 = .ok (.iconst 1, 1) := dk_4 (dk_at dksL_law_40 11 rfl rfl)
theorem dL_law_1102 : decode cL_law 1102 = .ok (.iadd, 1) := dk_96 (dk_at dksL_law_40 12 rfl rfl)
theorem dL_law_1103 : decode cL_law 1103 = .ok (.iaload, 1) := dk_46 (dk_at dksL_law_40 13 rfl rfl)
theorem dL_law_1104 : decode cL_law 1104 = .ok (.aload_n 0, 1) := dk_42 (dk_at dksL_law_40 14 rfl rfl)
theorem dL_law_1105 : decode cL_law 1105 = .ok (.iload 4, 2) := dk_21 4 (dk_at dksL_law_40 15 rfl rfl)
theorem dL_law_1107 : decode cL_law 1107 = .ok (.iconst 2, 1) := dk_5 (dk_at dksL_law_40 17 rfl rfl)
theorem dL_law_1108 : decode cL_law 1108 = .ok (.iadd, 1) := dk_96 (dk_at dksL_law_40 18 rfl rfl)
theorem dL_law_1109 : decode cL_law 1109 = .ok (.iaload, 1) := dk_46 (dk_at dksL_law_40 19 rfl rfl)
theorem dL_law_1110 : decode cL_law 1110 = .ok (.invokevirtual 188, 3) := dk_182 0 188 (dk_at dksL_law_40 20 rfl rfl)
theorem dL_law_1113 : decode cL_law 1113 = .ok (.istore 6, 2) := dk_54 6 (dk_at dksL_law_41 0 rfl rfl)
theorem dL_law_1115 : decode cL_law 1115 = .ok (.aload_n 2, 1) := dk_44 (dk_at dksL_law_41 2 rfl rfl)
theorem dL_law_1116 : decode cL_law 1116 = .ok (.invokevirtual 137, 3) := dk_182 0 137 (dk_at dksL_law_41 3 rfl rfl)
theorem dL_law_1119 : decode cL_law 1119 = .ok (.iload 5, 2) := dk_21 5 (dk_at dksL_law_41 6 rfl rfl)
theorem dL_law_1121 : decode cL_law 1121 = .ok (.if_icmp .eq 5, 3) := dk_159 0 5 (dk_at dksL_law_41 8 rfl rfl)
theorem dL_law_1124 : decode cL_law 1124 = .ok (.iconst 0, 1) := dk_3 (dk_at dksL_law_41 11 rfl rfl)
theorem dL_law_1125 : decode cL_law 1125 = .ok (.ireturn, 1) := dk_172 (dk_at dksL_law_41 12 rfl rfl)
theorem dL_law_1126 : decode cL_law 1126 = .ok (.iload 5, 2) := dk_21 5 (dk_at dksL_law_41 13 rfl rfl)
theorem dL_law_1128 : decode cL_law 1128 = .ok (.ifCond .ne 15, 3) := dk_154 0 15 (dk_at dksL_law_41 15 rfl rfl)
theorem dL_law_1131 : decode cL_law 1131 = .ok (.aload_n 3, 1) := dk_45 (dk_at dksL_law_41 18 rfl rfl)
theorem dL_law_1132 : decode cL_law 1132 = .ok (.iconst 0, 1) := dk_3 (dk_at dksL_law_41 19 rfl rfl)
theorem dL_law_1133 : decode cL_law 1133 = .ok (.laload, 1) := dk_47 (dk_at dksL_law_41 20 rfl rfl)
theorem dL_law_1134 : decode cL_law 1134 = .ok (.iload 6, 2) := dk_21 6 (dk_at dksL_law_41 21 rfl rfl)
theorem dL_law_1136 : decode cL_law 1136 = .ok (.i2l, 1) := dk_133 (dk_at dksL_law_41 23 rfl rfl)
theorem dL_law_1137 : decode cL_law 1137 = .ok (.lcmp, 1) := dk_148 (dk_at dksL_law_42 0 rfl rfl)
theorem dL_law_1138 : decode cL_law 1138 = .ok (.ifCond .eq 5, 3) := dk_153 0 5 (dk_at dksL_law_42 1 rfl rfl)
theorem dL_law_1141 : decode cL_law 1141 = .ok (.iconst 0, 1) := dk_3 (dk_at dksL_law_42 4 rfl rfl)
theorem dL_law_1142 : decode cL_law 1142 = .ok (.ireturn, 1) := dk_172 (dk_at dksL_law_42 5 rfl rfl)
theorem dL_law_1143 : decode cL_law 1143 = .ok (.goto 1563, 3) := dk_167 6 27 (dk_at dksL_law_42 6 rfl rfl)
theorem dL_law_1146 : decode cL_law 1146 = .ok (.aload_n 1, 1) := dk_43 (dk_at dksL_law_42 9 rfl rfl)
theorem dL_law_1147 : decode cL_law 1147 = .ok (.aload_n 0, 1) := dk_42 (dk_at dksL_law_42 10 rfl rfl)
theorem dL_law_1148 : decode cL_law 1148 = .ok (.iload 4, 2) := dk_21 4 (dk_at dksL_law_42 11 rfl rfl)
theorem dL_law_1150 : decode cL_law 1150 = .ok (.iconst 1, 1) := dk_4 (dk_at dksL_law_42 13 rfl rfl)
theorem dL_law_1151 : decode cL_law 1151 = .ok (.iadd, 1) := dk_96 (dk_at dksL_law_42 14 rfl rfl)
theorem dL_law_1152 : decode cL_law 1152 = .ok (.iaload, 1) := dk_46 (dk_at dksL_law_42 15 rfl rfl)
theorem dL_law_1153 : decode cL_law 1153 = .ok (.aload_n 0, 1) := dk_42 (dk_at dksL_law_42 16 rfl rfl)
theorem dL_law_1154 : decode cL_law 1154 = .ok (.iload 4, 2) := dk_21 4 (dk_at dksL_law_42 17 rfl rfl)
theorem dL_law_1156 : decode cL_law 1156 = .ok (.iconst 2, 1) := dk_5 (dk_at dksL_law_42 19 rfl rfl)
theorem dL_law_1157 : decode cL_law 1157 = .ok (.iadd, 1) := dk_96 (dk_at dksL_law_42 20 rfl rfl)
theorem dL_law_1158 : decode cL_law 1158 = .ok (.iaload, 1) := dk_46 (dk_at dksL_law_42 21 rfl rfl)
theorem dL_law_1159 : decode cL_law 1159 = .ok (.aload_n 3, 1) := dk_45 (dk_at dksL_law_42 22 rfl rfl)
theorem dL_law_1160 : decode cL_law 1160 = .ok (.invokestatic 189, 3) := dk_184 0 189 (dk_at dksL_law_43 0 rfl rfl)
theorem dL_law_1163 : decode cL_law 1163 = .ok (.istore 5, 2) := dk_54 5 (dk_at dksL_law_43 3 rfl rfl)
theorem dL_law_1165 : decode cL_law 1165 = .ok (.aload_n 2, 1) := dk_44 (dk_at dksL_law_43 5 rfl rfl)
theorem dL_law_1166 : decode cL_law 1166 = .ok (.aload_n 0, 1) := dk_42 (dk_at dksL_law_43 6 rfl rfl)
theorem dL_law_1167 : decode cL_law 1167 = .ok (.iload 4, 2) := dk_21 4 (dk_at dksL_law_43 7 rfl rfl)
theorem dL_law_1169 : decode cL_law 1169 = .ok (.iconst 1, 1) := dk_4 (dk_at dksL_law_43 9 rfl rfl)
theorem dL_law_1170 : decode cL_law 1170 = .ok (.iadd, 1) := dk_96 (dk_at dksL_law_43 10 rfl rfl)
theorem dL_law_1171 : decode cL_law 1171 = .ok (.iaload, 1) := dk_46 (dk_at dksL_law_43 11 rfl rfl)
theorem dL_law_1172 : decode cL_law 1172 = .ok (.aload_n 0, 1) := dk_42 (dk_at dksL_law_43 12 rfl rfl)
theorem dL_law_1173 : decode cL_law 1173 = .ok (.iload 4, 2) := dk_21 4 (dk_at dksL_law_43 13 rfl rfl)
theorem dL_law_1175 : decode cL_law 1175 = .ok (.iconst 2, 1) := dk_5 (dk_at dksL_law_43 15 rfl rfl)
theorem dL_law_1176 : decode cL_law 1176 = .ok (.iadd, 1) := dk_96 (dk_at dksL_law_43 16 rfl rfl)
theorem dL_law_1177 : decode cL_law 1177 = .ok (.iaload, 1) := dk_46 (dk_at dksL_law_43 17 rfl rfl)
theorem dL_law_1178 : decode cL_law 1178 = .ok (.invokevirtual 191, 3) := dk_182 0 191 (dk_at dksL_law_43 18 rfl rfl)
theorem dL_law_1181 : decode cL_law 1181 = .ok (.istore 6, 2) := dk_54 6 (dk_at dksL_law_43 21 rfl rfl)
theorem dL_law_1183 : decode cL_law 1183 = .ok (.aload_n 2, 1) := dk_44 (dk_at dksL_law_43 23 rfl rfl)
theorem dL_law_1184 : decode cL_law 1184 = .ok (.invokevirtual 137, 3) := dk_182 0 137 (dk_at dksL_law_44 0 rfl rfl)
theorem dL_law_1187 : decode cL_law 1187 = .ok (.iload 5, 2) := dk_21 5 (dk_at dksL_law_44 3 rfl rfl)
theorem dL_law_1189 : decode cL_law 1189 = .ok (.if_icmp .eq 5, 3) := dk_159 0 5 (dk_at dksL_law_44 5 rfl rfl)
theorem dL_law_1192 : decode cL_law 1192 = .ok (.iconst 0, 1) := dk_3 (dk_at dksL_law_44 8 rfl rfl)
theorem dL_law_1193 : decode cL_law 1193 = .ok (.ireturn, 1) := dk_172 (dk_at dksL_law_44 9 rfl rfl)
theorem dL_law_1194 : decode cL_law 1194 = .ok (.iload 5, 2) := dk_21 5 (dk_at dksL_law_44 10 rfl rfl)
theorem dL_law_1196 : decode cL_law 1196 = .ok (.ifCond .ne 15, 3) := dk_154 0 15 (dk_at dksL_law_44 12 rfl rfl)
theorem dL_law_1199 : decode cL_law 1199 = .ok (.aload_n 3, 1) := dk_45 (dk_at dksL_law_44 15 rfl rfl)
theorem dL_law_1200 : decode cL_law 1200 = .ok (.iconst 0, 1) := dk_3 (dk_at dksL_law_44 16 rfl rfl)
theorem dL_law_1201 : decode cL_law 1201 = .ok (.laload, 1) := dk_47 (dk_at dksL_law_44 17 rfl rfl)
theorem dL_law_1202 : decode cL_law 1202 = .ok (.iload 6, 2) := dk_21 6 (dk_at dksL_law_44 18 rfl rfl)
theorem dL_law_1204 : decode cL_law 1204 = .ok (.i2l, 1) := dk_133 (dk_at dksL_law_44 20 rfl rfl)
theorem dL_law_1205 : decode cL_law 1205 = .ok (.lcmp, 1) := dk_148 (dk_at dksL_law_44 21 rfl rfl)
theorem dL_law_1206 : decode cL_law 1206 = .ok (.ifCond .eq 5, 3) := dk_153 0 5 (dk_at dksL_law_45 0 rfl rfl)
theorem dL_law_1209 : decode cL_law 1209 = .ok (.iconst 0, 1) := dk_3 (dk_at dksL_law_45 3 rfl rfl)
theorem dL_law_1210 : decode cL_law 1210 = .ok (.ireturn, 1) := dk_172 (dk_at dksL_law_45 4 rfl rfl)
theorem dL_law_1211 : decode cL_law 1211 = .ok (.goto 1495, 3) := dk_167 5 215 (dk_at dksL_law_45 5 rfl rfl)
theorem dL_law_1214 : decode cL_law 1214 = .ok (.aload_n 1, 1) := dk_43 (dk_at dksL_law_45 8 rfl rfl)
theorem dL_law_1215 : decode cL_law 1215 = .ok (.aload_n 0, 1) := dk_42 (dk_at dksL_law_45 9 rfl rfl)
theorem dL_law_1216 : decode cL_law 1216 = .ok (.iload 4, 2) := dk_21 4 (dk_at dksL_law_45 10 rfl rfl)
theorem dL_law_1218 : decode cL_law 1218 = .ok (.iconst 1, 1) := dk_4 (dk_at dksL_law_45 12 rfl rfl)
theorem dL_law_1219 : decode cL_law 1219 = .ok (.iadd, 1) := dk_96 (dk_at dksL_law_45 13 rfl rfl)
theorem dL_law_1220 : decode cL_law 1220 = .ok (.iaload, 1) := dk_46 (dk_at dksL_law_45 14 rfl rfl)
theorem dL_law_1221 : decode cL_law 1221 = .ok (.aload_n 0, 1) := dk_42 (dk_at dksL_law_45 15 rfl rfl)
theorem dL_law_1222 : decode cL_law 1222 = .ok (.iload 4, 2) := dk_21 4 (dk_at dksL_law_45 16 rfl rfl)
theorem dL_law_1224 : decode cL_law 1224 = .ok (.iconst 2, 1) := dk_5 (dk_at dksL_law_45 18 rfl rfl)
theorem dL_law_1225 : decode cL_law 1225 = .ok (.iadd, 1) := dk_96 (dk_at dksL_law_45 19 rfl rfl)
theorem dL_law_1226 : decode cL_law 1226 = .ok (.iaload, 1) := dk_46 (dk_at dksL_law_45 20 rfl rfl)
theorem dL_law_1227 : decode cL_law 1227 = .ok (.aload_n 3, 1) := dk_45 (dk_at dksL_law_45 21 rfl rfl)
theorem dL_law_1228 : decode cL_law 1228 = .ok (.invokestatic 192, 3) := dk_184 0 192 (dk_at dksL_law_46 0 rfl rfl)
theorem dL_law_1231 : decode cL_law 1231 = .ok (.istore 5, 2) := dk_54 5 (dk_at dksL_law_46 3 rfl rfl)
theorem dL_law_1233 : decode cL_law 1233 = .ok (.aload_n 2, 1) := dk_44 (dk_at dksL_law_46 5 rfl rfl)
theorem dL_law_1234 : decode cL_law 1234 = .ok (.aload_n 0, 1) := dk_42 (dk_at dksL_law_46 6 rfl rfl)
theorem dL_law_1235 : decode cL_law 1235 = .ok (.iload 4, 2) := dk_21 4 (dk_at dksL_law_46 7 rfl rfl)
theorem dL_law_1237 : decode cL_law 1237 = .ok (.iconst 1, 1) := dk_4 (dk_at dksL_law_46 9 rfl rfl)
theorem dL_law_1238 : decode cL_law 1238 = .ok (.iadd, 1) := dk_96 (dk_at dksL_law_46 10 rfl rfl)
theorem dL_law_1239 : decode cL_law 1239 = .ok (.iaload, 1) := dk_46 (dk_at dksL_law_46 11 rfl rfl)
theorem dL_law_1240 : decode cL_law 1240 = .ok (.aload_n 0, 1) := dk_42 (dk_at dksL_law_46 12 rfl rfl)
theorem dL_law_1241 : decode cL_law 1241 = .ok (.iload 4, 2) := dk_21 4 (dk_at dksL_law_46 13 rfl rfl)
theorem dL_law_1243 : decode cL_law 1243 = .ok (.iconst 2, 1) := dk_5 (dk_at dksL_law_46 15 rfl rfl)
theorem dL_law_1244 : decode cL_law 1244 = .ok (.iadd, 1) := dk_96 (dk_at dksL_law_46 16 rfl rfl)
theorem dL_law_1245 : decode cL_law 1245 = .ok (.iaload, 1) := dk_46 (dk_at dksL_law_46 17 rfl rfl)
theorem dL_law_1246 : decode cL_law 1246 = .ok (.invokevirtual 194, 3) := dk_182 0 194 (dk_at dksL_law_46 18 rfl rfl)
theorem dL_law_1249 : decode cL_law 1249 = .ok (.istore 6, 2) := dk_54 6 (dk_at dksL_law_46 21 rfl rfl)
theorem dL_law_1251 : decode cL_law 1251 = .ok (.aload_n 2, 1) := dk_44 (dk_at dksL_law_46 23 rfl rfl)
theorem dL_law_1252 : decode cL_law 1252 = .ok (.invokevirtual 137, 3) := dk_182 0 137 (dk_at dksL_law_47 0 rfl rfl)
theorem dL_law_1255 : decode cL_law 1255 = .ok (.iload 5, 2) := dk_21 5 (dk_at dksL_law_47 3 rfl rfl)
theorem dL_law_1257 : decode cL_law 1257 = .ok (.if_icmp .eq 5, 3) := dk_159 0 5 (dk_at dksL_law_47 5 rfl rfl)
theorem dL_law_1260 : decode cL_law 1260 = .ok (.iconst 0, 1) := dk_3 (dk_at dksL_law_47 8 rfl rfl)
theorem dL_law_1261 : decode cL_law 1261 = .ok (.ireturn, 1) := dk_172 (dk_at dksL_law_47 9 rfl rfl)
theorem dL_law_1262 : decode cL_law 1262 = .ok (.iload 5, 2) := dk_21 5 (dk_at dksL_law_47 10 rfl rfl)
theorem dL_law_1264 : decode cL_law 1264 = .ok (.ifCond .ne 15, 3) := dk_154 0 15 (dk_at dksL_law_47 12 rfl rfl)
theorem dL_law_1267 : decode cL_law 1267 = .ok (.aload_n 3, 1) := dk_45 (dk_at dksL_law_47 15 rfl rfl)
theorem dL_law_1268 : decode cL_law 1268 = .ok (.iconst 0, 1) := dk_3 (dk_at dksL_law_47 16 rfl rfl)
theorem dL_law_1269 : decode cL_law 1269 = .ok (.laload, 1) := dk_47 (dk_at dksL_law_47 17 rfl rfl)
theorem dL_law_1270 : decode cL_law 1270 = .ok (.iload 6, 2) := dk_21 6 (dk_at dksL_law_47 18 rfl rfl)
theorem dL_law_1272 : decode cL_law 1272 = .ok (.i2l, 1) := dk_133 (dk_at dksL_law_47 20 rfl rfl)
theorem dL_law_1273 : decode cL_law 1273 = .ok (.lcmp, 1) := dk_148 (dk_at dksL_law_47 21 rfl rfl)
theorem dL_law_1274 : decode cL_law 1274 = .ok (.ifCond .eq 5, 3) := dk_153 0 5 (dk_at dksL_law_48 0 rfl rfl)
theorem dL_law_1277 : decode cL_law 1277 = .ok (.iconst 0, 1) := dk_3 (dk_at dksL_law_48 3 rfl rfl)
theorem dL_law_1278 : decode cL_law 1278 = .ok (.ireturn, 1) := dk_172 (dk_at dksL_law_48 4 rfl rfl)
theorem dL_law_1279 : decode cL_law 1279 = .ok (.goto 1427, 3) := dk_167 5 147 (dk_at dksL_law_48 5 rfl rfl)
theorem dL_law_1282 : decode cL_law 1282 = .ok (.aload_n 1, 1) := dk_43 (dk_at dksL_law_48 8 rfl rfl)
theorem dL_law_1283 : decode cL_law 1283 = .ok (.aload_n 0, 1) := dk_42 (dk_at dksL_law_48 9 rfl rfl)
theorem dL_law_1284 : decode cL_law 1284 = .ok (.iload 4, 2) := dk_21 4 (dk_at dksL_law_48 10 rfl rfl)
theorem dL_law_1286 : decode cL_law 1286 = .ok (.iconst 1, 1) := dk_4 (dk_at dksL_law_48 12 rfl rfl)
theorem dL_law_1287 : decode cL_law 1287 = .ok (.iadd, 1) := dk_96 (dk_at dksL_law_48 13 rfl rfl)
theorem dL_law_1288 : decode cL_law 1288 = .ok (.iaload, 1) := dk_46 (dk_at dksL_law_48 14 rfl rfl)
theorem dL_law_1289 : decode cL_law 1289 = .ok (.aload_n 3, 1) := dk_45 (dk_at dksL_law_48 15 rfl rfl)
theorem dL_law_1290 : decode cL_law 1290 = .ok (.invokestatic 195, 3) := dk_184 0 195 (dk_at dksL_law_48 16 rfl rfl)
theorem dL_law_1293 : decode cL_law 1293 = .ok (.istore 5, 2) := dk_54 5 (dk_at dksL_law_48 19 rfl rfl)
theorem dL_law_1295 : decode cL_law 1295 = .ok (.aload_n 2, 1) := dk_44 (dk_at dksL_law_48 21 rfl rfl)
theorem dL_law_1296 : decode cL_law 1296 = .ok (.aload_n 0, 1) := dk_42 (dk_at dksL_law_48 22 rfl rfl)
theorem dL_law_1297 : decode cL_law 1297 = .ok (.iload 4, 2) := dk_21 4 (dk_at dksL_law_49 0 rfl rfl)
theorem dL_law_1299 : decode cL_law 1299 = .ok (.iconst 1, 1) := dk_4 (dk_at dksL_law_49 2 rfl rfl)
theorem dL_law_1300 : decode cL_law 1300 = .ok (.iadd, 1) := dk_96 (dk_at dksL_law_49 3 rfl rfl)
theorem dL_law_1301 : decode cL_law 1301 = .ok (.iaload, 1) := dk_46 (dk_at dksL_law_49 4 rfl rfl)
theorem dL_law_1302 : decode cL_law 1302 = .ok (.invokevirtual 197, 3) := dk_182 0 197 (dk_at dksL_law_49 5 rfl rfl)
theorem dL_law_1305 : decode cL_law 1305 = .ok (.istore 6, 2) := dk_54 6 (dk_at dksL_law_49 8 rfl rfl)
theorem dL_law_1307 : decode cL_law 1307 = .ok (.aload_n 2, 1) := dk_44 (dk_at dksL_law_49 10 rfl rfl)
theorem dL_law_1308 : decode cL_law 1308 = .ok (.invokevirtual 137, 3) := dk_182 0 137 (dk_at dksL_law_49 11 rfl rfl)
theorem dL_law_1311 : decode cL_law 1311 = .ok (.iload 5, 2) := dk_21 5 (dk_at dksL_law_49 14 rfl rfl)
theorem dL_law_1313 : decode cL_law 1313 = .ok (.if_icmp .eq 5, 3) := dk_159 0 5 (dk_at dksL_law_49 16 rfl rfl)
theorem dL_law_1316 : decode cL_law 1316 = .ok (.iconst 0, 1) := dk_3 (dk_at dksL_law_49 19 rfl rfl)
theorem dL_law_1317 : decode cL_law 1317 = .ok (.ireturn, 1) := dk_172 (dk_at dksL_law_49 20 rfl rfl)
theorem dL_law_1318 : decode cL_law 1318 = .ok (.iload 5, 2) := dk_21 5 (dk_at dksL_law_49 21 rfl rfl)
theorem dL_law_1320 : decode cL_law 1320 = .ok (.ifCond .ne 15, 3) := dk_154 0 15 (dk_at dksL_law_50 0 rfl rfl)
theorem dL_law_1323 : decode cL_law 1323 = .ok (.aload_n 3, 1) := dk_45 (dk_at dksL_law_50 3 rfl rfl)
theorem dL_law_1324 : decode cL_law 1324 = .ok (.iconst 0, 1) := dk_3 (dk_at dksL_law_50 4 rfl rfl)
theorem dL_law_1325 : decode cL_law 1325 = .ok (.laload, 1) := dk_47 (dk_at dksL_law_50 5 rfl rfl)
theorem dL_law_1326 : decode cL_law 1326 = .ok (.iload 6, 2) := dk_21 6 (dk_at dksL_law_50 6 rfl rfl)
theorem dL_law_1328 : decode cL_law 1328 = .ok (.i2l, 1) := dk_133 (dk_at dksL_law_50 8 rfl rfl)
theorem dL_law_1329 : decode cL_law 1329 = .ok (.lcmp, 1) := dk_148 (dk_at dksL_law_50 9 rfl rfl)
theorem dL_law_1330 : decode cL_law 1330 = .ok (.ifCond .eq 5, 3) := dk_153 0 5 (dk_at dksL_law_50 10 rfl rfl)
theorem dL_law_1333 : decode cL_law 1333 = .ok (.iconst 0, 1) := dk_3 (dk_at dksL_law_50 13 rfl rfl)
theorem dL_law_1334 : decode cL_law 1334 = .ok (.ireturn, 1) := dk_172 (dk_at dksL_law_50 14 rfl rfl)
theorem dL_law_1335 : decode cL_law 1335 = .ok (.goto 1371, 3) := dk_167 5 91 (dk_at dksL_law_50 15 rfl rfl)
theorem dL_law_1338 : decode cL_law 1338 = .ok (.aload_n 1, 1) := dk_43 (dk_at dksL_law_50 18 rfl rfl)
theorem dL_law_1339 : decode cL_law 1339 = .ok (.aload_n 0, 1) := dk_42 (dk_at dksL_law_50 19 rfl rfl)
theorem dL_law_1340 : decode cL_law 1340 = .ok (.iload 4, 2) := dk_21 4 (dk_at dksL_law_50 20 rfl rfl)
theorem dL_law_1342 : decode cL_law 1342 = .ok (.iconst 1, 1) := dk_4 (dk_at dksL_law_50 22 rfl rfl)
theorem dL_law_1343 : decode cL_law 1343 = .ok (.iadd, 1) := dk_96 (dk_at dksL_law_50 23 rfl rfl)
theorem dL_law_1344 : decode cL_law 1344 = .ok (.iaload, 1) := dk_46 (dk_at dksL_law_51 0 rfl rfl)
theorem dL_law_1345 : decode cL_law 1345 = .ok (.aload_n 0, 1) := dk_42 (dk_at dksL_law_51 1 rfl rfl)
theorem dL_law_1346 : decode cL_law 1346 = .ok (.iload 4, 2) := dk_21 4 (dk_at dksL_law_51 2 rfl rfl)
theorem dL_law_1348 : decode cL_law 1348 = .ok (.iconst 2, 1) := dk_5 (dk_at dksL_law_51 4 rfl rfl)
theorem dL_law_1349 : decode cL_law 1349 = .ok (.iadd, 1) := dk_96 (dk_at dksL_law_51 5 rfl rfl)
theorem dL_law_1350 : decode cL_law 1350 = .ok (.iaload, 1) := dk_46 (dk_at dksL_law_51 6 rfl rfl)
theorem dL_law_1351 : decode cL_law 1351 = .ok (.aload_n 3, 1) := dk_45 (dk_at dksL_law_51 7 rfl rfl)
theorem dL_law_1352 : decode cL_law 1352 = .ok (.invokestatic 198, 3) := dk_184 0 198 (dk_at dksL_law_51 8 rfl rfl)
theorem dL_law_1355 : decode cL_law 1355 = .ok (.istore 5, 2) := dk_54 5 (dk_at dksL_law_51 11 rfl rfl)
theorem dL_law_1357 : decode cL_law 1357 = .ok (.aload_n 2, 1) := dk_44 (dk_at dksL_law_51 13 rfl rfl)
theorem dL_law_1358 : decode cL_law 1358 = .ok (.aload_n 0, 1) := dk_42 (dk_at dksL_law_51 14 rfl rfl)
theorem dL_law_1359 : decode cL_law 1359 = .ok (.iload 4, 2) := dk_21 4 (dk_at dksL_law_51 15 rfl rfl)
theorem dL_law_1361 : decode cL_law 1361 = .ok (.iconst 1, 1) := dk_4 (dk_at dksL_law_51 17 rfl rfl)
theorem dL_law_1362 : decode cL_law 1362 = .ok (.iadd, 1) := dk_96 (dk_at dksL_law_51 18 rfl rfl)
theorem dL_law_1363 : decode cL_law 1363 = .ok (.iaload, 1) := dk_46 (dk_at dksL_law_51 19 rfl rfl)
theorem dL_law_1364 : decode cL_law 1364 = .ok (.aload_n 0, 1) := dk_42 (dk_at dksL_law_51 20 rfl rfl)
theorem dL_law_1365 : decode cL_law 1365 = .ok (.iload 4, 2) := dk_21 4 (dk_at dksL_law_51 21 rfl rfl)
theorem dL_law_1367 : decode cL_law 1367 = .ok (.iconst 2, 1) := dk_5 (dk_at dksL_law_51 23 rfl rfl)
theorem dL_law_1368 : decode cL_law 1368 = .ok (.iadd, 1) := dk_96 (dk_at dksL_law_52 0 rfl rfl)
theorem dL_law_1369 : decode cL_law 1369 = .ok (.iaload, 1) := dk_46 (dk_at dksL_law_52 1 rfl rfl)
theorem dL_law_1370 : decode cL_law 1370 = .ok (.invokevirtual 200, 3) := dk_182 0 200 (dk_at dksL_law_52 2 rfl rfl)
theorem dL_law_1373 : decode cL_law 1373 = .ok (.istore 6, 2) := dk_54 6 (dk_at dksL_law_52 5 rfl rfl)
theorem dL_law_1375 : decode cL_law 1375 = .ok (.aload_n 2, 1) := dk_44 (dk_at dksL_law_52 7 rfl rfl)
theorem dL_law_1376 : decode cL_law 1376 = .ok (.invokevirtual 137, 3) := dk_182 0 137 (dk_at dksL_law_52 8 rfl rfl)
theorem dL_law_1379 : decode cL_law 1379 = .ok (.iload 5, 2) := dk_21 5 (dk_at dksL_law_52 11 rfl rfl)
theorem dL_law_1381 : decode cL_law 1381 = .ok (.if_icmp .eq 5, 3) := dk_159 0 5 (dk_at dksL_law_52 13 rfl rfl)
theorem dL_law_1384 : decode cL_law 1384 = .ok (.iconst 0, 1) := dk_3 (dk_at dksL_law_52 16 rfl rfl)
theorem dL_law_1385 : decode cL_law 1385 = .ok (.ireturn, 1) := dk_172 (dk_at dksL_law_52 17 rfl rfl)
theorem dL_law_1386 : decode cL_law 1386 = .ok (.iload 5, 2) := dk_21 5 (dk_at dksL_law_52 18 rfl rfl)
theorem dL_law_1388 : decode cL_law 1388 = .ok (.ifCond .ne 15, 3) := dk_154 0 15 (dk_at dksL_law_52 20 rfl rfl)
theorem dL_law_1391 : decode cL_law 1391 = .ok (.aload_n 3, 1) := dk_45 (dk_at dksL_law_52 23 rfl rfl)
theorem dL_law_1392 : decode cL_law 1392 = .ok (.iconst 0, 1) := dk_3 (dk_at dksL_law_53 0 rfl rfl)
theorem dL_law_1393 : decode cL_law 1393 = .ok (.laload, 1) := dk_47 (dk_at dksL_law_53 1 rfl rfl)
theorem dL_law_1394 : decode cL_law 1394 = .ok (.iload 6, 2) := dk_21 6 (dk_at dksL_law_53 2 rfl rfl)
theorem dL_law_1396 : decode cL_law 1396 = .ok (.i2l, 1) := dk_133 (dk_at dksL_law_53 4 rfl rfl)
theorem dL_law_1397 : decode cL_law 1397 = .ok (.lcmp, 1) := dk_148 (dk_at dksL_law_53 5 rfl rfl)
theorem dL_law_1398 : decode cL_law 1398 = .ok (.ifCond .eq 5, 3) := dk_153 0 5 (dk_at dksL_law_53 6 rfl rfl)
theorem dL_law_1401 : decode cL_law 1401 = .ok (.iconst 0, 1) := dk_3 (dk_at dksL_law_53 9 rfl rfl)
theorem dL_law_1402 : decode cL_law 1402 = .ok (.ireturn, 1) := dk_172 (dk_at dksL_law_53 10 rfl rfl)
theorem dL_law_1403 : decode cL_law 1403 = .ok (.goto 1303, 3) := dk_167 5 23 (dk_at dksL_law_53 11 rfl rfl)
theorem dL_law_1406 : decode cL_law 1406 = .ok (.aload_n 1, 1) := dk_43 (dk_at dksL_law_53 14 rfl rfl)
theorem dL_law_1407 : decode cL_law 1407 = .ok (.aload_n 0, 1) := dk_42 (dk_at dksL_law_53 15 rfl rfl)
theorem dL_law_1408 : decode cL_law 1408 = .ok (.iload 4, 2) := dk_21 4 (dk_at dksL_law_53 16 rfl rfl)
theorem dL_law_1410 : decode cL_law 1410 = .ok (.iconst 1, 1) := dk_4 (dk_at dksL_law_53 18 rfl rfl)
theorem dL_law_1411 : decode cL_law 1411 = .ok (.iadd, 1) := dk_96 (dk_at dksL_law_53 19 rfl rfl)
theorem dL_law_1412 : decode cL_law 1412 = .ok (.iaload, 1) := dk_46 (dk_at dksL_law_53 20 rfl rfl)
theorem dL_law_1413 : decode cL_law 1413 = .ok (.aload_n 0, 1) := dk_42 (dk_at dksL_law_53 21 rfl rfl)
theorem dL_law_1414 : decode cL_law 1414 = .ok (.iload 4, 2) := dk_21 4 (dk_at dksL_law_53 22 rfl rfl)
theorem dL_law_1416 : decode cL_law 1416 = .ok (.iconst 2, 1) := dk_5 (dk_at dksL_law_54 0 rfl rfl)
theorem dL_law_1417 : decode cL_law 1417 = .ok (.iadd, 1) := dk_96 (dk_at dksL_law_54 1 rfl rfl)
theorem dL_law_1418 : decode cL_law 1418 = .ok (.iaload, 1) := dk_46 (dk_at dksL_law_54 2 rfl rfl)
theorem dL_law_1419 : decode cL_law 1419 = .ok (.aload_n 3, 1) := dk_45 (dk_at dksL_law_54 3 rfl rfl)
theorem dL_law_1420 : decode cL_law 1420 = .ok (.invokestatic 201, 3) := dk_184 0 201 (dk_at dksL_law_54 4 rfl rfl)
theorem dL_law_1423 : decode cL_law 1423 = .ok (.istore 5, 2) := dk_54 5 (dk_at dksL_law_54 7 rfl rfl)
theorem dL_law_1425 : decode cL_law 1425 = .ok (.aload_n 2, 1) := dk_44 (dk_at dksL_law_54 9 rfl rfl)
theorem dL_law_1426 : decode cL_law 1426 = .ok (.aload_n 0, 1) := dk_42 (dk_at dksL_law_54 10 rfl rfl)
theorem dL_law_1427 : decode cL_law 1427 = .ok (.iload 4, 2) := dk_21 4 (dk_at dksL_law_54 11 rfl rfl)
theorem dL_law_1429 : decode cL_law 1429 = .ok (.iconst 1, 1) := dk_4 (dk_at dksL_law_54 13 rfl rfl)
theorem dL_law_1430 : decode cL_law 1430 = .ok (.iadd, 1) := dk_96 (dk_at dksL_law_54 14 rfl rfl)
theorem dL_law_1431 : decode cL_law 1431 = .ok (.iaload, 1) := dk_46 (dk_at dksL_law_54 15 rfl rfl)
theorem dL_law_1432 : decode cL_law 1432 = .ok (.aload_n 0, 1) := dk_42 (dk_at dksL_law_54 16 rfl rfl)
theorem dL_law_1433 : decode cL_law 1433 = .ok (.iload 4, 2) := dk_21 4 (dk_at dksL_law_54 17 rfl rfl)
theorem dL_law_1435 : decode cL_law 1435 = .ok (.iconst 2, 1) := dk_5 (dk_at dksL_law_54 19 rfl rfl)
theorem dL_law_1436 : decode cL_law 1436 = .ok (.iadd, 1) := dk_96 (dk_at dksL_law_54 20 rfl rfl)
theorem dL_law_1437 : decode cL_law 1437 = .ok (.iaload, 1) := dk_46 (dk_at dksL_law_54 21 rfl rfl)
theorem dL_law_1438 : decode cL_law 1438 = .ok (.invokevirtual 203, 3) := dk_182 0 203 (dk_at dksL_law_55 0 rfl rfl)
theorem dL_law_1441 : decode cL_law 1441 = .ok (.istore 6, 2) := dk_54 6 (dk_at dksL_law_55 3 rfl rfl)
theorem dL_law_1443 : decode cL_law 1443 = .ok (.aload_n 2, 1) := dk_44 (dk_at dksL_law_55 5 rfl rfl)
theorem dL_law_1444 : decode cL_law 1444 = .ok (.invokevirtual 137, 3) := dk_182 0 137 (dk_at dksL_law_55 6 rfl rfl)
theorem dL_law_1447 : decode cL_law 1447 = .ok (.iload 5, 2) := dk_21 5 (dk_at dksL_law_55 9 rfl rfl)
theorem dL_law_1449 : decode cL_law 1449 = .ok (.if_icmp .eq 5, 3) := dk_159 0 5 (dk_at dksL_law_55 11 rfl rfl)
theorem dL_law_1452 : decode cL_law 1452 = .ok (.iconst 0, 1) := dk_3 (dk_at dksL_law_55 14 rfl rfl)
theorem dL_law_1453 : decode cL_law 1453 = .ok (.ireturn, 1) := dk_172 (dk_at dksL_law_55 15 rfl rfl)
theorem dL_law_1454 : decode cL_law 1454 = .ok (.iload 5, 2) := dk_21 5 (dk_at dksL_law_55 16 rfl rfl)
theorem dL_law_1456 : decode cL_law 1456 = .ok (.ifCond .ne 15, 3) := dk_154 0 15 (dk_at dksL_law_55 18 rfl rfl)
theorem dL_law_1459 : decode cL_law 1459 = .ok (.aload_n 3, 1) := dk_45 (dk_at dksL_law_55 21 rfl rfl)
theorem dL_law_1460 : decode cL_law 1460 = .ok (.iconst 0, 1) := dk_3 (dk_at dksL_law_55 22 rfl rfl)
theorem dL_law_1461 : decode cL_law 1461 = .ok (.laload, 1) := dk_47 (dk_at dksL_law_55 23 rfl rfl)
theorem dL_law_1462 : decode cL_law 1462 = .ok (.iload 6, 2) := dk_21 6 (dk_at dksL_law_56 0 rfl rfl)
theorem dL_law_1464 : decode cL_law 1464 = .ok (.i2l, 1) := dk_133 (dk_at dksL_law_56 2 rfl rfl)
theorem dL_law_1465 : decode cL_law 1465 = .ok (.lcmp, 1) := dk_148 (dk_at dksL_law_56 3 rfl rfl)
theorem dL_law_1466 : decode cL_law 1466 = .ok (.ifCond .eq 5, 3) := dk_153 0 5 (dk_at dksL_law_56 4 rfl rfl)
theorem dL_law_1469 : decode cL_law 1469 = .ok (.iconst 0, 1) := dk_3 (dk_at dksL_law_56 7 rfl rfl)
theorem dL_law_1470 : decode cL_law 1470 = .ok (.ireturn, 1) := dk_172 (dk_at dksL_law_56 8 rfl rfl)
theorem dL_law_1471 : decode cL_law 1471 = .ok (.goto 1235, 3) := dk_167 4 211 (dk_at dksL_law_56 9 rfl rfl)
theorem dL_law_1474 : decode cL_law 1474 = .ok (.aload_n 1, 1) := dk_43 (dk_at dksL_law_56 12 rfl rfl)
theorem dL_law_1475 : decode cL_law 1475 = .ok (.aload_n 0, 1) := dk_42 (dk_at dksL_law_56 13 rfl rfl)
theorem dL_law_1476 : decode cL_law 1476 = .ok (.iload 4, 2) := dk_21 4 (dk_at dksL_law_56 14 rfl rfl)
theorem dL_law_1478 : decode cL_law 1478 = .ok (.iconst 1, 1) := dk_4 (dk_at dksL_law_56 16 rfl rfl)
theorem dL_law_1479 : decode cL_law 1479 = .ok (.iadd, 1) := dk_96 (dk_at dksL_law_56 17 rfl rfl)
theorem dL_law_1480 : decode cL_law 1480 = .ok (.iaload, 1) := dk_46 (dk_at dksL_law_56 18 rfl rfl)
theorem dL_law_1481 : decode cL_law 1481 = .ok (.aload_n 0, 1) := dk_42 (dk_at dksL_law_56 19 rfl rfl)
theorem dL_law_1482 : decode cL_law 1482 = .ok (.iload 4, 2) := dk_21 4 (dk_at dksL_law_56 20 rfl rfl)
theorem dL_law_1484 : decode cL_law 1484 = .ok (.iconst 2, 1) := dk_5 (dk_at dksL_law_56 22 rfl rfl)
theorem dL_law_1485 : decode cL_law 1485 = .ok (.iadd, 1) := dk_96 (dk_at dksL_law_56 23 rfl rfl)
theorem dL_law_1486 : decode cL_law 1486 = .ok (.iaload, 1) := dk_46 (dk_at dksL_law_57 0 rfl rfl)
theorem dL_law_1487 : decode cL_law 1487 = .ok (.aload_n 0, 1) := dk_42 (dk_at dksL_law_57 1 rfl rfl)
theorem dL_law_1488 : decode cL_law 1488 = .ok (.iload 4, 2) := dk_21 4 (dk_at dksL_law_57 2 rfl rfl)
theorem dL_law_1490 : decode cL_law 1490 = .ok (.iconst 3, 1) := dk_6 (dk_at dksL_law_57 4 rfl rfl)
theorem dL_law_1491 : decode cL_law 1491 = .ok (.iadd, 1) := dk_96 (dk_at dksL_law_57 5 rfl rfl)
theorem dL_law_1492 : decode cL_law 1492 = .ok (.iaload, 1) := dk_46 (dk_at dksL_law_57 6 rfl rfl)
theorem dL_law_1493 : decode cL_law 1493 = .ok (.aload_n 0, 1) := dk_42 (dk_at dksL_law_57 7 rfl rfl)
theorem dL_law_1494 : decode cL_law 1494 = .ok (.iload 4, 2) := dk_21 4 (dk_at dksL_law_57 8 rfl rfl)
theorem dL_law_1496 : decode cL_law 1496 = .ok (.iconst 4, 1) := dk_7 (dk_at dksL_law_57 10 rfl rfl)
theorem dL_law_1497 : decode cL_law 1497 = .ok (.iadd, 1) := dk_96 (dk_at dksL_law_57 11 rfl rfl)
theorem dL_law_1498 : decode cL_law 1498 = .ok (.iaload, 1) := dk_46 (dk_at dksL_law_57 12 rfl rfl)
theorem dL_law_1499 : decode cL_law 1499 = .ok (.aload_n 3, 1) := dk_45 (dk_at dksL_law_57 13 rfl rfl)
theorem dL_law_1500 : decode cL_law 1500 = .ok (.invokestatic 204, 3) := dk_184 0 204 (dk_at dksL_law_57 14 rfl rfl)
theorem dL_law_1503 : decode cL_law 1503 = .ok (.istore 5, 2) := dk_54 5 (dk_at dksL_law_57 17 rfl rfl)
theorem dL_law_1505 : decode cL_law 1505 = .ok (.aload_n 2, 1) := dk_44 (dk_at dksL_law_57 19 rfl rfl)
theorem dL_law_1506 : decode cL_law 1506 = .ok (.aload_n 0, 1) := dk_42 (dk_at dksL_law_57 20 rfl rfl)
theorem dL_law_1507 : decode cL_law 1507 = .ok (.iload 4, 2) := dk_21 4 (dk_at dksL_law_57 21 rfl rfl)
theorem dL_law_1509 : decode cL_law 1509 = .ok (.iconst 1, 1) := dk_4 (dk_at dksL_law_57 23 rfl rfl)
theorem dL_law_1510 : decode cL_law 1510 = .ok (.iadd, 1) := dk_96 (dk_at dksL_law_58 0 rfl rfl)
theorem dL_law_1511 : decode cL_law 1511 = .ok (.iaload, 1) := dk_46 (dk_at dksL_law_58 1 rfl rfl)
theorem dL_law_1512 : decode cL_law 1512 = .ok (.aload_n 0, 1) := dk_42 (dk_at dksL_law_58 2 rfl rfl)
theorem dL_law_1513 : decode cL_law 1513 = .ok (.iload 4, 2) := dk_21 4 (dk_at dksL_law_58 3 rfl rfl)
theorem dL_law_1515 : decode cL_law 1515 = .ok (.iconst 2, 1) := dk_5 (dk_at dksL_law_58 5 rfl rfl)
theorem dL_law_1516 : decode cL_law 1516 = .ok (.iadd, 1) := dk_96 (dk_at dksL_law_58 6 rfl rfl)
theorem dL_law_1517 : decode cL_law 1517 = .ok (.iaload, 1) := dk_46 (dk_at dksL_law_58 7 rfl rfl)
theorem dL_law_1518 : decode cL_law 1518 = .ok (.aload_n 0, 1) := dk_42 (dk_at dksL_law_58 8 rfl rfl)
theorem dL_law_1519 : decode cL_law 1519 = .ok (.iload 4, 2) := dk_21 4 (dk_at dksL_law_58 9 rfl rfl)
theorem dL_law_1521 : decode cL_law 1521 = .ok (.iconst 3, 1) := dk_6 (dk_at dksL_law_58 11 rfl rfl)
theorem dL_law_1522 : decode cL_law 1522 = .ok (.iadd, 1) := dk_96 (dk_at dksL_law_58 12 rfl rfl)
theorem dL_law_1523 : decode cL_law 1523 = .ok (.iaload, 1) := dk_46 (dk_at dksL_law_58 13 rfl rfl)
theorem dL_law_1524 : decode cL_law 1524 = .ok (.aload_n 0, 1) := dk_42 (dk_at dksL_law_58 14 rfl rfl)
theorem dL_law_1525 : decode cL_law 1525 = .ok (.iload 4, 2) := dk_21 4 (dk_at dksL_law_58 15 rfl rfl)
theorem dL_law_1527 : decode cL_law 1527 = .ok (.iconst 4, 1) := dk_7 (dk_at dksL_law_58 17 rfl rfl)
theorem dL_law_1528 : decode cL_law 1528 = .ok (.iadd, 1) := dk_96 (dk_at dksL_law_58 18 rfl rfl)
theorem dL_law_1529 : decode cL_law 1529 = .ok (.iaload, 1) := dk_46 (dk_at dksL_law_58 19 rfl rfl)
theorem dL_law_1530 : decode cL_law 1530 = .ok (.invokevirtual 207, 3) := dk_182 0 207 (dk_at dksL_law_58 20 rfl rfl)
theorem dL_law_1533 : decode cL_law 1533 = .ok (.istore 6, 2) := dk_54 6 (dk_at dksL_law_59 0 rfl rfl)
theorem dL_law_1535 : decode cL_law 1535 = .ok (.aload_n 2, 1) := dk_44 (dk_at dksL_law_59 2 rfl rfl)
theorem dL_law_1536 : decode cL_law 1536 = .ok (.invokevirtual 137, 3) := dk_182 0 137 (dk_at dksL_law_59 3 rfl rfl)
theorem dL_law_1539 : decode cL_law 1539 = .ok (.iload 5, 2) := dk_21 5 (dk_at dksL_law_59 6 rfl rfl)
theorem dL_law_1541 : decode cL_law 1541 = .ok (.if_icmp .eq 5, 3) := dk_159 0 5 (dk_at dksL_law_59 8 rfl rfl)
theorem dL_law_1544 : decode cL_law 1544 = .ok (.iconst 0, 1) := dk_3 (dk_at dksL_law_59 11 rfl rfl)
theorem dL_law_1545 : decode cL_law 1545 = .ok (.ireturn, 1) := dk_172 (dk_at dksL_law_59 12 rfl rfl)
theorem dL_law_1546 : decode cL_law 1546 = .ok (.iload 5, 2) := dk_21 5 (dk_at dksL_law_59 13 rfl rfl)
theorem dL_law_1548 : decode cL_law 1548 = .ok (.ifCond .ne 15, 3) := dk_154 0 15 (dk_at dksL_law_59 15 rfl rfl)
theorem dL_law_1551 : decode cL_law 1551 = .ok (.aload_n 3, 1) := dk_45 (dk_at dksL_law_59 18 rfl rfl)
theorem dL_law_1552 : decode cL_law 1552 = .ok (.iconst 0, 1) := dk_3 (dk_at dksL_law_59 19 rfl rfl)
theorem dL_law_1553 : decode cL_law 1553 = .ok (.laload, 1) := dk_47 (dk_at dksL_law_59 20 rfl rfl)
theorem dL_law_1554 : decode cL_law 1554 = .ok (.iload 6, 2) := dk_21 6 (dk_at dksL_law_59 21 rfl rfl)
theorem dL_law_1556 : decode cL_law 1556 = .ok (.i2l, 1) := dk_133 (dk_at dksL_law_59 23 rfl rfl)
theorem dL_law_1557 : decode cL_law 1557 = .ok (.lcmp, 1) := dk_148 (dk_at dksL_law_60 0 rfl rfl)
theorem dL_law_1558 : decode cL_law 1558 = .ok (.ifCond .eq 5, 3) := dk_153 0 5 (dk_at dksL_law_60 1 rfl rfl)
theorem dL_law_1561 : decode cL_law 1561 = .ok (.iconst 0, 1) := dk_3 (dk_at dksL_law_60 4 rfl rfl)
theorem dL_law_1562 : decode cL_law 1562 = .ok (.ireturn, 1) := dk_172 (dk_at dksL_law_60 5 rfl rfl)
theorem dL_law_1563 : decode cL_law 1563 = .ok (.goto 1143, 3) := dk_167 4 119 (dk_at dksL_law_60 6 rfl rfl)
theorem dL_law_1566 : decode cL_law 1566 = .ok (.aload_n 1, 1) := dk_43 (dk_at dksL_law_60 9 rfl rfl)
theorem dL_law_1567 : decode cL_law 1567 = .ok (.aload_n 0, 1) := dk_42 (dk_at dksL_law_60 10 rfl rfl)
theorem dL_law_1568 : decode cL_law 1568 = .ok (.iload 4, 2) := dk_21 4 (dk_at dksL_law_60 11 rfl rfl)
theorem dL_law_1570 : decode cL_law 1570 = .ok (.iconst 1, 1) := dk_4 (dk_at dksL_law_60 13 rfl rfl)
theorem dL_law_1571 : decode cL_law 1571 = .ok (.iadd, 1) := dk_96 (dk_at dksL_law_60 14 rfl rfl)
theorem dL_law_1572 : decode cL_law 1572 = .ok (.iaload, 1) := dk_46 (dk_at dksL_law_60 15 rfl rfl)
theorem dL_law_1573 : decode cL_law 1573 = .ok (.aload_n 0, 1) := dk_42 (dk_at dksL_law_60 16 rfl rfl)
theorem dL_law_1574 : decode cL_law 1574 = .ok (.iload 4, 2) := dk_21 4 (dk_at dksL_law_60 17 rfl rfl)
theorem dL_law_1576 : decode cL_law 1576 = .ok (.iconst 2, 1) := dk_5 (dk_at dksL_law_60 19 rfl rfl)
theorem dL_law_1577 : decode cL_law 1577 = .ok (.iadd, 1) := dk_96 (dk_at dksL_law_60 20 rfl rfl)
theorem dL_law_1578 : decode cL_law 1578 = .ok (.iaload, 1) := dk_46 (dk_at dksL_law_60 21 rfl rfl)
theorem dL_law_1579 : decode cL_law 1579 = .ok (.aload_n 3, 1) := dk_45 (dk_at dksL_law_60 22 rfl rfl)
theorem dL_law_1580 : decode cL_law 1580 = .ok (.invokestatic 208, 3) := dk_184 0 208 (dk_at dksL_law_61 0 rfl rfl)
theorem dL_law_1583 : decode cL_law 1583 = .ok (.istore 5, 2) := dk_54 5 (dk_at dksL_law_61 3 rfl rfl)
theorem dL_law_1585 : decode cL_law 1585 = .ok (.aload_n 2, 1) := dk_44 (dk_at dksL_law_61 5 rfl rfl)
theorem dL_law_1586 : decode cL_law 1586 = .ok (.aload_n 0, 1) := dk_42 (dk_at dksL_law_61 6 rfl rfl)
theorem dL_law_1587 : decode cL_law 1587 = .ok (.iload 4, 2) := dk_21 4 (dk_at dksL_law_61 7 rfl rfl)
theorem dL_law_1589 : decode cL_law 1589 = .ok (.iconst 1, 1) := dk_4 (dk_at dksL_law_61 9 rfl rfl)
theorem dL_law_1590 : decode cL_law 1590 = .ok (.iadd, 1) := dk_96 (dk_at dksL_law_61 10 rfl rfl)
theorem dL_law_1591 : decode cL_law 1591 = .ok (.iaload, 1) := dk_46 (dk_at dksL_law_61 11 rfl rfl)
theorem dL_law_1592 : decode cL_law 1592 = .ok (.aload_n 0, 1) := dk_42 (dk_at dksL_law_61 12 rfl rfl)
theorem dL_law_1593 : decode cL_law 1593 = .ok (.iload 4, 2) := dk_21 4 (dk_at dksL_law_61 13 rfl rfl)
theorem dL_law_1595 : decode cL_law 1595 = .ok (.iconst 2, 1) := dk_5 (dk_at dksL_law_61 15 rfl rfl)
theorem dL_law_1596 : decode cL_law 1596 = .ok (.iadd, 1) := dk_96 (dk_at dksL_law_61 16 rfl rfl)
theorem dL_law_1597 : decode cL_law 1597 = .ok (.iaload, 1) := dk_46 (dk_at dksL_law_61 17 rfl rfl)
theorem dL_law_1598 : decode cL_law 1598 = .ok (.invokevirtual 210, 3) := dk_182 0 210 (dk_at dksL_law_61 18 rfl rfl)
theorem dL_law_1601 : decode cL_law 1601 = .ok (.istore 6, 2) := dk_54 6 (dk_at dksL_law_61 21 rfl rfl)
theorem dL_law_1603 : decode cL_law 1603 = .ok (.aload_n 2, 1) := dk_44 (dk_at dksL_law_61 23 rfl rfl)
theorem dL_law_1604 : decode cL_law 1604 = .ok (.invokevirtual 137, 3) := dk_182 0 137 (dk_at dksL_law_62 0 rfl rfl)
theorem dL_law_1607 : decode cL_law 1607 = .ok (.iload 5, 2) := dk_21 5 (dk_at dksL_law_62 3 rfl rfl)
theorem dL_law_1609 : decode cL_law 1609 = .ok (.if_icmp .eq 5, 3) := dk_159 0 5 (dk_at dksL_law_62 5 rfl rfl)
theorem dL_law_1612 : decode cL_law 1612 = .ok (.iconst 0, 1) := dk_3 (dk_at dksL_law_62 8 rfl rfl)
theorem dL_law_1613 : decode cL_law 1613 = .ok (.ireturn, 1) := dk_172 (dk_at dksL_law_62 9 rfl rfl)
theorem dL_law_1614 : decode cL_law 1614 = .ok (.iload 5, 2) := dk_21 5 (dk_at dksL_law_62 10 rfl rfl)
theorem dL_law_1616 : decode cL_law 1616 = .ok (.ifCond .ne 15, 3) := dk_154 0 15 (dk_at dksL_law_62 12 rfl rfl)
theorem dL_law_1619 : decode cL_law 1619 = .ok (.aload_n 3, 1) := dk_45 (dk_at dksL_law_62 15 rfl rfl)
theorem dL_law_1620 : decode cL_law 1620 = .ok (.iconst 0, 1) := dk_3 (dk_at dksL_law_62 16 rfl rfl)
theorem dL_law_1621 : decode cL_law 1621 = .ok (.laload, 1) := dk_47 (dk_at dksL_law_62 17 rfl rfl)
theorem dL_law_1622 : decode cL_law 1622 = .ok (.iload 6, 2) := dk_21 6 (dk_at dksL_law_62 18 rfl rfl)
theorem dL_law_1624 : decode cL_law 1624 = .ok (.i2l, 1) := dk_133 (dk_at dksL_law_62 20 rfl rfl)
theorem dL_law_1625 : decode cL_law 1625 = .ok (.lcmp, 1) := dk_148 (dk_at dksL_law_62 21 rfl rfl)
theorem dL_law_1626 : decode cL_law 1626 = .ok (.ifCond .eq 5, 3) := dk_153 0 5 (dk_at dksL_law_63 0 rfl rfl)
theorem dL_law_1629 : decode cL_law 1629 = .ok (.iconst 0, 1) := dk_3 (dk_at dksL_law_63 3 rfl rfl)
theorem dL_law_1630 : decode cL_law 1630 = .ok (.ireturn, 1) := dk_172 (dk_at dksL_law_63 4 rfl rfl)
theorem dL_law_1631 : decode cL_law 1631 = .ok (.goto 1075, 3) := dk_167 4 51 (dk_at dksL_law_63 5 rfl rfl)
theorem dL_law_1634 : decode cL_law 1634 = .ok (.aload_n 1, 1) := dk_43 (dk_at dksL_law_63 8 rfl rfl)
theorem dL_law_1635 : decode cL_law 1635 = .ok (.aload_n 0, 1) := dk_42 (dk_at dksL_law_63 9 rfl rfl)
theorem dL_law_1636 : decode cL_law 1636 = .ok (.iload 4, 2) := dk_21 4 (dk_at dksL_law_63 10 rfl rfl)
theorem dL_law_1638 : decode cL_law 1638 = .ok (.iconst 1, 1) := dk_4 (dk_at dksL_law_63 12 rfl rfl)
theorem dL_law_1639 : decode cL_law 1639 = .ok (.iadd, 1) := dk_96 (dk_at dksL_law_63 13 rfl rfl)
theorem dL_law_1640 : decode cL_law 1640 = .ok (.iaload, 1) := dk_46 (dk_at dksL_law_63 14 rfl rfl)
theorem dL_law_1641 : decode cL_law 1641 = .ok (.aload_n 0, 1) := dk_42 (dk_at dksL_law_63 15 rfl rfl)
theorem dL_law_1642 : decode cL_law 1642 = .ok (.iload 4, 2) := dk_21 4 (dk_at dksL_law_63 16 rfl rfl)
theorem dL_law_1644 : decode cL_law 1644 = .ok (.iconst 2, 1) := dk_5 (dk_at dksL_law_63 18 rfl rfl)
theorem dL_law_1645 : decode cL_law 1645 = .ok (.iadd, 1) := dk_96 (dk_at dksL_law_63 19 rfl rfl)
theorem dL_law_1646 : decode cL_law 1646 = .ok (.iaload, 1) := dk_46 (dk_at dksL_law_63 20 rfl rfl)
theorem dL_law_1647 : decode cL_law 1647 = .ok (.aload_n 0, 1) := dk_42 (dk_at dksL_law_63 21 rfl rfl)
theorem dL_law_1648 : decode cL_law 1648 = .ok (.iload 4, 2) := dk_21 4 (dk_at dksL_law_63 22 rfl rfl)
theorem dL_law_1650 : decode cL_law 1650 = .ok (.iconst 3, 1) := dk_6 (dk_at dksL_law_64 0 rfl rfl)
theorem dL_law_1651 : decode cL_law 1651 = .ok (.iadd, 1) := dk_96 (dk_at dksL_law_64 1 rfl rfl)
theorem dL_law_1652 : decode cL_law 1652 = .ok (.iaload, 1) := dk_46 (dk_at dksL_law_64 2 rfl rfl)
theorem dL_law_1653 : decode cL_law 1653 = .ok (.ifCond .eq 7, 3) := dk_153 0 7 (dk_at dksL_law_64 3 rfl rfl)
theorem dL_law_1656 : decode cL_law 1656 = .ok (.iconst 1, 1) := dk_4 (dk_at dksL_law_64 6 rfl rfl)
theorem dL_law_1657 : decode cL_law 1657 = .ok (.goto 4, 3) := dk_167 0 4 (dk_at dksL_law_64 7 rfl rfl)
theorem dL_law_1660 : decode cL_law 1660 = .ok (.iconst 0, 1) := dk_3 (dk_at dksL_law_64 10 rfl rfl)
theorem dL_law_1661 : decode cL_law 1661 = .ok (.aload_n 3, 1) := dk_45 (dk_at dksL_law_64 11 rfl rfl)
theorem dL_law_1662 : decode cL_law 1662 = .ok (.invokestatic 211, 3) := dk_184 0 211 (dk_at dksL_law_64 12 rfl rfl)
theorem dL_law_1665 : decode cL_law 1665 = .ok (.istore 5, 2) := dk_54 5 (dk_at dksL_law_64 15 rfl rfl)
theorem dL_law_1667 : decode cL_law 1667 = .ok (.aload_n 2, 1) := dk_44 (dk_at dksL_law_64 17 rfl rfl)
theorem dL_law_1668 : decode cL_law 1668 = .ok (.aload_n 0, 1) := dk_42 (dk_at dksL_law_64 18 rfl rfl)
theorem dL_law_1669 : decode cL_law 1669 = .ok (.iload 4, 2) := dk_21 4 (dk_at dksL_law_64 19 rfl rfl)
theorem dL_law_1671 : decode cL_law 1671 = .ok (.iconst 1, 1) := dk_4 (dk_at dksL_law_64 21 rfl rfl)
theorem dL_law_1672 : decode cL_law 1672 = .ok (.iadd, 1) := dk_96 (dk_at dksL_law_64 22 rfl rfl)
theorem dL_law_1673 : decode cL_law 1673 = .ok (.iaload, 1) := dk_46 (dk_at dksL_law_64 23 rfl rfl)
theorem dL_law_1674 : decode cL_law 1674 = .ok (.aload_n 0, 1) := dk_42 (dk_at dksL_law_65 0 rfl rfl)
theorem dL_law_1675 : decode cL_law 1675 = .ok (.iload 4, 2) := dk_21 4 (dk_at dksL_law_65 1 rfl rfl)
theorem dL_law_1677 : decode cL_law 1677 = .ok (.iconst 2, 1) := dk_5 (dk_at dksL_law_65 3 rfl rfl)
theorem dL_law_1678 : decode cL_law 1678 = .ok (.iadd, 1) := dk_96 (dk_at dksL_law_65 4 rfl rfl)
theorem dL_law_1679 : decode cL_law 1679 = .ok (.iaload, 1) := dk_46 (dk_at dksL_law_65 5 rfl rfl)
theorem dL_law_1680 : decode cL_law 1680 = .ok (.aload_n 0, 1) := dk_42 (dk_at dksL_law_65 6 rfl rfl)
theorem dL_law_1681 : decode cL_law 1681 = .ok (.iload 4, 2) := dk_21 4 (dk_at dksL_law_65 7 rfl rfl)
theorem dL_law_1683 : decode cL_law 1683 = .ok (.iconst 3, 1) := dk_6 (dk_at dksL_law_65 9 rfl rfl)
theorem dL_law_1684 : decode cL_law 1684 = .ok (.iadd, 1) := dk_96 (dk_at dksL_law_65 10 rfl rfl)
theorem dL_law_1685 : decode cL_law 1685 = .ok (.iaload, 1) := dk_46 (dk_at dksL_law_65 11 rfl rfl)
theorem dL_law_1686 : decode cL_law 1686 = .ok (.ifCond .eq 7, 3) := dk_153 0 7 (dk_at dksL_law_65 12 rfl rfl)
theorem dL_law_1689 : decode cL_law 1689 = .ok (.iconst 1, 1) := dk_4 (dk_at dksL_law_65 15 rfl rfl)
theorem dL_law_1690 : decode cL_law 1690 = .ok (.goto 4, 3) := dk_167 0 4 (dk_at dksL_law_65 16 rfl rfl)
theorem dL_law_1693 : decode cL_law 1693 = .ok (.iconst 0, 1) := dk_3 (dk_at dksL_law_65 19 rfl rfl)
theorem dL_law_1694 : decode cL_law 1694 = .ok (.invokevirtual 214, 3) := dk_182 0 214 (dk_at dksL_law_65 20 rfl rfl)
theorem dL_law_1697 : decode cL_law 1697 = .ok (.istore 6, 2) := dk_54 6 (dk_at dksL_law_66 0 rfl rfl)
theorem dL_law_1699 : decode cL_law 1699 = .ok (.aload_n 2, 1) := dk_44 (dk_at dksL_law_66 2 rfl rfl)
theorem dL_law_1700 : decode cL_law 1700 = .ok (.invokevirtual 137, 3) := dk_182 0 137 (dk_at dksL_law_66 3 rfl rfl)
theorem dL_law_1703 : decode cL_law 1703 = .ok (.iload 5, 2) := dk_21 5 (dk_at dksL_law_66 6 rfl rfl)
theorem dL_law_1705 : decode cL_law 1705 = .ok (.if_icmp .eq 5, 3) := dk_159 0 5 (dk_at dksL_law_66 8 rfl rfl)
theorem dL_law_1708 : decode cL_law 1708 = .ok (.iconst 0, 1) := dk_3 (dk_at dksL_law_66 11 rfl rfl)
theorem dL_law_1709 : decode cL_law 1709 = .ok (.ireturn, 1) := dk_172 (dk_at dksL_law_66 12 rfl rfl)
theorem dL_law_1710 : decode cL_law 1710 = .ok (.iload 5, 2) := dk_21 5 (dk_at dksL_law_66 13 rfl rfl)
theorem dL_law_1712 : decode cL_law 1712 = .ok (.ifCond .ne 15, 3) := dk_154 0 15 (dk_at dksL_law_66 15 rfl rfl)
theorem dL_law_1715 : decode cL_law 1715 = .ok (.aload_n 3, 1) := dk_45 (dk_at dksL_law_66 18 rfl rfl)
theorem dL_law_1716 : decode cL_law 1716 = .ok (.iconst 0, 1) := dk_3 (dk_at dksL_law_66 19 rfl rfl)
theorem dL_law_1717 : decode cL_law 1717 = .ok (.laload, 1) := dk_47 (dk_at dksL_law_66 20 rfl rfl)
theorem dL_law_1718 : decode cL_law 1718 = .ok (.iload 6, 2) := dk_21 6 (dk_at dksL_law_66 21 rfl rfl)
theorem dL_law_1720 : decode cL_law 1720 = .ok (.i2l, 1) := dk_133 (dk_at dksL_law_66 23 rfl rfl)
theorem dL_law_1721 : decode cL_law 1721 = .ok (.lcmp, 1) := dk_148 (dk_at dksL_law_67 0 rfl rfl)
theorem dL_law_1722 : decode cL_law 1722 = .ok (.ifCond .eq 5, 3) := dk_153 0 5 (dk_at dksL_law_67 1 rfl rfl)
theorem dL_law_1725 : decode cL_law 1725 = .ok (.iconst 0, 1) := dk_3 (dk_at dksL_law_67 4 rfl rfl)
theorem dL_law_1726 : decode cL_law 1726 = .ok (.ireturn, 1) := dk_172 (dk_at dksL_law_67 5 rfl rfl)
theorem dL_law_1727 : decode cL_law 1727 = .ok (.goto 979, 3) := dk_167 3 211 (dk_at dksL_law_67 6 rfl rfl)
theorem dL_law_1730 : decode cL_law 1730 = .ok (.aload_n 1, 1) := dk_43 (dk_at dksL_law_67 9 rfl rfl)
theorem dL_law_1731 : decode cL_law 1731 = .ok (.invokevirtual 215, 3) := dk_182 0 215 (dk_at dksL_law_67 10 rfl rfl)
theorem dL_law_1734 : decode cL_law 1734 = .ok (.aload_n 2, 1) := dk_44 (dk_at dksL_law_67 13 rfl rfl)
theorem dL_law_1735 : decode cL_law 1735 = .ok (.invokevirtual 218, 3) := dk_182 0 218 (dk_at dksL_law_67 14 rfl rfl)
theorem dL_law_1738 : decode cL_law 1738 = .ok (.goto 968, 3) := dk_167 3 200 (dk_at dksL_law_67 17 rfl rfl)
theorem dL_law_1741 : decode cL_law 1741 = .ok (.aload_n 1, 1) := dk_43 (dk_at dksL_law_67 20 rfl rfl)
theorem dL_law_1742 : decode cL_law 1742 = .ok (.aload_n 0, 1) := dk_42 (dk_at dksL_law_67 21 rfl rfl)
theorem dL_law_1743 : decode cL_law 1743 = .ok (.iload 4, 2) := dk_21 4 (dk_at dksL_law_67 22 rfl rfl)
theorem dL_law_1745 : decode cL_law 1745 = .ok (.iconst 1, 1) := dk_4 (dk_at dksL_law_68 0 rfl rfl)
theorem dL_law_1746 : decode cL_law 1746 = .ok (.iadd, 1) := dk_96 (dk_at dksL_law_68 1 rfl rfl)
theorem dL_law_1747 : decode cL_law 1747 = .ok (.iaload, 1) := dk_46 (dk_at dksL_law_68 2 rfl rfl)
theorem dL_law_1748 : decode cL_law 1748 = .ok (.aload_n 3, 1) := dk_45 (dk_at dksL_law_68 3 rfl rfl)
theorem dL_law_1749 : decode cL_law 1749 = .ok (.invokestatic 219, 3) := dk_184 0 219 (dk_at dksL_law_68 4 rfl rfl)
theorem dL_law_1752 : decode cL_law 1752 = .ok (.istore 5, 2) := dk_54 5 (dk_at dksL_law_68 7 rfl rfl)
theorem dL_law_1754 : decode cL_law 1754 = .ok (.aload_n 2, 1) := dk_44 (dk_at dksL_law_68 9 rfl rfl)
theorem dL_law_1755 : decode cL_law 1755 = .ok (.aload_n 0, 1) := dk_42 (dk_at dksL_law_68 10 rfl rfl)
theorem dL_law_1756 : decode cL_law 1756 = .ok (.iload 4, 2) := dk_21 4 (dk_at dksL_law_68 11 rfl rfl)
theorem dL_law_1758 : decode cL_law 1758 = .ok (.iconst 1, 1) := dk_4 (dk_at dksL_law_68 13 rfl rfl)
theorem dL_law_1759 : decode cL_law 1759 = .ok (.iadd, 1) := dk_96 (dk_at dksL_law_68 14 rfl rfl)
theorem dL_law_1760 : decode cL_law 1760 = .ok (.iaload, 1) := dk_46 (dk_at dksL_law_68 15 rfl rfl)
theorem dL_law_1761 : decode cL_law 1761 = .ok (.invokevirtual 221, 3) := dk_182 0 221 (dk_at dksL_law_68 16 rfl rfl)
theorem dL_law_1764 : decode cL_law 1764 = .ok (.istore 6, 2) := dk_54 6 (dk_at dksL_law_68 19 rfl rfl)
theorem dL_law_1766 : decode cL_law 1766 = .ok (.aload_n 2, 1) := dk_44 (dk_at dksL_law_68 21 rfl rfl)
theorem dL_law_1767 : decode cL_law 1767 = .ok (.invokevirtual 137, 3) := dk_182 0 137 (dk_at dksL_law_69 0 rfl rfl)
theorem dL_law_1770 : decode cL_law 1770 = .ok (.iload 5, 2) := dk_21 5 (dk_at dksL_law_69 3 rfl rfl)
theorem dL_law_1772 : decode cL_law 1772 = .ok (.if_icmp .eq 5, 3) := dk_159 0 5 (dk_at dksL_law_69 5 rfl rfl)
theorem dL_law_1775 : decode cL_law 1775 = .ok (.iconst 0, 1) := dk_3 (dk_at dksL_law_69 8 rfl rfl)
theorem dL_law_1776 : decode cL_law 1776 = .ok (.ireturn, 1) := dk_172 (dk_at dksL_law_69 9 rfl rfl)
theorem dL_law_1777 : decode cL_law 1777 = .ok (.iload 5, 2) := dk_21 5 (dk_at dksL_law_69 10 rfl rfl)
theorem dL_law_1779 : decode cL_law 1779 = .ok (.ifCond .ne 15, 3) := dk_154 0 15 (dk_at dksL_law_69 12 rfl rfl)
theorem dL_law_1782 : decode cL_law 1782 = .ok (.aload_n 3, 1) := dk_45 (dk_at dksL_law_69 15 rfl rfl)
theorem dL_law_1783 : decode cL_law 1783 = .ok (.iconst 0, 1) := dk_3 (dk_at dksL_law_69 16 rfl rfl)
theorem dL_law_1784 : decode cL_law 1784 = .ok (.laload, 1) := dk_47 (dk_at dksL_law_69 17 rfl rfl)
theorem dL_law_1785 : decode cL_law 1785 = .ok (.iload 6, 2) := dk_21 6 (dk_at dksL_law_69 18 rfl rfl)
theorem dL_law_1787 : decode cL_law 1787 = .ok (.i2l, 1) := dk_133 (dk_at dksL_law_69 20 rfl rfl)
theorem dL_law_1788 : decode cL_law 1788 = .ok (.lcmp, 1) := dk_148 (dk_at dksL_law_69 21 rfl rfl)
theorem dL_law_1789 : decode cL_law 1789 = .ok (.ifCond .eq 5, 3) := dk_153 0 5 (dk_at dksL_law_70 0 rfl rfl)
theorem dL_law_1792 : decode cL_law 1792 = .ok (.iconst 0, 1) := dk_3 (dk_at dksL_law_70 3 rfl rfl)
theorem dL_law_1793 : decode cL_law 1793 = .ok (.ireturn, 1) := dk_172 (dk_at dksL_law_70 4 rfl rfl)
theorem dL_law_1794 : decode cL_law 1794 = .ok (.goto 912, 3) := dk_167 3 144 (dk_at dksL_law_70 5 rfl rfl)
theorem dL_law_1797 : decode cL_law 1797 = .ok (.aload_n 1, 1) := dk_43 (dk_at dksL_law_70 8 rfl rfl)
theorem dL_law_1798 : decode cL_law 1798 = .ok (.aload_n 0, 1) := dk_42 (dk_at dksL_law_70 9 rfl rfl)
theorem dL_law_1799 : decode cL_law 1799 = .ok (.iload 4, 2) := dk_21 4 (dk_at dksL_law_70 10 rfl rfl)
theorem dL_law_1801 : decode cL_law 1801 = .ok (.iconst 1, 1) := dk_4 (dk_at dksL_law_70 12 rfl rfl)
theorem dL_law_1802 : decode cL_law 1802 = .ok (.iadd, 1) := dk_96 (dk_at dksL_law_70 13 rfl rfl)
theorem dL_law_1803 : decode cL_law 1803 = .ok (.iaload, 1) := dk_46 (dk_at dksL_law_70 14 rfl rfl)
theorem dL_law_1804 : decode cL_law 1804 = .ok (.aload_n 3, 1) := dk_45 (dk_at dksL_law_70 15 rfl rfl)
theorem dL_law_1805 : decode cL_law 1805 = .ok (.invokestatic 222, 3) := dk_184 0 222 (dk_at dksL_law_70 16 rfl rfl)
theorem dL_law_1808 : decode cL_law 1808 = .ok (.istore 5, 2) := dk_54 5 (dk_at dksL_law_70 19 rfl rfl)
theorem dL_law_1810 : decode cL_law 1810 = .ok (.aload_n 2, 1) := dk_44 (dk_at dksL_law_70 21 rfl rfl)
theorem dL_law_1811 : decode cL_law 1811 = .ok (.aload_n 0, 1) := dk_42 (dk_at dksL_law_70 22 rfl rfl)
theorem dL_law_1812 : decode cL_law 1812 = .ok (.iload 4, 2) := dk_21 4 (dk_at dksL_law_71 0 rfl rfl)
theorem dL_law_1814 : decode cL_law 1814 = .ok (.iconst 1, 1) := dk_4 (dk_at dksL_law_71 2 rfl rfl)
theorem dL_law_1815 : decode cL_law 1815 = .ok (.iadd, 1) := dk_96 (dk_at dksL_law_71 3 rfl rfl)
theorem dL_law_1816 : decode cL_law 1816 = .ok (.iaload, 1) := dk_46 (dk_at dksL_law_71 4 rfl rfl)
theorem dL_law_1817 : decode cL_law 1817 = .ok (.invokevirtual 224, 3) := dk_182 0 224 (dk_at dksL_law_71 5 rfl rfl)
theorem dL_law_1820 : decode cL_law 1820 = .ok (.istore 6, 2) := dk_54 6 (dk_at dksL_law_71 8 rfl rfl)
theorem dL_law_1822 : decode cL_law 1822 = .ok (.aload_n 2, 1) := dk_44 (dk_at dksL_law_71 10 rfl rfl)
theorem dL_law_1823 : decode cL_law 1823 = .ok (.invokevirtual 137, 3) := dk_182 0 137 (dk_at dksL_law_71 11 rfl rfl)
theorem dL_law_1826 : decode cL_law 1826 = .ok (.iload 5, 2) := dk_21 5 (dk_at dksL_law_71 14 rfl rfl)
theorem dL_law_1828 : decode cL_law 1828 = .ok (.if_icmp .eq 5, 3) := dk_159 0 5 (dk_at dksL_law_71 16 rfl rfl)
theorem dL_law_1831 : decode cL_law 1831 = .ok (.iconst 0, 1) := dk_3 (dk_at dksL_law_71 19 rfl rfl)
theorem dL_law_1832 : decode cL_law 1832 = .ok (.ireturn, 1) := dk_172 (dk_at dksL_law_71 20 rfl rfl)
theorem dL_law_1833 : decode cL_law 1833 = .ok (.iload 5, 2) := dk_21 5 (dk_at dksL_law_71 21 rfl rfl)
theorem dL_law_1835 : decode cL_law 1835 = .ok (.ifCond .ne 15, 3) := dk_154 0 15 (dk_at dksL_law_72 0 rfl rfl)
theorem dL_law_1838 : decode cL_law 1838 = .ok (.aload_n 3, 1) := dk_45 (dk_at dksL_law_72 3 rfl rfl)
theorem dL_law_1839 : decode cL_law 1839 = .ok (.iconst 0, 1) := dk_3 (dk_at dksL_law_72 4 rfl rfl)
theorem dL_law_1840 : decode cL_law 1840 = .ok (.laload, 1) := dk_47 (dk_at dksL_law_72 5 rfl rfl)
theorem dL_law_1841 : decode cL_law 1841 = .ok (.iload 6, 2) := dk_21 6 (dk_at dksL_law_72 6 rfl rfl)
theorem dL_law_1843 : decode cL_law 1843 = .ok (.i2l, 1) := dk_133 (dk_at dksL_law_72 8 rfl rfl)
theorem dL_law_1844 : decode cL_law 1844 = .ok (.lcmp, 1) := dk_148 (dk_at dksL_law_72 9 rfl rfl)
theorem dL_law_1845 : decode cL_law 1845 = .ok (.ifCond .eq 5, 3) := dk_153 0 5 (dk_at dksL_law_72 10 rfl rfl)
theorem dL_law_1848 : decode cL_law 1848 = .ok (.iconst 0, 1) := dk_3 (dk_at dksL_law_72 13 rfl rfl)
theorem dL_law_1849 : decode cL_law 1849 = .ok (.ireturn, 1) := dk_172 (dk_at dksL_law_72 14 rfl rfl)
theorem dL_law_1850 : decode cL_law 1850 = .ok (.goto 856, 3) := dk_167 3 88 (dk_at dksL_law_72 15 rfl rfl)
theorem dL_law_1853 : decode cL_law 1853 = .ok (.aload_n 1, 1) := dk_43 (dk_at dksL_law_72 18 rfl rfl)
theorem dL_law_1854 : decode cL_law 1854 = .ok (.aload_n 0, 1) := dk_42 (dk_at dksL_law_72 19 rfl rfl)
theorem dL_law_1855 : decode cL_law 1855 = .ok (.iload 4, 2) := dk_21 4 (dk_at dksL_law_72 20 rfl rfl)
theorem dL_law_1857 : decode cL_law 1857 = .ok (.iconst 1, 1) := dk_4 (dk_at dksL_law_72 22 rfl rfl)
theorem dL_law_1858 : decode cL_law 1858 = .ok (.iadd, 1) := dk_96 (dk_at dksL_law_72 23 rfl rfl)
theorem dL_law_1859 : decode cL_law 1859 = .ok (.iaload, 1) := dk_46 (dk_at dksL_law_73 0 rfl rfl)
theorem dL_law_1860 : decode cL_law 1860 = .ok (.aload_n 0, 1) := dk_42 (dk_at dksL_law_73 1 rfl rfl)
theorem dL_law_1861 : decode cL_law 1861 = .ok (.iload 4, 2) := dk_21 4 (dk_at dksL_law_73 2 rfl rfl)
theorem dL_law_1863 : decode cL_law 1863 = .ok (.iconst 2, 1) := dk_5 (dk_at dksL_law_73 4 rfl rfl)
theorem dL_law_1864 : decode cL_law 1864 = .ok (.iadd, 1) := dk_96 (dk_at dksL_law_73 5 rfl rfl)
theorem dL_law_1865 : decode cL_law 1865 = .ok (.iaload, 1) := dk_46 (dk_at dksL_law_73 6 rfl rfl)
theorem dL_law_1866 : decode cL_law 1866 = .ok (.aload_n 0, 1) := dk_42 (dk_at dksL_law_73 7 rfl rfl)
theorem dL_law_1867 : decode cL_law 1867 = .ok (.iload 4, 2) := dk_21 4 (dk_at dksL_law_73 8 rfl rfl)
theorem dL_law_1869 : decode cL_law 1869 = .ok (.iconst 3, 1) := dk_6 (dk_at dksL_law_73 10 rfl rfl)
theorem dL_law_1870 : decode cL_law 1870 = .ok (.iadd, 1) := dk_96 (dk_at dksL_law_73 11 rfl rfl)
theorem dL_law_1871 : decode cL_law 1871 = .ok (.iaload, 1) := dk_46 (dk_at dksL_law_73 12 rfl rfl)
theorem dL_law_1872 : decode cL_law 1872 = .ok (.aload_n 3, 1) := dk_45 (dk_at dksL_law_73 13 rfl rfl)
theorem dL_law_1873 : decode cL_law 1873 = .ok (.invokestatic 225, 3) := dk_184 0 225 (dk_at dksL_law_73 14 rfl rfl)
theorem dL_law_1876 : decode cL_law 1876 = .ok (.istore 5, 2) := dk_54 5 (dk_at dksL_law_73 17 rfl rfl)
theorem dL_law_1878 : decode cL_law 1878 = .ok (.aload_n 2, 1) := dk_44 (dk_at dksL_law_73 19 rfl rfl)
theorem dL_law_1879 : decode cL_law 1879 = .ok (.aload_n 0, 1) := dk_42 (dk_at dksL_law_73 20 rfl rfl)
theorem dL_law_1880 : decode cL_law 1880 = .ok (.iload 4, 2) := dk_21 4 (dk_at dksL_law_73 21 rfl rfl)
theorem dL_law_1882 : decode cL_law 1882 = .ok (.iconst 1, 1) := dk_4 (dk_at dksL_law_73 23 rfl rfl)
theorem dL_law_1883 : decode cL_law 1883 = .ok (.iadd, 1) := dk_96 (dk_at dksL_law_74 0 rfl rfl)
theorem dL_law_1884 : decode cL_law 1884 = .ok (.iaload, 1) := dk_46 (dk_at dksL_law_74 1 rfl rfl)
theorem dL_law_1885 : decode cL_law 1885 = .ok (.aload_n 0, 1) := dk_42 (dk_at dksL_law_74 2 rfl rfl)
theorem dL_law_1886 : decode cL_law 1886 = .ok (.iload 4, 2) := dk_21 4 (dk_at dksL_law_74 3 rfl rfl)
theorem dL_law_1888 : decode cL_law 1888 = .ok (.iconst 2, 1) := dk_5 (dk_at dksL_law_74 5 rfl rfl)
theorem dL_law_1889 : decode cL_law 1889 = .ok (.iadd, 1) := dk_96 (dk_at dksL_law_74 6 rfl rfl)
theorem dL_law_1890 : decode cL_law 1890 = .ok (.iaload, 1) := dk_46 (dk_at dksL_law_74 7 rfl rfl)
theorem dL_law_1891 : decode cL_law 1891 = .ok (.aload_n 0, 1) := dk_42 (dk_at dksL_law_74 8 rfl rfl)
theorem dL_law_1892 : decode cL_law 1892 = .ok (.iload 4, 2) := dk_21 4 (dk_at dksL_law_74 9 rfl rfl)
theorem dL_law_1894 : decode cL_law 1894 = .ok (.iconst 3, 1) := dk_6 (dk_at dksL_law_74 11 rfl rfl)
theorem dL_law_1895 : decode cL_law 1895 = .ok (.iadd, 1) := dk_96 (dk_at dksL_law_74 12 rfl rfl)
theorem dL_law_1896 : decode cL_law 1896 = .ok (.iaload, 1) := dk_46 (dk_at dksL_law_74 13 rfl rfl)
theorem dL_law_1897 : decode cL_law 1897 = .ok (.invokevirtual 227, 3) := dk_182 0 227 (dk_at dksL_law_74 14 rfl rfl)
theorem dL_law_1900 : decode cL_law 1900 = .ok (.istore 6, 2) := dk_54 6 (dk_at dksL_law_74 17 rfl rfl)
theorem dL_law_1902 : decode cL_law 1902 = .ok (.aload_n 2, 1) := dk_44 (dk_at dksL_law_74 19 rfl rfl)
theorem dL_law_1903 : decode cL_law 1903 = .ok (.invokevirtual 137, 3) := dk_182 0 137 (dk_at dksL_law_74 20 rfl rfl)
theorem dL_law_1906 : decode cL_law 1906 = .ok (.iload 5, 2) := dk_21 5 (dk_at dksL_law_75 0 rfl rfl)
theorem dL_law_1908 : decode cL_law 1908 = .ok (.if_icmp .eq 5, 3) := dk_159 0 5 (dk_at dksL_law_75 2 rfl rfl)
theorem dL_law_1911 : decode cL_law 1911 = .ok (.iconst 0, 1) := dk_3 (dk_at dksL_law_75 5 rfl rfl)
theorem dL_law_1912 : decode cL_law 1912 = .ok (.ireturn, 1) := dk_172 (dk_at dksL_law_75 6 rfl rfl)
theorem dL_law_1913 : decode cL_law 1913 = .ok (.iload 5, 2) := dk_21 5 (dk_at dksL_law_75 7 rfl rfl)
theorem dL_law_1915 : decode cL_law 1915 = .ok (.ifCond .ne 15, 3) := dk_154 0 15 (dk_at dksL_law_75 9 rfl rfl)
theorem dL_law_1918 : decode cL_law 1918 = .ok (.aload_n 3, 1) := dk_45 (dk_at dksL_law_75 12 rfl rfl)
theorem dL_law_1919 : decode cL_law 1919 = .ok (.iconst 0, 1) := dk_3 (dk_at dksL_law_75 13 rfl rfl)
theorem dL_law_1920 : decode cL_law 1920 = .ok (.laload, 1) := dk_47 (dk_at dksL_law_75 14 rfl rfl)
theorem dL_law_1921 : decode cL_law 1921 = .ok (.iload 6, 2) := dk_21 6 (dk_at dksL_law_75 15 rfl rfl)
theorem dL_law_1923 : decode cL_law 1923 = .ok (.i2l, 1) := dk_133 (dk_at dksL_law_75 17 rfl rfl)
theorem dL_law_1924 : decode cL_law 1924 = .ok (.lcmp, 1) := dk_148 (dk_at dksL_law_75 18 rfl rfl)
theorem dL_law_1925 : decode cL_law 1925 = .ok (.ifCond .eq 5, 3) := dk_153 0 5 (dk_at dksL_law_75 19 rfl rfl)
theorem dL_law_1928 : decode cL_law 1928 = .ok (.iconst 0, 1) := dk_3 (dk_at dksL_law_75 22 rfl rfl)
theorem dL_law_1929 : decode cL_law 1929 = .ok (.ireturn, 1) := dk_172 (dk_at dksL_law_75 23 rfl rfl)
theorem dL_law_1930 : decode cL_law 1930 = .ok (.goto 776, 3) := dk_167 3 8 (dk_at dksL_law_76 0 rfl rfl)
theorem dL_law_1933 : decode cL_law 1933 = .ok (.aload_n 1, 1) := dk_43 (dk_at dksL_law_76 3 rfl rfl)
theorem dL_law_1934 : decode cL_law 1934 = .ok (.aload_n 0, 1) := dk_42 (dk_at dksL_law_76 4 rfl rfl)
theorem dL_law_1935 : decode cL_law 1935 = .ok (.iload 4, 2) := dk_21 4 (dk_at dksL_law_76 5 rfl rfl)
theorem dL_law_1937 : decode cL_law 1937 = .ok (.iconst 1, 1) := dk_4 (dk_at dksL_law_76 7 rfl rfl)
theorem dL_law_1938 : decode cL_law 1938 = .ok (.iadd, 1) := dk_96 (dk_at dksL_law_76 8 rfl rfl)
theorem dL_law_1939 : decode cL_law 1939 = .ok (.iaload, 1) := dk_46 (dk_at dksL_law_76 9 rfl rfl)
theorem dL_law_1940 : decode cL_law 1940 = .ok (.aload_n 0, 1) := dk_42 (dk_at dksL_law_76 10 rfl rfl)
theorem dL_law_1941 : decode cL_law 1941 = .ok (.iload 4, 2) := dk_21 4 (dk_at dksL_law_76 11 rfl rfl)
theorem dL_law_1943 : decode cL_law 1943 = .ok (.iconst 2, 1) := dk_5 (dk_at dksL_law_76 13 rfl rfl)
theorem dL_law_1944 : decode cL_law 1944 = .ok (.iadd, 1) := dk_96 (dk_at dksL_law_76 14 rfl rfl)
theorem dL_law_1945 : decode cL_law 1945 = .ok (.iaload, 1) := dk_46 (dk_at dksL_law_76 15 rfl rfl)
theorem dL_law_1946 : decode cL_law 1946 = .ok (.aload_n 0, 1) := dk_42 (dk_at dksL_law_76 16 rfl rfl)
theorem dL_law_1947 : decode cL_law 1947 = .ok (.iload 4, 2) := dk_21 4 (dk_at dksL_law_76 17 rfl rfl)
theorem dL_law_1949 : decode cL_law 1949 = .ok (.iconst 3, 1) := dk_6 (dk_at dksL_law_76 19 rfl rfl)
theorem dL_law_1950 : decode cL_law 1950 = .ok (.iadd, 1) := dk_96 (dk_at dksL_law_76 20 rfl rfl)
theorem dL_law_1951 : decode cL_law 1951 = .ok (.iaload, 1) := dk_46 (dk_at dksL_law_76 21 rfl rfl)
theorem dL_law_1952 : decode cL_law 1952 = .ok (.aload_n 3, 1) := dk_45 (dk_at dksL_law_76 22 rfl rfl)
theorem dL_law_1953 : decode cL_law 1953 = .ok (.invokestatic 228, 3) := dk_184 0 228 (dk_at dksL_law_77 0 rfl rfl)
theorem dL_law_1956 : decode cL_law 1956 = .ok (.istore 5, 2) := dk_54 5 (dk_at dksL_law_77 3 rfl rfl)
theorem dL_law_1958 : decode cL_law 1958 = .ok (.aload_n 2, 1) := dk_44 (dk_at dksL_law_77 5 rfl rfl)
theorem dL_law_1959 : decode cL_law 1959 = .ok (.aload_n 0, 1) := dk_42 (dk_at dksL_law_77 6 rfl rfl)
theorem dL_law_1960 : decode cL_law 1960 = .ok (.iload 4, 2) := dk_21 4 (dk_at dksL_law_77 7 rfl rfl)
theorem dL_law_1962 : decode cL_law 1962 = .ok (.iconst 1, 1) := dk_4 (dk_at dksL_law_77 9 rfl rfl)
theorem dL_law_1963 : decode cL_law 1963 = .ok (.iadd, 1) := dk_96 (dk_at dksL_law_77 10 rfl rfl)
theorem dL_law_1964 : decode cL_law 1964 = .ok (.iaload, 1) := dk_46 (dk_at dksL_law_77 11 rfl rfl)
theorem dL_law_1965 : decode cL_law 1965 = .ok (.aload_n 0, 1) := dk_42 (dk_at dksL_law_77 12 rfl rfl)
theorem dL_law_1966 : decode cL_law 1966 = .ok (.iload 4, 2) := dk_21 4 (dk_at dksL_law_77 13 rfl rfl)
theorem dL_law_1968 : decode cL_law 1968 = .ok (.iconst 2, 1) := dk_5 (dk_at dksL_law_77 15 rfl rfl)
theorem dL_law_1969 : decode cL_law 1969 = .ok (.iadd, 1) := dk_96 (dk_at dksL_law_77 16 rfl rfl)
theorem dL_law_1970 : decode cL_law 1970 = .ok (.iaload, 1) := dk_46 (dk_at dksL_law_77 17 rfl rfl)
theorem dL_law_1971 : decode cL_law 1971 = .ok (.aload_n 0, 1) := dk_42 (dk_at dksL_law_77 18 rfl rfl)
theorem dL_law_1972 : decode cL_law 1972 = .ok (.iload 4, 2) := dk_21 4 (dk_at dksL_law_77 19 rfl rfl)
theorem dL_law_1974 : decode cL_law 1974 = .ok (.iconst 3, 1) := dk_6 (dk_at dksL_law_77 21 rfl rfl)
theorem dL_law_1975 : decode cL_law 1975 = .ok (.iadd, 1) := dk_96 (dk_at dksL_law_77 22 rfl rfl)
theorem dL_law_1976 : decode cL_law 1976 = .ok (.iaload, 1) := dk_46 (dk_at dksL_law_77 23 rfl rfl)
theorem dL_law_1977 : decode cL_law 1977 = .ok (.invokevirtual 230, 3) := dk_182 0 230 (dk_at dksL_law_78 0 rfl rfl)
theorem dL_law_1980 : decode cL_law 1980 = .ok (.istore 6, 2) := dk_54 6 (dk_at dksL_law_78 3 rfl rfl)
theorem dL_law_1982 : decode cL_law 1982 = .ok (.aload_n 2, 1) := dk_44 (dk_at dksL_law_78 5 rfl rfl)
theorem dL_law_1983 : decode cL_law 1983 = .ok (.invokevirtual 137, 3) := dk_182 0 137 (dk_at dksL_law_78 6 rfl rfl)
theorem dL_law_1986 : decode cL_law 1986 = .ok (.iload 5, 2) := dk_21 5 (dk_at dksL_law_78 9 rfl rfl)
theorem dL_law_1988 : decode cL_law 1988 = .ok (.if_icmp .eq 5, 3) := dk_159 0 5 (dk_at dksL_law_78 11 rfl rfl)
theorem dL_law_1991 : decode cL_law 1991 = .ok (.iconst 0, 1) := dk_3 (dk_at dksL_law_78 14 rfl rfl)
theorem dL_law_1992 : decode cL_law 1992 = .ok (.ireturn, 1) := dk_172 (dk_at dksL_law_78 15 rfl rfl)
theorem dL_law_1993 : decode cL_law 1993 = .ok (.iload 5, 2) := dk_21 5 (dk_at dksL_law_78 16 rfl rfl)
theorem dL_law_1995 : decode cL_law 1995 = .ok (.ifCond .ne 15, 3) := dk_154 0 15 (dk_at dksL_law_78 18 rfl rfl)
theorem dL_law_1998 : decode cL_law 1998 = .ok (.aload_n 3, 1) := dk_45 (dk_at dksL_law_78 21 rfl rfl)
theorem dL_law_1999 : decode cL_law 1999 = .ok (.iconst 0, 1) := dk_3 (dk_at dksL_law_78 22 rfl rfl)
theorem dL_law_2000 : decode cL_law 2000 = .ok (.laload, 1) := dk_47 (dk_at dksL_law_78 23 rfl rfl)
theorem dL_law_2001 : decode cL_law 2001 = .ok (.iload 6, 2) := dk_21 6 (dk_at dksL_law_79 0 rfl rfl)
theorem dL_law_2003 : decode cL_law 2003 = .ok (.i2l, 1) := dk_133 (dk_at dksL_law_79 2 rfl rfl)
theorem dL_law_2004 : decode cL_law 2004 = .ok (.lcmp, 1) := dk_148 (dk_at dksL_law_79 3 rfl rfl)
theorem dL_law_2005 : decode cL_law 2005 = .ok (.ifCond .eq 5, 3) := dk_153 0 5 (dk_at dksL_law_79 4 rfl rfl)
theorem dL_law_2008 : decode cL_law 2008 = .ok (.iconst 0, 1) := dk_3 (dk_at dksL_law_79 7 rfl rfl)
theorem dL_law_2009 : decode cL_law 2009 = .ok (.ireturn, 1) := dk_172 (dk_at dksL_law_79 8 rfl rfl)
theorem dL_law_2010 : decode cL_law 2010 = .ok (.goto 696, 3) := dk_167 2 184 (dk_at dksL_law_79 9 rfl rfl)
theorem dL_law_2013 : decode cL_law 2013 = .ok (.aload_n 1, 1) := dk_43 (dk_at dksL_law_79 12 rfl rfl)
theorem dL_law_2014 : decode cL_law 2014 = .ok (.aload_n 0, 1) := dk_42 (dk_at dksL_law_79 13 rfl rfl)
theorem dL_law_2015 : decode cL_law 2015 = .ok (.iload 4, 2) := dk_21 4 (dk_at dksL_law_79 14 rfl rfl)
theorem dL_law_2017 : decode cL_law 2017 = .ok (.iconst 1, 1) := dk_4 (dk_at dksL_law_79 16 rfl rfl)
theorem dL_law_2018 : decode cL_law 2018 = .ok (.iadd, 1) := dk_96 (dk_at dksL_law_79 17 rfl rfl)
theorem dL_law_2019 : decode cL_law 2019 = .ok (.iaload, 1) := dk_46 (dk_at dksL_law_79 18 rfl rfl)
theorem dL_law_2020 : decode cL_law 2020 = .ok (.aload_n 0, 1) := dk_42 (dk_at dksL_law_79 19 rfl rfl)
theorem dL_law_2021 : decode cL_law 2021 = .ok (.iload 4, 2) := dk_21 4 (dk_at dksL_law_79 20 rfl rfl)
theorem dL_law_2023 : decode cL_law 2023 = .ok (.iconst 2, 1) := dk_5 (dk_at dksL_law_79 22 rfl rfl)
theorem dL_law_2024 : decode cL_law 2024 = .ok (.iadd, 1) := dk_96 (dk_at dksL_law_79 23 rfl rfl)
theorem dL_law_2025 : decode cL_law 2025 = .ok (.iaload, 1) := dk_46 (dk_at dksL_law_80 0 rfl rfl)
theorem dL_law_2026 : decode cL_law 2026 = .ok (.aload_n 0, 1) := dk_42 (dk_at dksL_law_80 1 rfl rfl)
theorem dL_law_2027 : decode cL_law 2027 = .ok (.iload 4, 2) := dk_21 4 (dk_at dksL_law_80 2 rfl rfl)
theorem dL_law_2029 : decode cL_law 2029 = .ok (.iconst 3, 1) := dk_6 (dk_at dksL_law_80 4 rfl rfl)
theorem dL_law_2030 : decode cL_law 2030 = .ok (.iadd, 1) := dk_96 (dk_at dksL_law_80 5 rfl rfl)
theorem dL_law_2031 : decode cL_law 2031 = .ok (.iaload, 1) := dk_46 (dk_at dksL_law_80 6 rfl rfl)
theorem dL_law_2032 : decode cL_law 2032 = .ok (.aload_n 3, 1) := dk_45 (dk_at dksL_law_80 7 rfl rfl)
theorem dL_law_2033 : decode cL_law 2033 = .ok (.invokestatic 231, 3) := dk_184 0 231 (dk_at dksL_law_80 8 rfl rfl)
theorem dL_law_2036 : decode cL_law 2036 = .ok (.istore 5, 2) := dk_54 5 (dk_at dksL_law_80 11 rfl rfl)
theorem dL_law_2038 : decode cL_law 2038 = .ok (.aload_n 2, 1) := dk_44 (dk_at dksL_law_80 13 rfl rfl)
theorem dL_law_2039 : decode cL_law 2039 = .ok (.aload_n 0, 1) := dk_42 (dk_at dksL_law_80 14 rfl rfl)
theorem dL_law_2040 : decode cL_law 2040 = .ok (.iload 4, 2) := dk_21 4 (dk_at dksL_law_80 15 rfl rfl)
theorem dL_law_2042 : decode cL_law 2042 = .ok (.iconst 1, 1) := dk_4 (dk_at dksL_law_80 17 rfl rfl)
theorem dL_law_2043 : decode cL_law 2043 = .ok (.iadd, 1) := dk_96 (dk_at dksL_law_80 18 rfl rfl)
theorem dL_law_2044 : decode cL_law 2044 = .ok (.iaload, 1) := dk_46 (dk_at dksL_law_80 19 rfl rfl)
theorem dL_law_2045 : decode cL_law 2045 = .ok (.aload_n 0, 1) := dk_42 (dk_at dksL_law_80 20 rfl rfl)
theorem dL_law_2046 : decode cL_law 2046 = .ok (.iload 4, 2) := dk_21 4 (dk_at dksL_law_80 21 rfl rfl)
theorem dL_law_2048 : decode cL_law 2048 = .ok (.iconst 2, 1) := dk_5 (dk_at dksL_law_80 23 rfl rfl)
theorem dL_law_2049 : decode cL_law 2049 = .ok (.iadd, 1) := dk_96 (dk_at dksL_law_81 0 rfl rfl)
theorem dL_law_2050 : decode cL_law 2050 = .ok (.iaload, 1) := dk_46 (dk_at dksL_law_81 1 rfl rfl)
theorem dL_law_2051 : decode cL_law 2051 = .ok (.aload_n 0, 1) := dk_42 (dk_at dksL_law_81 2 rfl rfl)
theorem dL_law_2052 : decode cL_law 2052 = .ok (.iload 4, 2) := dk_21 4 (dk_at dksL_law_81 3 rfl rfl)
theorem dL_law_2054 : decode cL_law 2054 = .ok (.iconst 3, 1) := dk_6 (dk_at dksL_law_81 5 rfl rfl)
theorem dL_law_2055 : decode cL_law 2055 = .ok (.iadd, 1) := dk_96 (dk_at dksL_law_81 6 rfl rfl)
theorem dL_law_2056 : decode cL_law 2056 = .ok (.iaload, 1) := dk_46 (dk_at dksL_law_81 7 rfl rfl)
theorem dL_law_2057 : decode cL_law 2057 = .ok (.invokevirtual 233, 3) := dk_182 0 233 (dk_at dksL_law_81 8 rfl rfl)
theorem dL_law_2060 : decode cL_law 2060 = .ok (.istore 6, 2) := dk_54 6 (dk_at dksL_law_81 11 rfl rfl)
theorem dL_law_2062 : decode cL_law 2062 = .ok (.aload_n 2, 1) := dk_44 (dk_at dksL_law_81 13 rfl rfl)
theorem dL_law_2063 : decode cL_law 2063 = .ok (.invokevirtual 137, 3) := dk_182 0 137 (dk_at dksL_law_81 14 rfl rfl)
theorem dL_law_2066 : decode cL_law 2066 = .ok (.iload 5, 2) := dk_21 5 (dk_at dksL_law_81 17 rfl rfl)
theorem dL_law_2068 : decode cL_law 2068 = .ok (.if_icmp .eq 5, 3) := dk_159 0 5 (dk_at dksL_law_81 19 rfl rfl)
theorem dL_law_2071 : decode cL_law 2071 = .ok (.iconst 0, 1) := dk_3 (dk_at dksL_law_81 22 rfl rfl)
theorem dL_law_2072 : decode cL_law 2072 = .ok (.ireturn, 1) := dk_172 (dk_at dksL_law_81 23 rfl rfl)
theorem dL_law_2073 : decode cL_law 2073 = .ok (.iload 5, 2) := dk_21 5 (dk_at dksL_law_82 0 rfl rfl)
theorem dL_law_2075 : decode cL_law 2075 = .ok (.ifCond .ne 15, 3) := dk_154 0 15 (dk_at dksL_law_82 2 rfl rfl)
theorem dL_law_2078 : decode cL_law 2078 = .ok (.aload_n 3, 1) := dk_45 (dk_at dksL_law_82 5 rfl rfl)
theorem dL_law_2079 : decode cL_law 2079 = .ok (.iconst 0, 1) := dk_3 (dk_at dksL_law_82 6 rfl rfl)
theorem dL_law_2080 : decode cL_law 2080 = .ok (.laload, 1) := dk_47 (dk_at dksL_law_82 7 rfl rfl)
theorem dL_law_2081 : decode cL_law 2081 = .ok (.iload 6, 2) := dk_21 6 (dk_at dksL_law_82 8 rfl rfl)
theorem dL_law_2083 : decode cL_law 2083 = .ok (.i2l, 1) := dk_133 (dk_at dksL_law_82 10 rfl rfl)
theorem dL_law_2084 : decode cL_law 2084 = .ok (.lcmp, 1) := dk_148 (dk_at dksL_law_82 11 rfl rfl)
theorem dL_law_2085 : decode cL_law 2085 = .ok (.ifCond .eq 5, 3) := dk_153 0 5 (dk_at dksL_law_82 12 rfl rfl)
theorem dL_law_2088 : decode cL_law 2088 = .ok (.iconst 0, 1) := dk_3 (dk_at dksL_law_82 15 rfl rfl)
theorem dL_law_2089 : decode cL_law 2089 = .ok (.ireturn, 1) := dk_172 (dk_at dksL_law_82 16 rfl rfl)
theorem dL_law_2090 : decode cL_law 2090 = .ok (.goto 616, 3) := dk_167 2 104 (dk_at dksL_law_82 17 rfl rfl)
theorem dL_law_2093 : decode cL_law 2093 = .ok (.aload_n 1, 1) := dk_43 (dk_at dksL_law_82 20 rfl rfl)
theorem dL_law_2094 : decode cL_law 2094 = .ok (.aload_n 0, 1) := dk_42 (dk_at dksL_law_82 21 rfl rfl)
theorem dL_law_2095 : decode cL_law 2095 = .ok (.iload 4, 2) := dk_21 4 (dk_at dksL_law_82 22 rfl rfl)
theorem dL_law_2097 : decode cL_law 2097 = .ok (.iconst 1, 1) := dk_4 (dk_at dksL_law_83 0 rfl rfl)
theorem dL_law_2098 : decode cL_law 2098 = .ok (.iadd, 1) := dk_96 (dk_at dksL_law_83 1 rfl rfl)
theorem dL_law_2099 : decode cL_law 2099 = .ok (.iaload, 1) := dk_46 (dk_at dksL_law_83 2 rfl rfl)
theorem dL_law_2100 : decode cL_law 2100 = .ok (.aload_n 0, 1) := dk_42 (dk_at dksL_law_83 3 rfl rfl)
theorem dL_law_2101 : decode cL_law 2101 = .ok (.iload 4, 2) := dk_21 4 (dk_at dksL_law_83 4 rfl rfl)
theorem dL_law_2103 : decode cL_law 2103 = .ok (.iconst 2, 1) := dk_5 (dk_at dksL_law_83 6 rfl rfl)
theorem dL_law_2104 : decode cL_law 2104 = .ok (.iadd, 1) := dk_96 (dk_at dksL_law_83 7 rfl rfl)
theorem dL_law_2105 : decode cL_law 2105 = .ok (.iaload, 1) := dk_46 (dk_at dksL_law_83 8 rfl rfl)
theorem dL_law_2106 : decode cL_law 2106 = .ok (.aload_n 3, 1) := dk_45 (dk_at dksL_law_83 9 rfl rfl)
theorem dL_law_2107 : decode cL_law 2107 = .ok (.invokestatic 234, 3) := dk_184 0 234 (dk_at dksL_law_83 10 rfl rfl)
theorem dL_law_2110 : decode cL_law 2110 = .ok (.istore 5, 2) := dk_54 5 (dk_at dksL_law_83 13 rfl rfl)
theorem dL_law_2112 : decode cL_law 2112 = .ok (.aload_n 2, 1) := dk_44 (dk_at dksL_law_83 15 rfl rfl)
theorem dL_law_2113 : decode cL_law 2113 = .ok (.aload_n 0, 1) := dk_42 (dk_at dksL_law_83 16 rfl rfl)
theorem dL_law_2114 : decode cL_law 2114 = .ok (.iload 4, 2) := dk_21 4 (dk_at dksL_law_83 17 rfl rfl)
theorem dL_law_2116 : decode cL_law 2116 = .ok (.iconst 1, 1) := dk_4 (dk_at dksL_law_83 19 rfl rfl)
theorem dL_law_2117 : decode cL_law 2117 = .ok (.iadd, 1) := dk_96 (dk_at dksL_law_83 20 rfl rfl)
theorem dL_law_2118 : decode cL_law 2118 = .ok (.iaload, 1) := dk_46 (dk_at dksL_law_83 21 rfl rfl)
theorem dL_law_2119 : decode cL_law 2119 = .ok (.aload_n 0, 1) := dk_42 (dk_at dksL_law_83 22 rfl rfl)
theorem dL_law_2120 : decode cL_law 2120 = .ok (.iload 4, 2) := dk_21 4 (dk_at dksL_law_84 0 rfl rfl)
theorem dL_law_2122 : decode cL_law 2122 = .ok (.iconst 2, 1) := dk_5 (dk_at dksL_law_84 2 rfl rfl)
theorem dL_law_2123 : decode cL_law 2123 = .ok (.iadd, 1) := dk_96 (dk_at dksL_law_84 3 rfl rfl)
theorem dL_law_2124 : decode cL_law 2124 = .ok (.iaload, 1) := dk_46 (dk_at dksL_law_84 4 rfl rfl)
theorem dL_law_2125 : decode cL_law 2125 = .ok (.invokevirtual 236, 3) := dk_182 0 236 (dk_at dksL_law_84 5 rfl rfl)
theorem dL_law_2128 : decode cL_law 2128 = .ok (.istore 6, 2) := dk_54 6 (dk_at dksL_law_84 8 rfl rfl)
theorem dL_law_2130 : decode cL_law 2130 = .ok (.aload_n 2, 1) := dk_44 (dk_at dksL_law_84 10 rfl rfl)
theorem dL_law_2131 : decode cL_law 2131 = .ok (.invokevirtual 137, 3) := dk_182 0 137 (dk_at dksL_law_84 11 rfl rfl)
theorem dL_law_2134 : decode cL_law 2134 = .ok (.iload 5, 2) := dk_21 5 (dk_at dksL_law_84 14 rfl rfl)
theorem dL_law_2136 : decode cL_law 2136 = .ok (.if_icmp .eq 5, 3) := dk_159 0 5 (dk_at dksL_law_84 16 rfl rfl)
theorem dL_law_2139 : decode cL_law 2139 = .ok (.iconst 0, 1) := dk_3 (dk_at dksL_law_84 19 rfl rfl)
theorem dL_law_2140 : decode cL_law 2140 = .ok (.ireturn, 1) := dk_172 (dk_at dksL_law_84 20 rfl rfl)
theorem dL_law_2141 : decode cL_law 2141 = .ok (.iload 5, 2) := dk_21 5 (dk_at dksL_law_84 21 rfl rfl)
theorem dL_law_2143 : decode cL_law 2143 = .ok (.ifCond .ne 15, 3) := dk_154 0 15 (dk_at dksL_law_85 0 rfl rfl)
theorem dL_law_2146 : decode cL_law 2146 = .ok (.aload_n 3, 1) := dk_45 (dk_at dksL_law_85 3 rfl rfl)
theorem dL_law_2147 : decode cL_law 2147 = .ok (.iconst 0, 1) := dk_3 (dk_at dksL_law_85 4 rfl rfl)
theorem dL_law_2148 : decode cL_law 2148 = .ok (.laload, 1) := dk_47 (dk_at dksL_law_85 5 rfl rfl)
theorem dL_law_2149 : decode cL_law 2149 = .ok (.iload 6, 2) := dk_21 6 (dk_at dksL_law_85 6 rfl rfl)
theorem dL_law_2151 : decode cL_law 2151 = .ok (.i2l, 1) := dk_133 (dk_at dksL_law_85 8 rfl rfl)
theorem dL_law_2152 : decode cL_law 2152 = .ok (.lcmp, 1) := dk_148 (dk_at dksL_law_85 9 rfl rfl)
theorem dL_law_2153 : decode cL_law 2153 = .ok (.ifCond .eq 5, 3) := dk_153 0 5 (dk_at dksL_law_85 10 rfl rfl)
theorem dL_law_2156 : decode cL_law 2156 = .ok (.iconst 0, 1) := dk_3 (dk_at dksL_law_85 13 rfl rfl)
theorem dL_law_2157 : decode cL_law 2157 = .ok (.ireturn, 1) := dk_172 (dk_at dksL_law_85 14 rfl rfl)
theorem dL_law_2158 : decode cL_law 2158 = .ok (.goto 548, 3) := dk_167 2 36 (dk_at dksL_law_85 15 rfl rfl)
theorem dL_law_2161 : decode cL_law 2161 = .ok (.aload_n 1, 1) := dk_43 (dk_at dksL_law_85 18 rfl rfl)
theorem dL_law_2162 : decode cL_law 2162 = .ok (.aload_n 0, 1) := dk_42 (dk_at dksL_law_85 19 rfl rfl)
theorem dL_law_2163 : decode cL_law 2163 = .ok (.iload 4, 2) := dk_21 4 (dk_at dksL_law_85 20 rfl rfl)
theorem dL_law_2165 : decode cL_law 2165 = .ok (.iconst 1, 1) := dk_4 (dk_at dksL_law_85 22 rfl rfl)
theorem dL_law_2166 : decode cL_law 2166 = .ok (.iadd, 1) := dk_96 (dk_at dksL_law_85 23 rfl rfl)
theorem dL_law_2167 : decode cL_law 2167 = .ok (.iaload, 1) := dk_46 (dk_at dksL_law_86 0 rfl rfl)
theorem dL_law_2168 : decode cL_law 2168 = .ok (.aload_n 3, 1) := dk_45 (dk_at dksL_law_86 1 rfl rfl)
theorem dL_law_2169 : decode cL_law 2169 = .ok (.invokestatic 237, 3) := dk_184 0 237 (dk_at dksL_law_86 2 rfl rfl)
theorem dL_law_2172 : decode cL_law 2172 = .ok (.istore 5, 2) := dk_54 5 (dk_at dksL_law_86 5 rfl rfl)
theorem dL_law_2174 : decode cL_law 2174 = .ok (.aload_n 2, 1) := dk_44 (dk_at dksL_law_86 7 rfl rfl)
theorem dL_law_2175 : decode cL_law 2175 = .ok (.aload_n 0, 1) := dk_42 (dk_at dksL_law_86 8 rfl rfl)
theorem dL_law_2176 : decode cL_law 2176 = .ok (.iload 4, 2) := dk_21 4 (dk_at dksL_law_86 9 rfl rfl)
theorem dL_law_2178 : decode cL_law 2178 = .ok (.iconst 1, 1) := dk_4 (dk_at dksL_law_86 11 rfl rfl)
theorem dL_law_2179 : decode cL_law 2179 = .ok (.iadd, 1) := dk_96 (dk_at dksL_law_86 12 rfl rfl)
theorem dL_law_2180 : decode cL_law 2180 = .ok (.iaload, 1) := dk_46 (dk_at dksL_law_86 13 rfl rfl)
theorem dL_law_2181 : decode cL_law 2181 = .ok (.invokevirtual 239, 3) := dk_182 0 239 (dk_at dksL_law_86 14 rfl rfl)
theorem dL_law_2184 : decode cL_law 2184 = .ok (.istore 6, 2) := dk_54 6 (dk_at dksL_law_86 17 rfl rfl)
theorem dL_law_2186 : decode cL_law 2186 = .ok (.aload_n 2, 1) := dk_44 (dk_at dksL_law_86 19 rfl rfl)
theorem dL_law_2187 : decode cL_law 2187 = .ok (.invokevirtual 137, 3) := dk_182 0 137 (dk_at dksL_law_86 20 rfl rfl)
theorem dL_law_2190 : decode cL_law 2190 = .ok (.iload 5, 2) := dk_21 5 (dk_at dksL_law_87 0 rfl rfl)
theorem dL_law_2192 : decode cL_law 2192 = .ok (.if_icmp .eq 5, 3) := dk_159 0 5 (dk_at dksL_law_87 2 rfl rfl)
theorem dL_law_2195 : decode cL_law 2195 = .ok (.iconst 0, 1) := dk_3 (dk_at dksL_law_87 5 rfl rfl)
theorem dL_law_2196 : decode cL_law 2196 = .ok (.ireturn, 1) := dk_172 (dk_at dksL_law_87 6 rfl rfl)
theorem dL_law_2197 : decode cL_law 2197 = .ok (.iload 5, 2) := dk_21 5 (dk_at dksL_law_87 7 rfl rfl)
theorem dL_law_2199 : decode cL_law 2199 = .ok (.ifCond .ne 15, 3) := dk_154 0 15 (dk_at dksL_law_87 9 rfl rfl)
theorem dL_law_2202 : decode cL_law 2202 = .ok (.aload_n 3, 1) := dk_45 (dk_at dksL_law_87 12 rfl rfl)
theorem dL_law_2203 : decode cL_law 2203 = .ok (.iconst 0, 1) := dk_3 (dk_at dksL_law_87 13 rfl rfl)
theorem dL_law_2204 : decode cL_law 2204 = .ok (.laload, 1) := dk_47 (dk_at dksL_law_87 14 rfl rfl)
theorem dL_law_2205 : decode cL_law 2205 = .ok (.iload 6, 2) := dk_21 6 (dk_at dksL_law_87 15 rfl rfl)
theorem dL_law_2207 : decode cL_law 2207 = .ok (.i2l, 1) := dk_133 (dk_at dksL_law_87 17 rfl rfl)
theorem dL_law_2208 : decode cL_law 2208 = .ok (.lcmp, 1) := dk_148 (dk_at dksL_law_87 18 rfl rfl)
theorem dL_law_2209 : decode cL_law 2209 = .ok (.ifCond .eq 5, 3) := dk_153 0 5 (dk_at dksL_law_87 19 rfl rfl)
theorem dL_law_2212 : decode cL_law 2212 = .ok (.iconst 0, 1) := dk_3 (dk_at dksL_law_87 22 rfl rfl)
theorem dL_law_2213 : decode cL_law 2213 = .ok (.ireturn, 1) := dk_172 (dk_at dksL_law_87 23 rfl rfl)
theorem dL_law_2214 : decode cL_law 2214 = .ok (.goto 492, 3) := dk_167 1 236 (dk_at dksL_law_88 0 rfl rfl)
theorem dL_law_2217 : decode cL_law 2217 = .ok (.aload_n 1, 1) := dk_43 (dk_at dksL_law_88 3 rfl rfl)
theorem dL_law_2218 : decode cL_law 2218 = .ok (.invokevirtual 240, 3) := dk_182 0 240 (dk_at dksL_law_88 4 rfl rfl)
theorem dL_law_2221 : decode cL_law 2221 = .ok (.aload_n 2, 1) := dk_44 (dk_at dksL_law_88 7 rfl rfl)
theorem dL_law_2222 : decode cL_law 2222 = .ok (.invokevirtual 243, 3) := dk_182 0 243 (dk_at dksL_law_88 8 rfl rfl)
theorem dL_law_2225 : decode cL_law 2225 = .ok (.if_icmp .eq 481, 3) := dk_159 1 225 (dk_at dksL_law_88 11 rfl rfl)
theorem dL_law_2228 : decode cL_law 2228 = .ok (.iconst 0, 1) := dk_3 (dk_at dksL_law_88 14 rfl rfl)
theorem dL_law_2229 : decode cL_law 2229 = .ok (.ireturn, 1) := dk_172 (dk_at dksL_law_88 15 rfl rfl)
theorem dL_law_2230 : decode cL_law 2230 = .ok (.aload_n 1, 1) := dk_43 (dk_at dksL_law_88 16 rfl rfl)
theorem dL_law_2231 : decode cL_law 2231 = .ok (.aload_n 0, 1) := dk_42 (dk_at dksL_law_88 17 rfl rfl)
theorem dL_law_2232 : decode cL_law 2232 = .ok (.iload 4, 2) := dk_21 4 (dk_at dksL_law_88 18 rfl rfl)
theorem dL_law_2234 : decode cL_law 2234 = .ok (.iconst 1, 1) := dk_4 (dk_at dksL_law_88 20 rfl rfl)
theorem dL_law_2235 : decode cL_law 2235 = .ok (.iadd, 1) := dk_96 (dk_at dksL_law_88 21 rfl rfl)
theorem dL_law_2236 : decode cL_law 2236 = .ok (.iaload, 1) := dk_46 (dk_at dksL_law_88 22 rfl rfl)
theorem dL_law_2237 : decode cL_law 2237 = .ok (.aload_n 3, 1) := dk_45 (dk_at dksL_law_88 23 rfl rfl)
theorem dL_law_2238 : decode cL_law 2238 = .ok (.invokestatic 244, 3) := dk_184 0 244 (dk_at dksL_law_89 0 rfl rfl)
theorem dL_law_2241 : decode cL_law 2241 = .ok (.istore 5, 2) := dk_54 5 (dk_at dksL_law_89 3 rfl rfl)
theorem dL_law_2243 : decode cL_law 2243 = .ok (.aload_n 2, 1) := dk_44 (dk_at dksL_law_89 5 rfl rfl)
theorem dL_law_2244 : decode cL_law 2244 = .ok (.aload_n 0, 1) := dk_42 (dk_at dksL_law_89 6 rfl rfl)
theorem dL_law_2245 : decode cL_law 2245 = .ok (.iload 4, 2) := dk_21 4 (dk_at dksL_law_89 7 rfl rfl)
theorem dL_law_2247 : decode cL_law 2247 = .ok (.iconst 1, 1) := dk_4 (dk_at dksL_law_89 9 rfl rfl)
theorem dL_law_2248 : decode cL_law 2248 = .ok (.iadd, 1) := dk_96 (dk_at dksL_law_89 10 rfl rfl)
theorem dL_law_2249 : decode cL_law 2249 = .ok (.iaload, 1) := dk_46 (dk_at dksL_law_89 11 rfl rfl)
theorem dL_law_2250 : decode cL_law 2250 = .ok (.invokevirtual 246, 3) := dk_182 0 246 (dk_at dksL_law_89 12 rfl rfl)
theorem dL_law_2253 : decode cL_law 2253 = .ok (.istore 6, 2) := dk_54 6 (dk_at dksL_law_89 15 rfl rfl)
theorem dL_law_2255 : decode cL_law 2255 = .ok (.aload_n 2, 1) := dk_44 (dk_at dksL_law_89 17 rfl rfl)
theorem dL_law_2256 : decode cL_law 2256 = .ok (.invokevirtual 137, 3) := dk_182 0 137 (dk_at dksL_law_89 18 rfl rfl)
theorem dL_law_2259 : decode cL_law 2259 = .ok (.iload 5, 2) := dk_21 5 (dk_at dksL_law_89 21 rfl rfl)
theorem dL_law_2261 : decode cL_law 2261 = .ok (.if_icmp .eq 5, 3) := dk_159 0 5 (dk_at dksL_law_90 0 rfl rfl)
theorem dL_law_2264 : decode cL_law 2264 = .ok (.iconst 0, 1) := dk_3 (dk_at dksL_law_90 3 rfl rfl)
theorem dL_law_2265 : decode cL_law 2265 = .ok (.ireturn, 1) := dk_172 (dk_at dksL_law_90 4 rfl rfl)
theorem dL_law_2266 : decode cL_law 2266 = .ok (.iload 5, 2) := dk_21 5 (dk_at dksL_law_90 5 rfl rfl)
theorem dL_law_2268 : decode cL_law 2268 = .ok (.ifCond .ne 15, 3) := dk_154 0 15 (dk_at dksL_law_90 7 rfl rfl)
theorem dL_law_2271 : decode cL_law 2271 = .ok (.aload_n 3, 1) := dk_45 (dk_at dksL_law_90 10 rfl rfl)
theorem dL_law_2272 : decode cL_law 2272 = .ok (.iconst 0, 1) := dk_3 (dk_at dksL_law_90 11 rfl rfl)
theorem dL_law_2273 : decode cL_law 2273 = .ok (.laload, 1) := dk_47 (dk_at dksL_law_90 12 rfl rfl)
theorem dL_law_2274 : decode cL_law 2274 = .ok (.iload 6, 2) := dk_21 6 (dk_at dksL_law_90 13 rfl rfl)
theorem dL_law_2276 : decode cL_law 2276 = .ok (.i2l, 1) := dk_133 (dk_at dksL_law_90 15 rfl rfl)
theorem dL_law_2277 : decode cL_law 2277 = .ok (.lcmp, 1) := dk_148 (dk_at dksL_law_90 16 rfl rfl)
theorem dL_law_2278 : decode cL_law 2278 = .ok (.ifCond .eq 5, 3) := dk_153 0 5 (dk_at dksL_law_90 17 rfl rfl)
theorem dL_law_2281 : decode cL_law 2281 = .ok (.iconst 0, 1) := dk_3 (dk_at dksL_law_90 20 rfl rfl)
theorem dL_law_2282 : decode cL_law 2282 = .ok (.ireturn, 1) := dk_172 (dk_at dksL_law_90 21 rfl rfl)
theorem dL_law_2283 : decode cL_law 2283 = .ok (.goto 423, 3) := dk_167 1 167 (dk_at dksL_law_91 0 rfl rfl)
theorem dL_law_2286 : decode cL_law 2286 = .ok (.aload_n 1, 1) := dk_43 (dk_at dksL_law_91 3 rfl rfl)
theorem dL_law_2287 : decode cL_law 2287 = .ok (.aload_n 0, 1) := dk_42 (dk_at dksL_law_91 4 rfl rfl)
theorem dL_law_2288 : decode cL_law 2288 = .ok (.iload 4, 2) := dk_21 4 (dk_at dksL_law_91 5 rfl rfl)
theorem dL_law_2290 : decode cL_law 2290 = .ok (.iconst 1, 1) := dk_4 (dk_at dksL_law_91 7 rfl rfl)
theorem dL_law_2291 : decode cL_law 2291 = .ok (.iadd, 1) := dk_96 (dk_at dksL_law_91 8 rfl rfl)
theorem dL_law_2292 : decode cL_law 2292 = .ok (.iaload, 1) := dk_46 (dk_at dksL_law_91 9 rfl rfl)
theorem dL_law_2293 : decode cL_law 2293 = .ok (.aload_n 0, 1) := dk_42 (dk_at dksL_law_91 10 rfl rfl)
theorem dL_law_2294 : decode cL_law 2294 = .ok (.iload 4, 2) := dk_21 4 (dk_at dksL_law_91 11 rfl rfl)
theorem dL_law_2296 : decode cL_law 2296 = .ok (.iconst 2, 1) := dk_5 (dk_at dksL_law_91 13 rfl rfl)
theorem dL_law_2297 : decode cL_law 2297 = .ok (.iadd, 1) := dk_96 (dk_at dksL_law_91 14 rfl rfl)
theorem dL_law_2298 : decode cL_law 2298 = .ok (.iaload, 1) := dk_46 (dk_at dksL_law_91 15 rfl rfl)
theorem dL_law_2299 : decode cL_law 2299 = .ok (.aload_n 3, 1) := dk_45 (dk_at dksL_law_91 16 rfl rfl)
theorem dL_law_2300 : decode cL_law 2300 = .ok (.invokestatic 247, 3) := dk_184 0 247 (dk_at dksL_law_91 17 rfl rfl)
theorem dL_law_2303 : decode cL_law 2303 = .ok (.istore 5, 2) := dk_54 5 (dk_at dksL_law_91 20 rfl rfl)
theorem dL_law_2305 : decode cL_law 2305 = .ok (.aload_n 2, 1) := dk_44 (dk_at dksL_law_91 22 rfl rfl)
theorem dL_law_2306 : decode cL_law 2306 = .ok (.aload_n 0, 1) := dk_42 (dk_at dksL_law_91 23 rfl rfl)
theorem dL_law_2307 : decode cL_law 2307 = .ok (.iload 4, 2) := dk_21 4 (dk_at dksL_law_92 0 rfl rfl)
theorem dL_law_2309 : decode cL_law 2309 = .ok (.iconst 1, 1) := dk_4 (dk_at dksL_law_92 2 rfl rfl)
theorem dL_law_2310 : decode cL_law 2310 = .ok (.iadd, 1) := dk_96 (dk_at dksL_law_92 3 rfl rfl)
theorem dL_law_2311 : decode cL_law 2311 = .ok (.iaload, 1) := dk_46 (dk_at dksL_law_92 4 rfl rfl)
theorem dL_law_2312 : decode cL_law 2312 = .ok (.aload_n 0, 1) := dk_42 (dk_at dksL_law_92 5 rfl rfl)
theorem dL_law_2313 : decode cL_law 2313 = .ok (.iload 4, 2) := dk_21 4 (dk_at dksL_law_92 6 rfl rfl)
theorem dL_law_2315 : decode cL_law 2315 = .ok (.iconst 2, 1) := dk_5 (dk_at dksL_law_92 8 rfl rfl)
theorem dL_law_2316 : decode cL_law 2316 = .ok (.iadd, 1) := dk_96 (dk_at dksL_law_92 9 rfl rfl)
theorem dL_law_2317 : decode cL_law 2317 = .ok (.iaload, 1) := dk_46 (dk_at dksL_law_92 10 rfl rfl)
theorem dL_law_2318 : decode cL_law 2318 = .ok (.invokevirtual 249, 3) := dk_182 0 249 (dk_at dksL_law_92 11 rfl rfl)
theorem dL_law_2321 : decode cL_law 2321 = .ok (.istore 6, 2) := dk_54 6 (dk_at dksL_law_92 14 rfl rfl)
theorem dL_law_2323 : decode cL_law 2323 = .ok (.aload_n 2, 1) := dk_44 (dk_at dksL_law_92 16 rfl rfl)
theorem dL_law_2324 : decode cL_law 2324 = .ok (.invokevirtual 137, 3) := dk_182 0 137 (dk_at dksL_law_92 17 rfl rfl)
theorem dL_law_2327 : decode cL_law 2327 = .ok (.iload 5, 2) := dk_21 5 (dk_at dksL_law_92 20 rfl rfl)
theorem dL_law_2329 : decode cL_law 2329 = .ok (.if_icmp .eq 5, 3) := dk_159 0 5 (dk_at dksL_law_93 0 rfl rfl)
theorem dL_law_2332 : decode cL_law 2332 = .ok (.iconst 0, 1) := dk_3 (dk_at dksL_law_93 3 rfl rfl)
theorem dL_law_2333 : decode cL_law 2333 = .ok (.ireturn, 1) := dk_172 (dk_at dksL_law_93 4 rfl rfl)
theorem dL_law_2334 : decode cL_law 2334 = .ok (.iload 5, 2) := dk_21 5 (dk_at dksL_law_93 5 rfl rfl)
theorem dL_law_2336 : decode cL_law 2336 = .ok (.ifCond .ne 15, 3) := dk_154 0 15 (dk_at dksL_law_93 7 rfl rfl)
theorem dL_law_2339 : decode cL_law 2339 = .ok (.aload_n 3, 1) := dk_45 (dk_at dksL_law_93 10 rfl rfl)
theorem dL_law_2340 : decode cL_law 2340 = .ok (.iconst 0, 1) := dk_3 (dk_at dksL_law_93 11 rfl rfl)
theorem dL_law_2341 : decode cL_law 2341 = .ok (.laload, 1) := dk_47 (dk_at dksL_law_93 12 rfl rfl)
theorem dL_law_2342 : decode cL_law 2342 = .ok (.iload 6, 2) := dk_21 6 (dk_at dksL_law_93 13 rfl rfl)
theorem dL_law_2344 : decode cL_law 2344 = .ok (.i2l, 1) := dk_133 (dk_at dksL_law_93 15 rfl rfl)
theorem dL_law_2345 : decode cL_law 2345 = .ok (.lcmp, 1) := dk_148 (dk_at dksL_law_93 16 rfl rfl)
theorem dL_law_2346 : decode cL_law 2346 = .ok (.ifCond .eq 5, 3) := dk_153 0 5 (dk_at dksL_law_93 17 rfl rfl)
theorem dL_law_2349 : decode cL_law 2349 = .ok (.iconst 0, 1) := dk_3 (dk_at dksL_law_93 20 rfl rfl)
theorem dL_law_2350 : decode cL_law 2350 = .ok (.ireturn, 1) := dk_172 (dk_at dksL_law_93 21 rfl rfl)
theorem dL_law_2351 : decode cL_law 2351 = .ok (.goto 355, 3) := dk_167 1 99 (dk_at dksL_law_94 0 rfl rfl)
theorem dL_law_2354 : decode cL_law 2354 = .ok (.aload_n 1, 1) := dk_43 (dk_at dksL_law_94 3 rfl rfl)
theorem dL_law_2355 : decode cL_law 2355 = .ok (.aload_n 0, 1) := dk_42 (dk_at dksL_law_94 4 rfl rfl)
theorem dL_law_2356 : decode cL_law 2356 = .ok (.iload 4, 2) := dk_21 4 (dk_at dksL_law_94 5 rfl rfl)
theorem dL_law_2358 : decode cL_law 2358 = .ok (.iconst 1, 1) := dk_4 (dk_at dksL_law_94 7 rfl rfl)
theorem dL_law_2359 : decode cL_law 2359 = .ok (.iadd, 1) := dk_96 (dk_at dksL_law_94 8 rfl rfl)
theorem dL_law_2360 : decode cL_law 2360 = .ok (.iaload, 1) := dk_46 (dk_at dksL_law_94 9 rfl rfl)
theorem dL_law_2361 : decode cL_law 2361 = .ok (.aload_n 0, 1) := dk_42 (dk_at dksL_law_94 10 rfl rfl)
theorem dL_law_2362 : decode cL_law 2362 = .ok (.iload 4, 2) := dk_21 4 (dk_at dksL_law_94 11 rfl rfl)
theorem dL_law_2364 : decode cL_law 2364 = .ok (.iconst 2, 1) := dk_5 (dk_at dksL_law_94 13 rfl rfl)
theorem dL_law_2365 : decode cL_law 2365 = .ok (.iadd, 1) := dk_96 (dk_at dksL_law_94 14 rfl rfl)
theorem dL_law_2366 : decode cL_law 2366 = .ok (.iaload, 1) := dk_46 (dk_at dksL_law_94 15 rfl rfl)
theorem dL_law_2367 : decode cL_law 2367 = .ok (.aload_n 3, 1) := dk_45 (dk_at dksL_law_94 16 rfl rfl)
theorem dL_law_2368 : decode cL_law 2368 = .ok (.invokestatic 250, 3) := dk_184 0 250 (dk_at dksL_law_94 17 rfl rfl)
theorem dL_law_2371 : decode cL_law 2371 = .ok (.istore 5, 2) := dk_54 5 (dk_at dksL_law_94 20 rfl rfl)
theorem dL_law_2373 : decode cL_law 2373 = .ok (.aload_n 2, 1) := dk_44 (dk_at dksL_law_94 22 rfl rfl)
theorem dL_law_2374 : decode cL_law 2374 = .ok (.aload_n 0, 1) := dk_42 (dk_at dksL_law_94 23 rfl rfl)
theorem dL_law_2375 : decode cL_law 2375 = .ok (.iload 4, 2) := dk_21 4 (dk_at dksL_law_95 0 rfl rfl)
theorem dL_law_2377 : decode cL_law 2377 = .ok (.iconst 1, 1) := dk_4 (dk_at dksL_law_95 2 rfl rfl)
theorem dL_law_2378 : decode cL_law 2378 = .ok (.iadd, 1) := dk_96 (dk_at dksL_law_95 3 rfl rfl)
theorem dL_law_2379 : decode cL_law 2379 = .ok (.iaload, 1) := dk_46 (dk_at dksL_law_95 4 rfl rfl)
theorem dL_law_2380 : decode cL_law 2380 = .ok (.aload_n 0, 1) := dk_42 (dk_at dksL_law_95 5 rfl rfl)
theorem dL_law_2381 : decode cL_law 2381 = .ok (.iload 4, 2) := dk_21 4 (dk_at dksL_law_95 6 rfl rfl)
theorem dL_law_2383 : decode cL_law 2383 = .ok (.iconst 2, 1) := dk_5 (dk_at dksL_law_95 8 rfl rfl)
theorem dL_law_2384 : decode cL_law 2384 = .ok (.iadd, 1) := dk_96 (dk_at dksL_law_95 9 rfl rfl)
theorem dL_law_2385 : decode cL_law 2385 = .ok (.iaload, 1) := dk_46 (dk_at dksL_law_95 10 rfl rfl)
theorem dL_law_2386 : decode cL_law 2386 = .ok (.invokevirtual 252, 3) := dk_182 0 252 (dk_at dksL_law_95 11 rfl rfl)
theorem dL_law_2389 : decode cL_law 2389 = .ok (.istore 6, 2) := dk_54 6 (dk_at dksL_law_95 14 rfl rfl)
theorem dL_law_2391 : decode cL_law 2391 = .ok (.aload_n 2, 1) := dk_44 (dk_at dksL_law_95 16 rfl rfl)
theorem dL_law_2392 : decode cL_law 2392 = .ok (.invokevirtual 137, 3) := dk_182 0 137 (dk_at dksL_law_95 17 rfl rfl)
theorem dL_law_2395 : decode cL_law 2395 = .ok (.iload 5, 2) := dk_21 5 (dk_at dksL_law_95 20 rfl rfl)
theorem dL_law_2397 : decode cL_law 2397 = .ok (.if_icmp .eq 5, 3) := dk_159 0 5 (dk_at dksL_law_96 0 rfl rfl)
theorem dL_law_2400 : decode cL_law 2400 = .ok (.iconst 0, 1) := dk_3 (dk_at dksL_law_96 3 rfl rfl)
theorem dL_law_2401 : decode cL_law 2401 = .ok (.ireturn, 1) := dk_172 (dk_at dksL_law_96 4 rfl rfl)
theorem dL_law_2402 : decode cL_law 2402 = .ok (.iload 5, 2) := dk_21 5 (dk_at dksL_law_96 5 rfl rfl)
theorem dL_law_2404 : decode cL_law 2404 = .ok (.ifCond .ne 15, 3) := dk_154 0 15 (dk_at dksL_law_96 7 rfl rfl)
theorem dL_law_2407 : decode cL_law 2407 = .ok (.aload_n 3, 1) := dk_45 (dk_at dksL_law_96 10 rfl rfl)
theorem dL_law_2408 : decode cL_law 2408 = .ok (.iconst 0, 1) := dk_3 (dk_at dksL_law_96 11 rfl rfl)
theorem dL_law_2409 : decode cL_law 2409 = .ok (.laload, 1) := dk_47 (dk_at dksL_law_96 12 rfl rfl)
theorem dL_law_2410 : decode cL_law 2410 = .ok (.iload 6, 2) := dk_21 6 (dk_at dksL_law_96 13 rfl rfl)
theorem dL_law_2412 : decode cL_law 2412 = .ok (.i2l, 1) := dk_133 (dk_at dksL_law_96 15 rfl rfl)
theorem dL_law_2413 : decode cL_law 2413 = .ok (.lcmp, 1) := dk_148 (dk_at dksL_law_96 16 rfl rfl)
theorem dL_law_2414 : decode cL_law 2414 = .ok (.ifCond .eq 5, 3) := dk_153 0 5 (dk_at dksL_law_96 17 rfl rfl)
theorem dL_law_2417 : decode cL_law 2417 = .ok (.iconst 0, 1) := dk_3 (dk_at dksL_law_96 20 rfl rfl)
theorem dL_law_2418 : decode cL_law 2418 = .ok (.ireturn, 1) := dk_172 (dk_at dksL_law_96 21 rfl rfl)
theorem dL_law_2419 : decode cL_law 2419 = .ok (.goto 287, 3) := dk_167 1 31 (dk_at dksL_law_97 0 rfl rfl)
theorem dL_law_2422 : decode cL_law 2422 = .ok (.aload_n 1, 1) := dk_43 (dk_at dksL_law_97 3 rfl rfl)
theorem dL_law_2423 : decode cL_law 2423 = .ok (.aload_n 0, 1) := dk_42 (dk_at dksL_law_97 4 rfl rfl)
theorem dL_law_2424 : decode cL_law 2424 = .ok (.iload 4, 2) := dk_21 4 (dk_at dksL_law_97 5 rfl rfl)
theorem dL_law_2426 : decode cL_law 2426 = .ok (.iconst 1, 1) := dk_4 (dk_at dksL_law_97 7 rfl rfl)
theorem dL_law_2427 : decode cL_law 2427 = .ok (.iadd, 1) := dk_96 (dk_at dksL_law_97 8 rfl rfl)
theorem dL_law_2428 : decode cL_law 2428 = .ok (.iaload, 1) := dk_46 (dk_at dksL_law_97 9 rfl rfl)
theorem dL_law_2429 : decode cL_law 2429 = .ok (.aload_n 0, 1) := dk_42 (dk_at dksL_law_97 10 rfl rfl)
theorem dL_law_2430 : decode cL_law 2430 = .ok (.iload 4, 2) := dk_21 4 (dk_at dksL_law_97 11 rfl rfl)
theorem dL_law_2432 : decode cL_law 2432 = .ok (.iconst 2, 1) := dk_5 (dk_at dksL_law_97 13 rfl rfl)
theorem dL_law_2433 : decode cL_law 2433 = .ok (.iadd, 1) := dk_96 (dk_at dksL_law_97 14 rfl rfl)
theorem dL_law_2434 : decode cL_law 2434 = .ok (.iaload, 1) := dk_46 (dk_at dksL_law_97 15 rfl rfl)
theorem dL_law_2435 : decode cL_law 2435 = .ok (.aload_n 3, 1) := dk_45 (dk_at dksL_law_97 16 rfl rfl)
theorem dL_law_2436 : decode cL_law 2436 = .ok (.invokestatic 253, 3) := dk_184 0 253 (dk_at dksL_law_97 17 rfl rfl)
theorem dL_law_2439 : decode cL_law 2439 = .ok (.istore 5, 2) := dk_54 5 (dk_at dksL_law_97 20 rfl rfl)
theorem dL_law_2441 : decode cL_law 2441 = .ok (.aload_n 2, 1) := dk_44 (dk_at dksL_law_97 22 rfl rfl)
theorem dL_law_2442 : decode cL_law 2442 = .ok (.aload_n 0, 1) := dk_42 (dk_at dksL_law_97 23 rfl rfl)
theorem dL_law_2443 : decode cL_law 2443 = .ok (.iload 4, 2) := dk_21 4 (dk_at dksL_law_98 0 rfl rfl)
theorem dL_law_2445 : decode cL_law 2445 = .ok (.iconst 1, 1) := dk_4 (dk_at dksL_law_98 2 rfl rfl)
theorem dL_law_2446 : decode cL_law 2446 = .ok (.iadd, 1) := dk_96 (dk_at dksL_law_98 3 rfl rfl)
theorem dL_law_2447 : decode cL_law 2447 = .ok (.iaload, 1) := dk_46 (dk_at dksL_law_98 4 rfl rfl)
theorem dL_law_2448 : decode cL_law 2448 = .ok (.aload_n 0, 1) := dk_42 (dk_at dksL_law_98 5 rfl rfl)
theorem dL_law_2449 : decode cL_law 2449 = .ok (.iload 4, 2) := dk_21 4 (dk_at dksL_law_98 6 rfl rfl)
theorem dL_law_2451 : decode cL_law 2451 = .ok (.iconst 2, 1) := dk_5 (dk_at dksL_law_98 8 rfl rfl)
theorem dL_law_2452 : decode cL_law 2452 = .ok (.iadd, 1) := dk_96 (dk_at dksL_law_98 9 rfl rfl)
theorem dL_law_2453 : decode cL_law 2453 = .ok (.iaload, 1) := dk_46 (dk_at dksL_law_98 10 rfl rfl)
theorem dL_law_2454 : decode cL_law 2454 = .ok (.invokevirtual 255, 3) := dk_182 0 255 (dk_at dksL_law_98 11 rfl rfl)
theorem dL_law_2457 : decode cL_law 2457 = .ok (.istore 6, 2) := dk_54 6 (dk_at dksL_law_98 14 rfl rfl)
theorem dL_law_2459 : decode cL_law 2459 = .ok (.aload_n 2, 1) := dk_44 (dk_at dksL_law_98 16 rfl rfl)
theorem dL_law_2460 : decode cL_law 2460 = .ok (.invokevirtual 137, 3) := dk_182 0 137 (dk_at dksL_law_98 17 rfl rfl)
theorem dL_law_2463 : decode cL_law 2463 = .ok (.iload 5, 2) := dk_21 5 (dk_at dksL_law_98 20 rfl rfl)
theorem dL_law_2465 : decode cL_law 2465 = .ok (.if_icmp .eq 5, 3) := dk_159 0 5 (dk_at dksL_law_99 0 rfl rfl)
theorem dL_law_2468 : decode cL_law 2468 = .ok (.iconst 0, 1) := dk_3 (dk_at dksL_law_99 3 rfl rfl)
theorem dL_law_2469 : decode cL_law 2469 = .ok (.ireturn, 1) := dk_172 (dk_at dksL_law_99 4 rfl rfl)
theorem dL_law_2470 : decode cL_law 2470 = .ok (.iload 5, 2) := dk_21 5 (dk_at dksL_law_99 5 rfl rfl)
theorem dL_law_2472 : decode cL_law 2472 = .ok (.ifCond .ne 15, 3) := dk_154 0 15 (dk_at dksL_law_99 7 rfl rfl)
theorem dL_law_2475 : decode cL_law 2475 = .ok (.aload_n 3, 1) := dk_45 (dk_at dksL_law_99 10 rfl rfl)
theorem dL_law_2476 : decode cL_law 2476 = .ok (.iconst 0, 1) := dk_3 (dk_at dksL_law_99 11 rfl rfl)
theorem dL_law_2477 : decode cL_law 2477 = .ok (.laload, 1) := dk_47 (dk_at dksL_law_99 12 rfl rfl)
theorem dL_law_2478 : decode cL_law 2478 = .ok (.iload 6, 2) := dk_21 6 (dk_at dksL_law_99 13 rfl rfl)
theorem dL_law_2480 : decode cL_law 2480 = .ok (.i2l, 1) := dk_133 (dk_at dksL_law_99 15 rfl rfl)
theorem dL_law_2481 : decode cL_law 2481 = .ok (.lcmp, 1) := dk_148 (dk_at dksL_law_99 16 rfl rfl)
theorem dL_law_2482 : decode cL_law 2482 = .ok (.ifCond .eq 5, 3) := dk_153 0 5 (dk_at dksL_law_99 17 rfl rfl)
theorem dL_law_2485 : decode cL_law 2485 = .ok (.iconst 0, 1) := dk_3 (dk_at dksL_law_99 20 rfl rfl)
theorem dL_law_2486 : decode cL_law 2486 = .ok (.ireturn, 1) := dk_172 (dk_at dksL_law_99 21 rfl rfl)
theorem dL_law_2487 : decode cL_law 2487 = .ok (.goto 219, 3) := dk_167 0 219 (dk_at dksL_law_100 0 rfl rfl)
theorem dL_law_2490 : decode cL_law 2490 = .ok (.aload_n 1, 1) := dk_43 (dk_at dksL_law_100 3 rfl rfl)
theorem dL_law_2491 : decode cL_law 2491 = .ok (.aload_n 0, 1) := dk_42 (dk_at dksL_law_100 4 rfl rfl)
theorem dL_law_2492 : decode cL_law 2492 = .ok (.iload 4, 2) := dk_21 4 (dk_at dksL_law_100 5 rfl rfl)
theorem dL_law_2494 : decode cL_law 2494 = .ok (.iconst 1, 1) := dk_4 (dk_at dksL_law_100 7 rfl rfl)
theorem dL_law_2495 : decode cL_law 2495 = .ok (.iadd, 1) := dk_96 (dk_at dksL_law_100 8 rfl rfl)
theorem dL_law_2496 : decode cL_law 2496 = .ok (.iaload, 1) := dk_46 (dk_at dksL_law_100 9 rfl rfl)
theorem dL_law_2497 : decode cL_law 2497 = .ok (.aload_n 0, 1) := dk_42 (dk_at dksL_law_100 10 rfl rfl)
theorem dL_law_2498 : decode cL_law 2498 = .ok (.iload 4, 2) := dk_21 4 (dk_at dksL_law_100 11 rfl rfl)
theorem dL_law_2500 : decode cL_law 2500 = .ok (.iconst 2, 1) := dk_5 (dk_at dksL_law_100 13 rfl rfl)
theorem dL_law_2501 : decode cL_law 2501 = .ok (.iadd, 1) := dk_96 (dk_at dksL_law_100 14 rfl rfl)
theorem dL_law_2502 : decode cL_law 2502 = .ok (.iaload, 1) := dk_46 (dk_at dksL_law_100 15 rfl rfl)
theorem dL_law_2503 : decode cL_law 2503 = .ok (.aload_n 3, 1) := dk_45 (dk_at dksL_law_100 16 rfl rfl)
theorem dL_law_2504 : decode cL_law 2504 = .ok (.invokestatic 256, 3) := dk_184 1 0 (dk_at dksL_law_100 17 rfl rfl)
theorem dL_law_2507 : decode cL_law 2507 = .ok (.istore 5, 2) := dk_54 5 (dk_at dksL_law_100 20 rfl rfl)
theorem dL_law_2509 : decode cL_law 2509 = .ok (.aload_n 2, 1) := dk_44 (dk_at dksL_law_100 22 rfl rfl)
theorem dL_law_2510 : decode cL_law 2510 = .ok (.aload_n 0, 1) := dk_42 (dk_at dksL_law_100 23 rfl rfl)
theorem dL_law_2511 : decode cL_law 2511 = .ok (.iload 4, 2) := dk_21 4 (dk_at dksL_law_101 0 rfl rfl)
theorem dL_law_2513 : decode cL_law 2513 = .ok (.iconst 1, 1) := dk_4 (dk_at dksL_law_101 2 rfl rfl)
theorem dL_law_2514 : decode cL_law 2514 = .ok (.iadd, 1) := dk_96 (dk_at dksL_law_101 3 rfl rfl)
theorem dL_law_2515 : decode cL_law 2515 = .ok (.iaload, 1) := dk_46 (dk_at dksL_law_101 4 rfl rfl)
theorem dL_law_2516 : decode cL_law 2516 = .ok (.aload_n 0, 1) := dk_42 (dk_at dksL_law_101 5 rfl rfl)
theorem dL_law_2517 : decode cL_law 2517 = .ok (.iload 4, 2) := dk_21 4 (dk_at dksL_law_101 6 rfl rfl)
theorem dL_law_2519 : decode cL_law 2519 = .ok (.iconst 2, 1) := dk_5 (dk_at dksL_law_101 8 rfl rfl)
theorem dL_law_2520 : decode cL_law 2520 = .ok (.iadd, 1) := dk_96 (dk_at dksL_law_101 9 rfl rfl)
theorem dL_law_2521 : decode cL_law 2521 = .ok (.iaload, 1) := dk_46 (dk_at dksL_law_101 10 rfl rfl)
theorem dL_law_2522 : decode cL_law 2522 = .ok (.invokevirtual 258, 3) := dk_182 1 2 (dk_at dksL_law_101 11 rfl rfl)
theorem dL_law_2525 : decode cL_law 2525 = .ok (.istore 6, 2) := dk_54 6 (dk_at dksL_law_101 14 rfl rfl)
theorem dL_law_2527 : decode cL_law 2527 = .ok (.aload_n 2, 1) := dk_44 (dk_at dksL_law_101 16 rfl rfl)
theorem dL_law_2528 : decode cL_law 2528 = .ok (.invokevirtual 137, 3) := dk_182 0 137 (dk_at dksL_law_101 17 rfl rfl)
theorem dL_law_2531 : decode cL_law 2531 = .ok (.iload 5, 2) := dk_21 5 (dk_at dksL_law_101 20 rfl rfl)
theorem dL_law_2533 : decode cL_law 2533 = .ok (.if_icmp .eq 5, 3) := dk_159 0 5 (dk_at dksL_law_102 0 rfl rfl)
theorem dL_law_2536 : decode cL_law 2536 = .ok (.iconst 0, 1) := dk_3 (dk_at dksL_law_102 3 rfl rfl)
theorem dL_law_2537 : decode cL_law 2537 = .ok (.ireturn, 1) := dk_172 (dk_at dksL_law_102 4 rfl rfl)
theorem dL_law_2538 : decode cL_law 2538 = .ok (.iload 5, 2) := dk_21 5 (dk_at dksL_law_102 5 rfl rfl)
theorem dL_law_2540 : decode cL_law 2540 = .ok (.ifCond .ne 15, 3) := dk_154 0 15 (dk_at dksL_law_102 7 rfl rfl)
theorem dL_law_2543 : decode cL_law 2543 = .ok (.aload_n 3, 1) := dk_45 (dk_at dksL_law_102 10 rfl rfl)
theorem dL_law_2544 : decode cL_law 2544 = .ok (.iconst 0, 1) := dk_3 (dk_at dksL_law_102 11 rfl rfl)
theorem dL_law_2545 : decode cL_law 2545 = .ok (.laload, 1) := dk_47 (dk_at dksL_law_102 12 rfl rfl)
theorem dL_law_2546 : decode cL_law 2546 = .ok (.iload 6, 2) := dk_21 6 (dk_at dksL_law_102 13 rfl rfl)
theorem dL_law_2548 : decode cL_law 2548 = .ok (.i2l, 1) := dk_133 (dk_at dksL_law_102 15 rfl rfl)
theorem dL_law_2549 : decode cL_law 2549 = .ok (.lcmp, 1) := dk_148 (dk_at dksL_law_102 16 rfl rfl)
theorem dL_law_2550 : decode cL_law 2550 = .ok (.ifCond .eq 5, 3) := dk_153 0 5 (dk_at dksL_law_102 17 rfl rfl)
theorem dL_law_2553 : decode cL_law 2553 = .ok (.iconst 0, 1) := dk_3 (dk_at dksL_law_102 20 rfl rfl)
theorem dL_law_2554 : decode cL_law 2554 = .ok (.ireturn, 1) := dk_172 (dk_at dksL_law_102 21 rfl rfl)
theorem dL_law_2555 : decode cL_law 2555 = .ok (.goto 151, 3) := dk_167 0 151 (dk_at dksL_law_103 0 rfl rfl)
theorem dL_law_2558 : decode cL_law 2558 = .ok (.aload_n 1, 1) := dk_43 (dk_at dksL_law_103 3 rfl rfl)
theorem dL_law_2559 : decode cL_law 2559 = .ok (.aload_n 0, 1) := dk_42 (dk_at dksL_law_103 4 rfl rfl)
theorem dL_law_2560 : decode cL_law 2560 = .ok (.iload 4, 2) := dk_21 4 (dk_at dksL_law_103 5 rfl rfl)
theorem dL_law_2562 : decode cL_law 2562 = .ok (.iconst 1, 1) := dk_4 (dk_at dksL_law_103 7 rfl rfl)
theorem dL_law_2563 : decode cL_law 2563 = .ok (.iadd, 1) := dk_96 (dk_at dksL_law_103 8 rfl rfl)
theorem dL_law_2564 : decode cL_law 2564 = .ok (.iaload, 1) := dk_46 (dk_at dksL_law_103 9 rfl rfl)
theorem dL_law_2565 : decode cL_law 2565 = .ok (.aload_n 3, 1) := dk_45 (dk_at dksL_law_103 10 rfl rfl)
theorem dL_law_2566 : decode cL_law 2566 = .ok (.invokestatic 259, 3) := dk_184 1 3 (dk_at dksL_law_103 11 rfl rfl)
theorem dL_law_2569 : decode cL_law 2569 = .ok (.istore 5, 2) := dk_54 5 (dk_at dksL_law_103 14 rfl rfl)
theorem dL_law_2571 : decode cL_law 2571 = .ok (.aload_n 2, 1) := dk_44 (dk_at dksL_law_103 16 rfl rfl)
theorem dL_law_2572 : decode cL_law 2572 = .ok (.aload_n 0, 1) := dk_42 (dk_at dksL_law_103 17 rfl rfl)
theorem dL_law_2573 : decode cL_law 2573 = .ok (.iload 4, 2) := dk_21 4 (dk_at dksL_law_103 18 rfl rfl)
theorem dL_law_2575 : decode cL_law 2575 = .ok (.iconst 1, 1) := dk_4 (dk_at dksL_law_103 20 rfl rfl)
theorem dL_law_2576 : decode cL_law 2576 = .ok (.iadd, 1) := dk_96 (dk_at dksL_law_103 21 rfl rfl)
theorem dL_law_2577 : decode cL_law 2577 = .ok (.iaload, 1) := dk_46 (dk_at dksL_law_103 22 rfl rfl)
theorem dL_law_2578 : decode cL_law 2578 = .ok (.invokevirtual 261, 3) := dk_182 1 5 (dk_at dksL_law_104 0 rfl rfl)
theorem dL_law_2581 : decode cL_law 2581 = .ok (.istore 6, 2) := dk_54 6 (dk_at dksL_law_104 3 rfl rfl)
theorem dL_law_2583 : decode cL_law 2583 = .ok (.aload_n 2, 1) := dk_44 (dk_at dksL_law_104 5 rfl rfl)
theorem dL_law_2584 : decode cL_law 2584 = .ok (.invokevirtual 137, 3) := dk_182 0 137 (dk_at dksL_law_104 6 rfl rfl)
theorem dL_law_2587 : decode cL_law 2587 = .ok (.iload 5, 2) := dk_21 5 (dk_at dksL_law_104 9 rfl rfl)
theorem dL_law_2589 : decode cL_law 2589 = .ok (.if_icmp .eq 5, 3) := dk_159 0 5 (dk_at dksL_law_104 11 rfl rfl)
theorem dL_law_2592 : decode cL_law 2592 = .ok (.iconst 0, 1) := dk_3 (dk_at dksL_law_104 14 rfl rfl)
theorem dL_law_2593 : decode cL_law 2593 = .ok (.ireturn, 1) := dk_172 (dk_at dksL_law_104 15 rfl rfl)
theorem dL_law_2594 : decode cL_law 2594 = .ok (.iload 5, 2) := dk_21 5 (dk_at dksL_law_104 16 rfl rfl)
theorem dL_law_2596 : decode cL_law 2596 = .ok (.ifCond .ne 15, 3) := dk_154 0 15 (dk_at dksL_law_104 18 rfl rfl)
theorem dL_law_2599 : decode cL_law 2599 = .ok (.aload_n 3, 1) := dk_45 (dk_at dksL_law_104 21 rfl rfl)
theorem dL_law_2600 : decode cL_law 2600 = .ok (.iconst 0, 1) := dk_3 (dk_at dksL_law_104 22 rfl rfl)
theorem dL_law_2601 : decode cL_law 2601 = .ok (.laload, 1) := dk_47 (dk_at dksL_law_104 23 rfl rfl)
theorem dL_law_2602 : decode cL_law 2602 = .ok (.iload 6, 2) := dk_21 6 (dk_at dksL_law_105 0 rfl rfl)
theorem dL_law_2604 : decode cL_law 2604 = .ok (.i2l, 1) := dk_133 (dk_at dksL_law_105 2 rfl rfl)
theorem dL_law_2605 : decode cL_law 2605 = .ok (.lcmp, 1) := dk_148 (dk_at dksL_law_105 3 rfl rfl)
theorem dL_law_2606 : decode cL_law 2606 = .ok (.ifCond .eq 5, 3) := dk_153 0 5 (dk_at dksL_law_105 4 rfl rfl)
theorem dL_law_2609 : decode cL_law 2609 = .ok (.iconst 0, 1) := dk_3 (dk_at dksL_law_105 7 rfl rfl)
theorem dL_law_2610 : decode cL_law 2610 = .ok (.ireturn, 1) := dk_172 (dk_at dksL_law_105 8 rfl rfl)
theorem dL_law_2611 : decode cL_law 2611 = .ok (.goto 95, 3) := dk_167 0 95 (dk_at dksL_law_105 9 rfl rfl)
theorem dL_law_2614 : decode cL_law 2614 = .ok (.aload_n 1, 1) := dk_43 (dk_at dksL_law_105 12 rfl rfl)
theorem dL_law_2615 : decode cL_law 2615 = .ok (.aload_n 0, 1) := dk_42 (dk_at dksL_law_105 13 rfl rfl)
theorem dL_law_2616 : decode cL_law 2616 = .ok (.iload 4, 2) := dk_21 4 (dk_at dksL_law_105 14 rfl rfl)
theorem dL_law_2618 : decode cL_law 2618 = .ok (.iconst 1, 1) := dk_4 (dk_at dksL_law_105 16 rfl rfl)
theorem dL_law_2619 : decode cL_law 2619 = .ok (.iadd, 1) := dk_96 (dk_at dksL_law_105 17 rfl rfl)
theorem dL_law_2620 : decode cL_law 2620 = .ok (.iaload, 1) := dk_46 (dk_at dksL_law_105 18 rfl rfl)
theorem dL_law_2621 : decode cL_law 2621 = .ok (.aload_n 0, 1) := dk_42 (dk_at dksL_law_105 19 rfl rfl)
theorem dL_law_2622 : decode cL_law 2622 = .ok (.iload 4, 2) := dk_21 4 (dk_at dksL_law_105 20 rfl rfl)
theorem dL_law_2624 : decode cL_law 2624 = .ok (.iconst 2, 1) := dk_5 (dk_at dksL_law_105 22 rfl rfl)
theorem dL_law_2625 : decode cL_law 2625 = .ok (.iadd, 1) := dk_96 (dk_at dksL_law_105 23 rfl rfl)
theorem dL_law_2626 : decode cL_law 2626 = .ok (.iaload, 1) := dk_46 (dk_at dksL_law_106 0 rfl rfl)
theorem dL_law_2627 : decode cL_law 2627 = .ok (.aload_n 3, 1) := dk_45 (dk_at dksL_law_106 1 rfl rfl)
theorem dL_law_2628 : decode cL_law 2628 = .ok (.invokestatic 262, 3) := dk_184 1 6 (dk_at dksL_law_106 2 rfl rfl)
theorem dL_law_2631 : decode cL_law 2631 = .ok (.istore 5, 2) := dk_54 5 (dk_at dksL_law_106 5 rfl rfl)
theorem dL_law_2633 : decode cL_law 2633 = .ok (.aload_n 2, 1) := dk_44 (dk_at dksL_law_106 7 rfl rfl)
theorem dL_law_2634 : decode cL_law 2634 = .ok (.aload_n 0, 1) := dk_42 (dk_at dksL_law_106 8 rfl rfl)
theorem dL_law_2635 : decode cL_law 2635 = .ok (.iload 4, 2) := dk_21 4 (dk_at dksL_law_106 9 rfl rfl)
theorem dL_law_2637 : decode cL_law 2637 = .ok (.iconst 1, 1) := dk_4 (dk_at dksL_law_106 11 rfl rfl)
theorem dL_law_2638 : decode cL_law 2638 = .ok (.iadd, 1) := dk_96 (dk_at dksL_law_106 12 rfl rfl)
theorem dL_law_2639 : decode cL_law 2639 = .ok (.iaload, 1) := dk_46 (dk_at dksL_law_106 13 rfl rfl)
theorem dL_law_2640 : decode cL_law 2640 = .ok (.aload_n 0, 1) := dk_42 (dk_at dksL_law_106 14 rfl rfl)
theorem dL_law_2641 : decode cL_law 2641 = .ok (.iload 4, 2) := dk_21 4 (dk_at dksL_law_106 15 rfl rfl)
theorem dL_law_2643 : decode cL_law 2643 = .ok (.iconst 2, 1) := dk_5 (dk_at dksL_law_106 17 rfl rfl)
theorem dL_law_2644 : decode cL_law 2644 = .ok (.iadd, 1) := dk_96 (dk_at dksL_law_106 18 rfl rfl)
theorem dL_law_2645 : decode cL_law 2645 = .ok (.iaload, 1) := dk_46 (dk_at dksL_law_106 19 rfl rfl)
theorem dL_law_2646 : decode cL_law 2646 = .ok (.invokevirtual 264, 3) := dk_182 1 8 (dk_at dksL_law_106 20 rfl rfl)
theorem dL_law_2649 : decode cL_law 2649 = .ok (.istore 6, 2) := dk_54 6 (dk_at dksL_law_107 0 rfl rfl)
theorem dL_law_2651 : decode cL_law 2651 = .ok (.aload_n 2, 1) := dk_44 (dk_at dksL_law_107 2 rfl rfl)
theorem dL_law_2652 : decode cL_law 2652 = .ok (.invokevirtual 137, 3) := dk_182 0 137 (dk_at dksL_law_107 3 rfl rfl)
theorem dL_law_2655 : decode cL_law 2655 = .ok (.iload 5, 2) := dk_21 5 (dk_at dksL_law_107 6 rfl rfl)
theorem dL_law_2657 : decode cL_law 2657 = .ok (.if_icmp .eq 5, 3) := dk_159 0 5 (dk_at dksL_law_107 8 rfl rfl)
theorem dL_law_2660 : decode cL_law 2660 = .ok (.iconst 0, 1) := dk_3 (dk_at dksL_law_107 11 rfl rfl)
theorem dL_law_2661 : decode cL_law 2661 = .ok (.ireturn, 1) := dk_172 (dk_at dksL_law_107 12 rfl rfl)
theorem dL_law_2662 : decode cL_law 2662 = .ok (.iload 5, 2) := dk_21 5 (dk_at dksL_law_107 13 rfl rfl)
theorem dL_law_2664 : decode cL_law 2664 = .ok (.ifCond .ne 15, 3) := dk_154 0 15 (dk_at dksL_law_107 15 rfl rfl)
theorem dL_law_2667 : decode cL_law 2667 = .ok (.aload_n 3, 1) := dk_45 (dk_at dksL_law_107 18 rfl rfl)
theorem dL_law_2668 : decode cL_law 2668 = .ok (.iconst 0, 1) := dk_3 (dk_at dksL_law_107 19 rfl rfl)
theorem dL_law_2669 : decode cL_law 2669 = .ok (.laload, 1) := dk_47 (dk_at dksL_law_107 20 rfl rfl)
theorem dL_law_2670 : decode cL_law 2670 = .ok (.iload 6, 2) := dk_21 6 (dk_at dksL_law_107 21 rfl rfl)
theorem dL_law_2672 : decode cL_law 2672 = .ok (.i2l, 1) := dk_133 (dk_at dksL_law_107 23 rfl rfl)
theorem dL_law_2673 : decode cL_law 2673 = .ok (.lcmp, 1) := dk_148 (dk_at dksL_law_108 0 rfl rfl)
theorem dL_law_2674 : decode cL_law 2674 = .ok (.ifCond .eq 5, 3) := dk_153 0 5 (dk_at dksL_law_108 1 rfl rfl)
theorem dL_law_2677 : decode cL_law 2677 = .ok (.iconst 0, 1) := dk_3 (dk_at dksL_law_108 4 rfl rfl)
theorem dL_law_2678 : decode cL_law 2678 = .ok (.ireturn, 1) := dk_172 (dk_at dksL_law_108 5 rfl rfl)
theorem dL_law_2679 : decode cL_law 2679 = .ok (.goto 27, 3) := dk_167 0 27 (dk_at dksL_law_108 6 rfl rfl)
theorem dL_law_2682 : decode cL_law 2682 = .ok (.aload_n 1, 1) := dk_43 (dk_at dksL_law_108 9 rfl rfl)
theorem dL_law_2683 : decode cL_law 2683 = .ok (.invokevirtual 265, 3) := dk_182 1 9 (dk_at dksL_law_108 10 rfl rfl)
theorem dL_law_2686 : decode cL_law 2686 = .ok (.aload_n 2, 1) := dk_44 (dk_at dksL_law_108 13 rfl rfl)
theorem dL_law_2687 : decode cL_law 2687 = .ok (.invokevirtual 268, 3) := dk_182 1 12 (dk_at dksL_law_108 14 rfl rfl)
theorem dL_law_2690 : decode cL_law 2690 = .ok (.goto 16, 3) := dk_167 0 16 (dk_at dksL_law_108 17 rfl rfl)
theorem dL_law_2693 : decode cL_law 2693 = .ok (.aload_n 1, 1) := dk_43 (dk_at dksL_law_108 20 rfl rfl)
theorem dL_law_2694 : decode cL_law 2694 = .ok (.invokevirtual 269, 3) := dk_182 1 13 (dk_at dksL_law_108 21 rfl rfl)
theorem dL_law_2697 : decode cL_law 2697 = .ok (.aload_n 2, 1) := dk_44 (dk_at dksL_law_109 0 rfl rfl)
theorem dL_law_2698 : decode cL_law 2698 = .ok (.invokevirtual 273, 3) := dk_182 1 17 (dk_at dksL_law_109 1 rfl rfl)
theorem dL_law_2701 : decode cL_law 2701 = .ok (.if_icmp .eq 5, 3) := dk_159 0 5 (dk_at dksL_law_109 4 rfl rfl)
theorem dL_law_2704 : decode cL_law 2704 = .ok (.iconst 0, 1) := dk_3 (dk_at dksL_law_109 7 rfl rfl)
theorem dL_law_2705 : decode cL_law 2705 = .ok (.ireturn, 1) := dk_172 (dk_at dksL_law_109 8 rfl rfl)
theorem dL_law_2706 : decode cL_law 2706 = .ok (.iinc 4 6, 3) := dk_132 4 6 (dk_at dksL_law_109 9 rfl rfl)
theorem dL_law_2709 : decode cL_law 2709 = .ok (.goto (-2686), 3) := dk_167 245 130 (dk_at dksL_law_109 12 rfl rfl)
theorem dL_law_2712 : decode cL_law 2712 = .ok (.iconst 1, 1) := dk_4 (dk_at dksL_law_109 15 rfl rfl)
theorem dL_law_2713 : decode cL_law 2713 = .ok (.ireturn, 1) := dk_172 (dk_at dksL_law_109 16 rfl rfl)
