/-! DripCups -/
set_option maxRecDepth 100000
def RX1 : String := "DripCups"
def TX1 : u_T := fun k => match k with
  | 0 => ("DripCups", "values", "[I", true)
  | 1 => ("DripCups", "cavern", "LDripCups$Cave;", false)
  | 2 => ("DripCups", "night", "LDripCups$Night;", false)
  | 3 => ("DripCups", "tried", "LDripCups$Night;", true)
  | 4 => ("DripCups", "tape", "[B", true)
  | 5 => ("DripCups", "taped", "I", false)
  | 6 => ("DripCups", "faultPlace", "I", false)
  | 7 => ("DripCups", "refused", "[I", true)
  | 8 => ("DripCups", "acts", "Ljava/util/List;", false)
  | 9 => ("DripCups", "heard", "Ljava/util/List;", false)
  | 10 => ("DripCups", "nightThen", "LDripCups$Night;", false)
  | 11 => ("DripCups", "actsThen", "Ljava/util/List;", false)
  | 12 => ("DripCups", "heardThen", "Ljava/util/List;", false)
  | _ => ("DripCups", "seed", "I", false)
def tyX1 : Nat → FieldType := fun k => match k with
  | 0 => .array .int
  | 1 => .object "DripCups$Cave"
  | 2 => .object "DripCups$Night"
  | 3 => .object "DripCups$Night"
  | 4 => .array .byte
  | 5 => .int
  | 6 => .int
  | 7 => .array .int
  | 8 => .object "java/util/List"
  | 9 => .object "java/util/List"
  | 10 => .object "DripCups$Night"
  | 11 => .object "java/util/List"
  | 12 => .object "java/util/List"
  | _ => .int
abbrev wsX10 : List Cond := u_ws RX1 TX1 14
set_option maxRecDepth 100000 in
theorem nmX1 : ∀ a, a < 14 → ∀ b, b < 14 → a ≠ b → (TX1 a).2.1 ≠ (TX1 b).2.1 := by decide +kernel
set_option maxRecDepth 100000 in
theorem tyX1_ok : ∀ k, k < 14 → parseFieldDescriptor (TX1 k).2.2.1 = some (tyX1 k) := by decide +kernel
abbrev cX1_init : ByteArray := prog_1_method_5_code
def yX1_init : MethodName := ⟨RX1, "<init>", "()V"⟩
def dkwX1_init_3 : List UInt8 := [89, 183, 0, 51, 181, 0, 52, 42, 187, 0, 49, 89, 183, 0, 51, 181, 0, 56, 177]
abbrev dktX1_init_3 : List UInt8 := dkwX1_init_3 ++ []
def dkwX1_init_2 : List UInt8 := [17, 2, 188, 188, 8, 181, 0, 38, 42, 2, 181, 0, 42, 42, 6, 188, 10, 181, 0, 46, 42, 187, 0, 49]
abbrev dktX1_init_2 : List UInt8 := dkwX1_init_2 ++ dktX1_init_3
def dkwX1_init_1 : List UInt8 := [187, 0, 26, 89, 42, 183, 0, 28, 181, 0, 31, 42, 187, 0, 26, 89, 42, 183, 0, 28, 181, 0, 35, 42]
abbrev dktX1_init_1 : List UInt8 := dkwX1_init_1 ++ dktX1_init_2
def dkwX1_init_0 : List UInt8 := [42, 183, 0, 10, 42, 16, 6, 188, 10, 181, 0, 13, 42, 187, 0, 19, 89, 183, 0, 21, 181, 0, 22, 42]
abbrev dktX1_init_0 : List UInt8 := dkwX1_init_0 ++ dktX1_init_1
theorem dksX1_init_0 : cX1_init.data.toList.drop 0 = dktX1_init_0 := by decide +kernel
theorem dksX1_init_1 : cX1_init.data.toList.drop 24 = dktX1_init_1 := dk_seg dksX1_init_0 24 rfl rfl
theorem dksX1_init_2 : cX1_init.data.toList.drop 48 = dktX1_init_2 := dk_seg dksX1_init_1 24 rfl rfl
theorem dksX1_init_3 : cX1_init.data.toList.drop 72 = dktX1_init_3 := dk_seg dksX1_init_2 24 rfl rfl
theorem dX1_init_0 : decode cX1_init 0 = .ok (.aload_n 0, 1) := dk_42 (dk_at dksX1_init_0 0 rfl rfl)
theorem dX1_init_1 : decode cX1_init 1 = .ok (.invokespecial 10, 3) := dk_183 0 10 (dk_at dksX1_init_0 1 rfl rfl)
theorem dX1_init_4 : decode cX1_init 4 = .ok (.aload_n 0, 1) := dk_42 (dk_at dksX1_init_0 4 rfl rfl)
theorem dX1_init_5 : decode cX1_init 5 = .ok (.bipush 6, 2) := dk_16 6 (dk_at dksX1_init_0 5 rfl rfl)
theorem dX1_init_7 : decode cX1_init 7 = .ok (.newarray .int, 2) := dk_188_10 (dk_at dksX1_init_0 7 rfl rfl)
theorem dX1_init_9 : decode cX1_init 9 = .ok (.putfield 13, 3) := dk_181 0 13 (dk_at dksX1_init_0 9 rfl rfl)
theorem dX1_init_12 : decode cX1_init 12 = .ok (.aload_n 0, 1) := dk_42 (dk_at dksX1_init_0 12 rfl rfl)
theorem dX1_init_13 : decode cX1_init 13 = .ok (.new 19, 3) := dk_187 0 19 (dk_at dksX1_init_0 13 rfl rfl)
theorem dX1_init_16 : decode cX1_init 16 = .ok (.dup, 1) := dk_89 (dk_at dksX1_init_0 16 rfl rfl)
theorem dX1_init_17 : decode cX1_init 17 = .ok (.invokespecial 21, 3) := dk_183 0 21 (dk_at dksX1_init_0 17 rfl rfl)
theorem dX1_init_20 : decode cX1_init 20 = .ok (.putfield 22, 3) := dk_181 0 22 (dk_at dksX1_init_0 20 rfl rfl)
theorem dX1_init_23 : decode cX1_init 23 = .ok (.aload_n 0, 1) := dk_42 (dk_at dksX1_init_0 23 rfl rfl)
theorem dX1_init_24 : decode cX1_init 24 = .ok (.new 26, 3) := dk_187 0 26 (dk_at dksX1_init_1 0 rfl rfl)
theorem dX1_init_27 : decode cX1_init 27 = .ok (.dup, 1) := dk_89 (dk_at dksX1_init_1 3 rfl rfl)
theorem dX1_init_28 : decode cX1_init 28 = .ok (.aload_n 0, 1) := dk_42 (dk_at dksX1_init_1 4 rfl rfl)
theorem dX1_init_29 : decode cX1_init 29 = .ok (.invokespecial 28, 3) := dk_183 0 28 (dk_at dksX1_init_1 5 rfl rfl)
theorem dX1_init_32 : decode cX1_init 32 = .ok (.putfield 31, 3) := dk_181 0 31 (dk_at dksX1_init_1 8 rfl rfl)
theorem dX1_init_35 : decode cX1_init 35 = .ok (.aload_n 0, 1) := dk_42 (dk_at dksX1_init_1 11 rfl rfl)
theorem dX1_init_36 : decode cX1_init 36 = .ok (.new 26, 3) := dk_187 0 26 (dk_at dksX1_init_1 12 rfl rfl)
theorem dX1_init_39 : decode cX1_init 39 = .ok (.dup, 1) := dk_89 (dk_at dksX1_init_1 15 rfl rfl)
theorem dX1_init_40 : decode cX1_init 40 = .ok (.aload_n 0, 1) := dk_42 (dk_at dksX1_init_1 16 rfl rfl)
theorem dX1_init_41 : decode cX1_init 41 = .ok (.invokespecial 28, 3) := dk_183 0 28 (dk_at dksX1_init_1 17 rfl rfl)
theorem dX1_init_44 : decode cX1_init 44 = .ok (.putfield 35, 3) := dk_181 0 35 (dk_at dksX1_init_1 20 rfl rfl)
theorem dX1_init_47 : decode cX1_init 47 = .ok (.aload_n 0, 1) := dk_42 (dk_at dksX1_init_1 23 rfl rfl)
theorem dX1_init_48 : decode cX1_init 48 = .ok (.sipush 700, 3) := dk_17 2 188 (dk_at dksX1_init_2 0 rfl rfl)
theorem dX1_init_51 : decode cX1_init 51 = .ok (.newarray .byte, 2) := dk_188_8 (dk_at dksX1_init_2 3 rfl rfl)
theorem dX1_init_53 : decode cX1_init 53 = .ok (.putfield 38, 3) := dk_181 0 38 (dk_at dksX1_init_2 5 rfl rfl)
theorem dX1_init_56 : decode cX1_init 56 = .ok (.aload_n 0, 1) := dk_42 (dk_at dksX1_init_2 8 rfl rfl)
theorem dX1_init_57 : decode cX1_init 57 = .ok (.iconst (-1), 1) := dk_2 (dk_at dksX1_init_2 9 rfl rfl)
theorem dX1_init_58 : decode cX1_init 58 = .ok (.putfield 42, 3) := dk_181 0 42 (dk_at dksX1_init_2 10 rfl rfl)
theorem dX1_init_61 : decode cX1_init 61 = .ok (.aload_n 0, 1) := dk_42 (dk_at dksX1_init_2 13 rfl rfl)
theorem dX1_init_62 : decode cX1_init 62 = .ok (.iconst 3, 1) := dk_6 (dk_at dksX1_init_2 14 rfl rfl)
theorem dX1_init_63 : decode cX1_init 63 = .ok (.newarray .int, 2) := dk_188_10 (dk_at dksX1_init_2 15 rfl rfl)
theorem dX1_init_65 : decode cX1_init 65 = .ok (.putfield 46, 3) := dk_181 0 46 (dk_at dksX1_init_2 17 rfl rfl)
theorem dX1_init_68 : decode cX1_init 68 = .ok (.aload_n 0, 1) := dk_42 (dk_at dksX1_init_2 20 rfl rfl)
theorem dX1_init_69 : decode cX1_init 69 = .ok (.new 49, 3) := dk_187 0 49 (dk_at dksX1_init_2 21 rfl rfl)
theorem dX1_init_72 : decode cX1_init 72 = .ok (.dup, 1) := dk_89 (dk_at dksX1_init_3 0 rfl rfl)
theorem dX1_init_73 : decode cX1_init 73 = .ok (.invokespecial 51, 3) := dk_183 0 51 (dk_at dksX1_init_3 1 rfl rfl)
theorem dX1_init_76 : decode cX1_init 76 = .ok (.putfield 52, 3) := dk_181 0 52 (dk_at dksX1_init_3 4 rfl rfl)
theorem dX1_init_79 : decode cX1_init 79 = .ok (.aload_n 0, 1) := dk_42 (dk_at dksX1_init_3 7 rfl rfl)
theorem dX1_init_80 : decode cX1_init 80 = .ok (.new 49, 3) := dk_187 0 49 (dk_at dksX1_init_3 8 rfl rfl)
theorem dX1_init_83 : decode cX1_init 83 = .ok (.dup, 1) := dk_89 (dk_at dksX1_init_3 11 rfl rfl)
theorem dX1_init_84 : decode cX1_init 84 = .ok (.invokespecial 51, 3) := dk_183 0 51 (dk_at dksX1_init_3 12 rfl rfl)
theorem dX1_init_87 : decode cX1_init 87 = .ok (.putfield 56, 3) := dk_181 0 56 (dk_at dksX1_init_3 15 rfl rfl)
theorem dX1_init_90 : decode cX1_init 90 = .ok (.return_, 1) := dk_177 (dk_at dksX1_init_3 18 rfl rfl)
abbrev cX1_feed : ByteArray := prog_1_method_6_code
def yX1_feed : MethodName := ⟨RX1, "feed", "(IIIII)I"⟩
def dkwX1_feed_5 : List UInt8 := [180, 0, 59, 172]
abbrev dktX1_feed_5 : List UInt8 := dkwX1_feed_5 ++ []
def dkwX1_feed_4 : List UInt8 := [112, 104, 100, 122, 145, 84, 132, 6, 1, 167, 255, 172, 42, 89, 180, 0, 59, 16, 20, 96, 181, 0, 59, 42]
abbrev dktX1_feed_4 : List UInt8 := dkwX1_feed_4 ++ dktX1_feed_5
def dkwX1_feed_3 : List UInt8 := [21, 5, 54, 7, 42, 180, 0, 38, 42, 180, 0, 59, 21, 6, 96, 21, 7, 16, 24, 16, 8, 21, 6, 7]
abbrev dktX1_feed_3 : List UInt8 := dkwX1_feed_3 ++ dktX1_feed_4
def dkwX1_feed_2 : List UInt8 := [21, 6, 16, 12, 162, 0, 7, 29, 167, 0, 17, 21, 6, 16, 16, 162, 0, 8, 21, 4, 167, 0, 5]
abbrev dktX1_feed_2 : List UInt8 := dkwX1_feed_2 ++ dktX1_feed_3
def dkwX1_feed_1 : List UInt8 := [162, 0, 83, 21, 6, 7, 162, 0, 7, 27, 167, 0, 39, 21, 6, 16, 8, 162, 0, 7, 28, 167, 0, 28]
abbrev dktX1_feed_1 : List UInt8 := dkwX1_feed_1 ++ dktX1_feed_2
def dkwX1_feed_0 : List UInt8 := [42, 180, 0, 59, 16, 20, 96, 17, 2, 188, 164, 0, 5, 2, 172, 3, 54, 6, 21, 6, 16, 20]
abbrev dktX1_feed_0 : List UInt8 := dkwX1_feed_0 ++ dktX1_feed_1
theorem dksX1_feed_0 : cX1_feed.data.toList.drop 0 = dktX1_feed_0 := by decide +kernel
theorem dksX1_feed_1 : cX1_feed.data.toList.drop 22 = dktX1_feed_1 := dk_seg dksX1_feed_0 22 rfl rfl
theorem dksX1_feed_2 : cX1_feed.data.toList.drop 46 = dktX1_feed_2 := dk_seg dksX1_feed_1 24 rfl rfl
theorem dksX1_feed_3 : cX1_feed.data.toList.drop 69 = dktX1_feed_3 := dk_seg dksX1_feed_2 23 rfl rfl
theorem dksX1_feed_4 : cX1_feed.data.toList.drop 93 = dktX1_feed_4 := dk_seg dksX1_feed_3 24 rfl rfl
theorem dksX1_feed_5 : cX1_feed.data.toList.drop 117 = dktX1_feed_5 := dk_seg dksX1_feed_4 24 rfl rfl
theorem dX1_feed_0 : decode cX1_feed 0 = .ok (.aload_n 0, 1) := dk_42 (dk_at dksX1_feed_0 0 rfl rfl)
theorem dX1_feed_1 : decode cX1_feed 1 = .ok (.getfield 59, 3) := dk_180 0 59 (dk_at dksX1_feed_0 1 rfl rfl)
theorem dX1_feed_4 : decode cX1_feed 4 = .ok (.bipush 20, 2) := dk_16 20 (dk_at dksX1_feed_0 4 rfl rfl)
theorem dX1_feed_6 : decode cX1_feed 6 = .ok (.iadd, 1) := dk_96 (dk_at dksX1_feed_0 6 rfl rfl)
theorem dX1_feed_7 : decode cX1_feed 7 = .ok (.sipush 700, 3) := dk_17 2 188 (dk_at dksX1_feed_0 7 rfl rfl)
theorem dX1_feed_10 : decode cX1_feed 10 = .ok (.if_icmp .le 5, 3) := dk_164 0 5 (dk_at dksX1_feed_0 10 rfl rfl)
theorem dX1_feed_13 : decode cX1_feed 13 = .ok (.iconst (-1), 1) := dk_2 (dk_at dksX1_feed_0 13 rfl rfl)
theorem dX1_feed_14 : decode cX1_feed 14 = .ok (.ireturn, 1) := dk_172 (dk_at dksX1_feed_0 14 rfl rfl)
theorem dX1_feed_15 : decode cX1_feed 15 = .ok (.iconst 0, 1) := dk_3 (dk_at dksX1_feed_0 15 rfl rfl)
theorem dX1_feed_16 : decode cX1_feed 16 = .ok (.istore 6, 2) := dk_54 6 (dk_at dksX1_feed_0 16 rfl rfl)
theorem dX1_feed_18 : decode cX1_feed 18 = .ok (.iload 6, 2) := dk_21 6 (dk_at dksX1_feed_0 18 rfl rfl)
theorem dX1_feed_20 : decode cX1_feed 20 = .ok (.bipush 20, 2) := dk_16 20 (dk_at dksX1_feed_0 20 rfl rfl)
theorem dX1_feed_22 : decode cX1_feed 22 = .ok (.if_icmp .ge 83, 3) := dk_162 0 83 (dk_at dksX1_feed_1 0 rfl rfl)
theorem dX1_feed_25 : decode cX1_feed 25 = .ok (.iload 6, 2) := dk_21 6 (dk_at dksX1_feed_1 3 rfl rfl)
theorem dX1_feed_27 : decode cX1_feed 27 = .ok (.iconst 4, 1) := dk_7 (dk_at dksX1_feed_1 5 rfl rfl)
theorem dX1_feed_28 : decode cX1_feed 28 = .ok (.if_icmp .ge 7, 3) := dk_162 0 7 (dk_at dksX1_feed_1 6 rfl rfl)
theorem dX1_feed_31 : decode cX1_feed 31 = .ok (.iload_n 1, 1) := dk_27 (dk_at dksX1_feed_1 9 rfl rfl)
theorem dX1_feed_32 : decode cX1_feed 32 = .ok (.goto 39, 3) := dk_167 0 39 (dk_at dksX1_feed_1 10 rfl rfl)
theorem dX1_feed_35 : decode cX1_feed 35 = .ok (.iload 6, 2) := dk_21 6 (dk_at dksX1_feed_1 13 rfl rfl)
theorem dX1_feed_37 : decode cX1_feed 37 = .ok (.bipush 8, 2) := dk_16 8 (dk_at dksX1_feed_1 15 rfl rfl)
theorem dX1_feed_39 : decode cX1_feed 39 = .ok (.if_icmp .ge 7, 3) := dk_162 0 7 (dk_at dksX1_feed_1 17 rfl rfl)
theorem dX1_feed_42 : decode cX1_feed 42 = .ok (.iload_n 2, 1) := dk_28 (dk_at dksX1_feed_1 20 rfl rfl)
theorem dX1_feed_43 : decode cX1_feed 43 = .ok (.goto 28, 3) := dk_167 0 28 (dk_at dksX1_feed_1 21 rfl rfl)
theorem dX1_feed_46 : decode cX1_feed 46 = .ok (.iload 6, 2) := dk_21 6 (dk_at dksX1_feed_2 0 rfl rfl)
theorem dX1_feed_48 : decode cX1_feed 48 = .ok (.bipush 12, 2) := dk_16 12 (dk_at dksX1_feed_2 2 rfl rfl)
theorem dX1_feed_50 : decode cX1_feed 50 = .ok (.if_icmp .ge 7, 3) := dk_162 0 7 (dk_at dksX1_feed_2 4 rfl rfl)
theorem dX1_feed_53 : decode cX1_feed 53 = .ok (.iload_n 3, 1) := dk_29 (dk_at dksX1_feed_2 7 rfl rfl)
theorem dX1_feed_54 : decode cX1_feed 54 = .ok (.goto 17, 3) := dk_167 0 17 (dk_at dksX1_feed_2 8 rfl rfl)
theorem dX1_feed_57 : decode cX1_feed 57 = .ok (.iload 6, 2) := dk_21 6 (dk_at dksX1_feed_2 11 rfl rfl)
theorem dX1_feed_59 : decode cX1_feed 59 = .ok (.bipush 16, 2) := dk_16 16 (dk_at dksX1_feed_2 13 rfl rfl)
theorem dX1_feed_61 : decode cX1_feed 61 = .ok (.if_icmp .ge 8, 3) := dk_162 0 8 (dk_at dksX1_feed_2 15 rfl rfl)
theorem dX1_feed_64 : decode cX1_feed 64 = .ok (.iload 4, 2) := dk_21 4 (dk_at dksX1_feed_2 18 rfl rfl)
theorem dX1_feed_66 : decode cX1_feed 66 = .ok (.goto 5, 3) := dk_167 0 5 (dk_at dksX1_feed_2 20 rfl rfl)
theorem dX1_feed_69 : decode cX1_feed 69 = .ok (.iload 5, 2) := dk_21 5 (dk_at dksX1_feed_3 0 rfl rfl)
theorem dX1_feed_71 : decode cX1_feed 71 = .ok (.istore 7, 2) := dk_54 7 (dk_at dksX1_feed_3 2 rfl rfl)
theorem dX1_feed_73 : decode cX1_feed 73 = .ok (.aload_n 0, 1) := dk_42 (dk_at dksX1_feed_3 4 rfl rfl)
theorem dX1_feed_74 : decode cX1_feed 74 = .ok (.getfield 38, 3) := dk_180 0 38 (dk_at dksX1_feed_3 5 rfl rfl)
theorem dX1_feed_77 : decode cX1_feed 77 = .ok (.aload_n 0, 1) := dk_42 (dk_at dksX1_feed_3 8 rfl rfl)
theorem dX1_feed_78 : decode cX1_feed 78 = .ok (.getfield 59, 3) := dk_180 0 59 (dk_at dksX1_feed_3 9 rfl rfl)
theorem dX1_feed_81 : decode cX1_feed 81 = .ok (.iload 6, 2) := dk_21 6 (dk_at dksX1_feed_3 12 rfl rfl)
theorem dX1_feed_83 : decode cX1_feed 83 = .ok (.iadd, 1) := dk_96 (dk_at dksX1_feed_3 14 rfl rfl)
theorem dX1_feed_84 : decode cX1_feed 84 = .ok (.iload 7, 2) := dk_21 7 (dk_at dksX1_feed_3 15 rfl rfl)
theorem dX1_feed_86 : decode cX1_feed 86 = .ok (.bipush 24, 2) := dk_16 24 (dk_at dksX1_feed_3 17 rfl rfl)
theorem dX1_feed_88 : decode cX1_feed 88 = .ok (.bipush 8, 2) := dk_16 8 (dk_at dksX1_feed_3 19 rfl rfl)
theorem dX1_feed_90 : decode cX1_feed 90 = .ok (.iload 6, 2) := dk_21 6 (dk_at dksX1_feed_3 21 rfl rfl)
theorem dX1_feed_92 : decode cX1_feed 92 = .ok (.iconst 4, 1) := dk_7 (dk_at dksX1_feed_3 23 rfl rfl)
theorem dX1_feed_93 : decode cX1_feed 93 = .ok (.irem, 1) := dk_112 (dk_at dksX1_feed_4 0 rfl rfl)
theorem dX1_feed_94 : decode cX1_feed 94 = .ok (.imul, 1) := dk_104 (dk_at dksX1_feed_4 1 rfl rfl)
theorem dX1_feed_95 : decode cX1_feed 95 = .ok (.isub, 1) := dk_100 (dk_at dksX1_feed_4 2 rfl rfl)
theorem dX1_feed_96 : decode cX1_feed 96 = .ok (.ishr, 1) := dk_122 (dk_at dksX1_feed_4 3 rfl rfl)
theorem dX1_feed_97 : decode cX1_feed 97 = .ok (.i2b, 1) := dk_145 (dk_at dksX1_feed_4 4 rfl rfl)
theorem dX1_feed_98 : decode cX1_feed 98 = .ok (.bastore, 1) := dk_84 (dk_at dksX1_feed_4 5 rfl rfl)
theorem dX1_feed_99 : decode cX1_feed 99 = .ok (.iinc 6 1, 3) := dk_132 6 1 (dk_at dksX1_feed_4 6 rfl rfl)
theorem dX1_feed_102 : decode cX1_feed 102 = .ok (.goto (-84), 3) := dk_167 255 172 (dk_at dksX1_feed_4 9 rfl rfl)
theorem dX1_feed_105 : decode cX1_feed 105 = .ok (.aload_n 0, 1) := dk_42 (dk_at dksX1_feed_4 12 rfl rfl)
theorem dX1_feed_106 : decode cX1_feed 106 = .ok (.dup, 1) := dk_89 (dk_at dksX1_feed_4 13 rfl rfl)
theorem dX1_feed_107 : decode cX1_feed 107 = .ok (.getfield 59, 3) := dk_180 0 59 (dk_at dksX1_feed_4 14 rfl rfl)
theorem dX1_feed_110 : decode cX1_feed 110 = .ok (.bipush 20, 2) := dk_16 20 (dk_at dksX1_feed_4 17 rfl rfl)
theorem dX1_feed_112 : decode cX1_feed 112 = .ok (.iadd, 1) := dk_96 (dk_at dksX1_feed_4 19 rfl rfl)
theorem dX1_feed_113 : decode cX1_feed 113 = .ok (.putfield 59, 3) := dk_181 0 59 (dk_at dksX1_feed_4 20 rfl rfl)
theorem dX1_feed_116 : decode cX1_feed 116 = .ok (.aload_n 0, 1) := dk_42 (dk_at dksX1_feed_4 23 rfl rfl)
theorem dX1_feed_117 : decode cX1_feed 117 = .ok (.getfield 59, 3) := dk_180 0 59 (dk_at dksX1_feed_5 0 rfl rfl)
theorem dX1_feed_120 : decode cX1_feed 120 = .ok (.ireturn, 1) := dk_172 (dk_at dksX1_feed_5 3 rfl rfl)
abbrev cX1_fault : ByteArray := prog_1_method_8_code
def yX1_fault : MethodName := ⟨RX1, "fault", "()I"⟩
theorem dX1_fault_0 : decode cX1_fault 0 = .ok (.aload_n 0, 1) := by decide +kernel
theorem dX1_fault_1 : decode cX1_fault 1 = .ok (.getfield 42, 3) := by decide +kernel
theorem dX1_fault_4 : decode cX1_fault 4 = .ok (.ireturn, 1) := by decide +kernel
abbrev cX1_hours : ByteArray := prog_1_method_22_code
def yX1_hours : MethodName := ⟨RX1, "hours", "(I)I"⟩
def dkwX1_hours_2 : List UInt8 := [172]
abbrev dktX1_hours_2 : List UInt8 := dkwX1_hours_2 ++ []
def dkwX1_hours_1 : List UInt8 := [164, 0, 9, 42, 4, 182, 0, 192, 172, 42, 182, 0, 195, 42, 180, 0, 31, 27, 182, 0, 198, 180, 0, 140]
abbrev dktX1_hours_1 : List UInt8 := dkwX1_hours_1 ++ dktX1_hours_2
def dkwX1_hours_0 : List UInt8 := [27, 4, 16, 20, 184, 0, 161, 153, 0, 18, 42, 180, 0, 31, 180, 0, 140, 27, 96, 17, 39, 15]
abbrev dktX1_hours_0 : List UInt8 := dkwX1_hours_0 ++ dktX1_hours_1
theorem dksX1_hours_0 : cX1_hours.data.toList.drop 0 = dktX1_hours_0 := by decide +kernel
theorem dksX1_hours_1 : cX1_hours.data.toList.drop 22 = dktX1_hours_1 := dk_seg dksX1_hours_0 22 rfl rfl
theorem dksX1_hours_2 : cX1_hours.data.toList.drop 46 = dktX1_hours_2 := dk_seg dksX1_hours_1 24 rfl rfl
theorem dX1_hours_0 : decode cX1_hours 0 = .ok (.iload_n 1, 1) := dk_27 (dk_at dksX1_hours_0 0 rfl rfl)
theorem dX1_hours_1 : decode cX1_hours 1 = .ok (.iconst 1, 1) := dk_4 (dk_at dksX1_hours_0 1 rfl rfl)
theorem dX1_hours_2 : decode cX1_hours 2 = .ok (.bipush 20, 2) := dk_16 20 (dk_at dksX1_hours_0 2 rfl rfl)
theorem dX1_hours_4 : decode cX1_hours 4 = .ok (.invokestatic 161, 3) := dk_184 0 161 (dk_at dksX1_hours_0 4 rfl rfl)
theorem dX1_hours_7 : decode cX1_hours 7 = .ok (.ifCond .eq 18, 3) := dk_153 0 18 (dk_at dksX1_hours_0 7 rfl rfl)
theorem dX1_hours_10 : decode cX1_hours 10 = .ok (.aload_n 0, 1) := dk_42 (dk_at dksX1_hours_0 10 rfl rfl)
theorem dX1_hours_11 : decode cX1_hours 11 = .ok (.getfield 31, 3) := dk_180 0 31 (dk_at dksX1_hours_0 11 rfl rfl)
theorem dX1_hours_14 : decode cX1_hours 14 = .ok (.getfield 140, 3) := dk_180 0 140 (dk_at dksX1_hours_0 14 rfl rfl)
theorem dX1_hours_17 : decode cX1_hours 17 = .ok (.iload_n 1, 1) := dk_27 (dk_at dksX1_hours_0 17 rfl rfl)
theorem dX1_hours_18 : decode cX1_hours 18 = .ok (.iadd, 1) := dk_96 (dk_at dksX1_hours_0 18 rfl rfl)
theorem dX1_hours_19 : decode cX1_hours 19 = .ok (.sipush 9999, 3) := dk_17 39 15 (dk_at dksX1_hours_0 19 rfl rfl)
theorem dX1_hours_22 : decode cX1_hours 22 = .ok (.if_icmp .le 9, 3) := dk_164 0 9 (dk_at dksX1_hours_1 0 rfl rfl)
theorem dX1_hours_25 : decode cX1_hours 25 = .ok (.aload_n 0, 1) := dk_42 (dk_at dksX1_hours_1 3 rfl rfl)
theorem dX1_hours_26 : decode cX1_hours 26 = .ok (.iconst 1, 1) := dk_4 (dk_at dksX1_hours_1 4 rfl rfl)
theorem dX1_hours_27 : decode cX1_hours 27 = .ok (.invokevirtual 192, 3) := dk_182 0 192 (dk_at dksX1_hours_1 5 rfl rfl)
theorem dX1_hours_30 : decode cX1_hours 30 = .ok (.ireturn, 1) := dk_172 (dk_at dksX1_hours_1 8 rfl rfl)
theorem dX1_hours_31 : decode cX1_hours 31 = .ok (.aload_n 0, 1) := dk_42 (dk_at dksX1_hours_1 9 rfl rfl)
theorem dX1_hours_32 : decode cX1_hours 32 = .ok (.invokevirtual 195, 3) := dk_182 0 195 (dk_at dksX1_hours_1 10 rfl rfl)
theorem dX1_hours_35 : decode cX1_hours 35 = .ok (.aload_n 0, 1) := dk_42 (dk_at dksX1_hours_1 13 rfl rfl)
theorem dX1_hours_36 : decode cX1_hours 36 = .ok (.getfield 31, 3) := dk_180 0 31 (dk_at dksX1_hours_1 14 rfl rfl)
theorem dX1_hours_39 : decode cX1_hours 39 = .ok (.iload_n 1, 1) := dk_27 (dk_at dksX1_hours_1 17 rfl rfl)
theorem dX1_hours_40 : decode cX1_hours 40 = .ok (.invokevirtual 198, 3) := dk_182 0 198 (dk_at dksX1_hours_1 18 rfl rfl)
theorem dX1_hours_43 : decode cX1_hours 43 = .ok (.getfield 140, 3) := dk_180 0 140 (dk_at dksX1_hours_1 21 rfl rfl)
theorem dX1_hours_46 : decode cX1_hours 46 = .ok (.ireturn, 1) := dk_172 (dk_at dksX1_hours_2 0 rfl rfl)
abbrev cX1_in : ByteArray := prog_1_method_1_code
def yX1_in : MethodName := ⟨RX1, "in", "(III)Z"⟩
def dkwX1_in_0 : List UInt8 := [26, 27, 161, 0, 12, 26, 28, 163, 0, 7, 4, 167, 0, 4, 3, 172]
abbrev dktX1_in_0 : List UInt8 := dkwX1_in_0 ++ []
theorem dksX1_in_0 : cX1_in.data.toList.drop 0 = dktX1_in_0 := by decide +kernel
theorem dX1_in_0 : decode cX1_in 0 = .ok (.iload_n 0, 1) := dk_26 (dk_at dksX1_in_0 0 rfl rfl)
theorem dX1_in_1 : decode cX1_in 1 = .ok (.iload_n 1, 1) := dk_27 (dk_at dksX1_in_0 1 rfl rfl)
theorem dX1_in_2 : decode cX1_in 2 = .ok (.if_icmp .lt 12, 3) := dk_161 0 12 (dk_at dksX1_in_0 2 rfl rfl)
theorem dX1_in_5 : decode cX1_in 5 = .ok (.iload_n 0, 1) := dk_26 (dk_at dksX1_in_0 5 rfl rfl)
theorem dX1_in_6 : decode cX1_in 6 = .ok (.iload_n 2, 1) := dk_28 (dk_at dksX1_in_0 6 rfl rfl)
theorem dX1_in_7 : decode cX1_in 7 = .ok (.if_icmp .gt 7, 3) := dk_163 0 7 (dk_at dksX1_in_0 7 rfl rfl)
theorem dX1_in_10 : decode cX1_in 10 = .ok (.iconst 1, 1) := dk_4 (dk_at dksX1_in_0 10 rfl rfl)
theorem dX1_in_11 : decode cX1_in 11 = .ok (.goto 4, 3) := dk_167 0 4 (dk_at dksX1_in_0 11 rfl rfl)
theorem dX1_in_14 : decode cX1_in 14 = .ok (.iconst 0, 1) := dk_3 (dk_at dksX1_in_0 14 rfl rfl)
theorem dX1_in_15 : decode cX1_in 15 = .ok (.ireturn, 1) := dk_172 (dk_at dksX1_in_0 15 rfl rfl)
abbrev cX1_refuse : ByteArray := prog_1_method_20_code
def yX1_refuse : MethodName := ⟨RX1, "refuse", "(I)I"⟩
def dkwX1_refuse_0 : List UInt8 := [42, 180, 0, 46, 27, 92, 46, 4, 96, 79, 2, 172]
abbrev dktX1_refuse_0 : List UInt8 := dkwX1_refuse_0 ++ []
theorem dksX1_refuse_0 : cX1_refuse.data.toList.drop 0 = dktX1_refuse_0 := by decide +kernel
theorem dX1_refuse_0 : decode cX1_refuse 0 = .ok (.aload_n 0, 1) := dk_42 (dk_at dksX1_refuse_0 0 rfl rfl)
theorem dX1_refuse_1 : decode cX1_refuse 1 = .ok (.getfield 46, 3) := dk_180 0 46 (dk_at dksX1_refuse_0 1 rfl rfl)
theorem dX1_refuse_4 : decode cX1_refuse 4 = .ok (.iload_n 1, 1) := dk_27 (dk_at dksX1_refuse_0 4 rfl rfl)
theorem dX1_refuse_5 : decode cX1_refuse 5 = .ok (.dup2, 1) := dk_92 (dk_at dksX1_refuse_0 5 rfl rfl)
theorem dX1_refuse_6 : decode cX1_refuse 6 = .ok (.iaload, 1) := dk_46 (dk_at dksX1_refuse_0 6 rfl rfl)
theorem dX1_refuse_7 : decode cX1_refuse 7 = .ok (.iconst 1, 1) := dk_4 (dk_at dksX1_refuse_0 7 rfl rfl)
theorem dX1_refuse_8 : decode cX1_refuse 8 = .ok (.iadd, 1) := dk_96 (dk_at dksX1_refuse_0 8 rfl rfl)
theorem dX1_refuse_9 : decode cX1_refuse 9 = .ok (.iastore, 1) := dk_79 (dk_at dksX1_refuse_0 9 rfl rfl)
theorem dX1_refuse_10 : decode cX1_refuse 10 = .ok (.iconst (-1), 1) := dk_2 (dk_at dksX1_refuse_0 10 rfl rfl)
theorem dX1_refuse_11 : decode cX1_refuse 11 = .ok (.ireturn, 1) := dk_172 (dk_at dksX1_refuse_0 11 rfl rfl)
abbrev cX1_keep : ByteArray := prog_1_method_19_code
def yX1_keep : MethodName := ⟨RX1, "keep", "()V"⟩
def dkwX1_keep_1 : List UInt8 := [185, 0, 158, 1, 0, 16, 40, 164, 0, 14, 42, 180, 0, 52, 3, 185, 0, 189, 2, 0, 87, 177]
abbrev dktX1_keep_1 : List UInt8 := dkwX1_keep_1 ++ []
def dkwX1_keep_0 : List UInt8 := [42, 180, 0, 52, 42, 180, 0, 31, 182, 0, 182, 185, 0, 186, 2, 0, 87, 42, 180, 0, 52]
abbrev dktX1_keep_0 : List UInt8 := dkwX1_keep_0 ++ dktX1_keep_1
theorem dksX1_keep_0 : cX1_keep.data.toList.drop 0 = dktX1_keep_0 := by decide +kernel
theorem dksX1_keep_1 : cX1_keep.data.toList.drop 21 = dktX1_keep_1 := dk_seg dksX1_keep_0 21 rfl rfl
theorem dX1_keep_0 : decode cX1_keep 0 = .ok (.aload_n 0, 1) := dk_42 (dk_at dksX1_keep_0 0 rfl rfl)
theorem dX1_keep_1 : decode cX1_keep 1 = .ok (.getfield 52, 3) := dk_180 0 52 (dk_at dksX1_keep_0 1 rfl rfl)
theorem dX1_keep_4 : decode cX1_keep 4 = .ok (.aload_n 0, 1) := dk_42 (dk_at dksX1_keep_0 4 rfl rfl)
theorem dX1_keep_5 : decode cX1_keep 5 = .ok (.getfield 31, 3) := dk_180 0 31 (dk_at dksX1_keep_0 5 rfl rfl)
theorem dX1_keep_8 : decode cX1_keep 8 = .ok (.invokevirtual 182, 3) := dk_182 0 182 (dk_at dksX1_keep_0 8 rfl rfl)
theorem dX1_keep_11 : decode cX1_keep 11 = .ok (.invokeinterface 186 2, 5) := by decide +kernel
theorem dX1_keep_16 : decode cX1_keep 16 = .ok (.pop, 1) := dk_87 (dk_at dksX1_keep_0 16 rfl rfl)
theorem dX1_keep_17 : decode cX1_keep 17 = .ok (.aload_n 0, 1) := dk_42 (dk_at dksX1_keep_0 17 rfl rfl)
theorem dX1_keep_18 : decode cX1_keep 18 = .ok (.getfield 52, 3) := dk_180 0 52 (dk_at dksX1_keep_0 18 rfl rfl)
theorem dX1_keep_21 : decode cX1_keep 21 = .ok (.invokeinterface 158 1, 5) := by decide +kernel
theorem dX1_keep_26 : decode cX1_keep 26 = .ok (.bipush 40, 2) := dk_16 40 (dk_at dksX1_keep_1 5 rfl rfl)
theorem dX1_keep_28 : decode cX1_keep 28 = .ok (.if_icmp .le 14, 3) := dk_164 0 14 (dk_at dksX1_keep_1 7 rfl rfl)
theorem dX1_keep_31 : decode cX1_keep 31 = .ok (.aload_n 0, 1) := dk_42 (dk_at dksX1_keep_1 10 rfl rfl)
theorem dX1_keep_32 : decode cX1_keep 32 = .ok (.getfield 52, 3) := dk_180 0 52 (dk_at dksX1_keep_1 11 rfl rfl)
theorem dX1_keep_35 : decode cX1_keep 35 = .ok (.iconst 0, 1) := dk_3 (dk_at dksX1_keep_1 14 rfl rfl)
theorem dX1_keep_36 : decode cX1_keep 36 = .ok (.invokeinterface 189 2, 5) := by decide +kernel
theorem dX1_keep_41 : decode cX1_keep 41 = .ok (.pop, 1) := dk_87 (dk_at dksX1_keep_1 20 rfl rfl)
theorem dX1_keep_42 : decode cX1_keep 42 = .ok (.return_, 1) := dk_177 (dk_at dksX1_keep_1 21 rfl rfl)
abbrev cX1_isOf : ByteArray := prog_1_method_4_code
def yX1_isOf : MethodName := ⟨RX1, "isOf", "(II)Z"⟩
def dkwX1_isOf_0 : List UInt8 := [26, 27, 122, 4, 126, 4, 160, 0, 7, 4, 167, 0, 4, 3, 172]
abbrev dktX1_isOf_0 : List UInt8 := dkwX1_isOf_0 ++ []
theorem dksX1_isOf_0 : cX1_isOf.data.toList.drop 0 = dktX1_isOf_0 := by decide +kernel
theorem dX1_isOf_0 : decode cX1_isOf 0 = .ok (.iload_n 0, 1) := dk_26 (dk_at dksX1_isOf_0 0 rfl rfl)
theorem dX1_isOf_1 : decode cX1_isOf 1 = .ok (.iload_n 1, 1) := dk_27 (dk_at dksX1_isOf_0 1 rfl rfl)
theorem dX1_isOf_2 : decode cX1_isOf 2 = .ok (.ishr, 1) := dk_122 (dk_at dksX1_isOf_0 2 rfl rfl)
theorem dX1_isOf_3 : decode cX1_isOf 3 = .ok (.iconst 1, 1) := dk_4 (dk_at dksX1_isOf_0 3 rfl rfl)
theorem dX1_isOf_4 : decode cX1_isOf 4 = .ok (.iand, 1) := dk_126 (dk_at dksX1_isOf_0 4 rfl rfl)
theorem dX1_isOf_5 : decode cX1_isOf 5 = .ok (.iconst 1, 1) := dk_4 (dk_at dksX1_isOf_0 5 rfl rfl)
theorem dX1_isOf_6 : decode cX1_isOf 6 = .ok (.if_icmp .ne 7, 3) := dk_160 0 7 (dk_at dksX1_isOf_0 6 rfl rfl)
theorem dX1_isOf_9 : decode cX1_isOf 9 = .ok (.iconst 1, 1) := dk_4 (dk_at dksX1_isOf_0 9 rfl rfl)
theorem dX1_isOf_10 : decode cX1_isOf 10 = .ok (.goto 4, 3) := dk_167 0 4 (dk_at dksX1_isOf_0 10 rfl rfl)
theorem dX1_isOf_13 : decode cX1_isOf 13 = .ok (.iconst 0, 1) := dk_3 (dk_at dksX1_isOf_0 13 rfl rfl)
theorem dX1_isOf_14 : decode cX1_isOf 14 = .ok (.ireturn, 1) := dk_172 (dk_at dksX1_isOf_0 14 rfl rfl)
abbrev cX1_undo : ByteArray := prog_1_method_27_code
def yX1_undo : MethodName := ⟨RX1, "undo", "()I"⟩
def dkwX1_undo_2 : List UInt8 := [180, 0, 52, 185, 0, 158, 1, 0, 172]
abbrev dktX1_undo_2 : List UInt8 := dkwX1_undo_2 ++ []
def dkwX1_undo_1 : List UInt8 := [185, 0, 158, 1, 0, 4, 100, 185, 0, 189, 2, 0, 192, 0, 26, 182, 0, 182, 181, 0, 31, 42]
abbrev dktX1_undo_1 : List UInt8 := dkwX1_undo_1 ++ dktX1_undo_2
def dkwX1_undo_0 : List UInt8 := [42, 180, 0, 52, 185, 0, 218, 1, 0, 153, 0, 5, 2, 172, 42, 42, 180, 0, 52, 42, 180, 0, 52]
abbrev dktX1_undo_0 : List UInt8 := dkwX1_undo_0 ++ dktX1_undo_1
theorem dksX1_undo_0 : cX1_undo.data.toList.drop 0 = dktX1_undo_0 := by decide +kernel
theorem dksX1_undo_1 : cX1_undo.data.toList.drop 23 = dktX1_undo_1 := dk_seg dksX1_undo_0 23 rfl rfl
theorem dksX1_undo_2 : cX1_undo.data.toList.drop 45 = dktX1_undo_2 := dk_seg dksX1_undo_1 22 rfl rfl
theorem dX1_undo_0 : decode cX1_undo 0 = .ok (.aload_n 0, 1) := dk_42 (dk_at dksX1_undo_0 0 rfl rfl)
theorem dX1_undo_1 : decode cX1_undo 1 = .ok (.getfield 52, 3) := dk_180 0 52 (dk_at dksX1_undo_0 1 rfl rfl)
theorem dX1_undo_4 : decode cX1_undo 4 = .ok (.invokeinterface 218 1, 5) := by decide +kernel
theorem dX1_undo_9 : decode cX1_undo 9 = .ok (.ifCond .eq 5, 3) := dk_153 0 5 (dk_at dksX1_undo_0 9 rfl rfl)
theorem dX1_undo_12 : decode cX1_undo 12 = .ok (.iconst (-1), 1) := dk_2 (dk_at dksX1_undo_0 12 rfl rfl)
theorem dX1_undo_13 : decode cX1_undo 13 = .ok (.ireturn, 1) := dk_172 (dk_at dksX1_undo_0 13 rfl rfl)
theorem dX1_undo_14 : decode cX1_undo 14 = .ok (.aload_n 0, 1) := dk_42 (dk_at dksX1_undo_0 14 rfl rfl)
theorem dX1_undo_15 : decode cX1_undo 15 = .ok (.aload_n 0, 1) := dk_42 (dk_at dksX1_undo_0 15 rfl rfl)
theorem dX1_undo_16 : decode cX1_undo 16 = .ok (.getfield 52, 3) := dk_180 0 52 (dk_at dksX1_undo_0 16 rfl rfl)
theorem dX1_undo_19 : decode cX1_undo 19 = .ok (.aload_n 0, 1) := dk_42 (dk_at dksX1_undo_0 19 rfl rfl)
theorem dX1_undo_20 : decode cX1_undo 20 = .ok (.getfield 52, 3) := dk_180 0 52 (dk_at dksX1_undo_0 20 rfl rfl)
theorem dX1_undo_23 : decode cX1_undo 23 = .ok (.invokeinterface 158 1, 5) := by decide +kernel
theorem dX1_undo_28 : decode cX1_undo 28 = .ok (.iconst 1, 1) := dk_4 (dk_at dksX1_undo_1 5 rfl rfl)
theorem dX1_undo_29 : decode cX1_undo 29 = .ok (.isub, 1) := dk_100 (dk_at dksX1_undo_1 6 rfl rfl)
theorem dX1_undo_30 : decode cX1_undo 30 = .ok (.invokeinterface 189 2, 5) := by decide +kernel
theorem dX1_undo_35 : decode cX1_undo 35 = .ok (.checkcast 26, 3) := dk_192 0 26 (dk_at dksX1_undo_1 12 rfl rfl)
theorem dX1_undo_38 : decode cX1_undo 38 = .ok (.invokevirtual 182, 3) := dk_182 0 182 (dk_at dksX1_undo_1 15 rfl rfl)
theorem dX1_undo_41 : decode cX1_undo 41 = .ok (.putfield 31, 3) := dk_181 0 31 (dk_at dksX1_undo_1 18 rfl rfl)
theorem dX1_undo_44 : decode cX1_undo 44 = .ok (.aload_n 0, 1) := dk_42 (dk_at dksX1_undo_1 21 rfl rfl)
theorem dX1_undo_45 : decode cX1_undo 45 = .ok (.getfield 52, 3) := dk_180 0 52 (dk_at dksX1_undo_2 0 rfl rfl)
theorem dX1_undo_48 : decode cX1_undo 48 = .ok (.invokeinterface 158 1, 5) := by decide +kernel
theorem dX1_undo_53 : decode cX1_undo 53 = .ok (.ireturn, 1) := dk_172 (dk_at dksX1_undo_2 8 rfl rfl)
abbrev cX1_forget : ByteArray := prog_1_method_45_code
def yX1_forget : MethodName := ⟨RX1, "forget", "()V"⟩
def dkwX1_forget_0 : List UInt8 := [42, 187, 0, 49, 89, 183, 0, 51, 181, 0, 56, 177]
abbrev dktX1_forget_0 : List UInt8 := dkwX1_forget_0 ++ []
theorem dksX1_forget_0 : cX1_forget.data.toList.drop 0 = dktX1_forget_0 := by decide +kernel
theorem dX1_forget_0 : decode cX1_forget 0 = .ok (.aload_n 0, 1) := dk_42 (dk_at dksX1_forget_0 0 rfl rfl)
theorem dX1_forget_1 : decode cX1_forget 1 = .ok (.new 49, 3) := dk_187 0 49 (dk_at dksX1_forget_0 1 rfl rfl)
theorem dX1_forget_4 : decode cX1_forget 4 = .ok (.dup, 1) := dk_89 (dk_at dksX1_forget_0 4 rfl rfl)
theorem dX1_forget_5 : decode cX1_forget 5 = .ok (.invokespecial 51, 3) := dk_183 0 51 (dk_at dksX1_forget_0 5 rfl rfl)
theorem dX1_forget_8 : decode cX1_forget 8 = .ok (.putfield 56, 3) := dk_181 0 56 (dk_at dksX1_forget_0 8 rfl rfl)
theorem dX1_forget_11 : decode cX1_forget 11 = .ok (.return_, 1) := dk_177 (dk_at dksX1_forget_0 11 rfl rfl)
abbrev cX1_round : ByteArray := prog_1_method_59_code
def yX1_round : MethodName := ⟨RX1, "round", "()I"⟩
def dkwX1_round_2 : List UInt8 := [2, 172]
abbrev dktX1_round_2 : List UInt8 := dkwX1_round_2 ++ []
def dkwX1_round_1 : List UInt8 := [180, 0, 35, 182, 0, 237, 42, 180, 0, 31, 182, 1, 60, 153, 0, 5, 27, 172, 132, 1, 1, 167, 255, 227]
abbrev dktX1_round_1 : List UInt8 := dkwX1_round_1 ++ dktX1_round_2
def dkwX1_round_0 : List UInt8 := [42, 180, 0, 35, 42, 180, 0, 31, 182, 0, 221, 87, 4, 60, 27, 17, 0, 200, 163, 0, 28, 42]
abbrev dktX1_round_0 : List UInt8 := dkwX1_round_0 ++ dktX1_round_1
theorem dksX1_round_0 : cX1_round.data.toList.drop 0 = dktX1_round_0 := by decide +kernel
theorem dksX1_round_1 : cX1_round.data.toList.drop 22 = dktX1_round_1 := dk_seg dksX1_round_0 22 rfl rfl
theorem dksX1_round_2 : cX1_round.data.toList.drop 46 = dktX1_round_2 := dk_seg dksX1_round_1 24 rfl rfl
theorem dX1_round_0 : decode cX1_round 0 = .ok (.aload_n 0, 1) := dk_42 (dk_at dksX1_round_0 0 rfl rfl)
theorem dX1_round_1 : decode cX1_round 1 = .ok (.getfield 35, 3) := dk_180 0 35 (dk_at dksX1_round_0 1 rfl rfl)
theorem dX1_round_4 : decode cX1_round 4 = .ok (.aload_n 0, 1) := dk_42 (dk_at dksX1_round_0 4 rfl rfl)
theorem dX1_round_5 : decode cX1_round 5 = .ok (.getfield 31, 3) := dk_180 0 31 (dk_at dksX1_round_0 5 rfl rfl)
theorem dX1_round_8 : decode cX1_round 8 = .ok (.invokevirtual 221, 3) := dk_182 0 221 (dk_at dksX1_round_0 8 rfl rfl)
theorem dX1_round_11 : decode cX1_round 11 = .ok (.pop, 1) := dk_87 (dk_at dksX1_round_0 11 rfl rfl)
theorem dX1_round_12 : decode cX1_round 12 = .ok (.iconst 1, 1) := dk_4 (dk_at dksX1_round_0 12 rfl rfl)
theorem dX1_round_13 : decode cX1_round 13 = .ok (.istore_n 1, 1) := dk_60 (dk_at dksX1_round_0 13 rfl rfl)
theorem dX1_round_14 : decode cX1_round 14 = .ok (.iload_n 1, 1) := dk_27 (dk_at dksX1_round_0 14 rfl rfl)
theorem dX1_round_15 : decode cX1_round 15 = .ok (.sipush 200, 3) := dk_17 0 200 (dk_at dksX1_round_0 15 rfl rfl)
theorem dX1_round_18 : decode cX1_round 18 = .ok (.if_icmp .gt 28, 3) := dk_163 0 28 (dk_at dksX1_round_0 18 rfl rfl)
theorem dX1_round_21 : decode cX1_round 21 = .ok (.aload_n 0, 1) := dk_42 (dk_at dksX1_round_0 21 rfl rfl)
theorem dX1_round_22 : decode cX1_round 22 = .ok (.getfield 35, 3) := dk_180 0 35 (dk_at dksX1_round_1 0 rfl rfl)
theorem dX1_round_25 : decode cX1_round 25 = .ok (.invokevirtual 237, 3) := dk_182 0 237 (dk_at dksX1_round_1 3 rfl rfl)
theorem dX1_round_28 : decode cX1_round 28 = .ok (.aload_n 0, 1) := dk_42 (dk_at dksX1_round_1 6 rfl rfl)
theorem dX1_round_29 : decode cX1_round 29 = .ok (.getfield 31, 3) := dk_180 0 31 (dk_at dksX1_round_1 7 rfl rfl)
theorem dX1_round_32 : decode cX1_round 32 = .ok (.invokevirtual 316, 3) := dk_182 1 60 (dk_at dksX1_round_1 10 rfl rfl)
theorem dX1_round_35 : decode cX1_round 35 = .ok (.ifCond .eq 5, 3) := dk_153 0 5 (dk_at dksX1_round_1 13 rfl rfl)
theorem dX1_round_38 : decode cX1_round 38 = .ok (.iload_n 1, 1) := dk_27 (dk_at dksX1_round_1 16 rfl rfl)
theorem dX1_round_39 : decode cX1_round 39 = .ok (.ireturn, 1) := dk_172 (dk_at dksX1_round_1 17 rfl rfl)
theorem dX1_round_40 : decode cX1_round 40 = .ok (.iinc 1 1, 3) := dk_132 1 1 (dk_at dksX1_round_1 18 rfl rfl)
theorem dX1_round_43 : decode cX1_round 43 = .ok (.goto (-29), 3) := dk_167 255 227 (dk_at dksX1_round_1 21 rfl rfl)
theorem dX1_round_46 : decode cX1_round 46 = .ok (.iconst (-1), 1) := dk_2 (dk_at dksX1_round_2 0 rfl rfl)
theorem dX1_round_47 : decode cX1_round 47 = .ok (.ireturn, 1) := dk_172 (dk_at dksX1_round_2 1 rfl rfl)
abbrev cX1_image : ByteArray := prog_1_method_69_code
def yX1_image : MethodName := ⟨RX1, "image", "()V"⟩
def dkwX1_image_1 : List UInt8 := [181, 1, 84, 42, 187, 0, 49, 89, 42, 180, 0, 56, 183, 1, 81, 181, 1, 87, 177]
abbrev dktX1_image_1 : List UInt8 := dkwX1_image_1 ++ []
def dkwX1_image_0 : List UInt8 := [42, 42, 180, 0, 31, 182, 0, 182, 181, 0, 86, 42, 187, 0, 49, 89, 42, 180, 0, 52, 183, 1, 81]
abbrev dktX1_image_0 : List UInt8 := dkwX1_image_0 ++ dktX1_image_1
theorem dksX1_image_0 : cX1_image.data.toList.drop 0 = dktX1_image_0 := by decide +kernel
theorem dksX1_image_1 : cX1_image.data.toList.drop 23 = dktX1_image_1 := dk_seg dksX1_image_0 23 rfl rfl
theorem dX1_image_0 : decode cX1_image 0 = .ok (.aload_n 0, 1) := dk_42 (dk_at dksX1_image_0 0 rfl rfl)
theorem dX1_image_1 : decode cX1_image 1 = .ok (.aload_n 0, 1) := dk_42 (dk_at dksX1_image_0 1 rfl rfl)
theorem dX1_image_2 : decode cX1_image 2 = .ok (.getfield 31, 3) := dk_180 0 31 (dk_at dksX1_image_0 2 rfl rfl)
theorem dX1_image_5 : decode cX1_image 5 = .ok (.invokevirtual 182, 3) := dk_182 0 182 (dk_at dksX1_image_0 5 rfl rfl)
theorem dX1_image_8 : decode cX1_image 8 = .ok (.putfield 86, 3) := dk_181 0 86 (dk_at dksX1_image_0 8 rfl rfl)
theorem dX1_image_11 : decode cX1_image 11 = .ok (.aload_n 0, 1) := dk_42 (dk_at dksX1_image_0 11 rfl rfl)
theorem dX1_image_12 : decode cX1_image 12 = .ok (.new 49, 3) := dk_187 0 49 (dk_at dksX1_image_0 12 rfl rfl)
theorem dX1_image_15 : decode cX1_image 15 = .ok (.dup, 1) := dk_89 (dk_at dksX1_image_0 15 rfl rfl)
theorem dX1_image_16 : decode cX1_image 16 = .ok (.aload_n 0, 1) := dk_42 (dk_at dksX1_image_0 16 rfl rfl)
theorem dX1_image_17 : decode cX1_image 17 = .ok (.getfield 52, 3) := dk_180 0 52 (dk_at dksX1_image_0 17 rfl rfl)
theorem dX1_image_20 : decode cX1_image 20 = .ok (.invokespecial 337, 3) := dk_183 1 81 (dk_at dksX1_image_0 20 rfl rfl)
theorem dX1_image_23 : decode cX1_image 23 = .ok (.putfield 340, 3) := dk_181 1 84 (dk_at dksX1_image_1 0 rfl rfl)
theorem dX1_image_26 : decode cX1_image 26 = .ok (.aload_n 0, 1) := dk_42 (dk_at dksX1_image_1 3 rfl rfl)
theorem dX1_image_27 : decode cX1_image 27 = .ok (.new 49, 3) := dk_187 0 49 (dk_at dksX1_image_1 4 rfl rfl)
theorem dX1_image_30 : decode cX1_image 30 = .ok (.dup, 1) := dk_89 (dk_at dksX1_image_1 7 rfl rfl)
theorem dX1_image_31 : decode cX1_image 31 = .ok (.aload_n 0, 1) := dk_42 (dk_at dksX1_image_1 8 rfl rfl)
theorem dX1_image_32 : decode cX1_image 32 = .ok (.getfield 56, 3) := dk_180 0 56 (dk_at dksX1_image_1 9 rfl rfl)
theorem dX1_image_35 : decode cX1_image 35 = .ok (.invokespecial 337, 3) := dk_183 1 81 (dk_at dksX1_image_1 12 rfl rfl)
theorem dX1_image_38 : decode cX1_image 38 = .ok (.putfield 343, 3) := dk_181 1 87 (dk_at dksX1_image_1 15 rfl rfl)
theorem dX1_image_41 : decode cX1_image 41 = .ok (.return_, 1) := dk_177 (dk_at dksX1_image_1 18 rfl rfl)
abbrev cX1_restore : ByteArray := prog_1_method_70_code
def yX1_restore : MethodName := ⟨RX1, "restore", "()Z"⟩
def dkwX1_restore_2 : List UInt8 := [181, 0, 56, 4, 172]
abbrev dktX1_restore_2 : List UInt8 := dkwX1_restore_2 ++ []
def dkwX1_restore_1 : List UInt8 := [89, 42, 180, 1, 84, 183, 1, 81, 181, 0, 52, 42, 187, 0, 49, 89, 42, 180, 1, 87, 183, 1, 81]
abbrev dktX1_restore_1 : List UInt8 := dkwX1_restore_1 ++ dktX1_restore_2
def dkwX1_restore_0 : List UInt8 := [42, 180, 0, 86, 199, 0, 5, 3, 172, 42, 42, 180, 0, 86, 182, 0, 182, 181, 0, 31, 42, 187, 0, 49]
abbrev dktX1_restore_0 : List UInt8 := dkwX1_restore_0 ++ dktX1_restore_1
theorem dksX1_restore_0 : cX1_restore.data.toList.drop 0 = dktX1_restore_0 := by decide +kernel
theorem dksX1_restore_1 : cX1_restore.data.toList.drop 24 = dktX1_restore_1 := dk_seg dksX1_restore_0 24 rfl rfl
theorem dksX1_restore_2 : cX1_restore.data.toList.drop 47 = dktX1_restore_2 := dk_seg dksX1_restore_1 23 rfl rfl
theorem dX1_restore_0 : decode cX1_restore 0 = .ok (.aload_n 0, 1) := dk_42 (dk_at dksX1_restore_0 0 rfl rfl)
theorem dX1_restore_1 : decode cX1_restore 1 = .ok (.getfield 86, 3) := dk_180 0 86 (dk_at dksX1_restore_0 1 rfl rfl)
theorem dX1_restore_4 : decode cX1_restore 4 = .ok (.ifnonnull 5, 3) := dk_199 0 5 (dk_at dksX1_restore_0 4 rfl rfl)
theorem dX1_restore_7 : decode cX1_restore 7 = .ok (.iconst 0, 1) := dk_3 (dk_at dksX1_restore_0 7 rfl rfl)
theorem dX1_restore_8 : decode cX1_restore 8 = .ok (.ireturn, 1) := dk_172 (dk_at dksX1_restore_0 8 rfl rfl)
theorem dX1_restore_9 : decode cX1_restore 9 = .ok (.aload_n 0, 1) := dk_42 (dk_at dksX1_restore_0 9 rfl rfl)
theorem dX1_restore_10 : decode cX1_restore 10 = .ok (.aload_n 0, 1) := dk_42 (dk_at dksX1_restore_0 10 rfl rfl)
theorem dX1_restore_11 : decode cX1_restore 11 = .ok (.getfield 86, 3) := dk_180 0 86 (dk_at dksX1_restore_0 11 rfl rfl)
theorem dX1_restore_14 : decode cX1_restore 14 = .ok (.invokevirtual 182, 3) := dk_182 0 182 (dk_at dksX1_restore_0 14 rfl rfl)
theorem dX1_restore_17 : decode cX1_restore 17 = .ok (.putfield 31, 3) := dk_181 0 31 (dk_at dksX1_restore_0 17 rfl rfl)
theorem dX1_restore_20 : decode cX1_restore 20 = .ok (.aload_n 0, 1) := dk_42 (dk_at dksX1_restore_0 20 rfl rfl)
theorem dX1_restore_21 : decode cX1_restore 21 = .ok (.new 49, 3) := dk_187 0 49 (dk_at dksX1_restore_0 21 rfl rfl)
theorem dX1_restore_24 : decode cX1_restore 24 = .ok (.dup, 1) := dk_89 (dk_at dksX1_restore_1 0 rfl rfl)
theorem dX1_restore_25 : decode cX1_restore 25 = .ok (.aload_n 0, 1) := dk_42 (dk_at dksX1_restore_1 1 rfl rfl)
theorem dX1_restore_26 : decode cX1_restore 26 = .ok (.getfield 340, 3) := dk_180 1 84 (dk_at dksX1_restore_1 2 rfl rfl)
theorem dX1_restore_29 : decode cX1_restore 29 = .ok (.invokespecial 337, 3) := dk_183 1 81 (dk_at dksX1_restore_1 5 rfl rfl)
theorem dX1_restore_32 : decode cX1_restore 32 = .ok (.putfield 52, 3) := dk_181 0 52 (dk_at dksX1_restore_1 8 rfl rfl)
theorem dX1_restore_35 : decode cX1_restore 35 = .ok (.aload_n 0, 1) := dk_42 (dk_at dksX1_restore_1 11 rfl rfl)
theorem dX1_restore_36 : decode cX1_restore 36 = .ok (.new 49, 3) := dk_187 0 49 (dk_at dksX1_restore_1 12 rfl rfl)
theorem dX1_restore_39 : decode cX1_restore 39 = .ok (.dup, 1) := dk_89 (dk_at dksX1_restore_1 15 rfl rfl)
theorem dX1_restore_40 : decode cX1_restore 40 = .ok (.aload_n 0, 1) := dk_42 (dk_at dksX1_restore_1 16 rfl rfl)
theorem dX1_restore_41 : decode cX1_restore 41 = .ok (.getfield 343, 3) := dk_180 1 87 (dk_at dksX1_restore_1 17 rfl rfl)
theorem dX1_restore_44 : decode cX1_restore 44 = .ok (.invokespecial 337, 3) := dk_183 1 81 (dk_at dksX1_restore_1 20 rfl rfl)
theorem dX1_restore_47 : decode cX1_restore 47 = .ok (.putfield 56, 3) := dk_181 0 56 (dk_at dksX1_restore_2 0 rfl rfl)
theorem dX1_restore_50 : decode cX1_restore 50 = .ok (.iconst 1, 1) := dk_4 (dk_at dksX1_restore_2 3 rfl rfl)
theorem dX1_restore_51 : decode cX1_restore 51 = .ok (.ireturn, 1) := dk_172 (dk_at dksX1_restore_2 4 rfl rfl)
abbrev cX1_cave : ByteArray := prog_1_method_7_code
def yX1_cave : MethodName := ⟨RX1, "cave", "(I)I"⟩
def dkwX1_cave_4 : List UInt8 := [181, 0, 52, 42, 187, 0, 49, 89, 183, 0, 51, 181, 0, 56, 42, 1, 181, 0, 86, 3, 172]
abbrev dktX1_cave_4 : List UInt8 := dkwX1_cave_4 ++ []
def dkwX1_cave_3 : List UInt8 := [79, 45, 180, 0, 80, 172, 42, 44, 180, 0, 83, 181, 0, 31, 42, 187, 0, 49, 89, 183, 0, 51]
abbrev dktX1_cave_3 : List UInt8 := dkwX1_cave_3 ++ dktX1_cave_4
def dkwX1_cave_2 : List UInt8 := [181, 0, 22, 167, 0, 27, 78, 42, 44, 180, 0, 77, 181, 0, 42, 42, 180, 0, 46, 3, 92, 46, 4, 96]
abbrev dktX1_cave_2 : List UInt8 := dkwX1_cave_2 ++ dktX1_cave_3
def dkwX1_cave_1 : List UInt8 := [181, 0, 59, 42, 2, 181, 0, 42, 187, 0, 66, 89, 42, 27, 183, 0, 68, 77, 42, 44, 182, 0, 71]
abbrev dktX1_cave_1 : List UInt8 := dkwX1_cave_1 ++ dktX1_cave_2
def dkwX1_cave_0 : List UInt8 := [27, 155, 0, 15, 27, 42, 180, 0, 59, 163, 0, 7, 4, 167, 0, 4, 3, 184, 0, 62, 42, 3]
abbrev dktX1_cave_0 : List UInt8 := dkwX1_cave_0 ++ dktX1_cave_1
theorem dksX1_cave_0 : cX1_cave.data.toList.drop 0 = dktX1_cave_0 := by decide +kernel
theorem dksX1_cave_1 : cX1_cave.data.toList.drop 22 = dktX1_cave_1 := dk_seg dksX1_cave_0 22 rfl rfl
theorem dksX1_cave_2 : cX1_cave.data.toList.drop 45 = dktX1_cave_2 := dk_seg dksX1_cave_1 23 rfl rfl
theorem dksX1_cave_3 : cX1_cave.data.toList.drop 69 = dktX1_cave_3 := dk_seg dksX1_cave_2 24 rfl rfl
theorem dksX1_cave_4 : cX1_cave.data.toList.drop 91 = dktX1_cave_4 := dk_seg dksX1_cave_3 22 rfl rfl
theorem dX1_cave_0 : decode cX1_cave 0 = .ok (.iload_n 1, 1) := dk_27 (dk_at dksX1_cave_0 0 rfl rfl)
theorem dX1_cave_1 : decode cX1_cave 1 = .ok (.ifCond .lt 15, 3) := dk_155 0 15 (dk_at dksX1_cave_0 1 rfl rfl)
theorem dX1_cave_4 : decode cX1_cave 4 = .ok (.iload_n 1, 1) := dk_27 (dk_at dksX1_cave_0 4 rfl rfl)
theorem dX1_cave_5 : decode cX1_cave 5 = .ok (.aload_n 0, 1) := dk_42 (dk_at dksX1_cave_0 5 rfl rfl)
theorem dX1_cave_6 : decode cX1_cave 6 = .ok (.getfield 59, 3) := dk_180 0 59 (dk_at dksX1_cave_0 6 rfl rfl)
theorem dX1_cave_9 : decode cX1_cave 9 = .ok (.if_icmp .gt 7, 3) := dk_163 0 7 (dk_at dksX1_cave_0 9 rfl rfl)
theorem dX1_cave_12 : decode cX1_cave 12 = .ok (.iconst 1, 1) := dk_4 (dk_at dksX1_cave_0 12 rfl rfl)
theorem dX1_cave_13 : decode cX1_cave 13 = .ok (.goto 4, 3) := dk_167 0 4 (dk_at dksX1_cave_0 13 rfl rfl)
theorem dX1_cave_16 : decode cX1_cave 16 = .ok (.iconst 0, 1) := dk_3 (dk_at dksX1_cave_0 16 rfl rfl)
theorem dX1_cave_17 : decode cX1_cave 17 = .ok (.invokestatic 62, 3) := dk_184 0 62 (dk_at dksX1_cave_0 17 rfl rfl)
theorem dX1_cave_20 : decode cX1_cave 20 = .ok (.aload_n 0, 1) := dk_42 (dk_at dksX1_cave_0 20 rfl rfl)
theorem dX1_cave_21 : decode cX1_cave 21 = .ok (.iconst 0, 1) := dk_3 (dk_at dksX1_cave_0 21 rfl rfl)
theorem dX1_cave_22 : decode cX1_cave 22 = .ok (.putfield 59, 3) := dk_181 0 59 (dk_at dksX1_cave_1 0 rfl rfl)
theorem dX1_cave_25 : decode cX1_cave 25 = .ok (.aload_n 0, 1) := dk_42 (dk_at dksX1_cave_1 3 rfl rfl)
theorem dX1_cave_26 : decode cX1_cave 26 = .ok (.iconst (-1), 1) := dk_2 (dk_at dksX1_cave_1 4 rfl rfl)
theorem dX1_cave_27 : decode cX1_cave 27 = .ok (.putfield 42, 3) := dk_181 0 42 (dk_at dksX1_cave_1 5 rfl rfl)
theorem dX1_cave_30 : decode cX1_cave 30 = .ok (.new 66, 3) := dk_187 0 66 (dk_at dksX1_cave_1 8 rfl rfl)
theorem dX1_cave_33 : decode cX1_cave 33 = .ok (.dup, 1) := dk_89 (dk_at dksX1_cave_1 11 rfl rfl)
theorem dX1_cave_34 : decode cX1_cave 34 = .ok (.aload_n 0, 1) := dk_42 (dk_at dksX1_cave_1 12 rfl rfl)
theorem dX1_cave_35 : decode cX1_cave 35 = .ok (.iload_n 1, 1) := dk_27 (dk_at dksX1_cave_1 13 rfl rfl)
theorem dX1_cave_36 : decode cX1_cave 36 = .ok (.invokespecial 68, 3) := dk_183 0 68 (dk_at dksX1_cave_1 14 rfl rfl)
theorem dX1_cave_39 : decode cX1_cave 39 = .ok (.astore_n 2, 1) := dk_77 (dk_at dksX1_cave_1 17 rfl rfl)
theorem dX1_cave_40 : decode cX1_cave 40 = .ok (.aload_n 0, 1) := dk_42 (dk_at dksX1_cave_1 18 rfl rfl)
theorem dX1_cave_41 : decode cX1_cave 41 = .ok (.aload_n 2, 1) := dk_44 (dk_at dksX1_cave_1 19 rfl rfl)
theorem dX1_cave_42 : decode cX1_cave 42 = .ok (.invokevirtual 71, 3) := dk_182 0 71 (dk_at dksX1_cave_1 20 rfl rfl)
theorem dX1_cave_45 : decode cX1_cave 45 = .ok (.putfield 22, 3) := dk_181 0 22 (dk_at dksX1_cave_2 0 rfl rfl)
theorem dX1_cave_48 : decode cX1_cave 48 = .ok (.goto 27, 3) := dk_167 0 27 (dk_at dksX1_cave_2 3 rfl rfl)
theorem dX1_cave_51 : decode cX1_cave 51 = .ok (.astore_n 3, 1) := dk_78 (dk_at dksX1_cave_2 6 rfl rfl)
theorem dX1_cave_52 : decode cX1_cave 52 = .ok (.aload_n 0, 1) := dk_42 (dk_at dksX1_cave_2 7 rfl rfl)
theorem dX1_cave_53 : decode cX1_cave 53 = .ok (.aload_n 2, 1) := dk_44 (dk_at dksX1_cave_2 8 rfl rfl)
theorem dX1_cave_54 : decode cX1_cave 54 = .ok (.getfield 77, 3) := dk_180 0 77 (dk_at dksX1_cave_2 9 rfl rfl)
theorem dX1_cave_57 : decode cX1_cave 57 = .ok (.putfield 42, 3) := dk_181 0 42 (dk_at dksX1_cave_2 12 rfl rfl)
theorem dX1_cave_60 : decode cX1_cave 60 = .ok (.aload_n 0, 1) := dk_42 (dk_at dksX1_cave_2 15 rfl rfl)
theorem dX1_cave_61 : decode cX1_cave 61 = .ok (.getfield 46, 3) := dk_180 0 46 (dk_at dksX1_cave_2 16 rfl rfl)
theorem dX1_cave_64 : decode cX1_cave 64 = .ok (.iconst 0, 1) := dk_3 (dk_at dksX1_cave_2 19 rfl rfl)
theorem dX1_cave_65 : decode cX1_cave 65 = .ok (.dup2, 1) := dk_92 (dk_at dksX1_cave_2 20 rfl rfl)
theorem dX1_cave_66 : decode cX1_cave 66 = .ok (.iaload, 1) := dk_46 (dk_at dksX1_cave_2 21 rfl rfl)
theorem dX1_cave_67 : decode cX1_cave 67 = .ok (.iconst 1, 1) := dk_4 (dk_at dksX1_cave_2 22 rfl rfl)
theorem dX1_cave_68 : decode cX1_cave 68 = .ok (.iadd, 1) := dk_96 (dk_at dksX1_cave_2 23 rfl rfl)
theorem dX1_cave_69 : decode cX1_cave 69 = .ok (.iastore, 1) := dk_79 (dk_at dksX1_cave_3 0 rfl rfl)
theorem dX1_cave_70 : decode cX1_cave 70 = .ok (.aload_n 3, 1) := dk_45 (dk_at dksX1_cave_3 1 rfl rfl)
theorem dX1_cave_71 : decode cX1_cave 71 = .ok (.getfield 80, 3) := dk_180 0 80 (dk_at dksX1_cave_3 2 rfl rfl)
theorem dX1_cave_74 : decode cX1_cave 74 = .ok (.ireturn, 1) := dk_172 (dk_at dksX1_cave_3 5 rfl rfl)
theorem dX1_cave_75 : decode cX1_cave 75 = .ok (.aload_n 0, 1) := dk_42 (dk_at dksX1_cave_3 6 rfl rfl)
theorem dX1_cave_76 : decode cX1_cave 76 = .ok (.aload_n 2, 1) := dk_44 (dk_at dksX1_cave_3 7 rfl rfl)
theorem dX1_cave_77 : decode cX1_cave 77 = .ok (.getfield 83, 3) := dk_180 0 83 (dk_at dksX1_cave_3 8 rfl rfl)
theorem dX1_cave_80 : decode cX1_cave 80 = .ok (.putfield 31, 3) := dk_181 0 31 (dk_at dksX1_cave_3 11 rfl rfl)
theorem dX1_cave_83 : decode cX1_cave 83 = .ok (.aload_n 0, 1) := dk_42 (dk_at dksX1_cave_3 14 rfl rfl)
theorem dX1_cave_84 : decode cX1_cave 84 = .ok (.new 49, 3) := dk_187 0 49 (dk_at dksX1_cave_3 15 rfl rfl)
theorem dX1_cave_87 : decode cX1_cave 87 = .ok (.dup, 1) := dk_89 (dk_at dksX1_cave_3 18 rfl rfl)
theorem dX1_cave_88 : decode cX1_cave 88 = .ok (.invokespecial 51, 3) := dk_183 0 51 (dk_at dksX1_cave_3 19 rfl rfl)
theorem dX1_cave_91 : decode cX1_cave 91 = .ok (.putfield 52, 3) := dk_181 0 52 (dk_at dksX1_cave_4 0 rfl rfl)
theorem dX1_cave_94 : decode cX1_cave 94 = .ok (.aload_n 0, 1) := dk_42 (dk_at dksX1_cave_4 3 rfl rfl)
theorem dX1_cave_95 : decode cX1_cave 95 = .ok (.new 49, 3) := dk_187 0 49 (dk_at dksX1_cave_4 4 rfl rfl)
theorem dX1_cave_98 : decode cX1_cave 98 = .ok (.dup, 1) := dk_89 (dk_at dksX1_cave_4 7 rfl rfl)
theorem dX1_cave_99 : decode cX1_cave 99 = .ok (.invokespecial 51, 3) := dk_183 0 51 (dk_at dksX1_cave_4 8 rfl rfl)
theorem dX1_cave_102 : decode cX1_cave 102 = .ok (.putfield 56, 3) := dk_181 0 56 (dk_at dksX1_cave_4 11 rfl rfl)
theorem dX1_cave_105 : decode cX1_cave 105 = .ok (.aload_n 0, 1) := dk_42 (dk_at dksX1_cave_4 14 rfl rfl)
theorem dX1_cave_106 : decode cX1_cave 106 = .ok (.aconst_null, 1) := dk_1 (dk_at dksX1_cave_4 15 rfl rfl)
theorem dX1_cave_107 : decode cX1_cave 107 = .ok (.putfield 86, 3) := dk_181 0 86 (dk_at dksX1_cave_4 16 rfl rfl)
theorem dX1_cave_110 : decode cX1_cave 110 = .ok (.iconst 0, 1) := dk_3 (dk_at dksX1_cave_4 19 rfl rfl)
theorem dX1_cave_111 : decode cX1_cave 111 = .ok (.ireturn, 1) := dk_172 (dk_at dksX1_cave_4 20 rfl rfl)
abbrev cX1_right : ByteArray := prog_1_method_3_code
def yX1_right : MethodName := ⟨RX1, "right", "(Z)V"⟩
def dkwX1_right_0 : List UInt8 := [26, 154, 0, 11, 187, 0, 7, 89, 183, 0, 9, 191, 177]
abbrev dktX1_right_0 : List UInt8 := dkwX1_right_0 ++ []
theorem dksX1_right_0 : cX1_right.data.toList.drop 0 = dktX1_right_0 := by decide +kernel
theorem dX1_right_0 : decode cX1_right 0 = .ok (.iload_n 0, 1) := dk_26 (dk_at dksX1_right_0 0 rfl rfl)
theorem dX1_right_1 : decode cX1_right 1 = .ok (.ifCond .ne 11, 3) := dk_154 0 11 (dk_at dksX1_right_0 1 rfl rfl)
theorem dX1_right_4 : decode cX1_right 4 = .ok (.new 7, 3) := dk_187 0 7 (dk_at dksX1_right_0 4 rfl rfl)
theorem dX1_right_7 : decode cX1_right 7 = .ok (.dup, 1) := dk_89 (dk_at dksX1_right_0 7 rfl rfl)
theorem dX1_right_8 : decode cX1_right 8 = .ok (.invokespecial 9, 3) := dk_183 0 9 (dk_at dksX1_right_0 8 rfl rfl)
theorem dX1_right_11 : decode cX1_right 11 = .ok (.athrow, 1) := dk_191 (dk_at dksX1_right_0 11 rfl rfl)
theorem dX1_right_12 : decode cX1_right 12 = .ok (.return_, 1) := dk_177 (dk_at dksX1_right_0 12 rfl rfl)
abbrev cX1_count : ByteArray := prog_1_method_15_code
def yX1_count : MethodName := ⟨RX1, "count", "(I)I"⟩
def dkwX1_count_6 : List UInt8 := [46, 172]
abbrev dktX1_count_6 : List UInt8 := dkwX1_count_6 ++ []
def dkwX1_count_5 : List UInt8 := [42, 180, 0, 59, 172, 27, 16, 10, 16, 12, 184, 0, 161, 184, 0, 165, 42, 180, 0, 46, 27, 16, 10, 100]
abbrev dktX1_count_5 : List UInt8 := dkwX1_count_5 ++ dktX1_count_6
def dkwX1_count_4 : List UInt8 := [182, 0, 155, 172, 42, 180, 0, 52, 185, 0, 158, 1, 0, 172, 42, 180, 0, 56, 185, 0, 158, 1, 0, 172]
abbrev dktX1_count_4 : List UInt8 := dkwX1_count_4 ++ dktX1_count_5
def dkwX1_count_3 : List UInt8 := [42, 180, 0, 31, 182, 0, 146, 172, 42, 180, 0, 31, 182, 0, 149, 172, 42, 182, 0, 152, 172, 42]
abbrev dktX1_count_3 : List UInt8 := dkwX1_count_3 ++ dktX1_count_4
def dkwX1_count_2 : List UInt8 := [42, 180, 0, 22, 182, 0, 97, 172, 42, 180, 0, 31, 180, 0, 140, 172, 42, 180, 0, 31, 180, 0, 143, 172]
abbrev dktX1_count_2 : List UInt8 := dkwX1_count_2 ++ dktX1_count_3
def dkwX1_count_1 : List UInt8 := [170, 0, 0, 0, 0, 0, 130, 0, 0, 0, 0, 0, 0, 0, 9, 0, 0, 0, 55, 0, 0, 0, 63, 0, 0, 0, 71, 0, 0, 0, 79, 0, 0, 0, 87, 0, 0, 0, 95, 0, 0, 0, 100, 0, 0, 0, 105, 0, 0, 0, 115, 0, 0, 0, 125]
abbrev dktX1_count_1 : List UInt8 := dkwX1_count_1 ++ dktX1_count_2
def dkwX1_count_0 : List UInt8 := [27]
abbrev dktX1_count_0 : List UInt8 := dkwX1_count_0 ++ dktX1_count_1
theorem dksX1_count_0 : cX1_count.data.toList.drop 0 = dktX1_count_0 := by decide +kernel
theorem dksX1_count_1 : cX1_count.data.toList.drop 1 = dktX1_count_1 := dk_seg dksX1_count_0 1 rfl rfl
theorem dksX1_count_2 : cX1_count.data.toList.drop 56 = dktX1_count_2 := dk_seg dksX1_count_1 55 rfl rfl
theorem dksX1_count_3 : cX1_count.data.toList.drop 80 = dktX1_count_3 := dk_seg dksX1_count_2 24 rfl rfl
theorem dksX1_count_4 : cX1_count.data.toList.drop 102 = dktX1_count_4 := dk_seg dksX1_count_3 22 rfl rfl
theorem dksX1_count_5 : cX1_count.data.toList.drop 126 = dktX1_count_5 := dk_seg dksX1_count_4 24 rfl rfl
theorem dksX1_count_6 : cX1_count.data.toList.drop 150 = dktX1_count_6 := dk_seg dksX1_count_5 24 rfl rfl
theorem dX1_count_0 : decode cX1_count 0 = .ok (.iload_n 1, 1) := dk_27 (dk_at dksX1_count_0 0 rfl rfl)
theorem dX1_count_1 : decode cX1_count 1 = .ok (.tableswitch 130 0 9 #[55, 63, 71, 79, 87, 95, 100, 105, 115, 125], 55) := by decide +kernel
theorem dX1_count_56 : decode cX1_count 56 = .ok (.aload_n 0, 1) := dk_42 (dk_at dksX1_count_2 0 rfl rfl)
theorem dX1_count_57 : decode cX1_count 57 = .ok (.getfield 22, 3) := dk_180 0 22 (dk_at dksX1_count_2 1 rfl rfl)
theorem dX1_count_60 : decode cX1_count 60 = .ok (.invokevirtual 97, 3) := dk_182 0 97 (dk_at dksX1_count_2 4 rfl rfl)
theorem dX1_count_63 : decode cX1_count 63 = .ok (.ireturn, 1) := dk_172 (dk_at dksX1_count_2 7 rfl rfl)
theorem dX1_count_64 : decode cX1_count 64 = .ok (.aload_n 0, 1) := dk_42 (dk_at dksX1_count_2 8 rfl rfl)
theorem dX1_count_65 : decode cX1_count 65 = .ok (.getfield 31, 3) := dk_180 0 31 (dk_at dksX1_count_2 9 rfl rfl)
theorem dX1_count_68 : decode cX1_count 68 = .ok (.getfield 140, 3) := dk_180 0 140 (dk_at dksX1_count_2 12 rfl rfl)
theorem dX1_count_71 : decode cX1_count 71 = .ok (.ireturn, 1) := dk_172 (dk_at dksX1_count_2 15 rfl rfl)
theorem dX1_count_72 : decode cX1_count 72 = .ok (.aload_n 0, 1) := dk_42 (dk_at dksX1_count_2 16 rfl rfl)
theorem dX1_count_73 : decode cX1_count 73 = .ok (.getfield 31, 3) := dk_180 0 31 (dk_at dksX1_count_2 17 rfl rfl)
theorem dX1_count_76 : decode cX1_count 76 = .ok (.getfield 143, 3) := dk_180 0 143 (dk_at dksX1_count_2 20 rfl rfl)
theorem dX1_count_79 : decode cX1_count 79 = .ok (.ireturn, 1) := dk_172 (dk_at dksX1_count_2 23 rfl rfl)
theorem dX1_count_80 : decode cX1_count 80 = .ok (.aload_n 0, 1) := dk_42 (dk_at dksX1_count_3 0 rfl rfl)
theorem dX1_count_81 : decode cX1_count 81 = .ok (.getfield 31, 3) := dk_180 0 31 (dk_at dksX1_count_3 1 rfl rfl)
theorem dX1_count_84 : decode cX1_count 84 = .ok (.invokevirtual 146, 3) := dk_182 0 146 (dk_at dksX1_count_3 4 rfl rfl)
theorem dX1_count_87 : decode cX1_count 87 = .ok (.ireturn, 1) := dk_172 (dk_at dksX1_count_3 7 rfl rfl)
theorem dX1_count_88 : decode cX1_count 88 = .ok (.aload_n 0, 1) := dk_42 (dk_at dksX1_count_3 8 rfl rfl)
theorem dX1_count_89 : decode cX1_count 89 = .ok (.getfield 31, 3) := dk_180 0 31 (dk_at dksX1_count_3 9 rfl rfl)
theorem dX1_count_92 : decode cX1_count 92 = .ok (.invokevirtual 149, 3) := dk_182 0 149 (dk_at dksX1_count_3 12 rfl rfl)
theorem dX1_count_95 : decode cX1_count 95 = .ok (.ireturn, 1) := dk_172 (dk_at dksX1_count_3 15 rfl rfl)
theorem dX1_count_96 : decode cX1_count 96 = .ok (.aload_n 0, 1) := dk_42 (dk_at dksX1_count_3 16 rfl rfl)
theorem dX1_count_97 : decode cX1_count 97 = .ok (.invokevirtual 152, 3) := dk_182 0 152 (dk_at dksX1_count_3 17 rfl rfl)
theorem dX1_count_100 : decode cX1_count 100 = .ok (.ireturn, 1) := dk_172 (dk_at dksX1_count_3 20 rfl rfl)
theorem dX1_count_101 : decode cX1_count 101 = .ok (.aload_n 0, 1) := dk_42 (dk_at dksX1_count_3 21 rfl rfl)
theorem dX1_count_102 : decode cX1_count 102 = .ok (.invokevirtual 155, 3) := dk_182 0 155 (dk_at dksX1_count_4 0 rfl rfl)
theorem dX1_count_105 : decode cX1_count 105 = .ok (.ireturn, 1) := dk_172 (dk_at dksX1_count_4 3 rfl rfl)
theorem dX1_count_106 : decode cX1_count 106 = .ok (.aload_n 0, 1) := dk_42 (dk_at dksX1_count_4 4 rfl rfl)
theorem dX1_count_107 : decode cX1_count 107 = .ok (.getfield 52, 3) := dk_180 0 52 (dk_at dksX1_count_4 5 rfl rfl)
theorem dX1_count_110 : decode cX1_count 110 = .ok (.invokeinterface 158 1, 5) := by decide +kernel
theorem dX1_count_115 : decode cX1_count 115 = .ok (.ireturn, 1) := dk_172 (dk_at dksX1_count_4 13 rfl rfl)
theorem dX1_count_116 : decode cX1_count 116 = .ok (.aload_n 0, 1) := dk_42 (dk_at dksX1_count_4 14 rfl rfl)
theorem dX1_count_117 : decode cX1_count 117 = .ok (.getfield 56, 3) := dk_180 0 56 (dk_at dksX1_count_4 15 rfl rfl)
theorem dX1_count_120 : decode cX1_count 120 = .ok (.invokeinterface 158 1, 5) := by decide +kernel
theorem dX1_count_125 : decode cX1_count 125 = .ok (.ireturn, 1) := dk_172 (dk_at dksX1_count_4 23 rfl rfl)
theorem dX1_count_126 : decode cX1_count 126 = .ok (.aload_n 0, 1) := dk_42 (dk_at dksX1_count_5 0 rfl rfl)
theorem dX1_count_127 : decode cX1_count 127 = .ok (.getfield 59, 3) := dk_180 0 59 (dk_at dksX1_count_5 1 rfl rfl)
theorem dX1_count_130 : decode cX1_count 130 = .ok (.ireturn, 1) := dk_172 (dk_at dksX1_count_5 4 rfl rfl)
theorem dX1_count_131 : decode cX1_count 131 = .ok (.iload_n 1, 1) := dk_27 (dk_at dksX1_count_5 5 rfl rfl)
theorem dX1_count_132 : decode cX1_count 132 = .ok (.bipush 10, 2) := dk_16 10 (dk_at dksX1_count_5 6 rfl rfl)
theorem dX1_count_134 : decode cX1_count 134 = .ok (.bipush 12, 2) := dk_16 12 (dk_at dksX1_count_5 8 rfl rfl)
theorem dX1_count_136 : decode cX1_count 136 = .ok (.invokestatic 161, 3) := dk_184 0 161 (dk_at dksX1_count_5 10 rfl rfl)
theorem dX1_count_139 : decode cX1_count 139 = .ok (.invokestatic 165, 3) := dk_184 0 165 (dk_at dksX1_count_5 13 rfl rfl)
theorem dX1_count_142 : decode cX1_count 142 = .ok (.aload_n 0, 1) := dk_42 (dk_at dksX1_count_5 16 rfl rfl)
theorem dX1_count_143 : decode cX1_count 143 = .ok (.getfield 46, 3) := dk_180 0 46 (dk_at dksX1_count_5 17 rfl rfl)
theorem dX1_count_146 : decode cX1_count 146 = .ok (.iload_n 1, 1) := dk_27 (dk_at dksX1_count_5 20 rfl rfl)
theorem dX1_count_147 : decode cX1_count 147 = .ok (.bipush 10, 2) := dk_16 10 (dk_at dksX1_count_5 21 rfl rfl)
theorem dX1_count_149 : decode cX1_count 149 = .ok (.isub, 1) := dk_100 (dk_at dksX1_count_5 23 rfl rfl)
theorem dX1_count_150 : decode cX1_count 150 = .ok (.iaload, 1) := dk_46 (dk_at dksX1_count_6 0 rfl rfl)
theorem dX1_count_151 : decode cX1_count 151 = .ok (.ireturn, 1) := dk_172 (dk_at dksX1_count_6 1 rfl rfl)
abbrev cX1_roots : ByteArray := prog_1_method_13_code
def yX1_roots : MethodName := ⟨RX1, "roots", "()I"⟩
def dkwX1_roots_1 : List UInt8 := [4, 28, 120, 128, 60, 132, 2, 1, 167, 255, 228, 27, 172]
abbrev dktX1_roots_1 : List UInt8 := dkwX1_roots_1 ++ []
def dkwX1_roots_0 : List UInt8 := [3, 60, 3, 61, 28, 42, 180, 0, 22, 182, 0, 97, 162, 0, 23, 42, 28, 182, 0, 116, 154, 0, 9, 27]
abbrev dktX1_roots_0 : List UInt8 := dkwX1_roots_0 ++ dktX1_roots_1
theorem dksX1_roots_0 : cX1_roots.data.toList.drop 0 = dktX1_roots_0 := by decide +kernel
theorem dksX1_roots_1 : cX1_roots.data.toList.drop 24 = dktX1_roots_1 := dk_seg dksX1_roots_0 24 rfl rfl
theorem dX1_roots_0 : decode cX1_roots 0 = .ok (.iconst 0, 1) := dk_3 (dk_at dksX1_roots_0 0 rfl rfl)
theorem dX1_roots_1 : decode cX1_roots 1 = .ok (.istore_n 1, 1) := dk_60 (dk_at dksX1_roots_0 1 rfl rfl)
theorem dX1_roots_2 : decode cX1_roots 2 = .ok (.iconst 0, 1) := dk_3 (dk_at dksX1_roots_0 2 rfl rfl)
theorem dX1_roots_3 : decode cX1_roots 3 = .ok (.istore_n 2, 1) := dk_61 (dk_at dksX1_roots_0 3 rfl rfl)
theorem dX1_roots_4 : decode cX1_roots 4 = .ok (.iload_n 2, 1) := dk_28 (dk_at dksX1_roots_0 4 rfl rfl)
theorem dX1_roots_5 : decode cX1_roots 5 = .ok (.aload_n 0, 1) := dk_42 (dk_at dksX1_roots_0 5 rfl rfl)
theorem dX1_roots_6 : decode cX1_roots 6 = .ok (.getfield 22, 3) := dk_180 0 22 (dk_at dksX1_roots_0 6 rfl rfl)
theorem dX1_roots_9 : decode cX1_roots 9 = .ok (.invokevirtual 97, 3) := dk_182 0 97 (dk_at dksX1_roots_0 9 rfl rfl)
theorem dX1_roots_12 : decode cX1_roots 12 = .ok (.if_icmp .ge 23, 3) := dk_162 0 23 (dk_at dksX1_roots_0 12 rfl rfl)
theorem dX1_roots_15 : decode cX1_roots 15 = .ok (.aload_n 0, 1) := dk_42 (dk_at dksX1_roots_0 15 rfl rfl)
theorem dX1_roots_16 : decode cX1_roots 16 = .ok (.iload_n 2, 1) := dk_28 (dk_at dksX1_roots_0 16 rfl rfl)
theorem dX1_roots_17 : decode cX1_roots 17 = .ok (.invokevirtual 116, 3) := dk_182 0 116 (dk_at dksX1_roots_0 17 rfl rfl)
theorem dX1_roots_20 : decode cX1_roots 20 = .ok (.ifCond .ne 9, 3) := dk_154 0 9 (dk_at dksX1_roots_0 20 rfl rfl)
theorem dX1_roots_23 : decode cX1_roots 23 = .ok (.iload_n 1, 1) := dk_27 (dk_at dksX1_roots_0 23 rfl rfl)
theorem dX1_roots_24 : decode cX1_roots 24 = .ok (.iconst 1, 1) := dk_4 (dk_at dksX1_roots_1 0 rfl rfl)
theorem dX1_roots_25 : decode cX1_roots 25 = .ok (.iload_n 2, 1) := dk_28 (dk_at dksX1_roots_1 1 rfl rfl)
theorem dX1_roots_26 : decode cX1_roots 26 = .ok (.ishl, 1) := dk_120 (dk_at dksX1_roots_1 2 rfl rfl)
theorem dX1_roots_27 : decode cX1_roots 27 = .ok (.ior, 1) := dk_128 (dk_at dksX1_roots_1 3 rfl rfl)
theorem dX1_roots_28 : decode cX1_roots 28 = .ok (.istore_n 1, 1) := dk_60 (dk_at dksX1_roots_1 4 rfl rfl)
theorem dX1_roots_29 : decode cX1_roots 29 = .ok (.iinc 2 1, 3) := dk_132 2 1 (dk_at dksX1_roots_1 5 rfl rfl)
theorem dX1_roots_32 : decode cX1_roots 32 = .ok (.goto (-28), 3) := dk_167 255 228 (dk_at dksX1_roots_1 8 rfl rfl)
theorem dX1_roots_35 : decode cX1_roots 35 = .ok (.iload_n 1, 1) := dk_27 (dk_at dksX1_roots_1 11 rfl rfl)
theorem dX1_roots_36 : decode cX1_roots 36 = .ok (.ireturn, 1) := dk_172 (dk_at dksX1_roots_1 12 rfl rfl)
abbrev cX1_above : ByteArray := prog_1_method_11_code
def yX1_above : MethodName := ⟨RX1, "above", "(I)I"⟩
def dkwX1_above_1 : List UInt8 := [120, 128, 61, 132, 3, 1, 167, 255, 230, 28, 172]
abbrev dktX1_above_1 : List UInt8 := dkwX1_above_1 ++ []
def dkwX1_above_0 : List UInt8 := [3, 61, 3, 62, 29, 27, 162, 0, 27, 42, 29, 182, 0, 105, 27, 184, 0, 101, 153, 0, 9, 28, 4, 29]
abbrev dktX1_above_0 : List UInt8 := dkwX1_above_0 ++ dktX1_above_1
theorem dksX1_above_0 : cX1_above.data.toList.drop 0 = dktX1_above_0 := by decide +kernel
theorem dksX1_above_1 : cX1_above.data.toList.drop 24 = dktX1_above_1 := dk_seg dksX1_above_0 24 rfl rfl
theorem dX1_above_0 : decode cX1_above 0 = .ok (.iconst 0, 1) := dk_3 (dk_at dksX1_above_0 0 rfl rfl)
theorem dX1_above_1 : decode cX1_above 1 = .ok (.istore_n 2, 1) := dk_61 (dk_at dksX1_above_0 1 rfl rfl)
theorem dX1_above_2 : decode cX1_above 2 = .ok (.iconst 0, 1) := dk_3 (dk_at dksX1_above_0 2 rfl rfl)
theorem dX1_above_3 : decode cX1_above 3 = .ok (.istore_n 3, 1) := dk_62 (dk_at dksX1_above_0 3 rfl rfl)
theorem dX1_above_4 : decode cX1_above 4 = .ok (.iload_n 3, 1) := dk_29 (dk_at dksX1_above_0 4 rfl rfl)
theorem dX1_above_5 : decode cX1_above 5 = .ok (.iload_n 1, 1) := dk_27 (dk_at dksX1_above_0 5 rfl rfl)
theorem dX1_above_6 : decode cX1_above 6 = .ok (.if_icmp .ge 27, 3) := dk_162 0 27 (dk_at dksX1_above_0 6 rfl rfl)
theorem dX1_above_9 : decode cX1_above 9 = .ok (.aload_n 0, 1) := dk_42 (dk_at dksX1_above_0 9 rfl rfl)
theorem dX1_above_10 : decode cX1_above 10 = .ok (.iload_n 3, 1) := dk_29 (dk_at dksX1_above_0 10 rfl rfl)
theorem dX1_above_11 : decode cX1_above 11 = .ok (.invokevirtual 105, 3) := dk_182 0 105 (dk_at dksX1_above_0 11 rfl rfl)
theorem dX1_above_14 : decode cX1_above 14 = .ok (.iload_n 1, 1) := dk_27 (dk_at dksX1_above_0 14 rfl rfl)
theorem dX1_above_15 : decode cX1_above 15 = .ok (.invokestatic 101, 3) := dk_184 0 101 (dk_at dksX1_above_0 15 rfl rfl)
theorem dX1_above_18 : decode cX1_above 18 = .ok (.ifCond .eq 9, 3) := dk_153 0 9 (dk_at dksX1_above_0 18 rfl rfl)
theorem dX1_above_21 : decode cX1_above 21 = .ok (.iload_n 2, 1) := dk_28 (dk_at dksX1_above_0 21 rfl rfl)
theorem dX1_above_22 : decode cX1_above 22 = .ok (.iconst 1, 1) := dk_4 (dk_at dksX1_above_0 22 rfl rfl)
theorem dX1_above_23 : decode cX1_above 23 = .ok (.iload_n 3, 1) := dk_29 (dk_at dksX1_above_0 23 rfl rfl)
theorem dX1_above_24 : decode cX1_above 24 = .ok (.ishl, 1) := dk_120 (dk_at dksX1_above_1 0 rfl rfl)
theorem dX1_above_25 : decode cX1_above 25 = .ok (.ior, 1) := dk_128 (dk_at dksX1_above_1 1 rfl rfl)
theorem dX1_above_26 : decode cX1_above 26 = .ok (.istore_n 2, 1) := dk_61 (dk_at dksX1_above_1 2 rfl rfl)
theorem dX1_above_27 : decode cX1_above 27 = .ok (.iinc 3 1, 3) := dk_132 3 1 (dk_at dksX1_above_1 3 rfl rfl)
theorem dX1_above_30 : decode cX1_above 30 = .ok (.goto (-26), 3) := dk_167 255 230 (dk_at dksX1_above_1 6 rfl rfl)
theorem dX1_above_33 : decode cX1_above 33 = .ok (.iload_n 2, 1) := dk_28 (dk_at dksX1_above_1 9 rfl rfl)
theorem dX1_above_34 : decode cX1_above 34 = .ok (.ireturn, 1) := dk_172 (dk_at dksX1_above_1 10 rfl rfl)
abbrev cX1_below : ByteArray := prog_1_method_10_code
def yX1_below : MethodName := ⟨RX1, "below", "(I)I"⟩
def dkwX1_below_1 : List UInt8 := [184, 0, 101, 153, 0, 11, 28, 42, 29, 182, 0, 93, 128, 61, 132, 3, 1, 167, 255, 226, 28, 172]
abbrev dktX1_below_1 : List UInt8 := dkwX1_below_1 ++ []
def dkwX1_below_0 : List UInt8 := [42, 27, 182, 0, 93, 61, 27, 4, 96, 62, 29, 42, 180, 0, 22, 182, 0, 97, 162, 0, 25, 28, 29]
abbrev dktX1_below_0 : List UInt8 := dkwX1_below_0 ++ dktX1_below_1
theorem dksX1_below_0 : cX1_below.data.toList.drop 0 = dktX1_below_0 := by decide +kernel
theorem dksX1_below_1 : cX1_below.data.toList.drop 23 = dktX1_below_1 := dk_seg dksX1_below_0 23 rfl rfl
theorem dX1_below_0 : decode cX1_below 0 = .ok (.aload_n 0, 1) := dk_42 (dk_at dksX1_below_0 0 rfl rfl)
theorem dX1_below_1 : decode cX1_below 1 = .ok (.iload_n 1, 1) := dk_27 (dk_at dksX1_below_0 1 rfl rfl)
theorem dX1_below_2 : decode cX1_below 2 = .ok (.invokevirtual 93, 3) := dk_182 0 93 (dk_at dksX1_below_0 2 rfl rfl)
theorem dX1_below_5 : decode cX1_below 5 = .ok (.istore_n 2, 1) := dk_61 (dk_at dksX1_below_0 5 rfl rfl)
theorem dX1_below_6 : decode cX1_below 6 = .ok (.iload_n 1, 1) := dk_27 (dk_at dksX1_below_0 6 rfl rfl)
theorem dX1_below_7 : decode cX1_below 7 = .ok (.iconst 1, 1) := dk_4 (dk_at dksX1_below_0 7 rfl rfl)
theorem dX1_below_8 : decode cX1_below 8 = .ok (.iadd, 1) := dk_96 (dk_at dksX1_below_0 8 rfl rfl)
theorem dX1_below_9 : decode cX1_below 9 = .ok (.istore_n 3, 1) := dk_62 (dk_at dksX1_below_0 9 rfl rfl)
theorem dX1_below_10 : decode cX1_below 10 = .ok (.iload_n 3, 1) := dk_29 (dk_at dksX1_below_0 10 rfl rfl)
theorem dX1_below_11 : decode cX1_below 11 = .ok (.aload_n 0, 1) := dk_42 (dk_at dksX1_below_0 11 rfl rfl)
theorem dX1_below_12 : decode cX1_below 12 = .ok (.getfield 22, 3) := dk_180 0 22 (dk_at dksX1_below_0 12 rfl rfl)
theorem dX1_below_15 : decode cX1_below 15 = .ok (.invokevirtual 97, 3) := dk_182 0 97 (dk_at dksX1_below_0 15 rfl rfl)
theorem dX1_below_18 : decode cX1_below 18 = .ok (.if_icmp .ge 25, 3) := dk_162 0 25 (dk_at dksX1_below_0 18 rfl rfl)
theorem dX1_below_21 : decode cX1_below 21 = .ok (.iload_n 2, 1) := dk_28 (dk_at dksX1_below_0 21 rfl rfl)
theorem dX1_below_22 : decode cX1_below 22 = .ok (.iload_n 3, 1) := dk_29 (dk_at dksX1_below_0 22 rfl rfl)
theorem dX1_below_23 : decode cX1_below 23 = .ok (.invokestatic 101, 3) := dk_184 0 101 (dk_at dksX1_below_1 0 rfl rfl)
theorem dX1_below_26 : decode cX1_below 26 = .ok (.ifCond .eq 11, 3) := dk_153 0 11 (dk_at dksX1_below_1 3 rfl rfl)
theorem dX1_below_29 : decode cX1_below 29 = .ok (.iload_n 2, 1) := dk_28 (dk_at dksX1_below_1 6 rfl rfl)
theorem dX1_below_30 : decode cX1_below 30 = .ok (.aload_n 0, 1) := dk_42 (dk_at dksX1_below_1 7 rfl rfl)
theorem dX1_below_31 : decode cX1_below 31 = .ok (.iload_n 3, 1) := dk_29 (dk_at dksX1_below_1 8 rfl rfl)
theorem dX1_below_32 : decode cX1_below 32 = .ok (.invokevirtual 93, 3) := dk_182 0 93 (dk_at dksX1_below_1 9 rfl rfl)
theorem dX1_below_35 : decode cX1_below 35 = .ok (.ior, 1) := dk_128 (dk_at dksX1_below_1 12 rfl rfl)
theorem dX1_below_36 : decode cX1_below 36 = .ok (.istore_n 2, 1) := dk_61 (dk_at dksX1_below_1 13 rfl rfl)
theorem dX1_below_37 : decode cX1_below 37 = .ok (.iinc 3 1, 3) := dk_132 3 1 (dk_at dksX1_below_1 14 rfl rfl)
theorem dX1_below_40 : decode cX1_below 40 = .ok (.goto (-30), 3) := dk_167 255 226 (dk_at dksX1_below_1 17 rfl rfl)
theorem dX1_below_43 : decode cX1_below 43 = .ok (.iload_n 2, 1) := dk_28 (dk_at dksX1_below_1 20 rfl rfl)
theorem dX1_below_44 : decode cX1_below 44 = .ok (.ireturn, 1) := dk_172 (dk_at dksX1_below_1 21 rfl rfl)
abbrev cX1_straight : ByteArray := prog_1_method_9_code
def yX1_straight : MethodName := ⟨RX1, "straight", "(I)I"⟩
def dkwX1_straight_1 : List UInt8 := [42, 180, 0, 31, 27, 29, 182, 0, 89, 120, 128, 61, 132, 3, 1, 167, 255, 221, 28, 172]
abbrev dktX1_straight_1 : List UInt8 := dkwX1_straight_1 ++ []
def dkwX1_straight_0 : List UInt8 := [3, 61, 3, 62, 29, 5, 162, 0, 36, 42, 180, 0, 31, 27, 29, 182, 0, 89, 2, 159, 0, 17, 28, 4]
abbrev dktX1_straight_0 : List UInt8 := dkwX1_straight_0 ++ dktX1_straight_1
theorem dksX1_straight_0 : cX1_straight.data.toList.drop 0 = dktX1_straight_0 := by decide +kernel
theorem dksX1_straight_1 : cX1_straight.data.toList.drop 24 = dktX1_straight_1 := dk_seg dksX1_straight_0 24 rfl rfl
theorem dX1_straight_0 : decode cX1_straight 0 = .ok (.iconst 0, 1) := dk_3 (dk_at dksX1_straight_0 0 rfl rfl)
theorem dX1_straight_1 : decode cX1_straight 1 = .ok (.istore_n 2, 1) := dk_61 (dk_at dksX1_straight_0 1 rfl rfl)
theorem dX1_straight_2 : decode cX1_straight 2 = .ok (.iconst 0, 1) := dk_3 (dk_at dksX1_straight_0 2 rfl rfl)
theorem dX1_straight_3 : decode cX1_straight 3 = .ok (.istore_n 3, 1) := dk_62 (dk_at dksX1_straight_0 3 rfl rfl)
theorem dX1_straight_4 : decode cX1_straight 4 = .ok (.iload_n 3, 1) := dk_29 (dk_at dksX1_straight_0 4 rfl rfl)
theorem dX1_straight_5 : decode cX1_straight 5 = .ok (.iconst 2, 1) := dk_5 (dk_at dksX1_straight_0 5 rfl rfl)
theorem dX1_straight_6 : decode cX1_straight 6 = .ok (.if_icmp .ge 36, 3) := dk_162 0 36 (dk_at dksX1_straight_0 6 rfl rfl)
theorem dX1_straight_9 : decode cX1_straight 9 = .ok (.aload_n 0, 1) := dk_42 (dk_at dksX1_straight_0 9 rfl rfl)
theorem dX1_straight_10 : decode cX1_straight 10 = .ok (.getfield 31, 3) := dk_180 0 31 (dk_at dksX1_straight_0 10 rfl rfl)
theorem dX1_straight_13 : decode cX1_straight 13 = .ok (.iload_n 1, 1) := dk_27 (dk_at dksX1_straight_0 13 rfl rfl)
theorem dX1_straight_14 : decode cX1_straight 14 = .ok (.iload_n 3, 1) := dk_29 (dk_at dksX1_straight_0 14 rfl rfl)
theorem dX1_straight_15 : decode cX1_straight 15 = .ok (.invokevirtual 89, 3) := dk_182 0 89 (dk_at dksX1_straight_0 15 rfl rfl)
theorem dX1_straight_18 : decode cX1_straight 18 = .ok (.iconst (-1), 1) := dk_2 (dk_at dksX1_straight_0 18 rfl rfl)
theorem dX1_straight_19 : decode cX1_straight 19 = .ok (.if_icmp .eq 17, 3) := dk_159 0 17 (dk_at dksX1_straight_0 19 rfl rfl)
theorem dX1_straight_22 : decode cX1_straight 22 = .ok (.iload_n 2, 1) := dk_28 (dk_at dksX1_straight_0 22 rfl rfl)
theorem dX1_straight_23 : decode cX1_straight 23 = .ok (.iconst 1, 1) := dk_4 (dk_at dksX1_straight_0 23 rfl rfl)
theorem dX1_straight_24 : decode cX1_straight 24 = .ok (.aload_n 0, 1) := dk_42 (dk_at dksX1_straight_1 0 rfl rfl)
theorem dX1_straight_25 : decode cX1_straight 25 = .ok (.getfield 31, 3) := dk_180 0 31 (dk_at dksX1_straight_1 1 rfl rfl)
theorem dX1_straight_28 : decode cX1_straight 28 = .ok (.iload_n 1, 1) := dk_27 (dk_at dksX1_straight_1 4 rfl rfl)
theorem dX1_straight_29 : decode cX1_straight 29 = .ok (.iload_n 3, 1) := dk_29 (dk_at dksX1_straight_1 5 rfl rfl)
theorem dX1_straight_30 : decode cX1_straight 30 = .ok (.invokevirtual 89, 3) := dk_182 0 89 (dk_at dksX1_straight_1 6 rfl rfl)
theorem dX1_straight_33 : decode cX1_straight 33 = .ok (.ishl, 1) := dk_120 (dk_at dksX1_straight_1 9 rfl rfl)
theorem dX1_straight_34 : decode cX1_straight 34 = .ok (.ior, 1) := dk_128 (dk_at dksX1_straight_1 10 rfl rfl)
theorem dX1_straight_35 : decode cX1_straight 35 = .ok (.istore_n 2, 1) := dk_61 (dk_at dksX1_straight_1 11 rfl rfl)
theorem dX1_straight_36 : decode cX1_straight 36 = .ok (.iinc 3 1, 3) := dk_132 3 1 (dk_at dksX1_straight_1 12 rfl rfl)
theorem dX1_straight_39 : decode cX1_straight 39 = .ok (.goto (-35), 3) := dk_167 255 221 (dk_at dksX1_straight_1 15 rfl rfl)
theorem dX1_straight_42 : decode cX1_straight 42 = .ok (.iload_n 2, 1) := dk_28 (dk_at dksX1_straight_1 18 rfl rfl)
theorem dX1_straight_43 : decode cX1_straight 43 = .ok (.ireturn, 1) := dk_172 (dk_at dksX1_straight_1 19 rfl rfl)
abbrev cX1_alike : ByteArray := prog_1_method_14_code
def yX1_alike : MethodName := ⟨RX1, "alike", "()I"⟩
def dkwX1_alike_5 : List UInt8 := [167, 255, 156, 132, 2, 1, 167, 255, 137, 27, 172]
abbrev dktX1_alike_5 : List UInt8 := dkwX1_alike_5 ++ []
def dkwX1_alike_4 : List UInt8 := [180, 0, 22, 180, 0, 125, 29, 185, 0, 128, 2, 0, 182, 0, 136, 153, 0, 6, 132, 1, 1, 132, 3, 1]
abbrev dktX1_alike_4 : List UInt8 := dkwX1_alike_4 ++ dktX1_alike_5
def dkwX1_alike_3 : List UInt8 := [21, 4, 153, 0, 41, 42, 180, 0, 22, 180, 0, 125, 28, 185, 0, 128, 2, 0, 192, 0, 134, 42]
abbrev dktX1_alike_3 : List UInt8 := dkwX1_alike_3 ++ dktX1_alike_4
def dkwX1_alike_2 : List UInt8 := [180, 0, 122, 28, 46, 42, 180, 0, 31, 180, 0, 122, 29, 46, 160, 0, 7, 4, 167, 0, 4, 3, 54, 4]
abbrev dktX1_alike_2 : List UInt8 := dkwX1_alike_2 ++ dktX1_alike_3
def dkwX1_alike_1 : List UInt8 := [180, 0, 31, 180, 0, 119, 28, 46, 42, 180, 0, 31, 180, 0, 119, 29, 46, 160, 0, 28, 42, 180, 0, 31]
abbrev dktX1_alike_1 : List UInt8 := dkwX1_alike_1 ++ dktX1_alike_2
def dkwX1_alike_0 : List UInt8 := [3, 60, 3, 61, 28, 42, 180, 0, 22, 182, 0, 97, 162, 0, 114, 3, 62, 29, 28, 162, 0, 101, 42]
abbrev dktX1_alike_0 : List UInt8 := dkwX1_alike_0 ++ dktX1_alike_1
theorem dksX1_alike_0 : cX1_alike.data.toList.drop 0 = dktX1_alike_0 := by decide +kernel
theorem dksX1_alike_1 : cX1_alike.data.toList.drop 23 = dktX1_alike_1 := dk_seg dksX1_alike_0 23 rfl rfl
theorem dksX1_alike_2 : cX1_alike.data.toList.drop 47 = dktX1_alike_2 := dk_seg dksX1_alike_1 24 rfl rfl
theorem dksX1_alike_3 : cX1_alike.data.toList.drop 71 = dktX1_alike_3 := dk_seg dksX1_alike_2 24 rfl rfl
theorem dksX1_alike_4 : cX1_alike.data.toList.drop 93 = dktX1_alike_4 := dk_seg dksX1_alike_3 22 rfl rfl
theorem dksX1_alike_5 : cX1_alike.data.toList.drop 117 = dktX1_alike_5 := dk_seg dksX1_alike_4 24 rfl rfl
theorem dX1_alike_0 : decode cX1_alike 0 = .ok (.iconst 0, 1) := dk_3 (dk_at dksX1_alike_0 0 rfl rfl)
theorem dX1_alike_1 : decode cX1_alike 1 = .ok (.istore_n 1, 1) := dk_60 (dk_at dksX1_alike_0 1 rfl rfl)
theorem dX1_alike_2 : decode cX1_alike 2 = .ok (.iconst 0, 1) := dk_3 (dk_at dksX1_alike_0 2 rfl rfl)
theorem dX1_alike_3 : decode cX1_alike 3 = .ok (.istore_n 2, 1) := dk_61 (dk_at dksX1_alike_0 3 rfl rfl)
theorem dX1_alike_4 : decode cX1_alike 4 = .ok (.iload_n 2, 1) := dk_28 (dk_at dksX1_alike_0 4 rfl rfl)
theorem dX1_alike_5 : decode cX1_alike 5 = .ok (.aload_n 0, 1) := dk_42 (dk_at dksX1_alike_0 5 rfl rfl)
theorem dX1_alike_6 : decode cX1_alike 6 = .ok (.getfield 22, 3) := dk_180 0 22 (dk_at dksX1_alike_0 6 rfl rfl)
theorem dX1_alike_9 : decode cX1_alike 9 = .ok (.invokevirtual 97, 3) := dk_182 0 97 (dk_at dksX1_alike_0 9 rfl rfl)
theorem dX1_alike_12 : decode cX1_alike 12 = .ok (.if_icmp .ge 114, 3) := dk_162 0 114 (dk_at dksX1_alike_0 12 rfl rfl)
theorem dX1_alike_15 : decode cX1_alike 15 = .ok (.iconst 0, 1) := dk_3 (dk_at dksX1_alike_0 15 rfl rfl)
theorem dX1_alike_16 : decode cX1_alike 16 = .ok (.istore_n 3, 1) := dk_62 (dk_at dksX1_alike_0 16 rfl rfl)
theorem dX1_alike_17 : decode cX1_alike 17 = .ok (.iload_n 3, 1) := dk_29 (dk_at dksX1_alike_0 17 rfl rfl)
theorem dX1_alike_18 : decode cX1_alike 18 = .ok (.iload_n 2, 1) := dk_28 (dk_at dksX1_alike_0 18 rfl rfl)
theorem dX1_alike_19 : decode cX1_alike 19 = .ok (.if_icmp .ge 101, 3) := dk_162 0 101 (dk_at dksX1_alike_0 19 rfl rfl)
theorem dX1_alike_22 : decode cX1_alike 22 = .ok (.aload_n 0, 1) := dk_42 (dk_at dksX1_alike_0 22 rfl rfl)
theorem dX1_alike_23 : decode cX1_alike 23 = .ok (.getfield 31, 3) := dk_180 0 31 (dk_at dksX1_alike_1 0 rfl rfl)
theorem dX1_alike_26 : decode cX1_alike 26 = .ok (.getfield 119, 3) := dk_180 0 119 (dk_at dksX1_alike_1 3 rfl rfl)
theorem dX1_alike_29 : decode cX1_alike 29 = .ok (.iload_n 2, 1) := dk_28 (dk_at dksX1_alike_1 6 rfl rfl)
theorem dX1_alike_30 : decode cX1_alike 30 = .ok (.iaload, 1) := dk_46 (dk_at dksX1_alike_1 7 rfl rfl)
theorem dX1_alike_31 : decode cX1_alike 31 = .ok (.aload_n 0, 1) := dk_42 (dk_at dksX1_alike_1 8 rfl rfl)
theorem dX1_alike_32 : decode cX1_alike 32 = .ok (.getfield 31, 3) := dk_180 0 31 (dk_at dksX1_alike_1 9 rfl rfl)
theorem dX1_alike_35 : decode cX1_alike 35 = .ok (.getfield 119, 3) := dk_180 0 119 (dk_at dksX1_alike_1 12 rfl rfl)
theorem dX1_alike_38 : decode cX1_alike 38 = .ok (.iload_n 3, 1) := dk_29 (dk_at dksX1_alike_1 15 rfl rfl)
theorem dX1_alike_39 : decode cX1_alike 39 = .ok (.iaload, 1) := dk_46 (dk_at dksX1_alike_1 16 rfl rfl)
theorem dX1_alike_40 : decode cX1_alike 40 = .ok (.if_icmp .ne 28, 3) := dk_160 0 28 (dk_at dksX1_alike_1 17 rfl rfl)
theorem dX1_alike_43 : decode cX1_alike 43 = .ok (.aload_n 0, 1) := dk_42 (dk_at dksX1_alike_1 20 rfl rfl)
theorem dX1_alike_44 : decode cX1_alike 44 = .ok (.getfield 31, 3) := dk_180 0 31 (dk_at dksX1_alike_1 21 rfl rfl)
theorem dX1_alike_47 : decode cX1_alike 47 = .ok (.getfield 122, 3) := dk_180 0 122 (dk_at dksX1_alike_2 0 rfl rfl)
theorem dX1_alike_50 : decode cX1_alike 50 = .ok (.iload_n 2, 1) := dk_28 (dk_at dksX1_alike_2 3 rfl rfl)
theorem dX1_alike_51 : decode cX1_alike 51 = .ok (.iaload, 1) := dk_46 (dk_at dksX1_alike_2 4 rfl rfl)
theorem dX1_alike_52 : decode cX1_alike 52 = .ok (.aload_n 0, 1) := dk_42 (dk_at dksX1_alike_2 5 rfl rfl)
theorem dX1_alike_53 : decode cX1_alike 53 = .ok (.getfield 31, 3) := dk_180 0 31 (dk_at dksX1_alike_2 6 rfl rfl)
theorem dX1_alike_56 : decode cX1_alike 56 = .ok (.getfield 122, 3) := dk_180 0 122 (dk_at dksX1_alike_2 9 rfl rfl)
theorem dX1_alike_59 : decode cX1_alike 59 = .ok (.iload_n 3, 1) := dk_29 (dk_at dksX1_alike_2 12 rfl rfl)
theorem dX1_alike_60 : decode cX1_alike 60 = .ok (.iaload, 1) := dk_46 (dk_at dksX1_alike_2 13 rfl rfl)
theorem dX1_alike_61 : decode cX1_alike 61 = .ok (.if_icmp .ne 7, 3) := dk_160 0 7 (dk_at dksX1_alike_2 14 rfl rfl)
theorem dX1_alike_64 : decode cX1_alike 64 = .ok (.iconst 1, 1) := dk_4 (dk_at dksX1_alike_2 17 rfl rfl)
theorem dX1_alike_65 : decode cX1_alike 65 = .ok (.goto 4, 3) := dk_167 0 4 (dk_at dksX1_alike_2 18 rfl rfl)
theorem dX1_alike_68 : decode cX1_alike 68 = .ok (.iconst 0, 1) := dk_3 (dk_at dksX1_alike_2 21 rfl rfl)
theorem dX1_alike_69 : decode cX1_alike 69 = .ok (.istore 4, 2) := dk_54 4 (dk_at dksX1_alike_2 22 rfl rfl)
theorem dX1_alike_71 : decode cX1_alike 71 = .ok (.iload 4, 2) := dk_21 4 (dk_at dksX1_alike_3 0 rfl rfl)
theorem dX1_alike_73 : decode cX1_alike 73 = .ok (.ifCond .eq 41, 3) := dk_153 0 41 (dk_at dksX1_alike_3 2 rfl rfl)
theorem dX1_alike_76 : decode cX1_alike 76 = .ok (.aload_n 0, 1) := dk_42 (dk_at dksX1_alike_3 5 rfl rfl)
theorem dX1_alike_77 : decode cX1_alike 77 = .ok (.getfield 22, 3) := dk_180 0 22 (dk_at dksX1_alike_3 6 rfl rfl)
theorem dX1_alike_80 : decode cX1_alike 80 = .ok (.getfield 125, 3) := dk_180 0 125 (dk_at dksX1_alike_3 9 rfl rfl)
theorem dX1_alike_83 : decode cX1_alike 83 = .ok (.iload_n 2, 1) := dk_28 (dk_at dksX1_alike_3 12 rfl rfl)
theorem dX1_alike_84 : decode cX1_alike 84 = .ok (.invokeinterface 128 2, 5) := by decide +kernel
theorem dX1_alike_89 : decode cX1_alike 89 = .ok (.checkcast 134, 3) := dk_192 0 134 (dk_at dksX1_alike_3 18 rfl rfl)
theorem dX1_alike_92 : decode cX1_alike 92 = .ok (.aload_n 0, 1) := dk_42 (dk_at dksX1_alike_3 21 rfl rfl)
theorem dX1_alike_93 : decode cX1_alike 93 = .ok (.getfield 22, 3) := dk_180 0 22 (dk_at dksX1_alike_4 0 rfl rfl)
theorem dX1_alike_96 : decode cX1_alike 96 = .ok (.getfield 125, 3) := dk_180 0 125 (dk_at dksX1_alike_4 3 rfl rfl)
theorem dX1_alike_99 : decode cX1_alike 99 = .ok (.iload_n 3, 1) := dk_29 (dk_at dksX1_alike_4 6 rfl rfl)
theorem dX1_alike_100 : decode cX1_alike 100 = .ok (.invokeinterface 128 2, 5) := by decide +kernel
theorem dX1_alike_105 : decode cX1_alike 105 = .ok (.invokevirtual 136, 3) := dk_182 0 136 (dk_at dksX1_alike_4 12 rfl rfl)
theorem dX1_alike_108 : decode cX1_alike 108 = .ok (.ifCond .eq 6, 3) := dk_153 0 6 (dk_at dksX1_alike_4 15 rfl rfl)
theorem dX1_alike_111 : decode cX1_alike 111 = .ok (.iinc 1 1, 3) := dk_132 1 1 (dk_at dksX1_alike_4 18 rfl rfl)
theorem dX1_alike_114 : decode cX1_alike 114 = .ok (.iinc 3 1, 3) := dk_132 3 1 (dk_at dksX1_alike_4 21 rfl rfl)
theorem dX1_alike_117 : decode cX1_alike 117 = .ok (.goto (-100), 3) := dk_167 255 156 (dk_at dksX1_alike_5 0 rfl rfl)
theorem dX1_alike_120 : decode cX1_alike 120 = .ok (.iinc 2 1, 3) := dk_132 2 1 (dk_at dksX1_alike_5 3 rfl rfl)
theorem dX1_alike_123 : decode cX1_alike 123 = .ok (.goto (-119), 3) := dk_167 255 137 (dk_at dksX1_alike_5 6 rfl rfl)
theorem dX1_alike_126 : decode cX1_alike 126 = .ok (.iload_n 1, 1) := dk_27 (dk_at dksX1_alike_5 9 rfl rfl)
theorem dX1_alike_127 : decode cX1_alike 127 = .ok (.ireturn, 1) := dk_172 (dk_at dksX1_alike_5 10 rfl rfl)
abbrev cX1_found : ByteArray := prog_1_method_2_code
def yX1_found : MethodName := ⟨RX1, "found", "(Z)V"⟩
def dkwX1_found_0 : List UInt8 := [26, 154, 0, 11, 187, 0, 1, 89, 183, 0, 3, 191, 177]
abbrev dktX1_found_0 : List UInt8 := dkwX1_found_0 ++ []
theorem dksX1_found_0 : cX1_found.data.toList.drop 0 = dktX1_found_0 := by decide +kernel
theorem dX1_found_0 : decode cX1_found 0 = .ok (.iload_n 0, 1) := dk_26 (dk_at dksX1_found_0 0 rfl rfl)
theorem dX1_found_1 : decode cX1_found 1 = .ok (.ifCond .ne 11, 3) := dk_154 0 11 (dk_at dksX1_found_0 1 rfl rfl)
theorem dX1_found_4 : decode cX1_found 4 = .ok (.new 1, 3) := dk_187 0 1 (dk_at dksX1_found_0 4 rfl rfl)
theorem dX1_found_7 : decode cX1_found 7 = .ok (.dup, 1) := dk_89 (dk_at dksX1_found_0 7 rfl rfl)
theorem dX1_found_8 : decode cX1_found 8 = .ok (.invokespecial 3, 3) := dk_183 0 3 (dk_at dksX1_found_0 8 rfl rfl)
theorem dX1_found_11 : decode cX1_found 11 = .ok (.athrow, 1) := dk_191 (dk_at dksX1_found_0 11 rfl rfl)
theorem dX1_found_12 : decode cX1_found 12 = .ok (.return_, 1) := dk_177 (dk_at dksX1_found_0 12 rfl rfl)
abbrev cX1_cup : ByteArray := prog_1_method_18_code
def yX1_cup : MethodName := ⟨RX1, "cup", "(II)I"⟩
def dkwX1_cup_7 : List UInt8 := [180, 0, 31, 180, 0, 122, 27, 46, 100, 172]
abbrev dktX1_cup_7 : List UInt8 := dkwX1_cup_7 ++ []
def dkwX1_cup_6 : List UInt8 := [16, 8, 160, 0, 7, 4, 167, 0, 4, 3, 184, 0, 165, 42, 180, 0, 31, 180, 0, 119, 27, 46, 42]
abbrev dktX1_cup_6 : List UInt8 := dkwX1_cup_6 ++ dktX1_cup_7
def dkwX1_cup_5 : List UInt8 := [42, 180, 0, 31, 27, 182, 0, 178, 153, 0, 7, 4, 167, 0, 4, 3, 172, 42, 27, 182, 0, 108, 172, 28]
abbrev dktX1_cup_5 : List UInt8 := dkwX1_cup_5 ++ dktX1_cup_6
def dkwX1_cup_4 : List UInt8 := [182, 0, 89, 172, 42, 180, 0, 31, 27, 4, 182, 0, 89, 172, 42, 180, 0, 31, 180, 0, 175, 27, 46, 172]
abbrev dktX1_cup_4 : List UInt8 := dkwX1_cup_4 ++ dktX1_cup_5
def dkwX1_cup_3 : List UInt8 := [180, 0, 125, 27, 185, 0, 128, 2, 0, 192, 0, 134, 182, 0, 172, 172, 42, 180, 0, 31, 27, 3]
abbrev dktX1_cup_3 : List UInt8 := dkwX1_cup_3 ++ dktX1_cup_4
def dkwX1_cup_2 : List UInt8 := [42, 180, 0, 31, 180, 0, 119, 27, 46, 172, 42, 180, 0, 31, 180, 0, 122, 27, 46, 172, 42, 180, 0, 22]
abbrev dktX1_cup_2 : List UInt8 := dkwX1_cup_2 ++ dktX1_cup_3
def dkwX1_cup_1 : List UInt8 := [170, 0, 0, 0, 0, 139, 0, 0, 0, 0, 0, 0, 0, 7, 0, 0, 0, 46, 0, 0, 0, 56, 0, 0, 0, 66, 0, 0, 0, 86, 0, 0, 0, 96, 0, 0, 0, 106, 0, 0, 0, 116, 0, 0, 0, 133]
abbrev dktX1_cup_1 : List UInt8 := dkwX1_cup_1 ++ dktX1_cup_2
def dkwX1_cup_0 : List UInt8 := [42, 27, 182, 0, 168, 28]
abbrev dktX1_cup_0 : List UInt8 := dkwX1_cup_0 ++ dktX1_cup_1
theorem dksX1_cup_0 : cX1_cup.data.toList.drop 0 = dktX1_cup_0 := by decide +kernel
theorem dksX1_cup_1 : cX1_cup.data.toList.drop 6 = dktX1_cup_1 := dk_seg dksX1_cup_0 6 rfl rfl
theorem dksX1_cup_2 : cX1_cup.data.toList.drop 52 = dktX1_cup_2 := dk_seg dksX1_cup_1 46 rfl rfl
theorem dksX1_cup_3 : cX1_cup.data.toList.drop 76 = dktX1_cup_3 := dk_seg dksX1_cup_2 24 rfl rfl
theorem dksX1_cup_4 : cX1_cup.data.toList.drop 98 = dktX1_cup_4 := dk_seg dksX1_cup_3 22 rfl rfl
theorem dksX1_cup_5 : cX1_cup.data.toList.drop 122 = dktX1_cup_5 := dk_seg dksX1_cup_4 24 rfl rfl
theorem dksX1_cup_6 : cX1_cup.data.toList.drop 146 = dktX1_cup_6 := dk_seg dksX1_cup_5 24 rfl rfl
theorem dksX1_cup_7 : cX1_cup.data.toList.drop 169 = dktX1_cup_7 := dk_seg dksX1_cup_6 23 rfl rfl
theorem dX1_cup_0 : decode cX1_cup 0 = .ok (.aload_n 0, 1) := dk_42 (dk_at dksX1_cup_0 0 rfl rfl)
theorem dX1_cup_1 : decode cX1_cup 1 = .ok (.iload_n 1, 1) := dk_27 (dk_at dksX1_cup_0 1 rfl rfl)
theorem dX1_cup_2 : decode cX1_cup 2 = .ok (.invokevirtual 168, 3) := dk_182 0 168 (dk_at dksX1_cup_0 2 rfl rfl)
theorem dX1_cup_5 : decode cX1_cup 5 = .ok (.iload_n 2, 1) := dk_28 (dk_at dksX1_cup_0 5 rfl rfl)
theorem dX1_cup_6 : decode cX1_cup 6 = .ok (.tableswitch 139 0 7 #[46, 56, 66, 86, 96, 106, 116, 133], 46) := by decide +kernel
theorem dX1_cup_52 : decode cX1_cup 52 = .ok (.aload_n 0, 1) := dk_42 (dk_at dksX1_cup_2 0 rfl rfl)
theorem dX1_cup_53 : decode cX1_cup 53 = .ok (.getfield 31, 3) := dk_180 0 31 (dk_at dksX1_cup_2 1 rfl rfl)
theorem dX1_cup_56 : decode cX1_cup 56 = .ok (.getfield 119, 3) := dk_180 0 119 (dk_at dksX1_cup_2 4 rfl rfl)
theorem dX1_cup_59 : decode cX1_cup 59 = .ok (.iload_n 1, 1) := dk_27 (dk_at dksX1_cup_2 7 rfl rfl)
theorem dX1_cup_60 : decode cX1_cup 60 = .ok (.iaload, 1) := dk_46 (dk_at dksX1_cup_2 8 rfl rfl)
theorem dX1_cup_61 : decode cX1_cup 61 = .ok (.ireturn, 1) := dk_172 (dk_at dksX1_cup_2 9 rfl rfl)
theorem dX1_cup_62 : decode cX1_cup 62 = .ok (.aload_n 0, 1) := dk_42 (dk_at dksX1_cup_2 10 rfl rfl)
theorem dX1_cup_63 : decode cX1_cup 63 = .ok (.getfield 31, 3) := dk_180 0 31 (dk_at dksX1_cup_2 11 rfl rfl)
theorem dX1_cup_66 : decode cX1_cup 66 = .ok (.getfield 122, 3) := dk_180 0 122 (dk_at dksX1_cup_2 14 rfl rfl)
theorem dX1_cup_69 : decode cX1_cup 69 = .ok (.iload_n 1, 1) := dk_27 (dk_at dksX1_cup_2 17 rfl rfl)
theorem dX1_cup_70 : decode cX1_cup 70 = .ok (.iaload, 1) := dk_46 (dk_at dksX1_cup_2 18 rfl rfl)
theorem dX1_cup_71 : decode cX1_cup 71 = .ok (.ireturn, 1) := dk_172 (dk_at dksX1_cup_2 19 rfl rfl)
theorem dX1_cup_72 : decode cX1_cup 72 = .ok (.aload_n 0, 1) := dk_42 (dk_at dksX1_cup_2 20 rfl rfl)
theorem dX1_cup_73 : decode cX1_cup 73 = .ok (.getfield 22, 3) := dk_180 0 22 (dk_at dksX1_cup_2 21 rfl rfl)
theorem dX1_cup_76 : decode cX1_cup 76 = .ok (.getfield 125, 3) := dk_180 0 125 (dk_at dksX1_cup_3 0 rfl rfl)
theorem dX1_cup_79 : decode cX1_cup 79 = .ok (.iload_n 1, 1) := dk_27 (dk_at dksX1_cup_3 3 rfl rfl)
theorem dX1_cup_80 : decode cX1_cup 80 = .ok (.invokeinterface 128 2, 5) := by decide +kernel
theorem dX1_cup_85 : decode cX1_cup 85 = .ok (.checkcast 134, 3) := dk_192 0 134 (dk_at dksX1_cup_3 9 rfl rfl)
theorem dX1_cup_88 : decode cX1_cup 88 = .ok (.invokevirtual 172, 3) := dk_182 0 172 (dk_at dksX1_cup_3 12 rfl rfl)
theorem dX1_cup_91 : decode cX1_cup 91 = .ok (.ireturn, 1) := dk_172 (dk_at dksX1_cup_3 15 rfl rfl)
theorem dX1_cup_92 : decode cX1_cup 92 = .ok (.aload_n 0, 1) := dk_42 (dk_at dksX1_cup_3 16 rfl rfl)
theorem dX1_cup_93 : decode cX1_cup 93 = .ok (.getfield 31, 3) := dk_180 0 31 (dk_at dksX1_cup_3 17 rfl rfl)
theorem dX1_cup_96 : decode cX1_cup 96 = .ok (.iload_n 1, 1) := dk_27 (dk_at dksX1_cup_3 20 rfl rfl)
theorem dX1_cup_97 : decode cX1_cup 97 = .ok (.iconst 0, 1) := dk_3 (dk_at dksX1_cup_3 21 rfl rfl)
theorem dX1_cup_98 : decode cX1_cup 98 = .ok (.invokevirtual 89, 3) := dk_182 0 89 (dk_at dksX1_cup_4 0 rfl rfl)
theorem dX1_cup_101 : decode cX1_cup 101 = .ok (.ireturn, 1) := dk_172 (dk_at dksX1_cup_4 3 rfl rfl)
theorem dX1_cup_102 : decode cX1_cup 102 = .ok (.aload_n 0, 1) := dk_42 (dk_at dksX1_cup_4 4 rfl rfl)
theorem dX1_cup_103 : decode cX1_cup 103 = .ok (.getfield 31, 3) := dk_180 0 31 (dk_at dksX1_cup_4 5 rfl rfl)
theorem dX1_cup_106 : decode cX1_cup 106 = .ok (.iload_n 1, 1) := dk_27 (dk_at dksX1_cup_4 8 rfl rfl)
theorem dX1_cup_107 : decode cX1_cup 107 = .ok (.iconst 1, 1) := dk_4 (dk_at dksX1_cup_4 9 rfl rfl)
theorem dX1_cup_108 : decode cX1_cup 108 = .ok (.invokevirtual 89, 3) := dk_182 0 89 (dk_at dksX1_cup_4 10 rfl rfl)
theorem dX1_cup_111 : decode cX1_cup 111 = .ok (.ireturn, 1) := dk_172 (dk_at dksX1_cup_4 13 rfl rfl)
theorem dX1_cup_112 : decode cX1_cup 112 = .ok (.aload_n 0, 1) := dk_42 (dk_at dksX1_cup_4 14 rfl rfl)
theorem dX1_cup_113 : decode cX1_cup 113 = .ok (.getfield 31, 3) := dk_180 0 31 (dk_at dksX1_cup_4 15 rfl rfl)
theorem dX1_cup_116 : decode cX1_cup 116 = .ok (.getfield 175, 3) := dk_180 0 175 (dk_at dksX1_cup_4 18 rfl rfl)
theorem dX1_cup_119 : decode cX1_cup 119 = .ok (.iload_n 1, 1) := dk_27 (dk_at dksX1_cup_4 21 rfl rfl)
theorem dX1_cup_120 : decode cX1_cup 120 = .ok (.iaload, 1) := dk_46 (dk_at dksX1_cup_4 22 rfl rfl)
theorem dX1_cup_121 : decode cX1_cup 121 = .ok (.ireturn, 1) := dk_172 (dk_at dksX1_cup_4 23 rfl rfl)
theorem dX1_cup_122 : decode cX1_cup 122 = .ok (.aload_n 0, 1) := dk_42 (dk_at dksX1_cup_5 0 rfl rfl)
theorem dX1_cup_123 : decode cX1_cup 123 = .ok (.getfield 31, 3) := dk_180 0 31 (dk_at dksX1_cup_5 1 rfl rfl)
theorem dX1_cup_126 : decode cX1_cup 126 = .ok (.iload_n 1, 1) := dk_27 (dk_at dksX1_cup_5 4 rfl rfl)
theorem dX1_cup_127 : decode cX1_cup 127 = .ok (.invokevirtual 178, 3) := dk_182 0 178 (dk_at dksX1_cup_5 5 rfl rfl)
theorem dX1_cup_130 : decode cX1_cup 130 = .ok (.ifCond .eq 7, 3) := dk_153 0 7 (dk_at dksX1_cup_5 8 rfl rfl)
theorem dX1_cup_133 : decode cX1_cup 133 = .ok (.iconst 1, 1) := dk_4 (dk_at dksX1_cup_5 11 rfl rfl)
theorem dX1_cup_134 : decode cX1_cup 134 = .ok (.goto 4, 3) := dk_167 0 4 (dk_at dksX1_cup_5 12 rfl rfl)
theorem dX1_cup_137 : decode cX1_cup 137 = .ok (.iconst 0, 1) := dk_3 (dk_at dksX1_cup_5 15 rfl rfl)
theorem dX1_cup_138 : decode cX1_cup 138 = .ok (.ireturn, 1) := dk_172 (dk_at dksX1_cup_5 16 rfl rfl)
theorem dX1_cup_139 : decode cX1_cup 139 = .ok (.aload_n 0, 1) := dk_42 (dk_at dksX1_cup_5 17 rfl rfl)
theorem dX1_cup_140 : decode cX1_cup 140 = .ok (.iload_n 1, 1) := dk_27 (dk_at dksX1_cup_5 18 rfl rfl)
theorem dX1_cup_141 : decode cX1_cup 141 = .ok (.invokevirtual 108, 3) := dk_182 0 108 (dk_at dksX1_cup_5 19 rfl rfl)
theorem dX1_cup_144 : decode cX1_cup 144 = .ok (.ireturn, 1) := dk_172 (dk_at dksX1_cup_5 22 rfl rfl)
theorem dX1_cup_145 : decode cX1_cup 145 = .ok (.iload_n 2, 1) := dk_28 (dk_at dksX1_cup_5 23 rfl rfl)
theorem dX1_cup_146 : decode cX1_cup 146 = .ok (.bipush 8, 2) := dk_16 8 (dk_at dksX1_cup_6 0 rfl rfl)
theorem dX1_cup_148 : decode cX1_cup 148 = .ok (.if_icmp .ne 7, 3) := dk_160 0 7 (dk_at dksX1_cup_6 2 rfl rfl)
theorem dX1_cup_151 : decode cX1_cup 151 = .ok (.iconst 1, 1) := dk_4 (dk_at dksX1_cup_6 5 rfl rfl)
theorem dX1_cup_152 : decode cX1_cup 152 = .ok (.goto 4, 3) := dk_167 0 4 (dk_at dksX1_cup_6 6 rfl rfl)
theorem dX1_cup_155 : decode cX1_cup 155 = .ok (.iconst 0, 1) := dk_3 (dk_at dksX1_cup_6 9 rfl rfl)
theorem dX1_cup_156 : decode cX1_cup 156 = .ok (.invokestatic 165, 3) := dk_184 0 165 (dk_at dksX1_cup_6 10 rfl rfl)
theorem dX1_cup_159 : decode cX1_cup 159 = .ok (.aload_n 0, 1) := dk_42 (dk_at dksX1_cup_6 13 rfl rfl)
theorem dX1_cup_160 : decode cX1_cup 160 = .ok (.getfield 31, 3) := dk_180 0 31 (dk_at dksX1_cup_6 14 rfl rfl)
theorem dX1_cup_163 : decode cX1_cup 163 = .ok (.getfield 119, 3) := dk_180 0 119 (dk_at dksX1_cup_6 17 rfl rfl)
theorem dX1_cup_166 : decode cX1_cup 166 = .ok (.iload_n 1, 1) := dk_27 (dk_at dksX1_cup_6 20 rfl rfl)
theorem dX1_cup_167 : decode cX1_cup 167 = .ok (.iaload, 1) := dk_46 (dk_at dksX1_cup_6 21 rfl rfl)
theorem dX1_cup_168 : decode cX1_cup 168 = .ok (.aload_n 0, 1) := dk_42 (dk_at dksX1_cup_6 22 rfl rfl)
theorem dX1_cup_169 : decode cX1_cup 169 = .ok (.getfield 31, 3) := dk_180 0 31 (dk_at dksX1_cup_7 0 rfl rfl)
theorem dX1_cup_172 : decode cX1_cup 172 = .ok (.getfield 122, 3) := dk_180 0 122 (dk_at dksX1_cup_7 3 rfl rfl)
theorem dX1_cup_175 : decode cX1_cup 175 = .ok (.iload_n 1, 1) := dk_27 (dk_at dksX1_cup_7 6 rfl rfl)
theorem dX1_cup_176 : decode cX1_cup 176 = .ok (.iaload, 1) := dk_46 (dk_at dksX1_cup_7 7 rfl rfl)
theorem dX1_cup_177 : decode cX1_cup 177 = .ok (.isub, 1) := dk_100 (dk_at dksX1_cup_7 8 rfl rfl)
theorem dX1_cup_178 : decode cX1_cup 178 = .ok (.ireturn, 1) := dk_172 (dk_at dksX1_cup_7 9 rfl rfl)
abbrev cX1_aCup : ByteArray := prog_1_method_16_code
def yX1_aCup : MethodName := ⟨RX1, "aCup", "(I)V"⟩
def dkwX1_aCup_0 : List UInt8 := [27, 3, 42, 180, 0, 22, 182, 0, 97, 4, 100, 184, 0, 161, 184, 0, 165, 177]
abbrev dktX1_aCup_0 : List UInt8 := dkwX1_aCup_0 ++ []
theorem dksX1_aCup_0 : cX1_aCup.data.toList.drop 0 = dktX1_aCup_0 := by decide +kernel
theorem dX1_aCup_0 : decode cX1_aCup 0 = .ok (.iload_n 1, 1) := dk_27 (dk_at dksX1_aCup_0 0 rfl rfl)
theorem dX1_aCup_1 : decode cX1_aCup 1 = .ok (.iconst 0, 1) := dk_3 (dk_at dksX1_aCup_0 1 rfl rfl)
theorem dX1_aCup_2 : decode cX1_aCup 2 = .ok (.aload_n 0, 1) := dk_42 (dk_at dksX1_aCup_0 2 rfl rfl)
theorem dX1_aCup_3 : decode cX1_aCup 3 = .ok (.getfield 22, 3) := dk_180 0 22 (dk_at dksX1_aCup_0 3 rfl rfl)
theorem dX1_aCup_6 : decode cX1_aCup 6 = .ok (.invokevirtual 97, 3) := dk_182 0 97 (dk_at dksX1_aCup_0 6 rfl rfl)
theorem dX1_aCup_9 : decode cX1_aCup 9 = .ok (.iconst 1, 1) := dk_4 (dk_at dksX1_aCup_0 9 rfl rfl)
theorem dX1_aCup_10 : decode cX1_aCup 10 = .ok (.isub, 1) := dk_100 (dk_at dksX1_aCup_0 10 rfl rfl)
theorem dX1_aCup_11 : decode cX1_aCup 11 = .ok (.invokestatic 161, 3) := dk_184 0 161 (dk_at dksX1_aCup_0 11 rfl rfl)
theorem dX1_aCup_14 : decode cX1_aCup 14 = .ok (.invokestatic 165, 3) := dk_184 0 165 (dk_at dksX1_aCup_0 14 rfl rfl)
theorem dX1_aCup_17 : decode cX1_aCup 17 = .ok (.return_, 1) := dk_177 (dk_at dksX1_aCup_0 17 rfl rfl)
abbrev cX1_deep : ByteArray := prog_1_method_12_code
def yX1_deep : MethodName := ⟨RX1, "deep", "(I)I"⟩
def dkwX1_deep_2 : List UInt8 := [28, 172]
abbrev dktX1_deep_2 : List UInt8 := dkwX1_deep_2 ++ []
def dkwX1_deep_1 : List UInt8 := [184, 0, 101, 153, 0, 15, 28, 4, 42, 29, 182, 0, 108, 96, 184, 0, 111, 61, 132, 3, 1, 167, 255, 218]
abbrev dktX1_deep_1 : List UInt8 := dkwX1_deep_1 ++ dktX1_deep_2
def dkwX1_deep_0 : List UInt8 := [3, 61, 27, 4, 96, 62, 29, 42, 180, 0, 22, 182, 0, 97, 162, 0, 33, 42, 27, 182, 0, 93, 29]
abbrev dktX1_deep_0 : List UInt8 := dkwX1_deep_0 ++ dktX1_deep_1
theorem dksX1_deep_0 : cX1_deep.data.toList.drop 0 = dktX1_deep_0 := by decide +kernel
theorem dksX1_deep_1 : cX1_deep.data.toList.drop 23 = dktX1_deep_1 := dk_seg dksX1_deep_0 23 rfl rfl
theorem dksX1_deep_2 : cX1_deep.data.toList.drop 47 = dktX1_deep_2 := dk_seg dksX1_deep_1 24 rfl rfl
theorem dX1_deep_0 : decode cX1_deep 0 = .ok (.iconst 0, 1) := dk_3 (dk_at dksX1_deep_0 0 rfl rfl)
theorem dX1_deep_1 : decode cX1_deep 1 = .ok (.istore_n 2, 1) := dk_61 (dk_at dksX1_deep_0 1 rfl rfl)
theorem dX1_deep_2 : decode cX1_deep 2 = .ok (.iload_n 1, 1) := dk_27 (dk_at dksX1_deep_0 2 rfl rfl)
theorem dX1_deep_3 : decode cX1_deep 3 = .ok (.iconst 1, 1) := dk_4 (dk_at dksX1_deep_0 3 rfl rfl)
theorem dX1_deep_4 : decode cX1_deep 4 = .ok (.iadd, 1) := dk_96 (dk_at dksX1_deep_0 4 rfl rfl)
theorem dX1_deep_5 : decode cX1_deep 5 = .ok (.istore_n 3, 1) := dk_62 (dk_at dksX1_deep_0 5 rfl rfl)
theorem dX1_deep_6 : decode cX1_deep 6 = .ok (.iload_n 3, 1) := dk_29 (dk_at dksX1_deep_0 6 rfl rfl)
theorem dX1_deep_7 : decode cX1_deep 7 = .ok (.aload_n 0, 1) := dk_42 (dk_at dksX1_deep_0 7 rfl rfl)
theorem dX1_deep_8 : decode cX1_deep 8 = .ok (.getfield 22, 3) := dk_180 0 22 (dk_at dksX1_deep_0 8 rfl rfl)
theorem dX1_deep_11 : decode cX1_deep 11 = .ok (.invokevirtual 97, 3) := dk_182 0 97 (dk_at dksX1_deep_0 11 rfl rfl)
theorem dX1_deep_14 : decode cX1_deep 14 = .ok (.if_icmp .ge 33, 3) := dk_162 0 33 (dk_at dksX1_deep_0 14 rfl rfl)
theorem dX1_deep_17 : decode cX1_deep 17 = .ok (.aload_n 0, 1) := dk_42 (dk_at dksX1_deep_0 17 rfl rfl)
theorem dX1_deep_18 : decode cX1_deep 18 = .ok (.iload_n 1, 1) := dk_27 (dk_at dksX1_deep_0 18 rfl rfl)
theorem dX1_deep_19 : decode cX1_deep 19 = .ok (.invokevirtual 93, 3) := dk_182 0 93 (dk_at dksX1_deep_0 19 rfl rfl)
theorem dX1_deep_22 : decode cX1_deep 22 = .ok (.iload_n 3, 1) := dk_29 (dk_at dksX1_deep_0 22 rfl rfl)
theorem dX1_deep_23 : decode cX1_deep 23 = .ok (.invokestatic 101, 3) := dk_184 0 101 (dk_at dksX1_deep_1 0 rfl rfl)
theorem dX1_deep_26 : decode cX1_deep 26 = .ok (.ifCond .eq 15, 3) := dk_153 0 15 (dk_at dksX1_deep_1 3 rfl rfl)
theorem dX1_deep_29 : decode cX1_deep 29 = .ok (.iload_n 2, 1) := dk_28 (dk_at dksX1_deep_1 6 rfl rfl)
theorem dX1_deep_30 : decode cX1_deep 30 = .ok (.iconst 1, 1) := dk_4 (dk_at dksX1_deep_1 7 rfl rfl)
theorem dX1_deep_31 : decode cX1_deep 31 = .ok (.aload_n 0, 1) := dk_42 (dk_at dksX1_deep_1 8 rfl rfl)
theorem dX1_deep_32 : decode cX1_deep 32 = .ok (.iload_n 3, 1) := dk_29 (dk_at dksX1_deep_1 9 rfl rfl)
theorem dX1_deep_33 : decode cX1_deep 33 = .ok (.invokevirtual 108, 3) := dk_182 0 108 (dk_at dksX1_deep_1 10 rfl rfl)
theorem dX1_deep_36 : decode cX1_deep 36 = .ok (.iadd, 1) := dk_96 (dk_at dksX1_deep_1 13 rfl rfl)
theorem dX1_deep_37 : decode cX1_deep 37 = .ok (.invokestatic 111, 3) := dk_184 0 111 (dk_at dksX1_deep_1 14 rfl rfl)
theorem dX1_deep_40 : decode cX1_deep 40 = .ok (.istore_n 2, 1) := dk_61 (dk_at dksX1_deep_1 17 rfl rfl)
theorem dX1_deep_41 : decode cX1_deep 41 = .ok (.iinc 3 1, 3) := dk_132 3 1 (dk_at dksX1_deep_1 18 rfl rfl)
theorem dX1_deep_44 : decode cX1_deep 44 = .ok (.goto (-38), 3) := dk_167 255 218 (dk_at dksX1_deep_1 21 rfl rfl)
theorem dX1_deep_47 : decode cX1_deep 47 = .ok (.iload_n 2, 1) := dk_28 (dk_at dksX1_deep_2 0 rfl rfl)
theorem dX1_deep_48 : decode cX1_deep 48 = .ok (.ireturn, 1) := dk_172 (dk_at dksX1_deep_2 1 rfl rfl)
abbrev cX1_lead : ByteArray := prog_1_method_23_code
def yX1_lead : MethodName := ⟨RX1, "lead", "(II)Z"⟩
def dkwX1_lead_2 : List UInt8 := [172, 42, 182, 0, 195, 42, 180, 0, 31, 27, 28, 182, 0, 208, 4, 172]
abbrev dktX1_lead_2 : List UInt8 := dkwX1_lead_2 ++ []
def dkwX1_lead_1 : List UInt8 := [180, 0, 31, 27, 28, 182, 0, 202, 154, 0, 12, 28, 3, 27, 184, 0, 161, 153, 0, 8, 42, 182, 0, 205]
abbrev dktX1_lead_1 : List UInt8 := dkwX1_lead_1 ++ dktX1_lead_2
def dkwX1_lead_0 : List UInt8 := [42, 27, 182, 0, 168, 28, 2, 42, 180, 0, 22, 182, 0, 97, 4, 100, 184, 0, 161, 184, 0, 165, 42]
abbrev dktX1_lead_0 : List UInt8 := dkwX1_lead_0 ++ dktX1_lead_1
theorem dksX1_lead_0 : cX1_lead.data.toList.drop 0 = dktX1_lead_0 := by decide +kernel
theorem dksX1_lead_1 : cX1_lead.data.toList.drop 23 = dktX1_lead_1 := dk_seg dksX1_lead_0 23 rfl rfl
theorem dksX1_lead_2 : cX1_lead.data.toList.drop 47 = dktX1_lead_2 := dk_seg dksX1_lead_1 24 rfl rfl
theorem dX1_lead_0 : decode cX1_lead 0 = .ok (.aload_n 0, 1) := dk_42 (dk_at dksX1_lead_0 0 rfl rfl)
theorem dX1_lead_1 : decode cX1_lead 1 = .ok (.iload_n 1, 1) := dk_27 (dk_at dksX1_lead_0 1 rfl rfl)
theorem dX1_lead_2 : decode cX1_lead 2 = .ok (.invokevirtual 168, 3) := dk_182 0 168 (dk_at dksX1_lead_0 2 rfl rfl)
theorem dX1_lead_5 : decode cX1_lead 5 = .ok (.iload_n 2, 1) := dk_28 (dk_at dksX1_lead_0 5 rfl rfl)
theorem dX1_lead_6 : decode cX1_lead 6 = .ok (.iconst (-1), 1) := dk_2 (dk_at dksX1_lead_0 6 rfl rfl)
theorem dX1_lead_7 : decode cX1_lead 7 = .ok (.aload_n 0, 1) := dk_42 (dk_at dksX1_lead_0 7 rfl rfl)
theorem dX1_lead_8 : decode cX1_lead 8 = .ok (.getfield 22, 3) := dk_180 0 22 (dk_at dksX1_lead_0 8 rfl rfl)
theorem dX1_lead_11 : decode cX1_lead 11 = .ok (.invokevirtual 97, 3) := dk_182 0 97 (dk_at dksX1_lead_0 11 rfl rfl)
theorem dX1_lead_14 : decode cX1_lead 14 = .ok (.iconst 1, 1) := dk_4 (dk_at dksX1_lead_0 14 rfl rfl)
theorem dX1_lead_15 : decode cX1_lead 15 = .ok (.isub, 1) := dk_100 (dk_at dksX1_lead_0 15 rfl rfl)
theorem dX1_lead_16 : decode cX1_lead 16 = .ok (.invokestatic 161, 3) := dk_184 0 161 (dk_at dksX1_lead_0 16 rfl rfl)
theorem dX1_lead_19 : decode cX1_lead 19 = .ok (.invokestatic 165, 3) := dk_184 0 165 (dk_at dksX1_lead_0 19 rfl rfl)
theorem dX1_lead_22 : decode cX1_lead 22 = .ok (.aload_n 0, 1) := dk_42 (dk_at dksX1_lead_0 22 rfl rfl)
theorem dX1_lead_23 : decode cX1_lead 23 = .ok (.getfield 31, 3) := dk_180 0 31 (dk_at dksX1_lead_1 0 rfl rfl)
theorem dX1_lead_26 : decode cX1_lead 26 = .ok (.iload_n 1, 1) := dk_27 (dk_at dksX1_lead_1 3 rfl rfl)
theorem dX1_lead_27 : decode cX1_lead 27 = .ok (.iload_n 2, 1) := dk_28 (dk_at dksX1_lead_1 4 rfl rfl)
theorem dX1_lead_28 : decode cX1_lead 28 = .ok (.invokevirtual 202, 3) := dk_182 0 202 (dk_at dksX1_lead_1 5 rfl rfl)
theorem dX1_lead_31 : decode cX1_lead 31 = .ok (.ifCond .ne 12, 3) := dk_154 0 12 (dk_at dksX1_lead_1 8 rfl rfl)
theorem dX1_lead_34 : decode cX1_lead 34 = .ok (.iload_n 2, 1) := dk_28 (dk_at dksX1_lead_1 11 rfl rfl)
theorem dX1_lead_35 : decode cX1_lead 35 = .ok (.iconst 0, 1) := dk_3 (dk_at dksX1_lead_1 12 rfl rfl)
theorem dX1_lead_36 : decode cX1_lead 36 = .ok (.iload_n 1, 1) := dk_27 (dk_at dksX1_lead_1 13 rfl rfl)
theorem dX1_lead_37 : decode cX1_lead 37 = .ok (.invokestatic 161, 3) := dk_184 0 161 (dk_at dksX1_lead_1 14 rfl rfl)
theorem dX1_lead_40 : decode cX1_lead 40 = .ok (.ifCond .eq 8, 3) := dk_153 0 8 (dk_at dksX1_lead_1 17 rfl rfl)
theorem dX1_lead_43 : decode cX1_lead 43 = .ok (.aload_n 0, 1) := dk_42 (dk_at dksX1_lead_1 20 rfl rfl)
theorem dX1_lead_44 : decode cX1_lead 44 = .ok (.invokevirtual 205, 3) := dk_182 0 205 (dk_at dksX1_lead_1 21 rfl rfl)
theorem dX1_lead_47 : decode cX1_lead 47 = .ok (.ireturn, 1) := dk_172 (dk_at dksX1_lead_2 0 rfl rfl)
theorem dX1_lead_48 : decode cX1_lead 48 = .ok (.aload_n 0, 1) := dk_42 (dk_at dksX1_lead_2 1 rfl rfl)
theorem dX1_lead_49 : decode cX1_lead 49 = .ok (.invokevirtual 195, 3) := dk_182 0 195 (dk_at dksX1_lead_2 2 rfl rfl)
theorem dX1_lead_52 : decode cX1_lead 52 = .ok (.aload_n 0, 1) := dk_42 (dk_at dksX1_lead_2 5 rfl rfl)
theorem dX1_lead_53 : decode cX1_lead 53 = .ok (.getfield 31, 3) := dk_180 0 31 (dk_at dksX1_lead_2 6 rfl rfl)
theorem dX1_lead_56 : decode cX1_lead 56 = .ok (.iload_n 1, 1) := dk_27 (dk_at dksX1_lead_2 9 rfl rfl)
theorem dX1_lead_57 : decode cX1_lead 57 = .ok (.iload_n 2, 1) := dk_28 (dk_at dksX1_lead_2 10 rfl rfl)
theorem dX1_lead_58 : decode cX1_lead 58 = .ok (.invokevirtual 208, 3) := dk_182 0 208 (dk_at dksX1_lead_2 11 rfl rfl)
theorem dX1_lead_61 : decode cX1_lead 61 = .ok (.iconst 1, 1) := dk_4 (dk_at dksX1_lead_2 14 rfl rfl)
theorem dX1_lead_62 : decode cX1_lead 62 = .ok (.ireturn, 1) := dk_172 (dk_at dksX1_lead_2 15 rfl rfl)
abbrev cX1_refused : ByteArray := prog_1_method_21_code
def yX1_refused : MethodName := ⟨RX1, "refused", "()Z"⟩
def dkwX1_refused_0 : List UInt8 := [42, 180, 0, 46, 4, 92, 46, 4, 96, 79, 3, 172]
abbrev dktX1_refused_0 : List UInt8 := dkwX1_refused_0 ++ []
theorem dksX1_refused_0 : cX1_refused.data.toList.drop 0 = dktX1_refused_0 := by decide +kernel
theorem dX1_refused_0 : decode cX1_refused 0 = .ok (.aload_n 0, 1) := dk_42 (dk_at dksX1_refused_0 0 rfl rfl)
theorem dX1_refused_1 : decode cX1_refused 1 = .ok (.getfield 46, 3) := dk_180 0 46 (dk_at dksX1_refused_0 1 rfl rfl)
theorem dX1_refused_4 : decode cX1_refused 4 = .ok (.iconst 1, 1) := dk_4 (dk_at dksX1_refused_0 4 rfl rfl)
theorem dX1_refused_5 : decode cX1_refused 5 = .ok (.dup2, 1) := dk_92 (dk_at dksX1_refused_0 5 rfl rfl)
theorem dX1_refused_6 : decode cX1_refused 6 = .ok (.iaload, 1) := dk_46 (dk_at dksX1_refused_0 6 rfl rfl)
theorem dX1_refused_7 : decode cX1_refused 7 = .ok (.iconst 1, 1) := dk_4 (dk_at dksX1_refused_0 7 rfl rfl)
theorem dX1_refused_8 : decode cX1_refused 8 = .ok (.iadd, 1) := dk_96 (dk_at dksX1_refused_0 8 rfl rfl)
theorem dX1_refused_9 : decode cX1_refused 9 = .ok (.iastore, 1) := dk_79 (dk_at dksX1_refused_0 9 rfl rfl)
theorem dX1_refused_10 : decode cX1_refused 10 = .ok (.iconst 0, 1) := dk_3 (dk_at dksX1_refused_0 10 rfl rfl)
theorem dX1_refused_11 : decode cX1_refused 11 = .ok (.ireturn, 1) := dk_172 (dk_at dksX1_refused_0 11 rfl rfl)
abbrev cX1_plug : ByteArray := prog_1_method_24_code
def yX1_plug : MethodName := ⟨RX1, "plug", "(IZ)Z"⟩
def dkwX1_plug_1 : List UInt8 := [182, 0, 195, 42, 180, 0, 31, 89, 180, 0, 143, 4, 27, 120, 130, 181, 0, 143, 4, 172]
abbrev dktX1_plug_1 : List UInt8 := dkwX1_plug_1 ++ []
def dkwX1_plug_0 : List UInt8 := [42, 27, 182, 0, 168, 42, 180, 0, 31, 27, 182, 0, 178, 28, 160, 0, 8, 42, 182, 0, 205, 172, 42]
abbrev dktX1_plug_0 : List UInt8 := dkwX1_plug_0 ++ dktX1_plug_1
theorem dksX1_plug_0 : cX1_plug.data.toList.drop 0 = dktX1_plug_0 := by decide +kernel
theorem dksX1_plug_1 : cX1_plug.data.toList.drop 23 = dktX1_plug_1 := dk_seg dksX1_plug_0 23 rfl rfl
theorem dX1_plug_0 : decode cX1_plug 0 = .ok (.aload_n 0, 1) := dk_42 (dk_at dksX1_plug_0 0 rfl rfl)
theorem dX1_plug_1 : decode cX1_plug 1 = .ok (.iload_n 1, 1) := dk_27 (dk_at dksX1_plug_0 1 rfl rfl)
theorem dX1_plug_2 : decode cX1_plug 2 = .ok (.invokevirtual 168, 3) := dk_182 0 168 (dk_at dksX1_plug_0 2 rfl rfl)
theorem dX1_plug_5 : decode cX1_plug 5 = .ok (.aload_n 0, 1) := dk_42 (dk_at dksX1_plug_0 5 rfl rfl)
theorem dX1_plug_6 : decode cX1_plug 6 = .ok (.getfield 31, 3) := dk_180 0 31 (dk_at dksX1_plug_0 6 rfl rfl)
theorem dX1_plug_9 : decode cX1_plug 9 = .ok (.iload_n 1, 1) := dk_27 (dk_at dksX1_plug_0 9 rfl rfl)
theorem dX1_plug_10 : decode cX1_plug 10 = .ok (.invokevirtual 178, 3) := dk_182 0 178 (dk_at dksX1_plug_0 10 rfl rfl)
theorem dX1_plug_13 : decode cX1_plug 13 = .ok (.iload_n 2, 1) := dk_28 (dk_at dksX1_plug_0 13 rfl rfl)
theorem dX1_plug_14 : decode cX1_plug 14 = .ok (.if_icmp .ne 8, 3) := dk_160 0 8 (dk_at dksX1_plug_0 14 rfl rfl)
theorem dX1_plug_17 : decode cX1_plug 17 = .ok (.aload_n 0, 1) := dk_42 (dk_at dksX1_plug_0 17 rfl rfl)
theorem dX1_plug_18 : decode cX1_plug 18 = .ok (.invokevirtual 205, 3) := dk_182 0 205 (dk_at dksX1_plug_0 18 rfl rfl)
theorem dX1_plug_21 : decode cX1_plug 21 = .ok (.ireturn, 1) := dk_172 (dk_at dksX1_plug_0 21 rfl rfl)
theorem dX1_plug_22 : decode cX1_plug 22 = .ok (.aload_n 0, 1) := dk_42 (dk_at dksX1_plug_0 22 rfl rfl)
theorem dX1_plug_23 : decode cX1_plug 23 = .ok (.invokevirtual 195, 3) := dk_182 0 195 (dk_at dksX1_plug_1 0 rfl rfl)
theorem dX1_plug_26 : decode cX1_plug 26 = .ok (.aload_n 0, 1) := dk_42 (dk_at dksX1_plug_1 3 rfl rfl)
theorem dX1_plug_27 : decode cX1_plug 27 = .ok (.getfield 31, 3) := dk_180 0 31 (dk_at dksX1_plug_1 4 rfl rfl)
theorem dX1_plug_30 : decode cX1_plug 30 = .ok (.dup, 1) := dk_89 (dk_at dksX1_plug_1 7 rfl rfl)
theorem dX1_plug_31 : decode cX1_plug 31 = .ok (.getfield 143, 3) := dk_180 0 143 (dk_at dksX1_plug_1 8 rfl rfl)
theorem dX1_plug_34 : decode cX1_plug 34 = .ok (.iconst 1, 1) := dk_4 (dk_at dksX1_plug_1 11 rfl rfl)
theorem dX1_plug_35 : decode cX1_plug 35 = .ok (.iload_n 1, 1) := dk_27 (dk_at dksX1_plug_1 12 rfl rfl)
theorem dX1_plug_36 : decode cX1_plug 36 = .ok (.ishl, 1) := dk_120 (dk_at dksX1_plug_1 13 rfl rfl)
theorem dX1_plug_37 : decode cX1_plug 37 = .ok (.ixor, 1) := dk_130 (dk_at dksX1_plug_1 14 rfl rfl)
theorem dX1_plug_38 : decode cX1_plug 38 = .ok (.putfield 143, 3) := dk_181 0 143 (dk_at dksX1_plug_1 15 rfl rfl)
theorem dX1_plug_41 : decode cX1_plug 41 = .ok (.iconst 1, 1) := dk_4 (dk_at dksX1_plug_1 18 rfl rfl)
theorem dX1_plug_42 : decode cX1_plug 42 = .ok (.ireturn, 1) := dk_172 (dk_at dksX1_plug_1 19 rfl rfl)
abbrev cX1_pour : ByteArray := prog_1_method_25_code
def yX1_pour : MethodName := ⟨RX1, "pour", "(II)I"⟩
def dkwX1_pour_1 : List UInt8 := [182, 0, 195, 42, 180, 0, 31, 27, 28, 182, 0, 212, 172]
abbrev dktX1_pour_1 : List UInt8 := dkwX1_pour_1 ++ []
def dkwX1_pour_0 : List UInt8 := [42, 27, 182, 0, 168, 28, 4, 16, 50, 184, 0, 161, 154, 0, 9, 42, 4, 182, 0, 192, 172, 42]
abbrev dktX1_pour_0 : List UInt8 := dkwX1_pour_0 ++ dktX1_pour_1
theorem dksX1_pour_0 : cX1_pour.data.toList.drop 0 = dktX1_pour_0 := by decide +kernel
theorem dksX1_pour_1 : cX1_pour.data.toList.drop 22 = dktX1_pour_1 := dk_seg dksX1_pour_0 22 rfl rfl
theorem dX1_pour_0 : decode cX1_pour 0 = .ok (.aload_n 0, 1) := dk_42 (dk_at dksX1_pour_0 0 rfl rfl)
theorem dX1_pour_1 : decode cX1_pour 1 = .ok (.iload_n 1, 1) := dk_27 (dk_at dksX1_pour_0 1 rfl rfl)
theorem dX1_pour_2 : decode cX1_pour 2 = .ok (.invokevirtual 168, 3) := dk_182 0 168 (dk_at dksX1_pour_0 2 rfl rfl)
theorem dX1_pour_5 : decode cX1_pour 5 = .ok (.iload_n 2, 1) := dk_28 (dk_at dksX1_pour_0 5 rfl rfl)
theorem dX1_pour_6 : decode cX1_pour 6 = .ok (.iconst 1, 1) := dk_4 (dk_at dksX1_pour_0 6 rfl rfl)
theorem dX1_pour_7 : decode cX1_pour 7 = .ok (.bipush 50, 2) := dk_16 50 (dk_at dksX1_pour_0 7 rfl rfl)
theorem dX1_pour_9 : decode cX1_pour 9 = .ok (.invokestatic 161, 3) := dk_184 0 161 (dk_at dksX1_pour_0 9 rfl rfl)
theorem dX1_pour_12 : decode cX1_pour 12 = .ok (.ifCond .ne 9, 3) := dk_154 0 9 (dk_at dksX1_pour_0 12 rfl rfl)
theorem dX1_pour_15 : decode cX1_pour 15 = .ok (.aload_n 0, 1) := dk_42 (dk_at dksX1_pour_0 15 rfl rfl)
theorem dX1_pour_16 : decode cX1_pour 16 = .ok (.iconst 1, 1) := dk_4 (dk_at dksX1_pour_0 16 rfl rfl)
theorem dX1_pour_17 : decode cX1_pour 17 = .ok (.invokevirtual 192, 3) := dk_182 0 192 (dk_at dksX1_pour_0 17 rfl rfl)
theorem dX1_pour_20 : decode cX1_pour 20 = .ok (.ireturn, 1) := dk_172 (dk_at dksX1_pour_0 20 rfl rfl)
theorem dX1_pour_21 : decode cX1_pour 21 = .ok (.aload_n 0, 1) := dk_42 (dk_at dksX1_pour_0 21 rfl rfl)
theorem dX1_pour_22 : decode cX1_pour 22 = .ok (.invokevirtual 195, 3) := dk_182 0 195 (dk_at dksX1_pour_1 0 rfl rfl)
theorem dX1_pour_25 : decode cX1_pour 25 = .ok (.aload_n 0, 1) := dk_42 (dk_at dksX1_pour_1 3 rfl rfl)
theorem dX1_pour_26 : decode cX1_pour 26 = .ok (.getfield 31, 3) := dk_180 0 31 (dk_at dksX1_pour_1 4 rfl rfl)
theorem dX1_pour_29 : decode cX1_pour 29 = .ok (.iload_n 1, 1) := dk_27 (dk_at dksX1_pour_1 7 rfl rfl)
theorem dX1_pour_30 : decode cX1_pour 30 = .ok (.iload_n 2, 1) := dk_28 (dk_at dksX1_pour_1 8 rfl rfl)
theorem dX1_pour_31 : decode cX1_pour 31 = .ok (.invokevirtual 212, 3) := dk_182 0 212 (dk_at dksX1_pour_1 9 rfl rfl)
theorem dX1_pour_34 : decode cX1_pour 34 = .ok (.ireturn, 1) := dk_172 (dk_at dksX1_pour_1 12 rfl rfl)
abbrev cX1_crack : ByteArray := prog_1_method_26_code
def yX1_crack : MethodName := ⟨RX1, "crack", "(II)I"⟩
def dkwX1_crack_2 : List UInt8 := [182, 0, 215, 29, 172]
abbrev dktX1_crack_2 : List UInt8 := dkwX1_crack_2 ++ []
def dkwX1_crack_1 : List UInt8 := [153, 0, 8, 28, 29, 160, 0, 9, 42, 4, 182, 0, 192, 172, 42, 182, 0, 195, 42, 180, 0, 31, 27, 28]
abbrev dktX1_crack_1 : List UInt8 := dkwX1_crack_1 ++ dktX1_crack_2
def dkwX1_crack_0 : List UInt8 := [42, 27, 182, 0, 168, 42, 180, 0, 31, 180, 0, 119, 27, 46, 62, 28, 4, 16, 30, 184, 0, 161]
abbrev dktX1_crack_0 : List UInt8 := dkwX1_crack_0 ++ dktX1_crack_1
theorem dksX1_crack_0 : cX1_crack.data.toList.drop 0 = dktX1_crack_0 := by decide +kernel
theorem dksX1_crack_1 : cX1_crack.data.toList.drop 22 = dktX1_crack_1 := dk_seg dksX1_crack_0 22 rfl rfl
theorem dksX1_crack_2 : cX1_crack.data.toList.drop 46 = dktX1_crack_2 := dk_seg dksX1_crack_1 24 rfl rfl
theorem dX1_crack_0 : decode cX1_crack 0 = .ok (.aload_n 0, 1) := dk_42 (dk_at dksX1_crack_0 0 rfl rfl)
theorem dX1_crack_1 : decode cX1_crack 1 = .ok (.iload_n 1, 1) := dk_27 (dk_at dksX1_crack_0 1 rfl rfl)
theorem dX1_crack_2 : decode cX1_crack 2 = .ok (.invokevirtual 168, 3) := dk_182 0 168 (dk_at dksX1_crack_0 2 rfl rfl)
theorem dX1_crack_5 : decode cX1_crack 5 = .ok (.aload_n 0, 1) := dk_42 (dk_at dksX1_crack_0 5 rfl rfl)
theorem dX1_crack_6 : decode cX1_crack 6 = .ok (.getfield 31, 3) := dk_180 0 31 (dk_at dksX1_crack_0 6 rfl rfl)
theorem dX1_crack_9 : decode cX1_crack 9 = .ok (.getfield 119, 3) := dk_180 0 119 (dk_at dksX1_crack_0 9 rfl rfl)
theorem dX1_crack_12 : decode cX1_crack 12 = .ok (.iload_n 1, 1) := dk_27 (dk_at dksX1_crack_0 12 rfl rfl)
theorem dX1_crack_13 : decode cX1_crack 13 = .ok (.iaload, 1) := dk_46 (dk_at dksX1_crack_0 13 rfl rfl)
theorem dX1_crack_14 : decode cX1_crack 14 = .ok (.istore_n 3, 1) := dk_62 (dk_at dksX1_crack_0 14 rfl rfl)
theorem dX1_crack_15 : decode cX1_crack 15 = .ok (.iload_n 2, 1) := dk_28 (dk_at dksX1_crack_0 15 rfl rfl)
theorem dX1_crack_16 : decode cX1_crack 16 = .ok (.iconst 1, 1) := dk_4 (dk_at dksX1_crack_0 16 rfl rfl)
theorem dX1_crack_17 : decode cX1_crack 17 = .ok (.bipush 30, 2) := dk_16 30 (dk_at dksX1_crack_0 17 rfl rfl)
theorem dX1_crack_19 : decode cX1_crack 19 = .ok (.invokestatic 161, 3) := dk_184 0 161 (dk_at dksX1_crack_0 19 rfl rfl)
theorem dX1_crack_22 : decode cX1_crack 22 = .ok (.ifCond .eq 8, 3) := dk_153 0 8 (dk_at dksX1_crack_1 0 rfl rfl)
theorem dX1_crack_25 : decode cX1_crack 25 = .ok (.iload_n 2, 1) := dk_28 (dk_at dksX1_crack_1 3 rfl rfl)
theorem dX1_crack_26 : decode cX1_crack 26 = .ok (.iload_n 3, 1) := dk_29 (dk_at dksX1_crack_1 4 rfl rfl)
theorem dX1_crack_27 : decode cX1_crack 27 = .ok (.if_icmp .ne 9, 3) := dk_160 0 9 (dk_at dksX1_crack_1 5 rfl rfl)
theorem dX1_crack_30 : decode cX1_crack 30 = .ok (.aload_n 0, 1) := dk_42 (dk_at dksX1_crack_1 8 rfl rfl)
theorem dX1_crack_31 : decode cX1_crack 31 = .ok (.iconst 1, 1) := dk_4 (dk_at dksX1_crack_1 9 rfl rfl)
theorem dX1_crack_32 : decode cX1_crack 32 = .ok (.invokevirtual 192, 3) := dk_182 0 192 (dk_at dksX1_crack_1 10 rfl rfl)
theorem dX1_crack_35 : decode cX1_crack 35 = .ok (.ireturn, 1) := dk_172 (dk_at dksX1_crack_1 13 rfl rfl)
theorem dX1_crack_36 : decode cX1_crack 36 = .ok (.aload_n 0, 1) := dk_42 (dk_at dksX1_crack_1 14 rfl rfl)
theorem dX1_crack_37 : decode cX1_crack 37 = .ok (.invokevirtual 195, 3) := dk_182 0 195 (dk_at dksX1_crack_1 15 rfl rfl)
theorem dX1_crack_40 : decode cX1_crack 40 = .ok (.aload_n 0, 1) := dk_42 (dk_at dksX1_crack_1 18 rfl rfl)
theorem dX1_crack_41 : decode cX1_crack 41 = .ok (.getfield 31, 3) := dk_180 0 31 (dk_at dksX1_crack_1 19 rfl rfl)
theorem dX1_crack_44 : decode cX1_crack 44 = .ok (.iload_n 1, 1) := dk_27 (dk_at dksX1_crack_1 22 rfl rfl)
theorem dX1_crack_45 : decode cX1_crack 45 = .ok (.iload_n 2, 1) := dk_28 (dk_at dksX1_crack_1 23 rfl rfl)
theorem dX1_crack_46 : decode cX1_crack 46 = .ok (.invokevirtual 215, 3) := dk_182 0 215 (dk_at dksX1_crack_2 0 rfl rfl)
theorem dX1_crack_49 : decode cX1_crack 49 = .ok (.iload_n 3, 1) := dk_29 (dk_at dksX1_crack_2 3 rfl rfl)
theorem dX1_crack_50 : decode cX1_crack 50 = .ok (.ireturn, 1) := dk_172 (dk_at dksX1_crack_2 4 rfl rfl)
abbrev cX1_then : ByteArray := prog_1_method_29_code
def yX1_then : MethodName := ⟨RX1, "then", "(III)I"⟩
def dkwX1_then_2 : List UInt8 := [27, 46, 42, 180, 0, 31, 180, 0, 175, 27, 46, 100, 172]
abbrev dktX1_then_2 : List UInt8 := dkwX1_then_2 ++ []
def dkwX1_then_1 : List UInt8 := [154, 0, 16, 42, 28, 182, 0, 228, 180, 0, 122, 27, 46, 167, 0, 23, 42, 28, 182, 0, 228, 180, 0, 175]
abbrev dktX1_then_1 : List UInt8 := dkwX1_then_1 ++ dktX1_then_2
def dkwX1_then_0 : List UInt8 := [42, 27, 182, 0, 168, 29, 4, 184, 0, 225, 28, 3, 17, 0, 200, 184, 0, 161, 184, 0, 62, 29]
abbrev dktX1_then_0 : List UInt8 := dkwX1_then_0 ++ dktX1_then_1
theorem dksX1_then_0 : cX1_then.data.toList.drop 0 = dktX1_then_0 := by decide +kernel
theorem dksX1_then_1 : cX1_then.data.toList.drop 22 = dktX1_then_1 := dk_seg dksX1_then_0 22 rfl rfl
theorem dksX1_then_2 : cX1_then.data.toList.drop 46 = dktX1_then_2 := dk_seg dksX1_then_1 24 rfl rfl
theorem dX1_then_0 : decode cX1_then 0 = .ok (.aload_n 0, 1) := dk_42 (dk_at dksX1_then_0 0 rfl rfl)
theorem dX1_then_1 : decode cX1_then 1 = .ok (.iload_n 1, 1) := dk_27 (dk_at dksX1_then_0 1 rfl rfl)
theorem dX1_then_2 : decode cX1_then 2 = .ok (.invokevirtual 168, 3) := dk_182 0 168 (dk_at dksX1_then_0 2 rfl rfl)
theorem dX1_then_5 : decode cX1_then 5 = .ok (.iload_n 3, 1) := dk_29 (dk_at dksX1_then_0 5 rfl rfl)
theorem dX1_then_6 : decode cX1_then 6 = .ok (.iconst 1, 1) := dk_4 (dk_at dksX1_then_0 6 rfl rfl)
theorem dX1_then_7 : decode cX1_then 7 = .ok (.invokestatic 225, 3) := dk_184 0 225 (dk_at dksX1_then_0 7 rfl rfl)
theorem dX1_then_10 : decode cX1_then 10 = .ok (.iload_n 2, 1) := dk_28 (dk_at dksX1_then_0 10 rfl rfl)
theorem dX1_then_11 : decode cX1_then 11 = .ok (.iconst 0, 1) := dk_3 (dk_at dksX1_then_0 11 rfl rfl)
theorem dX1_then_12 : decode cX1_then 12 = .ok (.sipush 200, 3) := dk_17 0 200 (dk_at dksX1_then_0 12 rfl rfl)
theorem dX1_then_15 : decode cX1_then 15 = .ok (.invokestatic 161, 3) := dk_184 0 161 (dk_at dksX1_then_0 15 rfl rfl)
theorem dX1_then_18 : decode cX1_then 18 = .ok (.invokestatic 62, 3) := dk_184 0 62 (dk_at dksX1_then_0 18 rfl rfl)
theorem dX1_then_21 : decode cX1_then 21 = .ok (.iload_n 3, 1) := dk_29 (dk_at dksX1_then_0 21 rfl rfl)
theorem dX1_then_22 : decode cX1_then 22 = .ok (.ifCond .ne 16, 3) := dk_154 0 16 (dk_at dksX1_then_1 0 rfl rfl)
theorem dX1_then_25 : decode cX1_then 25 = .ok (.aload_n 0, 1) := dk_42 (dk_at dksX1_then_1 3 rfl rfl)
theorem dX1_then_26 : decode cX1_then 26 = .ok (.iload_n 2, 1) := dk_28 (dk_at dksX1_then_1 4 rfl rfl)
theorem dX1_then_27 : decode cX1_then 27 = .ok (.invokevirtual 228, 3) := dk_182 0 228 (dk_at dksX1_then_1 5 rfl rfl)
theorem dX1_then_30 : decode cX1_then 30 = .ok (.getfield 122, 3) := dk_180 0 122 (dk_at dksX1_then_1 8 rfl rfl)
theorem dX1_then_33 : decode cX1_then 33 = .ok (.iload_n 1, 1) := dk_27 (dk_at dksX1_then_1 11 rfl rfl)
theorem dX1_then_34 : decode cX1_then 34 = .ok (.iaload, 1) := dk_46 (dk_at dksX1_then_1 12 rfl rfl)
theorem dX1_then_35 : decode cX1_then 35 = .ok (.goto 23, 3) := dk_167 0 23 (dk_at dksX1_then_1 13 rfl rfl)
theorem dX1_then_38 : decode cX1_then 38 = .ok (.aload_n 0, 1) := dk_42 (dk_at dksX1_then_1 16 rfl rfl)
theorem dX1_then_39 : decode cX1_then 39 = .ok (.iload_n 2, 1) := dk_28 (dk_at dksX1_then_1 17 rfl rfl)
theorem dX1_then_40 : decode cX1_then 40 = .ok (.invokevirtual 228, 3) := dk_182 0 228 (dk_at dksX1_then_1 18 rfl rfl)
theorem dX1_then_43 : decode cX1_then 43 = .ok (.getfield 175, 3) := dk_180 0 175 (dk_at dksX1_then_1 21 rfl rfl)
theorem dX1_then_46 : decode cX1_then 46 = .ok (.iload_n 1, 1) := dk_27 (dk_at dksX1_then_2 0 rfl rfl)
theorem dX1_then_47 : decode cX1_then 47 = .ok (.iaload, 1) := dk_46 (dk_at dksX1_then_2 1 rfl rfl)
theorem dX1_then_48 : decode cX1_then 48 = .ok (.aload_n 0, 1) := dk_42 (dk_at dksX1_then_2 2 rfl rfl)
theorem dX1_then_49 : decode cX1_then 49 = .ok (.getfield 31, 3) := dk_180 0 31 (dk_at dksX1_then_2 3 rfl rfl)
theorem dX1_then_52 : decode cX1_then 52 = .ok (.getfield 175, 3) := dk_180 0 175 (dk_at dksX1_then_2 6 rfl rfl)
theorem dX1_then_55 : decode cX1_then 55 = .ok (.iload_n 1, 1) := dk_27 (dk_at dksX1_then_2 9 rfl rfl)
theorem dX1_then_56 : decode cX1_then 56 = .ok (.iaload, 1) := dk_46 (dk_at dksX1_then_2 10 rfl rfl)
theorem dX1_then_57 : decode cX1_then 57 = .ok (.isub, 1) := dk_100 (dk_at dksX1_then_2 11 rfl rfl)
theorem dX1_then_58 : decode cX1_then 58 = .ok (.ireturn, 1) := dk_172 (dk_at dksX1_then_2 12 rfl rfl)
abbrev cX1_oneOf : ByteArray := prog_1_method_17_code
def yX1_oneOf : MethodName := ⟨RX1, "oneOf", "(II)V"⟩
def dkwX1_oneOf_0 : List UInt8 := [26, 3, 27, 184, 0, 161, 184, 0, 165, 177]
abbrev dktX1_oneOf_0 : List UInt8 := dkwX1_oneOf_0 ++ []
theorem dksX1_oneOf_0 : cX1_oneOf.data.toList.drop 0 = dktX1_oneOf_0 := by decide +kernel
theorem dX1_oneOf_0 : decode cX1_oneOf 0 = .ok (.iload_n 0, 1) := dk_26 (dk_at dksX1_oneOf_0 0 rfl rfl)
theorem dX1_oneOf_1 : decode cX1_oneOf 1 = .ok (.iconst 0, 1) := dk_3 (dk_at dksX1_oneOf_0 1 rfl rfl)
theorem dX1_oneOf_2 : decode cX1_oneOf 2 = .ok (.iload_n 1, 1) := dk_27 (dk_at dksX1_oneOf_0 2 rfl rfl)
theorem dX1_oneOf_3 : decode cX1_oneOf 3 = .ok (.invokestatic 161, 3) := dk_184 0 161 (dk_at dksX1_oneOf_0 3 rfl rfl)
theorem dX1_oneOf_6 : decode cX1_oneOf 6 = .ok (.invokestatic 165, 3) := dk_184 0 165 (dk_at dksX1_oneOf_0 6 rfl rfl)
theorem dX1_oneOf_9 : decode cX1_oneOf 9 = .ok (.return_, 1) := dk_177 (dk_at dksX1_oneOf_0 9 rfl rfl)
abbrev cX1_tryOn : ByteArray := prog_1_method_28_code
def yX1_tryOn : MethodName := ⟨RX1, "tryOn", "(I)LDripCups$Night;"⟩
def dkwX1_tryOn_0 : List UInt8 := [42, 180, 0, 35, 42, 180, 0, 31, 182, 0, 221, 27, 182, 0, 198, 176]
abbrev dktX1_tryOn_0 : List UInt8 := dkwX1_tryOn_0 ++ []
theorem dksX1_tryOn_0 : cX1_tryOn.data.toList.drop 0 = dktX1_tryOn_0 := by decide +kernel
theorem dX1_tryOn_0 : decode cX1_tryOn 0 = .ok (.aload_n 0, 1) := dk_42 (dk_at dksX1_tryOn_0 0 rfl rfl)
theorem dX1_tryOn_1 : decode cX1_tryOn 1 = .ok (.getfield 35, 3) := dk_180 0 35 (dk_at dksX1_tryOn_0 1 rfl rfl)
theorem dX1_tryOn_4 : decode cX1_tryOn 4 = .ok (.aload_n 0, 1) := dk_42 (dk_at dksX1_tryOn_0 4 rfl rfl)
theorem dX1_tryOn_5 : decode cX1_tryOn 5 = .ok (.getfield 31, 3) := dk_180 0 31 (dk_at dksX1_tryOn_0 5 rfl rfl)
theorem dX1_tryOn_8 : decode cX1_tryOn 8 = .ok (.invokevirtual 221, 3) := dk_182 0 221 (dk_at dksX1_tryOn_0 8 rfl rfl)
theorem dX1_tryOn_11 : decode cX1_tryOn 11 = .ok (.iload_n 1, 1) := dk_27 (dk_at dksX1_tryOn_0 11 rfl rfl)
theorem dX1_tryOn_12 : decode cX1_tryOn 12 = .ok (.invokevirtual 198, 3) := dk_182 0 198 (dk_at dksX1_tryOn_0 12 rfl rfl)
theorem dX1_tryOn_15 : decode cX1_tryOn 15 = .ok (.areturn, 1) := dk_176 (dk_at dksX1_tryOn_0 15 rfl rfl)
abbrev cX1_tipping : ByteArray := prog_1_method_30_code
def yX1_tipping : MethodName := ⟨RX1, "tipping", "(I)I"⟩
def dkwX1_tipping_0 : List UInt8 := [27, 4, 17, 0, 200, 184, 0, 161, 184, 0, 62, 42, 27, 182, 0, 228, 180, 0, 231, 172]
abbrev dktX1_tipping_0 : List UInt8 := dkwX1_tipping_0 ++ []
theorem dksX1_tipping_0 : cX1_tipping.data.toList.drop 0 = dktX1_tipping_0 := by decide +kernel
theorem dX1_tipping_0 : decode cX1_tipping 0 = .ok (.iload_n 1, 1) := dk_27 (dk_at dksX1_tipping_0 0 rfl rfl)
theorem dX1_tipping_1 : decode cX1_tipping 1 = .ok (.iconst 1, 1) := dk_4 (dk_at dksX1_tipping_0 1 rfl rfl)
theorem dX1_tipping_2 : decode cX1_tipping 2 = .ok (.sipush 200, 3) := dk_17 0 200 (dk_at dksX1_tipping_0 2 rfl rfl)
theorem dX1_tipping_5 : decode cX1_tipping 5 = .ok (.invokestatic 161, 3) := dk_184 0 161 (dk_at dksX1_tipping_0 5 rfl rfl)
theorem dX1_tipping_8 : decode cX1_tipping 8 = .ok (.invokestatic 62, 3) := dk_184 0 62 (dk_at dksX1_tipping_0 8 rfl rfl)
theorem dX1_tipping_11 : decode cX1_tipping 11 = .ok (.aload_n 0, 1) := dk_42 (dk_at dksX1_tipping_0 11 rfl rfl)
theorem dX1_tipping_12 : decode cX1_tipping 12 = .ok (.iload_n 1, 1) := dk_27 (dk_at dksX1_tipping_0 12 rfl rfl)
theorem dX1_tipping_13 : decode cX1_tipping 13 = .ok (.invokevirtual 228, 3) := dk_182 0 228 (dk_at dksX1_tipping_0 13 rfl rfl)
theorem dX1_tipping_16 : decode cX1_tipping 16 = .ok (.getfield 231, 3) := dk_180 0 231 (dk_at dksX1_tipping_0 16 rfl rfl)
theorem dX1_tipping_19 : decode cX1_tipping 19 = .ok (.ireturn, 1) := dk_172 (dk_at dksX1_tipping_0 19 rfl rfl)
abbrev cX1_next : ByteArray := prog_1_method_31_code
def yX1_next : MethodName := ⟨RX1, "next", "(I)I"⟩
def dkwX1_next_0 : List UInt8 := [42, 27, 182, 0, 168, 42, 4, 27, 120, 17, 0, 200, 182, 0, 234, 172]
abbrev dktX1_next_0 : List UInt8 := dkwX1_next_0 ++ []
theorem dksX1_next_0 : cX1_next.data.toList.drop 0 = dktX1_next_0 := by decide +kernel
theorem dX1_next_0 : decode cX1_next 0 = .ok (.aload_n 0, 1) := dk_42 (dk_at dksX1_next_0 0 rfl rfl)
theorem dX1_next_1 : decode cX1_next 1 = .ok (.iload_n 1, 1) := dk_27 (dk_at dksX1_next_0 1 rfl rfl)
theorem dX1_next_2 : decode cX1_next 2 = .ok (.invokevirtual 168, 3) := dk_182 0 168 (dk_at dksX1_next_0 2 rfl rfl)
theorem dX1_next_5 : decode cX1_next 5 = .ok (.aload_n 0, 1) := dk_42 (dk_at dksX1_next_0 5 rfl rfl)
theorem dX1_next_6 : decode cX1_next 6 = .ok (.iconst 1, 1) := dk_4 (dk_at dksX1_next_0 6 rfl rfl)
theorem dX1_next_7 : decode cX1_next 7 = .ok (.iload_n 1, 1) := dk_27 (dk_at dksX1_next_0 7 rfl rfl)
theorem dX1_next_8 : decode cX1_next 8 = .ok (.ishl, 1) := dk_120 (dk_at dksX1_next_0 8 rfl rfl)
theorem dX1_next_9 : decode cX1_next 9 = .ok (.sipush 200, 3) := dk_17 0 200 (dk_at dksX1_next_0 9 rfl rfl)
theorem dX1_next_12 : decode cX1_next 12 = .ok (.invokevirtual 234, 3) := dk_182 0 234 (dk_at dksX1_next_0 12 rfl rfl)
theorem dX1_next_15 : decode cX1_next 15 = .ok (.ireturn, 1) := dk_172 (dk_at dksX1_next_0 15 rfl rfl)
abbrev cX1_firstOf : ByteArray := prog_1_method_33_code
def yX1_firstOf : MethodName := ⟨RX1, "firstOf", "(II)I"⟩
def dkwX1_firstOf_0 : List UInt8 := [42, 180, 0, 35, 42, 180, 0, 31, 182, 0, 221, 87, 42, 27, 28, 182, 0, 240, 172]
abbrev dktX1_firstOf_0 : List UInt8 := dkwX1_firstOf_0 ++ []
theorem dksX1_firstOf_0 : cX1_firstOf.data.toList.drop 0 = dktX1_firstOf_0 := by decide +kernel
theorem dX1_firstOf_0 : decode cX1_firstOf 0 = .ok (.aload_n 0, 1) := dk_42 (dk_at dksX1_firstOf_0 0 rfl rfl)
theorem dX1_firstOf_1 : decode cX1_firstOf 1 = .ok (.getfield 35, 3) := dk_180 0 35 (dk_at dksX1_firstOf_0 1 rfl rfl)
theorem dX1_firstOf_4 : decode cX1_firstOf 4 = .ok (.aload_n 0, 1) := dk_42 (dk_at dksX1_firstOf_0 4 rfl rfl)
theorem dX1_firstOf_5 : decode cX1_firstOf 5 = .ok (.getfield 31, 3) := dk_180 0 31 (dk_at dksX1_firstOf_0 5 rfl rfl)
theorem dX1_firstOf_8 : decode cX1_firstOf 8 = .ok (.invokevirtual 221, 3) := dk_182 0 221 (dk_at dksX1_firstOf_0 8 rfl rfl)
theorem dX1_firstOf_11 : decode cX1_firstOf 11 = .ok (.pop, 1) := dk_87 (dk_at dksX1_firstOf_0 11 rfl rfl)
theorem dX1_firstOf_12 : decode cX1_firstOf 12 = .ok (.aload_n 0, 1) := dk_42 (dk_at dksX1_firstOf_0 12 rfl rfl)
theorem dX1_firstOf_13 : decode cX1_firstOf 13 = .ok (.iload_n 1, 1) := dk_27 (dk_at dksX1_firstOf_0 13 rfl rfl)
theorem dX1_firstOf_14 : decode cX1_firstOf 14 = .ok (.iload_n 2, 1) := dk_28 (dk_at dksX1_firstOf_0 14 rfl rfl)
theorem dX1_firstOf_15 : decode cX1_firstOf 15 = .ok (.invokevirtual 240, 3) := dk_182 0 240 (dk_at dksX1_firstOf_0 15 rfl rfl)
theorem dX1_firstOf_18 : decode cX1_firstOf 18 = .ok (.ireturn, 1) := dk_172 (dk_at dksX1_firstOf_0 18 rfl rfl)
abbrev cX1_firstOn : ByteArray := prog_1_method_32_code
def yX1_firstOn : MethodName := ⟨RX1, "firstOn", "(II)I"⟩
def dkwX1_firstOn_1 : List UInt8 := [29, 172, 132, 3, 1, 167, 255, 229, 2, 172]
abbrev dktX1_firstOn_1 : List UInt8 := dkwX1_firstOn_1 ++ []
def dkwX1_firstOn_0 : List UInt8 := [4, 62, 29, 28, 163, 0, 28, 27, 42, 180, 0, 35, 182, 0, 237, 180, 0, 231, 2, 130, 126, 154, 0, 5]
abbrev dktX1_firstOn_0 : List UInt8 := dkwX1_firstOn_0 ++ dktX1_firstOn_1
theorem dksX1_firstOn_0 : cX1_firstOn.data.toList.drop 0 = dktX1_firstOn_0 := by decide +kernel
theorem dksX1_firstOn_1 : cX1_firstOn.data.toList.drop 24 = dktX1_firstOn_1 := dk_seg dksX1_firstOn_0 24 rfl rfl
theorem dX1_firstOn_0 : decode cX1_firstOn 0 = .ok (.iconst 1, 1) := dk_4 (dk_at dksX1_firstOn_0 0 rfl rfl)
theorem dX1_firstOn_1 : decode cX1_firstOn 1 = .ok (.istore_n 3, 1) := dk_62 (dk_at dksX1_firstOn_0 1 rfl rfl)
theorem dX1_firstOn_2 : decode cX1_firstOn 2 = .ok (.iload_n 3, 1) := dk_29 (dk_at dksX1_firstOn_0 2 rfl rfl)
theorem dX1_firstOn_3 : decode cX1_firstOn 3 = .ok (.iload_n 2, 1) := dk_28 (dk_at dksX1_firstOn_0 3 rfl rfl)
theorem dX1_firstOn_4 : decode cX1_firstOn 4 = .ok (.if_icmp .gt 28, 3) := dk_163 0 28 (dk_at dksX1_firstOn_0 4 rfl rfl)
theorem dX1_firstOn_7 : decode cX1_firstOn 7 = .ok (.iload_n 1, 1) := dk_27 (dk_at dksX1_firstOn_0 7 rfl rfl)
theorem dX1_firstOn_8 : decode cX1_firstOn 8 = .ok (.aload_n 0, 1) := dk_42 (dk_at dksX1_firstOn_0 8 rfl rfl)
theorem dX1_firstOn_9 : decode cX1_firstOn 9 = .ok (.getfield 35, 3) := dk_180 0 35 (dk_at dksX1_firstOn_0 9 rfl rfl)
theorem dX1_firstOn_12 : decode cX1_firstOn 12 = .ok (.invokevirtual 237, 3) := dk_182 0 237 (dk_at dksX1_firstOn_0 12 rfl rfl)
theorem dX1_firstOn_15 : decode cX1_firstOn 15 = .ok (.getfield 231, 3) := dk_180 0 231 (dk_at dksX1_firstOn_0 15 rfl rfl)
theorem dX1_firstOn_18 : decode cX1_firstOn 18 = .ok (.iconst (-1), 1) := dk_2 (dk_at dksX1_firstOn_0 18 rfl rfl)
theorem dX1_firstOn_19 : decode cX1_firstOn 19 = .ok (.ixor, 1) := dk_130 (dk_at dksX1_firstOn_0 19 rfl rfl)
theorem dX1_firstOn_20 : decode cX1_firstOn 20 = .ok (.iand, 1) := dk_126 (dk_at dksX1_firstOn_0 20 rfl rfl)
theorem dX1_firstOn_21 : decode cX1_firstOn 21 = .ok (.ifCond .ne 5, 3) := dk_154 0 5 (dk_at dksX1_firstOn_0 21 rfl rfl)
theorem dX1_firstOn_24 : decode cX1_firstOn 24 = .ok (.iload_n 3, 1) := dk_29 (dk_at dksX1_firstOn_1 0 rfl rfl)
theorem dX1_firstOn_25 : decode cX1_firstOn 25 = .ok (.ireturn, 1) := dk_172 (dk_at dksX1_firstOn_1 1 rfl rfl)
theorem dX1_firstOn_26 : decode cX1_firstOn 26 = .ok (.iinc 3 1, 3) := dk_132 3 1 (dk_at dksX1_firstOn_1 2 rfl rfl)
theorem dX1_firstOn_29 : decode cX1_firstOn 29 = .ok (.goto (-27), 3) := dk_167 255 229 (dk_at dksX1_firstOn_1 5 rfl rfl)
theorem dX1_firstOn_32 : decode cX1_firstOn 32 = .ok (.iconst (-1), 1) := dk_2 (dk_at dksX1_firstOn_1 8 rfl rfl)
theorem dX1_firstOn_33 : decode cX1_firstOn 33 = .ok (.ireturn, 1) := dk_172 (dk_at dksX1_firstOn_1 9 rfl rfl)
abbrev cX1_together : ByteArray := prog_1_method_35_code
def yX1_together : MethodName := ⟨RX1, "together", "(I)I"⟩
def dkwX1_together_0 : List UInt8 := [42, 27, 182, 0, 243, 42, 27, 17, 0, 200, 182, 0, 234, 172]
abbrev dktX1_together_0 : List UInt8 := dkwX1_together_0 ++ []
theorem dksX1_together_0 : cX1_together.data.toList.drop 0 = dktX1_together_0 := by decide +kernel
theorem dX1_together_0 : decode cX1_together 0 = .ok (.aload_n 0, 1) := dk_42 (dk_at dksX1_together_0 0 rfl rfl)
theorem dX1_together_1 : decode cX1_together 1 = .ok (.iload_n 1, 1) := dk_27 (dk_at dksX1_together_0 1 rfl rfl)
theorem dX1_together_2 : decode cX1_together 2 = .ok (.invokevirtual 243, 3) := dk_182 0 243 (dk_at dksX1_together_0 2 rfl rfl)
theorem dX1_together_5 : decode cX1_together 5 = .ok (.aload_n 0, 1) := dk_42 (dk_at dksX1_together_0 5 rfl rfl)
theorem dX1_together_6 : decode cX1_together 6 = .ok (.iload_n 1, 1) := dk_27 (dk_at dksX1_together_0 6 rfl rfl)
theorem dX1_together_7 : decode cX1_together 7 = .ok (.sipush 200, 3) := dk_17 0 200 (dk_at dksX1_together_0 7 rfl rfl)
theorem dX1_together_10 : decode cX1_together 10 = .ok (.invokevirtual 234, 3) := dk_182 0 234 (dk_at dksX1_together_0 10 rfl rfl)
theorem dX1_together_13 : decode cX1_together 13 = .ok (.ireturn, 1) := dk_172 (dk_at dksX1_together_0 13 rfl rfl)
abbrev cX1_someCups : ByteArray := prog_1_method_34_code
def yX1_someCups : MethodName := ⟨RX1, "someCups", "(I)V"⟩
def dkwX1_someCups_0 : List UInt8 := [27, 3, 4, 42, 180, 0, 22, 182, 0, 97, 120, 4, 100, 184, 0, 161, 184, 0, 62, 177]
abbrev dktX1_someCups_0 : List UInt8 := dkwX1_someCups_0 ++ []
theorem dksX1_someCups_0 : cX1_someCups.data.toList.drop 0 = dktX1_someCups_0 := by decide +kernel
theorem dX1_someCups_0 : decode cX1_someCups 0 = .ok (.iload_n 1, 1) := dk_27 (dk_at dksX1_someCups_0 0 rfl rfl)
theorem dX1_someCups_1 : decode cX1_someCups 1 = .ok (.iconst 0, 1) := dk_3 (dk_at dksX1_someCups_0 1 rfl rfl)
theorem dX1_someCups_2 : decode cX1_someCups 2 = .ok (.iconst 1, 1) := dk_4 (dk_at dksX1_someCups_0 2 rfl rfl)
theorem dX1_someCups_3 : decode cX1_someCups 3 = .ok (.aload_n 0, 1) := dk_42 (dk_at dksX1_someCups_0 3 rfl rfl)
theorem dX1_someCups_4 : decode cX1_someCups 4 = .ok (.getfield 22, 3) := dk_180 0 22 (dk_at dksX1_someCups_0 4 rfl rfl)
theorem dX1_someCups_7 : decode cX1_someCups 7 = .ok (.invokevirtual 97, 3) := dk_182 0 97 (dk_at dksX1_someCups_0 7 rfl rfl)
theorem dX1_someCups_10 : decode cX1_someCups 10 = .ok (.ishl, 1) := dk_120 (dk_at dksX1_someCups_0 10 rfl rfl)
theorem dX1_someCups_11 : decode cX1_someCups 11 = .ok (.iconst 1, 1) := dk_4 (dk_at dksX1_someCups_0 11 rfl rfl)
theorem dX1_someCups_12 : decode cX1_someCups 12 = .ok (.isub, 1) := dk_100 (dk_at dksX1_someCups_0 12 rfl rfl)
theorem dX1_someCups_13 : decode cX1_someCups 13 = .ok (.invokestatic 161, 3) := dk_184 0 161 (dk_at dksX1_someCups_0 13 rfl rfl)
theorem dX1_someCups_16 : decode cX1_someCups 16 = .ok (.invokestatic 62, 3) := dk_184 0 62 (dk_at dksX1_someCups_0 16 rfl rfl)
theorem dX1_someCups_19 : decode cX1_someCups 19 = .ok (.return_, 1) := dk_177 (dk_at dksX1_someCups_0 19 rfl rfl)
abbrev cX1_sound : ByteArray := prog_1_method_37_code
def yX1_sound : MethodName := ⟨RX1, "sound", "(II)I"⟩
def dkwX1_sound_5 : List UInt8 := [21, 5, 172]
abbrev dktX1_sound_5 : List UInt8 := dkwX1_sound_5 ++ []
def dkwX1_sound_4 : List UInt8 := [21, 6, 21, 8, 184, 0, 111, 54, 6, 132, 7, 1, 167, 255, 191, 28, 154, 0, 8, 21, 4, 167, 0, 5]
abbrev dktX1_sound_4 : List UInt8 := dkwX1_sound_4 ++ dktX1_sound_5
def dkwX1_sound_3 : List UInt8 := [167, 0, 4, 3, 62, 21, 4, 29, 184, 0, 111, 54, 4, 21, 8, 21, 6, 164, 0, 7, 21, 7, 54, 5]
abbrev dktX1_sound_3 : List UInt8 := dkwX1_sound_3 ++ dktX1_sound_4
def dkwX1_sound_2 : List UInt8 := [42, 180, 0, 35, 182, 0, 237, 180, 0, 231, 184, 0, 249, 54, 8, 21, 8, 154, 0, 9, 29, 4, 96]
abbrev dktX1_sound_2 : List UInt8 := dkwX1_sound_2 ++ dktX1_sound_3
def dkwX1_sound_1 : List UInt8 := [2, 54, 6, 42, 180, 0, 35, 42, 180, 0, 31, 182, 0, 221, 87, 4, 54, 7, 21, 7, 27, 163, 0, 65]
abbrev dktX1_sound_1 : List UInt8 := dkwX1_sound_1 ++ dktX1_sound_2
def dkwX1_sound_0 : List UInt8 := [28, 4, 184, 0, 225, 27, 4, 17, 0, 200, 184, 0, 161, 184, 0, 62, 3, 62, 3, 54, 4, 2, 54, 5]
abbrev dktX1_sound_0 : List UInt8 := dkwX1_sound_0 ++ dktX1_sound_1
theorem dksX1_sound_0 : cX1_sound.data.toList.drop 0 = dktX1_sound_0 := by decide +kernel
theorem dksX1_sound_1 : cX1_sound.data.toList.drop 24 = dktX1_sound_1 := dk_seg dksX1_sound_0 24 rfl rfl
theorem dksX1_sound_2 : cX1_sound.data.toList.drop 48 = dktX1_sound_2 := dk_seg dksX1_sound_1 24 rfl rfl
theorem dksX1_sound_3 : cX1_sound.data.toList.drop 71 = dktX1_sound_3 := dk_seg dksX1_sound_2 23 rfl rfl
theorem dksX1_sound_4 : cX1_sound.data.toList.drop 95 = dktX1_sound_4 := dk_seg dksX1_sound_3 24 rfl rfl
theorem dksX1_sound_5 : cX1_sound.data.toList.drop 119 = dktX1_sound_5 := dk_seg dksX1_sound_4 24 rfl rfl
theorem dX1_sound_0 : decode cX1_sound 0 = .ok (.iload_n 2, 1) := dk_28 (dk_at dksX1_sound_0 0 rfl rfl)
theorem dX1_sound_1 : decode cX1_sound 1 = .ok (.iconst 1, 1) := dk_4 (dk_at dksX1_sound_0 1 rfl rfl)
theorem dX1_sound_2 : decode cX1_sound 2 = .ok (.invokestatic 225, 3) := dk_184 0 225 (dk_at dksX1_sound_0 2 rfl rfl)
theorem dX1_sound_5 : decode cX1_sound 5 = .ok (.iload_n 1, 1) := dk_27 (dk_at dksX1_sound_0 5 rfl rfl)
theorem dX1_sound_6 : decode cX1_sound 6 = .ok (.iconst 1, 1) := dk_4 (dk_at dksX1_sound_0 6 rfl rfl)
theorem dX1_sound_7 : decode cX1_sound 7 = .ok (.sipush 200, 3) := dk_17 0 200 (dk_at dksX1_sound_0 7 rfl rfl)
theorem dX1_sound_10 : decode cX1_sound 10 = .ok (.invokestatic 161, 3) := dk_184 0 161 (dk_at dksX1_sound_0 10 rfl rfl)
theorem dX1_sound_13 : decode cX1_sound 13 = .ok (.invokestatic 62, 3) := dk_184 0 62 (dk_at dksX1_sound_0 13 rfl rfl)
theorem dX1_sound_16 : decode cX1_sound 16 = .ok (.iconst 0, 1) := dk_3 (dk_at dksX1_sound_0 16 rfl rfl)
theorem dX1_sound_17 : decode cX1_sound 17 = .ok (.istore_n 3, 1) := dk_62 (dk_at dksX1_sound_0 17 rfl rfl)
theorem dX1_sound_18 : decode cX1_sound 18 = .ok (.iconst 0, 1) := dk_3 (dk_at dksX1_sound_0 18 rfl rfl)
theorem dX1_sound_19 : decode cX1_sound 19 = .ok (.istore 4, 2) := dk_54 4 (dk_at dksX1_sound_0 19 rfl rfl)
theorem dX1_sound_21 : decode cX1_sound 21 = .ok (.iconst (-1), 1) := dk_2 (dk_at dksX1_sound_0 21 rfl rfl)
theorem dX1_sound_22 : decode cX1_sound 22 = .ok (.istore 5, 2) := dk_54 5 (dk_at dksX1_sound_0 22 rfl rfl)
theorem dX1_sound_24 : decode cX1_sound 24 = .ok (.iconst (-1), 1) := dk_2 (dk_at dksX1_sound_1 0 rfl rfl)
theorem dX1_sound_25 : decode cX1_sound 25 = .ok (.istore 6, 2) := dk_54 6 (dk_at dksX1_sound_1 1 rfl rfl)
theorem dX1_sound_27 : decode cX1_sound 27 = .ok (.aload_n 0, 1) := dk_42 (dk_at dksX1_sound_1 3 rfl rfl)
theorem dX1_sound_28 : decode cX1_sound 28 = .ok (.getfield 35, 3) := dk_180 0 35 (dk_at dksX1_sound_1 4 rfl rfl)
theorem dX1_sound_31 : decode cX1_sound 31 = .ok (.aload_n 0, 1) := dk_42 (dk_at dksX1_sound_1 7 rfl rfl)
theorem dX1_sound_32 : decode cX1_sound 32 = .ok (.getfield 31, 3) := dk_180 0 31 (dk_at dksX1_sound_1 8 rfl rfl)
theorem dX1_sound_35 : decode cX1_sound 35 = .ok (.invokevirtual 221, 3) := dk_182 0 221 (dk_at dksX1_sound_1 11 rfl rfl)
theorem dX1_sound_38 : decode cX1_sound 38 = .ok (.pop, 1) := dk_87 (dk_at dksX1_sound_1 14 rfl rfl)
theorem dX1_sound_39 : decode cX1_sound 39 = .ok (.iconst 1, 1) := dk_4 (dk_at dksX1_sound_1 15 rfl rfl)
theorem dX1_sound_40 : decode cX1_sound 40 = .ok (.istore 7, 2) := dk_54 7 (dk_at dksX1_sound_1 16 rfl rfl)
theorem dX1_sound_42 : decode cX1_sound 42 = .ok (.iload 7, 2) := dk_21 7 (dk_at dksX1_sound_1 18 rfl rfl)
theorem dX1_sound_44 : decode cX1_sound 44 = .ok (.iload_n 1, 1) := dk_27 (dk_at dksX1_sound_1 20 rfl rfl)
theorem dX1_sound_45 : decode cX1_sound 45 = .ok (.if_icmp .gt 65, 3) := dk_163 0 65 (dk_at dksX1_sound_1 21 rfl rfl)
theorem dX1_sound_48 : decode cX1_sound 48 = .ok (.aload_n 0, 1) := dk_42 (dk_at dksX1_sound_2 0 rfl rfl)
theorem dX1_sound_49 : decode cX1_sound 49 = .ok (.getfield 35, 3) := dk_180 0 35 (dk_at dksX1_sound_2 1 rfl rfl)
theorem dX1_sound_52 : decode cX1_sound 52 = .ok (.invokevirtual 237, 3) := dk_182 0 237 (dk_at dksX1_sound_2 4 rfl rfl)
theorem dX1_sound_55 : decode cX1_sound 55 = .ok (.getfield 231, 3) := dk_180 0 231 (dk_at dksX1_sound_2 7 rfl rfl)
theorem dX1_sound_58 : decode cX1_sound 58 = .ok (.invokestatic 249, 3) := dk_184 0 249 (dk_at dksX1_sound_2 10 rfl rfl)
theorem dX1_sound_61 : decode cX1_sound 61 = .ok (.istore 8, 2) := dk_54 8 (dk_at dksX1_sound_2 13 rfl rfl)
theorem dX1_sound_63 : decode cX1_sound 63 = .ok (.iload 8, 2) := dk_21 8 (dk_at dksX1_sound_2 15 rfl rfl)
theorem dX1_sound_65 : decode cX1_sound 65 = .ok (.ifCond .ne 9, 3) := dk_154 0 9 (dk_at dksX1_sound_2 17 rfl rfl)
theorem dX1_sound_68 : decode cX1_sound 68 = .ok (.iload_n 3, 1) := dk_29 (dk_at dksX1_sound_2 20 rfl rfl)
theorem dX1_sound_69 : decode cX1_sound 69 = .ok (.iconst 1, 1) := dk_4 (dk_at dksX1_sound_2 21 rfl rfl)
theorem dX1_sound_70 : decode cX1_sound 70 = .ok (.iadd, 1) := dk_96 (dk_at dksX1_sound_2 22 rfl rfl)
theorem dX1_sound_71 : decode cX1_sound 71 = .ok (.goto 4, 3) := dk_167 0 4 (dk_at dksX1_sound_3 0 rfl rfl)
theorem dX1_sound_74 : decode cX1_sound 74 = .ok (.iconst 0, 1) := dk_3 (dk_at dksX1_sound_3 3 rfl rfl)
theorem dX1_sound_75 : decode cX1_sound 75 = .ok (.istore_n 3, 1) := dk_62 (dk_at dksX1_sound_3 4 rfl rfl)
theorem dX1_sound_76 : decode cX1_sound 76 = .ok (.iload 4, 2) := dk_21 4 (dk_at dksX1_sound_3 5 rfl rfl)
theorem dX1_sound_78 : decode cX1_sound 78 = .ok (.iload_n 3, 1) := dk_29 (dk_at dksX1_sound_3 7 rfl rfl)
theorem dX1_sound_79 : decode cX1_sound 79 = .ok (.invokestatic 111, 3) := dk_184 0 111 (dk_at dksX1_sound_3 8 rfl rfl)
theorem dX1_sound_82 : decode cX1_sound 82 = .ok (.istore 4, 2) := dk_54 4 (dk_at dksX1_sound_3 11 rfl rfl)
theorem dX1_sound_84 : decode cX1_sound 84 = .ok (.iload 8, 2) := dk_21 8 (dk_at dksX1_sound_3 13 rfl rfl)
theorem dX1_sound_86 : decode cX1_sound 86 = .ok (.iload 6, 2) := dk_21 6 (dk_at dksX1_sound_3 15 rfl rfl)
theorem dX1_sound_88 : decode cX1_sound 88 = .ok (.if_icmp .le 7, 3) := dk_164 0 7 (dk_at dksX1_sound_3 17 rfl rfl)
theorem dX1_sound_91 : decode cX1_sound 91 = .ok (.iload 7, 2) := dk_21 7 (dk_at dksX1_sound_3 20 rfl rfl)
theorem dX1_sound_93 : decode cX1_sound 93 = .ok (.istore 5, 2) := dk_54 5 (dk_at dksX1_sound_3 22 rfl rfl)
theorem dX1_sound_95 : decode cX1_sound 95 = .ok (.iload 6, 2) := dk_21 6 (dk_at dksX1_sound_4 0 rfl rfl)
theorem dX1_sound_97 : decode cX1_sound 97 = .ok (.iload 8, 2) := dk_21 8 (dk_at dksX1_sound_4 2 rfl rfl)
theorem dX1_sound_99 : decode cX1_sound 99 = .ok (.invokestatic 111, 3) := dk_184 0 111 (dk_at dksX1_sound_4 4 rfl rfl)
theorem dX1_sound_102 : decode cX1_sound 102 = .ok (.istore 6, 2) := dk_54 6 (dk_at dksX1_sound_4 7 rfl rfl)
theorem dX1_sound_104 : decode cX1_sound 104 = .ok (.iinc 7 1, 3) := dk_132 7 1 (dk_at dksX1_sound_4 9 rfl rfl)
theorem dX1_sound_107 : decode cX1_sound 107 = .ok (.goto (-65), 3) := dk_167 255 191 (dk_at dksX1_sound_4 12 rfl rfl)
theorem dX1_sound_110 : decode cX1_sound 110 = .ok (.iload_n 2, 1) := dk_28 (dk_at dksX1_sound_4 15 rfl rfl)
theorem dX1_sound_111 : decode cX1_sound 111 = .ok (.ifCond .ne 8, 3) := dk_154 0 8 (dk_at dksX1_sound_4 16 rfl rfl)
theorem dX1_sound_114 : decode cX1_sound 114 = .ok (.iload 4, 2) := dk_21 4 (dk_at dksX1_sound_4 19 rfl rfl)
theorem dX1_sound_116 : decode cX1_sound 116 = .ok (.goto 5, 3) := dk_167 0 5 (dk_at dksX1_sound_4 21 rfl rfl)
theorem dX1_sound_119 : decode cX1_sound 119 = .ok (.iload 5, 2) := dk_21 5 (dk_at dksX1_sound_5 0 rfl rfl)
theorem dX1_sound_121 : decode cX1_sound 121 = .ok (.ireturn, 1) := dk_172 (dk_at dksX1_sound_5 2 rfl rfl)
abbrev cX1_fallen : ByteArray := prog_1_method_38_code
def yX1_fallen : MethodName := ⟨RX1, "fallen", "(II)I"⟩
def dkwX1_fallen_1 : List UInt8 := [16, 9, 27, 96, 47, 136, 172]
abbrev dktX1_fallen_1 : List UInt8 := dkwX1_fallen_1 ++ []
def dkwX1_fallen_0 : List UInt8 := [42, 27, 182, 0, 168, 28, 3, 18, 252, 184, 0, 161, 184, 0, 62, 42, 180, 0, 31, 28, 182, 0, 253]
abbrev dktX1_fallen_0 : List UInt8 := dkwX1_fallen_0 ++ dktX1_fallen_1
theorem dksX1_fallen_0 : cX1_fallen.data.toList.drop 0 = dktX1_fallen_0 := by decide +kernel
theorem dksX1_fallen_1 : cX1_fallen.data.toList.drop 23 = dktX1_fallen_1 := dk_seg dksX1_fallen_0 23 rfl rfl
theorem dX1_fallen_0 : decode cX1_fallen 0 = .ok (.aload_n 0, 1) := dk_42 (dk_at dksX1_fallen_0 0 rfl rfl)
theorem dX1_fallen_1 : decode cX1_fallen 1 = .ok (.iload_n 1, 1) := dk_27 (dk_at dksX1_fallen_0 1 rfl rfl)
theorem dX1_fallen_2 : decode cX1_fallen 2 = .ok (.invokevirtual 168, 3) := dk_182 0 168 (dk_at dksX1_fallen_0 2 rfl rfl)
theorem dX1_fallen_5 : decode cX1_fallen 5 = .ok (.iload_n 2, 1) := dk_28 (dk_at dksX1_fallen_0 5 rfl rfl)
theorem dX1_fallen_6 : decode cX1_fallen 6 = .ok (.iconst 0, 1) := dk_3 (dk_at dksX1_fallen_0 6 rfl rfl)
theorem dX1_fallen_7 : decode cX1_fallen 7 = .ok (.ldc 252, 2) := dk_18 252 (dk_at dksX1_fallen_0 7 rfl rfl)
theorem dX1_fallen_9 : decode cX1_fallen 9 = .ok (.invokestatic 161, 3) := dk_184 0 161 (dk_at dksX1_fallen_0 9 rfl rfl)
theorem dX1_fallen_12 : decode cX1_fallen 12 = .ok (.invokestatic 62, 3) := dk_184 0 62 (dk_at dksX1_fallen_0 12 rfl rfl)
theorem dX1_fallen_15 : decode cX1_fallen 15 = .ok (.aload_n 0, 1) := dk_42 (dk_at dksX1_fallen_0 15 rfl rfl)
theorem dX1_fallen_16 : decode cX1_fallen 16 = .ok (.getfield 31, 3) := dk_180 0 31 (dk_at dksX1_fallen_0 16 rfl rfl)
theorem dX1_fallen_19 : decode cX1_fallen 19 = .ok (.iload_n 2, 1) := dk_28 (dk_at dksX1_fallen_0 19 rfl rfl)
theorem dX1_fallen_20 : decode cX1_fallen 20 = .ok (.invokevirtual 253, 3) := dk_182 0 253 (dk_at dksX1_fallen_0 20 rfl rfl)
theorem dX1_fallen_23 : decode cX1_fallen 23 = .ok (.bipush 9, 2) := dk_16 9 (dk_at dksX1_fallen_1 0 rfl rfl)
theorem dX1_fallen_25 : decode cX1_fallen 25 = .ok (.iload_n 1, 1) := dk_27 (dk_at dksX1_fallen_1 2 rfl rfl)
theorem dX1_fallen_26 : decode cX1_fallen 26 = .ok (.iadd, 1) := dk_96 (dk_at dksX1_fallen_1 3 rfl rfl)
theorem dX1_fallen_27 : decode cX1_fallen 27 = .ok (.laload, 1) := dk_47 (dk_at dksX1_fallen_1 4 rfl rfl)
theorem dX1_fallen_28 : decode cX1_fallen 28 = .ok (.l2i, 1) := dk_136 (dk_at dksX1_fallen_1 5 rfl rfl)
theorem dX1_fallen_29 : decode cX1_fallen 29 = .ok (.ireturn, 1) := dk_172 (dk_at dksX1_fallen_1 6 rfl rfl)
abbrev cX1_nth : ByteArray := prog_1_method_40_code
def yX1_nth : MethodName := ⟨RX1, "nth", "(II)I"⟩
def dkwX1_nth_3 : List UInt8 := [29, 18, 252, 164, 0, 7, 2, 167, 0, 4, 29, 172]
abbrev dktX1_nth_3 : List UInt8 := dkwX1_nth_3 ++ []
def dkwX1_nth_2 : List UInt8 := [27, 96, 47, 28, 133, 148, 155, 0, 10, 21, 5, 54, 4, 167, 0, 8, 21, 5, 4, 96, 62, 167, 255, 210]
abbrev dktX1_nth_2 : List UInt8 := dkwX1_nth_2 ++ dktX1_nth_3
def dkwX1_nth_1 : List UInt8 := [21, 4, 162, 0, 46, 29, 21, 4, 96, 5, 108, 54, 5, 42, 180, 0, 31, 21, 5, 182, 0, 253, 16, 9]
abbrev dktX1_nth_1 : List UInt8 := dkwX1_nth_1 ++ dktX1_nth_2
def dkwX1_nth_0 : List UInt8 := [42, 27, 182, 0, 168, 28, 4, 19, 1, 1, 184, 0, 161, 184, 0, 62, 4, 62, 19, 1, 2, 54, 4, 29]
abbrev dktX1_nth_0 : List UInt8 := dkwX1_nth_0 ++ dktX1_nth_1
theorem dksX1_nth_0 : cX1_nth.data.toList.drop 0 = dktX1_nth_0 := by decide +kernel
theorem dksX1_nth_1 : cX1_nth.data.toList.drop 24 = dktX1_nth_1 := dk_seg dksX1_nth_0 24 rfl rfl
theorem dksX1_nth_2 : cX1_nth.data.toList.drop 48 = dktX1_nth_2 := dk_seg dksX1_nth_1 24 rfl rfl
theorem dksX1_nth_3 : cX1_nth.data.toList.drop 72 = dktX1_nth_3 := dk_seg dksX1_nth_2 24 rfl rfl
theorem dX1_nth_0 : decode cX1_nth 0 = .ok (.aload_n 0, 1) := dk_42 (dk_at dksX1_nth_0 0 rfl rfl)
theorem dX1_nth_1 : decode cX1_nth 1 = .ok (.iload_n 1, 1) := dk_27 (dk_at dksX1_nth_0 1 rfl rfl)
theorem dX1_nth_2 : decode cX1_nth 2 = .ok (.invokevirtual 168, 3) := dk_182 0 168 (dk_at dksX1_nth_0 2 rfl rfl)
theorem dX1_nth_5 : decode cX1_nth 5 = .ok (.iload_n 2, 1) := dk_28 (dk_at dksX1_nth_0 5 rfl rfl)
theorem dX1_nth_6 : decode cX1_nth 6 = .ok (.iconst 1, 1) := dk_4 (dk_at dksX1_nth_0 6 rfl rfl)
theorem dX1_nth_7 : decode cX1_nth 7 = .ok (.ldc_w 257, 3) := dk_19 1 1 (dk_at dksX1_nth_0 7 rfl rfl)
theorem dX1_nth_10 : decode cX1_nth 10 = .ok (.invokestatic 161, 3) := dk_184 0 161 (dk_at dksX1_nth_0 10 rfl rfl)
theorem dX1_nth_13 : decode cX1_nth 13 = .ok (.invokestatic 62, 3) := dk_184 0 62 (dk_at dksX1_nth_0 13 rfl rfl)
theorem dX1_nth_16 : decode cX1_nth 16 = .ok (.iconst 1, 1) := dk_4 (dk_at dksX1_nth_0 16 rfl rfl)
theorem dX1_nth_17 : decode cX1_nth 17 = .ok (.istore_n 3, 1) := dk_62 (dk_at dksX1_nth_0 17 rfl rfl)
theorem dX1_nth_18 : decode cX1_nth 18 = .ok (.ldc_w 258, 3) := dk_19 1 2 (dk_at dksX1_nth_0 18 rfl rfl)
theorem dX1_nth_21 : decode cX1_nth 21 = .ok (.istore 4, 2) := dk_54 4 (dk_at dksX1_nth_0 21 rfl rfl)
theorem dX1_nth_23 : decode cX1_nth 23 = .ok (.iload_n 3, 1) := dk_29 (dk_at dksX1_nth_0 23 rfl rfl)
theorem dX1_nth_24 : decode cX1_nth 24 = .ok (.iload 4, 2) := dk_21 4 (dk_at dksX1_nth_1 0 rfl rfl)
theorem dX1_nth_26 : decode cX1_nth 26 = .ok (.if_icmp .ge 46, 3) := dk_162 0 46 (dk_at dksX1_nth_1 2 rfl rfl)
theorem dX1_nth_29 : decode cX1_nth 29 = .ok (.iload_n 3, 1) := dk_29 (dk_at dksX1_nth_1 5 rfl rfl)
theorem dX1_nth_30 : decode cX1_nth 30 = .ok (.iload 4, 2) := dk_21 4 (dk_at dksX1_nth_1 6 rfl rfl)
theorem dX1_nth_32 : decode cX1_nth 32 = .ok (.iadd, 1) := dk_96 (dk_at dksX1_nth_1 8 rfl rfl)
theorem dX1_nth_33 : decode cX1_nth 33 = .ok (.iconst 2, 1) := dk_5 (dk_at dksX1_nth_1 9 rfl rfl)
theorem dX1_nth_34 : decode cX1_nth 34 = .ok (.idiv, 1) := dk_108 (dk_at dksX1_nth_1 10 rfl rfl)
theorem dX1_nth_35 : decode cX1_nth 35 = .ok (.istore 5, 2) := dk_54 5 (dk_at dksX1_nth_1 11 rfl rfl)
theorem dX1_nth_37 : decode cX1_nth 37 = .ok (.aload_n 0, 1) := dk_42 (dk_at dksX1_nth_1 13 rfl rfl)
theorem dX1_nth_38 : decode cX1_nth 38 = .ok (.getfield 31, 3) := dk_180 0 31 (dk_at dksX1_nth_1 14 rfl rfl)
theorem dX1_nth_41 : decode cX1_nth 41 = .ok (.iload 5, 2) := dk_21 5 (dk_at dksX1_nth_1 17 rfl rfl)
theorem dX1_nth_43 : decode cX1_nth 43 = .ok (.invokevirtual 253, 3) := dk_182 0 253 (dk_at dksX1_nth_1 19 rfl rfl)
theorem dX1_nth_46 : decode cX1_nth 46 = .ok (.bipush 9, 2) := dk_16 9 (dk_at dksX1_nth_1 22 rfl rfl)
theorem dX1_nth_48 : decode cX1_nth 48 = .ok (.iload_n 1, 1) := dk_27 (dk_at dksX1_nth_2 0 rfl rfl)
theorem dX1_nth_49 : decode cX1_nth 49 = .ok (.iadd, 1) := dk_96 (dk_at dksX1_nth_2 1 rfl rfl)
theorem dX1_nth_50 : decode cX1_nth 50 = .ok (.laload, 1) := dk_47 (dk_at dksX1_nth_2 2 rfl rfl)
theorem dX1_nth_51 : decode cX1_nth 51 = .ok (.iload_n 2, 1) := dk_28 (dk_at dksX1_nth_2 3 rfl rfl)
theorem dX1_nth_52 : decode cX1_nth 52 = .ok (.i2l, 1) := dk_133 (dk_at dksX1_nth_2 4 rfl rfl)
theorem dX1_nth_53 : decode cX1_nth 53 = .ok (.lcmp, 1) := dk_148 (dk_at dksX1_nth_2 5 rfl rfl)
theorem dX1_nth_54 : decode cX1_nth 54 = .ok (.ifCond .lt 10, 3) := dk_155 0 10 (dk_at dksX1_nth_2 6 rfl rfl)
theorem dX1_nth_57 : decode cX1_nth 57 = .ok (.iload 5, 2) := dk_21 5 (dk_at dksX1_nth_2 9 rfl rfl)
theorem dX1_nth_59 : decode cX1_nth 59 = .ok (.istore 4, 2) := dk_54 4 (dk_at dksX1_nth_2 11 rfl rfl)
theorem dX1_nth_61 : decode cX1_nth 61 = .ok (.goto 8, 3) := dk_167 0 8 (dk_at dksX1_nth_2 13 rfl rfl)
theorem dX1_nth_64 : decode cX1_nth 64 = .ok (.iload 5, 2) := dk_21 5 (dk_at dksX1_nth_2 16 rfl rfl)
theorem dX1_nth_66 : decode cX1_nth 66 = .ok (.iconst 1, 1) := dk_4 (dk_at dksX1_nth_2 18 rfl rfl)
theorem dX1_nth_67 : decode cX1_nth 67 = .ok (.iadd, 1) := dk_96 (dk_at dksX1_nth_2 19 rfl rfl)
theorem dX1_nth_68 : decode cX1_nth 68 = .ok (.istore_n 3, 1) := dk_62 (dk_at dksX1_nth_2 20 rfl rfl)
theorem dX1_nth_69 : decode cX1_nth 69 = .ok (.goto (-46), 3) := dk_167 255 210 (dk_at dksX1_nth_2 21 rfl rfl)
theorem dX1_nth_72 : decode cX1_nth 72 = .ok (.iload_n 3, 1) := dk_29 (dk_at dksX1_nth_3 0 rfl rfl)
theorem dX1_nth_73 : decode cX1_nth 73 = .ok (.ldc 252, 2) := dk_18 252 (dk_at dksX1_nth_3 1 rfl rfl)
theorem dX1_nth_75 : decode cX1_nth 75 = .ok (.if_icmp .le 7, 3) := dk_164 0 7 (dk_at dksX1_nth_3 3 rfl rfl)
theorem dX1_nth_78 : decode cX1_nth 78 = .ok (.iconst (-1), 1) := dk_2 (dk_at dksX1_nth_3 6 rfl rfl)
theorem dX1_nth_79 : decode cX1_nth 79 = .ok (.goto 4, 3) := dk_167 0 4 (dk_at dksX1_nth_3 7 rfl rfl)
theorem dX1_nth_82 : decode cX1_nth 82 = .ok (.iload_n 3, 1) := dk_29 (dk_at dksX1_nth_3 10 rfl rfl)
theorem dX1_nth_83 : decode cX1_nth 83 = .ok (.ireturn, 1) := dk_172 (dk_at dksX1_nth_3 11 rfl rfl)
abbrev cX1_meeting : ByteArray := prog_1_method_36_code
def yX1_meeting : MethodName := ⟨RX1, "meeting", "(I)I"⟩
def dkwX1_meeting_1 : List UInt8 := [17, 19, 136, 182, 0, 240, 172]
abbrev dktX1_meeting_1 : List UInt8 := dkwX1_meeting_1 ++ []
def dkwX1_meeting_0 : List UInt8 := [42, 27, 182, 0, 243, 42, 180, 0, 35, 42, 180, 0, 31, 182, 0, 221, 182, 0, 246, 87, 42, 27]
abbrev dktX1_meeting_0 : List UInt8 := dkwX1_meeting_0 ++ dktX1_meeting_1
theorem dksX1_meeting_0 : cX1_meeting.data.toList.drop 0 = dktX1_meeting_0 := by decide +kernel
theorem dksX1_meeting_1 : cX1_meeting.data.toList.drop 22 = dktX1_meeting_1 := dk_seg dksX1_meeting_0 22 rfl rfl
theorem dX1_meeting_0 : decode cX1_meeting 0 = .ok (.aload_n 0, 1) := dk_42 (dk_at dksX1_meeting_0 0 rfl rfl)
theorem dX1_meeting_1 : decode cX1_meeting 1 = .ok (.iload_n 1, 1) := dk_27 (dk_at dksX1_meeting_0 1 rfl rfl)
theorem dX1_meeting_2 : decode cX1_meeting 2 = .ok (.invokevirtual 243, 3) := dk_182 0 243 (dk_at dksX1_meeting_0 2 rfl rfl)
theorem dX1_meeting_5 : decode cX1_meeting 5 = .ok (.aload_n 0, 1) := dk_42 (dk_at dksX1_meeting_0 5 rfl rfl)
theorem dX1_meeting_6 : decode cX1_meeting 6 = .ok (.getfield 35, 3) := dk_180 0 35 (dk_at dksX1_meeting_0 6 rfl rfl)
theorem dX1_meeting_9 : decode cX1_meeting 9 = .ok (.aload_n 0, 1) := dk_42 (dk_at dksX1_meeting_0 9 rfl rfl)
theorem dX1_meeting_10 : decode cX1_meeting 10 = .ok (.getfield 31, 3) := dk_180 0 31 (dk_at dksX1_meeting_0 10 rfl rfl)
theorem dX1_meeting_13 : decode cX1_meeting 13 = .ok (.invokevirtual 221, 3) := dk_182 0 221 (dk_at dksX1_meeting_0 13 rfl rfl)
theorem dX1_meeting_16 : decode cX1_meeting 16 = .ok (.invokevirtual 246, 3) := dk_182 0 246 (dk_at dksX1_meeting_0 16 rfl rfl)
theorem dX1_meeting_19 : decode cX1_meeting 19 = .ok (.pop, 1) := dk_87 (dk_at dksX1_meeting_0 19 rfl rfl)
theorem dX1_meeting_20 : decode cX1_meeting 20 = .ok (.aload_n 0, 1) := dk_42 (dk_at dksX1_meeting_0 20 rfl rfl)
theorem dX1_meeting_21 : decode cX1_meeting 21 = .ok (.iload_n 1, 1) := dk_27 (dk_at dksX1_meeting_0 21 rfl rfl)
theorem dX1_meeting_22 : decode cX1_meeting 22 = .ok (.sipush 5000, 3) := dk_17 19 136 (dk_at dksX1_meeting_1 0 rfl rfl)
theorem dX1_meeting_25 : decode cX1_meeting 25 = .ok (.invokevirtual 240, 3) := dk_182 0 240 (dk_at dksX1_meeting_1 3 rfl rfl)
theorem dX1_meeting_28 : decode cX1_meeting 28 = .ok (.ireturn, 1) := dk_172 (dk_at dksX1_meeting_1 6 rfl rfl)
abbrev cX1_flow : ByteArray := prog_1_method_39_code
def yX1_flow : MethodName := ⟨RX1, "flow", "(II)I"⟩
def dkwX1_flow_1 : List UInt8 := [47, 136, 172]
abbrev dktX1_flow_1 : List UInt8 := dkwX1_flow_1 ++ []
def dkwX1_flow_0 : List UInt8 := [42, 27, 182, 0, 168, 28, 3, 18, 252, 184, 0, 161, 184, 0, 62, 42, 180, 0, 31, 28, 182, 0, 253, 27]
abbrev dktX1_flow_0 : List UInt8 := dkwX1_flow_0 ++ dktX1_flow_1
theorem dksX1_flow_0 : cX1_flow.data.toList.drop 0 = dktX1_flow_0 := by decide +kernel
theorem dksX1_flow_1 : cX1_flow.data.toList.drop 24 = dktX1_flow_1 := dk_seg dksX1_flow_0 24 rfl rfl
theorem dX1_flow_0 : decode cX1_flow 0 = .ok (.aload_n 0, 1) := dk_42 (dk_at dksX1_flow_0 0 rfl rfl)
theorem dX1_flow_1 : decode cX1_flow 1 = .ok (.iload_n 1, 1) := dk_27 (dk_at dksX1_flow_0 1 rfl rfl)
theorem dX1_flow_2 : decode cX1_flow 2 = .ok (.invokevirtual 168, 3) := dk_182 0 168 (dk_at dksX1_flow_0 2 rfl rfl)
theorem dX1_flow_5 : decode cX1_flow 5 = .ok (.iload_n 2, 1) := dk_28 (dk_at dksX1_flow_0 5 rfl rfl)
theorem dX1_flow_6 : decode cX1_flow 6 = .ok (.iconst 0, 1) := dk_3 (dk_at dksX1_flow_0 6 rfl rfl)
theorem dX1_flow_7 : decode cX1_flow 7 = .ok (.ldc 252, 2) := dk_18 252 (dk_at dksX1_flow_0 7 rfl rfl)
theorem dX1_flow_9 : decode cX1_flow 9 = .ok (.invokestatic 161, 3) := dk_184 0 161 (dk_at dksX1_flow_0 9 rfl rfl)
theorem dX1_flow_12 : decode cX1_flow 12 = .ok (.invokestatic 62, 3) := dk_184 0 62 (dk_at dksX1_flow_0 12 rfl rfl)
theorem dX1_flow_15 : decode cX1_flow 15 = .ok (.aload_n 0, 1) := dk_42 (dk_at dksX1_flow_0 15 rfl rfl)
theorem dX1_flow_16 : decode cX1_flow 16 = .ok (.getfield 31, 3) := dk_180 0 31 (dk_at dksX1_flow_0 16 rfl rfl)
theorem dX1_flow_19 : decode cX1_flow 19 = .ok (.iload_n 2, 1) := dk_28 (dk_at dksX1_flow_0 19 rfl rfl)
theorem dX1_flow_20 : decode cX1_flow 20 = .ok (.invokevirtual 253, 3) := dk_182 0 253 (dk_at dksX1_flow_0 20 rfl rfl)
theorem dX1_flow_23 : decode cX1_flow 23 = .ok (.iload_n 1, 1) := dk_27 (dk_at dksX1_flow_0 23 rfl rfl)
theorem dX1_flow_24 : decode cX1_flow 24 = .ok (.laload, 1) := dk_47 (dk_at dksX1_flow_1 0 rfl rfl)
theorem dX1_flow_25 : decode cX1_flow 25 = .ok (.l2i, 1) := dk_136 (dk_at dksX1_flow_1 1 rfl rfl)
theorem dX1_flow_26 : decode cX1_flow 26 = .ok (.ireturn, 1) := dk_172 (dk_at dksX1_flow_1 2 rfl rfl)
abbrev cX1_tier : ByteArray := prog_1_method_41_code
def yX1_tier : MethodName := ⟨RX1, "tier", "(II)I"⟩
def dkwX1_tier_1 : List UInt8 := [182, 0, 105, 172]
abbrev dktX1_tier_1 : List UInt8 := dkwX1_tier_1 ++ []
def dkwX1_tier_0 : List UInt8 := [42, 27, 182, 0, 168, 28, 4, 184, 0, 225, 28, 154, 0, 11, 42, 27, 182, 0, 116, 167, 0, 8, 42, 27]
abbrev dktX1_tier_0 : List UInt8 := dkwX1_tier_0 ++ dktX1_tier_1
theorem dksX1_tier_0 : cX1_tier.data.toList.drop 0 = dktX1_tier_0 := by decide +kernel
theorem dksX1_tier_1 : cX1_tier.data.toList.drop 24 = dktX1_tier_1 := dk_seg dksX1_tier_0 24 rfl rfl
theorem dX1_tier_0 : decode cX1_tier 0 = .ok (.aload_n 0, 1) := dk_42 (dk_at dksX1_tier_0 0 rfl rfl)
theorem dX1_tier_1 : decode cX1_tier 1 = .ok (.iload_n 1, 1) := dk_27 (dk_at dksX1_tier_0 1 rfl rfl)
theorem dX1_tier_2 : decode cX1_tier 2 = .ok (.invokevirtual 168, 3) := dk_182 0 168 (dk_at dksX1_tier_0 2 rfl rfl)
theorem dX1_tier_5 : decode cX1_tier 5 = .ok (.iload_n 2, 1) := dk_28 (dk_at dksX1_tier_0 5 rfl rfl)
theorem dX1_tier_6 : decode cX1_tier 6 = .ok (.iconst 1, 1) := dk_4 (dk_at dksX1_tier_0 6 rfl rfl)
theorem dX1_tier_7 : decode cX1_tier 7 = .ok (.invokestatic 225, 3) := dk_184 0 225 (dk_at dksX1_tier_0 7 rfl rfl)
theorem dX1_tier_10 : decode cX1_tier 10 = .ok (.iload_n 2, 1) := dk_28 (dk_at dksX1_tier_0 10 rfl rfl)
theorem dX1_tier_11 : decode cX1_tier 11 = .ok (.ifCond .ne 11, 3) := dk_154 0 11 (dk_at dksX1_tier_0 11 rfl rfl)
theorem dX1_tier_14 : decode cX1_tier 14 = .ok (.aload_n 0, 1) := dk_42 (dk_at dksX1_tier_0 14 rfl rfl)
theorem dX1_tier_15 : decode cX1_tier 15 = .ok (.iload_n 1, 1) := dk_27 (dk_at dksX1_tier_0 15 rfl rfl)
theorem dX1_tier_16 : decode cX1_tier 16 = .ok (.invokevirtual 116, 3) := dk_182 0 116 (dk_at dksX1_tier_0 16 rfl rfl)
theorem dX1_tier_19 : decode cX1_tier 19 = .ok (.goto 8, 3) := dk_167 0 8 (dk_at dksX1_tier_0 19 rfl rfl)
theorem dX1_tier_22 : decode cX1_tier 22 = .ok (.aload_n 0, 1) := dk_42 (dk_at dksX1_tier_0 22 rfl rfl)
theorem dX1_tier_23 : decode cX1_tier 23 = .ok (.iload_n 1, 1) := dk_27 (dk_at dksX1_tier_0 23 rfl rfl)
theorem dX1_tier_24 : decode cX1_tier 24 = .ok (.invokevirtual 105, 3) := dk_182 0 105 (dk_at dksX1_tier_1 0 rfl rfl)
theorem dX1_tier_27 : decode cX1_tier 27 = .ok (.ireturn, 1) := dk_172 (dk_at dksX1_tier_1 3 rfl rfl)
abbrev cX1_toCrack : ByteArray := prog_1_method_42_code
def yX1_toCrack : MethodName := ⟨RX1, "toCrack", "(IIII)I"⟩
def dkwX1_toCrack_6 : List UInt8 := [172]
abbrev dktX1_toCrack_6 : List UInt8 := dkwX1_toCrack_6 ++ []
def dkwX1_toCrack_5 : List UInt8 := [54, 5, 21, 8, 54, 6, 132, 7, 1, 167, 255, 175, 21, 4, 154, 0, 8, 21, 5, 167, 0, 5, 21, 6]
abbrev dktX1_toCrack_5 : List UInt8 := dkwX1_toCrack_5 ++ dktX1_toCrack_6
def dkwX1_toCrack_4 : List UInt8 := [184, 1, 4, 54, 8, 21, 5, 2, 159, 0, 13, 21, 8, 21, 6, 161, 0, 6, 167, 0, 11, 21, 7]
abbrev dktX1_toCrack_4 : List UInt8 := dkwX1_toCrack_4 ++ dktX1_toCrack_5
def dkwX1_toCrack_3 : List UInt8 := [180, 0, 35, 29, 182, 0, 198, 180, 0, 175, 27, 46, 42, 180, 0, 31, 180, 0, 175, 27, 46, 100, 28, 100]
abbrev dktX1_toCrack_3 : List UInt8 := dkwX1_toCrack_3 ++ dktX1_toCrack_4
def dkwX1_toCrack_2 : List UInt8 := [16, 30, 163, 0, 80, 42, 180, 0, 35, 42, 180, 0, 31, 182, 0, 221, 27, 21, 7, 182, 0, 215, 42]
abbrev dktX1_toCrack_2 : List UInt8 := dkwX1_toCrack_2 ++ dktX1_toCrack_3
def dkwX1_toCrack_1 : List UInt8 := [153, 0, 7, 4, 167, 0, 4, 3, 184, 0, 62, 2, 54, 5, 19, 1, 3, 54, 6, 4, 54, 7, 21, 7]
abbrev dktX1_toCrack_1 : List UInt8 := dkwX1_toCrack_1 ++ dktX1_toCrack_2
def dkwX1_toCrack_0 : List UInt8 := [42, 27, 182, 0, 168, 21, 4, 4, 184, 0, 225, 28, 155, 0, 17, 29, 4, 16, 60, 184, 0, 161]
abbrev dktX1_toCrack_0 : List UInt8 := dkwX1_toCrack_0 ++ dktX1_toCrack_1
theorem dksX1_toCrack_0 : cX1_toCrack.data.toList.drop 0 = dktX1_toCrack_0 := by decide +kernel
theorem dksX1_toCrack_1 : cX1_toCrack.data.toList.drop 22 = dktX1_toCrack_1 := dk_seg dksX1_toCrack_0 22 rfl rfl
theorem dksX1_toCrack_2 : cX1_toCrack.data.toList.drop 46 = dktX1_toCrack_2 := dk_seg dksX1_toCrack_1 24 rfl rfl
theorem dksX1_toCrack_3 : cX1_toCrack.data.toList.drop 69 = dktX1_toCrack_3 := dk_seg dksX1_toCrack_2 23 rfl rfl
theorem dksX1_toCrack_4 : cX1_toCrack.data.toList.drop 93 = dktX1_toCrack_4 := dk_seg dksX1_toCrack_3 24 rfl rfl
theorem dksX1_toCrack_5 : cX1_toCrack.data.toList.drop 116 = dktX1_toCrack_5 := dk_seg dksX1_toCrack_4 23 rfl rfl
theorem dksX1_toCrack_6 : cX1_toCrack.data.toList.drop 140 = dktX1_toCrack_6 := dk_seg dksX1_toCrack_5 24 rfl rfl
theorem dX1_toCrack_0 : decode cX1_toCrack 0 = .ok (.aload_n 0, 1) := dk_42 (dk_at dksX1_toCrack_0 0 rfl rfl)
theorem dX1_toCrack_1 : decode cX1_toCrack 1 = .ok (.iload_n 1, 1) := dk_27 (dk_at dksX1_toCrack_0 1 rfl rfl)
theorem dX1_toCrack_2 : decode cX1_toCrack 2 = .ok (.invokevirtual 168, 3) := dk_182 0 168 (dk_at dksX1_toCrack_0 2 rfl rfl)
theorem dX1_toCrack_5 : decode cX1_toCrack 5 = .ok (.iload 4, 2) := dk_21 4 (dk_at dksX1_toCrack_0 5 rfl rfl)
theorem dX1_toCrack_7 : decode cX1_toCrack 7 = .ok (.iconst 1, 1) := dk_4 (dk_at dksX1_toCrack_0 7 rfl rfl)
theorem dX1_toCrack_8 : decode cX1_toCrack 8 = .ok (.invokestatic 225, 3) := dk_184 0 225 (dk_at dksX1_toCrack_0 8 rfl rfl)
theorem dX1_toCrack_11 : decode cX1_toCrack 11 = .ok (.iload_n 2, 1) := dk_28 (dk_at dksX1_toCrack_0 11 rfl rfl)
theorem dX1_toCrack_12 : decode cX1_toCrack 12 = .ok (.ifCond .lt 17, 3) := dk_155 0 17 (dk_at dksX1_toCrack_0 12 rfl rfl)
theorem dX1_toCrack_15 : decode cX1_toCrack 15 = .ok (.iload_n 3, 1) := dk_29 (dk_at dksX1_toCrack_0 15 rfl rfl)
theorem dX1_toCrack_16 : decode cX1_toCrack 16 = .ok (.iconst 1, 1) := dk_4 (dk_at dksX1_toCrack_0 16 rfl rfl)
theorem dX1_toCrack_17 : decode cX1_toCrack 17 = .ok (.bipush 60, 2) := dk_16 60 (dk_at dksX1_toCrack_0 17 rfl rfl)
theorem dX1_toCrack_19 : decode cX1_toCrack 19 = .ok (.invokestatic 161, 3) := dk_184 0 161 (dk_at dksX1_toCrack_0 19 rfl rfl)
theorem dX1_toCrack_22 : decode cX1_toCrack 22 = .ok (.ifCond .eq 7, 3) := dk_153 0 7 (dk_at dksX1_toCrack_1 0 rfl rfl)
theorem dX1_toCrack_25 : decode cX1_toCrack 25 = .ok (.iconst 1, 1) := dk_4 (dk_at dksX1_toCrack_1 3 rfl rfl)
theorem dX1_toCrack_26 : decode cX1_toCrack 26 = .ok (.goto 4, 3) := dk_167 0 4 (dk_at dksX1_toCrack_1 4 rfl rfl)
theorem dX1_toCrack_29 : decode cX1_toCrack 29 = .ok (.iconst 0, 1) := dk_3 (dk_at dksX1_toCrack_1 7 rfl rfl)
theorem dX1_toCrack_30 : decode cX1_toCrack 30 = .ok (.invokestatic 62, 3) := dk_184 0 62 (dk_at dksX1_toCrack_1 8 rfl rfl)
theorem dX1_toCrack_33 : decode cX1_toCrack 33 = .ok (.iconst (-1), 1) := dk_2 (dk_at dksX1_toCrack_1 11 rfl rfl)
theorem dX1_toCrack_34 : decode cX1_toCrack 34 = .ok (.istore 5, 2) := dk_54 5 (dk_at dksX1_toCrack_1 12 rfl rfl)
theorem dX1_toCrack_36 : decode cX1_toCrack 36 = .ok (.ldc_w 259, 3) := dk_19 1 3 (dk_at dksX1_toCrack_1 14 rfl rfl)
theorem dX1_toCrack_39 : decode cX1_toCrack 39 = .ok (.istore 6, 2) := dk_54 6 (dk_at dksX1_toCrack_1 17 rfl rfl)
theorem dX1_toCrack_41 : decode cX1_toCrack 41 = .ok (.iconst 1, 1) := dk_4 (dk_at dksX1_toCrack_1 19 rfl rfl)
theorem dX1_toCrack_42 : decode cX1_toCrack 42 = .ok (.istore 7, 2) := dk_54 7 (dk_at dksX1_toCrack_1 20 rfl rfl)
theorem dX1_toCrack_44 : decode cX1_toCrack 44 = .ok (.iload 7, 2) := dk_21 7 (dk_at dksX1_toCrack_1 22 rfl rfl)
theorem dX1_toCrack_46 : decode cX1_toCrack 46 = .ok (.bipush 30, 2) := dk_16 30 (dk_at dksX1_toCrack_2 0 rfl rfl)
theorem dX1_toCrack_48 : decode cX1_toCrack 48 = .ok (.if_icmp .gt 80, 3) := dk_163 0 80 (dk_at dksX1_toCrack_2 2 rfl rfl)
theorem dX1_toCrack_51 : decode cX1_toCrack 51 = .ok (.aload_n 0, 1) := dk_42 (dk_at dksX1_toCrack_2 5 rfl rfl)
theorem dX1_toCrack_52 : decode cX1_toCrack 52 = .ok (.getfield 35, 3) := dk_180 0 35 (dk_at dksX1_toCrack_2 6 rfl rfl)
theorem dX1_toCrack_55 : decode cX1_toCrack 55 = .ok (.aload_n 0, 1) := dk_42 (dk_at dksX1_toCrack_2 9 rfl rfl)
theorem dX1_toCrack_56 : decode cX1_toCrack 56 = .ok (.getfield 31, 3) := dk_180 0 31 (dk_at dksX1_toCrack_2 10 rfl rfl)
theorem dX1_toCrack_59 : decode cX1_toCrack 59 = .ok (.invokevirtual 221, 3) := dk_182 0 221 (dk_at dksX1_toCrack_2 13 rfl rfl)
theorem dX1_toCrack_62 : decode cX1_toCrack 62 = .ok (.iload_n 1, 1) := dk_27 (dk_at dksX1_toCrack_2 16 rfl rfl)
theorem dX1_toCrack_63 : decode cX1_toCrack 63 = .ok (.iload 7, 2) := dk_21 7 (dk_at dksX1_toCrack_2 17 rfl rfl)
theorem dX1_toCrack_65 : decode cX1_toCrack 65 = .ok (.invokevirtual 215, 3) := dk_182 0 215 (dk_at dksX1_toCrack_2 19 rfl rfl)
theorem dX1_toCrack_68 : decode cX1_toCrack 68 = .ok (.aload_n 0, 1) := dk_42 (dk_at dksX1_toCrack_2 22 rfl rfl)
theorem dX1_toCrack_69 : decode cX1_toCrack 69 = .ok (.getfield 35, 3) := dk_180 0 35 (dk_at dksX1_toCrack_3 0 rfl rfl)
theorem dX1_toCrack_72 : decode cX1_toCrack 72 = .ok (.iload_n 3, 1) := dk_29 (dk_at dksX1_toCrack_3 3 rfl rfl)
theorem dX1_toCrack_73 : decode cX1_toCrack 73 = .ok (.invokevirtual 198, 3) := dk_182 0 198 (dk_at dksX1_toCrack_3 4 rfl rfl)
theorem dX1_toCrack_76 : decode cX1_toCrack 76 = .ok (.getfield 175, 3) := dk_180 0 175 (dk_at dksX1_toCrack_3 7 rfl rfl)
theorem dX1_toCrack_79 : decode cX1_toCrack 79 = .ok (.iload_n 1, 1) := dk_27 (dk_at dksX1_toCrack_3 10 rfl rfl)
theorem dX1_toCrack_80 : decode cX1_toCrack 80 = .ok (.iaload, 1) := dk_46 (dk_at dksX1_toCrack_3 11 rfl rfl)
theorem dX1_toCrack_81 : decode cX1_toCrack 81 = .ok (.aload_n 0, 1) := dk_42 (dk_at dksX1_toCrack_3 12 rfl rfl)
theorem dX1_toCrack_82 : decode cX1_toCrack 82 = .ok (.getfield 31, 3) := dk_180 0 31 (dk_at dksX1_toCrack_3 13 rfl rfl)
theorem dX1_toCrack_85 : decode cX1_toCrack 85 = .ok (.getfield 175, 3) := dk_180 0 175 (dk_at dksX1_toCrack_3 16 rfl rfl)
theorem dX1_toCrack_88 : decode cX1_toCrack 88 = .ok (.iload_n 1, 1) := dk_27 (dk_at dksX1_toCrack_3 19 rfl rfl)
theorem dX1_toCrack_89 : decode cX1_toCrack 89 = .ok (.iaload, 1) := dk_46 (dk_at dksX1_toCrack_3 20 rfl rfl)
theorem dX1_toCrack_90 : decode cX1_toCrack 90 = .ok (.isub, 1) := dk_100 (dk_at dksX1_toCrack_3 21 rfl rfl)
theorem dX1_toCrack_91 : decode cX1_toCrack 91 = .ok (.iload_n 2, 1) := dk_28 (dk_at dksX1_toCrack_3 22 rfl rfl)
theorem dX1_toCrack_92 : decode cX1_toCrack 92 = .ok (.isub, 1) := dk_100 (dk_at dksX1_toCrack_3 23 rfl rfl)
theorem dX1_toCrack_93 : decode cX1_toCrack 93 = .ok (.invokestatic 260, 3) := dk_184 1 4 (dk_at dksX1_toCrack_4 0 rfl rfl)
theorem dX1_toCrack_96 : decode cX1_toCrack 96 = .ok (.istore 8, 2) := dk_54 8 (dk_at dksX1_toCrack_4 3 rfl rfl)
theorem dX1_toCrack_98 : decode cX1_toCrack 98 = .ok (.iload 5, 2) := dk_21 5 (dk_at dksX1_toCrack_4 5 rfl rfl)
theorem dX1_toCrack_100 : decode cX1_toCrack 100 = .ok (.iconst (-1), 1) := dk_2 (dk_at dksX1_toCrack_4 7 rfl rfl)
theorem dX1_toCrack_101 : decode cX1_toCrack 101 = .ok (.if_icmp .eq 13, 3) := dk_159 0 13 (dk_at dksX1_toCrack_4 8 rfl rfl)
theorem dX1_toCrack_104 : decode cX1_toCrack 104 = .ok (.iload 8, 2) := dk_21 8 (dk_at dksX1_toCrack_4 11 rfl rfl)
theorem dX1_toCrack_106 : decode cX1_toCrack 106 = .ok (.iload 6, 2) := dk_21 6 (dk_at dksX1_toCrack_4 13 rfl rfl)
theorem dX1_toCrack_108 : decode cX1_toCrack 108 = .ok (.if_icmp .lt 6, 3) := dk_161 0 6 (dk_at dksX1_toCrack_4 15 rfl rfl)
theorem dX1_toCrack_111 : decode cX1_toCrack 111 = .ok (.goto 11, 3) := dk_167 0 11 (dk_at dksX1_toCrack_4 18 rfl rfl)
theorem dX1_toCrack_114 : decode cX1_toCrack 114 = .ok (.iload 7, 2) := dk_21 7 (dk_at dksX1_toCrack_4 21 rfl rfl)
theorem dX1_toCrack_116 : decode cX1_toCrack 116 = .ok (.istore 5, 2) := dk_54 5 (dk_at dksX1_toCrack_5 0 rfl rfl)
theorem dX1_toCrack_118 : decode cX1_toCrack 118 = .ok (.iload 8, 2) := dk_21 8 (dk_at dksX1_toCrack_5 2 rfl rfl)
theorem dX1_toCrack_120 : decode cX1_toCrack 120 = .ok (.istore 6, 2) := dk_54 6 (dk_at dksX1_toCrack_5 4 rfl rfl)
theorem dX1_toCrack_122 : decode cX1_toCrack 122 = .ok (.iinc 7 1, 3) := dk_132 7 1 (dk_at dksX1_toCrack_5 6 rfl rfl)
theorem dX1_toCrack_125 : decode cX1_toCrack 125 = .ok (.goto (-81), 3) := dk_167 255 175 (dk_at dksX1_toCrack_5 9 rfl rfl)
theorem dX1_toCrack_128 : decode cX1_toCrack 128 = .ok (.iload 4, 2) := dk_21 4 (dk_at dksX1_toCrack_5 12 rfl rfl)
theorem dX1_toCrack_130 : decode cX1_toCrack 130 = .ok (.ifCond .ne 8, 3) := dk_154 0 8 (dk_at dksX1_toCrack_5 14 rfl rfl)
theorem dX1_toCrack_133 : decode cX1_toCrack 133 = .ok (.iload 5, 2) := dk_21 5 (dk_at dksX1_toCrack_5 17 rfl rfl)
theorem dX1_toCrack_135 : decode cX1_toCrack 135 = .ok (.goto 5, 3) := dk_167 0 5 (dk_at dksX1_toCrack_5 19 rfl rfl)
theorem dX1_toCrack_138 : decode cX1_toCrack 138 = .ok (.iload 6, 2) := dk_21 6 (dk_at dksX1_toCrack_5 22 rfl rfl)
theorem dX1_toCrack_140 : decode cX1_toCrack 140 = .ok (.ireturn, 1) := dk_172 (dk_at dksX1_toCrack_6 0 rfl rfl)
abbrev cX1_office : ByteArray := prog_1_method_43_code
def yX1_office : MethodName := ⟨RX1, "office", "(II)I"⟩
def dkwX1_office_4 : List UInt8 := [54, 4, 132, 5, 1, 167, 255, 193, 28, 154, 0, 7, 29, 167, 0, 5, 21, 4, 172]
abbrev dktX1_office_4 : List UInt8 := dkwX1_office_4 ++ []
def dkwX1_office_3 : List UInt8 := [184, 1, 4, 21, 4, 27, 100, 184, 1, 4, 161, 0, 6, 167, 0, 13, 21, 6, 184, 1, 7, 62, 21, 5]
abbrev dktX1_office_3 : List UInt8 := dkwX1_office_3 ++ dktX1_office_4
def dkwX1_office_2 : List UInt8 := [182, 0, 237, 180, 0, 231, 54, 6, 21, 6, 153, 0, 39, 21, 4, 2, 159, 0, 23, 21, 5, 27, 100]
abbrev dktX1_office_2 : List UInt8 := dkwX1_office_2 ++ dktX1_office_3
def dkwX1_office_1 : List UInt8 := [42, 180, 0, 31, 182, 0, 221, 87, 4, 54, 5, 21, 5, 16, 120, 163, 0, 62, 42, 180, 0, 35]
abbrev dktX1_office_1 : List UInt8 := dkwX1_office_1 ++ dktX1_office_2
def dkwX1_office_0 : List UInt8 := [28, 4, 184, 0, 225, 27, 4, 16, 60, 184, 0, 161, 184, 0, 62, 2, 62, 2, 54, 4, 42, 180, 0, 35]
abbrev dktX1_office_0 : List UInt8 := dkwX1_office_0 ++ dktX1_office_1
theorem dksX1_office_0 : cX1_office.data.toList.drop 0 = dktX1_office_0 := by decide +kernel
theorem dksX1_office_1 : cX1_office.data.toList.drop 24 = dktX1_office_1 := dk_seg dksX1_office_0 24 rfl rfl
theorem dksX1_office_2 : cX1_office.data.toList.drop 46 = dktX1_office_2 := dk_seg dksX1_office_1 22 rfl rfl
theorem dksX1_office_3 : cX1_office.data.toList.drop 69 = dktX1_office_3 := dk_seg dksX1_office_2 23 rfl rfl
theorem dksX1_office_4 : cX1_office.data.toList.drop 93 = dktX1_office_4 := dk_seg dksX1_office_3 24 rfl rfl
theorem dX1_office_0 : decode cX1_office 0 = .ok (.iload_n 2, 1) := dk_28 (dk_at dksX1_office_0 0 rfl rfl)
theorem dX1_office_1 : decode cX1_office 1 = .ok (.iconst 1, 1) := dk_4 (dk_at dksX1_office_0 1 rfl rfl)
theorem dX1_office_2 : decode cX1_office 2 = .ok (.invokestatic 225, 3) := dk_184 0 225 (dk_at dksX1_office_0 2 rfl rfl)
theorem dX1_office_5 : decode cX1_office 5 = .ok (.iload_n 1, 1) := dk_27 (dk_at dksX1_office_0 5 rfl rfl)
theorem dX1_office_6 : decode cX1_office 6 = .ok (.iconst 1, 1) := dk_4 (dk_at dksX1_office_0 6 rfl rfl)
theorem dX1_office_7 : decode cX1_office 7 = .ok (.bipush 60, 2) := dk_16 60 (dk_at dksX1_office_0 7 rfl rfl)
theorem dX1_office_9 : decode cX1_office 9 = .ok (.invokestatic 161, 3) := dk_184 0 161 (dk_at dksX1_office_0 9 rfl rfl)
theorem dX1_office_12 : decode cX1_office 12 = .ok (.invokestatic 62, 3) := dk_184 0 62 (dk_at dksX1_office_0 12 rfl rfl)
theorem dX1_office_15 : decode cX1_office 15 = .ok (.iconst (-1), 1) := dk_2 (dk_at dksX1_office_0 15 rfl rfl)
theorem dX1_office_16 : decode cX1_office 16 = .ok (.istore_n 3, 1) := dk_62 (dk_at dksX1_office_0 16 rfl rfl)
theorem dX1_office_17 : decode cX1_office 17 = .ok (.iconst (-1), 1) := dk_2 (dk_at dksX1_office_0 17 rfl rfl)
theorem dX1_office_18 : decode cX1_office 18 = .ok (.istore 4, 2) := dk_54 4 (dk_at dksX1_office_0 18 rfl rfl)
theorem dX1_office_20 : decode cX1_office 20 = .ok (.aload_n 0, 1) := dk_42 (dk_at dksX1_office_0 20 rfl rfl)
theorem dX1_office_21 : decode cX1_office 21 = .ok (.getfield 35, 3) := dk_180 0 35 (dk_at dksX1_office_0 21 rfl rfl)
theorem dX1_office_24 : decode cX1_office 24 = .ok (.aload_n 0, 1) := dk_42 (dk_at dksX1_office_1 0 rfl rfl)
theorem dX1_office_25 : decode cX1_office 25 = .ok (.getfield 31, 3) := dk_180 0 31 (dk_at dksX1_office_1 1 rfl rfl)
theorem dX1_office_28 : decode cX1_office 28 = .ok (.invokevirtual 221, 3) := dk_182 0 221 (dk_at dksX1_office_1 4 rfl rfl)
theorem dX1_office_31 : decode cX1_office 31 = .ok (.pop, 1) := dk_87 (dk_at dksX1_office_1 7 rfl rfl)
theorem dX1_office_32 : decode cX1_office 32 = .ok (.iconst 1, 1) := dk_4 (dk_at dksX1_office_1 8 rfl rfl)
theorem dX1_office_33 : decode cX1_office 33 = .ok (.istore 5, 2) := dk_54 5 (dk_at dksX1_office_1 9 rfl rfl)
theorem dX1_office_35 : decode cX1_office 35 = .ok (.iload 5, 2) := dk_21 5 (dk_at dksX1_office_1 11 rfl rfl)
theorem dX1_office_37 : decode cX1_office 37 = .ok (.bipush 120, 2) := dk_16 120 (dk_at dksX1_office_1 13 rfl rfl)
theorem dX1_office_39 : decode cX1_office 39 = .ok (.if_icmp .gt 62, 3) := dk_163 0 62 (dk_at dksX1_office_1 15 rfl rfl)
theorem dX1_office_42 : decode cX1_office 42 = .ok (.aload_n 0, 1) := dk_42 (dk_at dksX1_office_1 18 rfl rfl)
theorem dX1_office_43 : decode cX1_office 43 = .ok (.getfield 35, 3) := dk_180 0 35 (dk_at dksX1_office_1 19 rfl rfl)
theorem dX1_office_46 : decode cX1_office 46 = .ok (.invokevirtual 237, 3) := dk_182 0 237 (dk_at dksX1_office_2 0 rfl rfl)
theorem dX1_office_49 : decode cX1_office 49 = .ok (.getfield 231, 3) := dk_180 0 231 (dk_at dksX1_office_2 3 rfl rfl)
theorem dX1_office_52 : decode cX1_office 52 = .ok (.istore 6, 2) := dk_54 6 (dk_at dksX1_office_2 6 rfl rfl)
theorem dX1_office_54 : decode cX1_office 54 = .ok (.iload 6, 2) := dk_21 6 (dk_at dksX1_office_2 8 rfl rfl)
theorem dX1_office_56 : decode cX1_office 56 = .ok (.ifCond .eq 39, 3) := dk_153 0 39 (dk_at dksX1_office_2 10 rfl rfl)
theorem dX1_office_59 : decode cX1_office 59 = .ok (.iload 4, 2) := dk_21 4 (dk_at dksX1_office_2 13 rfl rfl)
theorem dX1_office_61 : decode cX1_office 61 = .ok (.iconst (-1), 1) := dk_2 (dk_at dksX1_office_2 15 rfl rfl)
theorem dX1_office_62 : decode cX1_office 62 = .ok (.if_icmp .eq 23, 3) := dk_159 0 23 (dk_at dksX1_office_2 16 rfl rfl)
theorem dX1_office_65 : decode cX1_office 65 = .ok (.iload 5, 2) := dk_21 5 (dk_at dksX1_office_2 19 rfl rfl)
theorem dX1_office_67 : decode cX1_office 67 = .ok (.iload_n 1, 1) := dk_27 (dk_at dksX1_office_2 21 rfl rfl)
theorem dX1_office_68 : decode cX1_office 68 = .ok (.isub, 1) := dk_100 (dk_at dksX1_office_2 22 rfl rfl)
theorem dX1_office_69 : decode cX1_office 69 = .ok (.invokestatic 260, 3) := dk_184 1 4 (dk_at dksX1_office_3 0 rfl rfl)
theorem dX1_office_72 : decode cX1_office 72 = .ok (.iload 4, 2) := dk_21 4 (dk_at dksX1_office_3 3 rfl rfl)
theorem dX1_office_74 : decode cX1_office 74 = .ok (.iload_n 1, 1) := dk_27 (dk_at dksX1_office_3 5 rfl rfl)
theorem dX1_office_75 : decode cX1_office 75 = .ok (.isub, 1) := dk_100 (dk_at dksX1_office_3 6 rfl rfl)
theorem dX1_office_76 : decode cX1_office 76 = .ok (.invokestatic 260, 3) := dk_184 1 4 (dk_at dksX1_office_3 7 rfl rfl)
theorem dX1_office_79 : decode cX1_office 79 = .ok (.if_icmp .lt 6, 3) := dk_161 0 6 (dk_at dksX1_office_3 10 rfl rfl)
theorem dX1_office_82 : decode cX1_office 82 = .ok (.goto 13, 3) := dk_167 0 13 (dk_at dksX1_office_3 13 rfl rfl)
theorem dX1_office_85 : decode cX1_office 85 = .ok (.iload 6, 2) := dk_21 6 (dk_at dksX1_office_3 16 rfl rfl)
theorem dX1_office_87 : decode cX1_office 87 = .ok (.invokestatic 263, 3) := dk_184 1 7 (dk_at dksX1_office_3 18 rfl rfl)
theorem dX1_office_90 : decode cX1_office 90 = .ok (.istore_n 3, 1) := dk_62 (dk_at dksX1_office_3 21 rfl rfl)
theorem dX1_office_91 : decode cX1_office 91 = .ok (.iload 5, 2) := dk_21 5 (dk_at dksX1_office_3 22 rfl rfl)
theorem dX1_office_93 : decode cX1_office 93 = .ok (.istore 4, 2) := dk_54 4 (dk_at dksX1_office_4 0 rfl rfl)
theorem dX1_office_95 : decode cX1_office 95 = .ok (.iinc 5 1, 3) := dk_132 5 1 (dk_at dksX1_office_4 2 rfl rfl)
theorem dX1_office_98 : decode cX1_office 98 = .ok (.goto (-63), 3) := dk_167 255 193 (dk_at dksX1_office_4 5 rfl rfl)
theorem dX1_office_101 : decode cX1_office 101 = .ok (.iload_n 2, 1) := dk_28 (dk_at dksX1_office_4 8 rfl rfl)
theorem dX1_office_102 : decode cX1_office 102 = .ok (.ifCond .ne 7, 3) := dk_154 0 7 (dk_at dksX1_office_4 9 rfl rfl)
theorem dX1_office_105 : decode cX1_office 105 = .ok (.iload_n 3, 1) := dk_29 (dk_at dksX1_office_4 12 rfl rfl)
theorem dX1_office_106 : decode cX1_office 106 = .ok (.goto 5, 3) := dk_167 0 5 (dk_at dksX1_office_4 13 rfl rfl)
theorem dX1_office_109 : decode cX1_office 109 = .ok (.iload 4, 2) := dk_21 4 (dk_at dksX1_office_4 16 rfl rfl)
theorem dX1_office_111 : decode cX1_office 111 = .ok (.ireturn, 1) := dk_172 (dk_at dksX1_office_4 18 rfl rfl)
abbrev cX1_hear : ByteArray := prog_1_method_44_code
def yX1_hear : MethodName := ⟨RX1, "hear", "(IIZ)I"⟩
def dkwX1_hear_3 : List UInt8 := [180, 0, 56, 185, 0, 158, 1, 0, 172]
abbrev dktX1_hear_3 : List UInt8 := dkwX1_hear_3 ++ []
def dkwX1_hear_2 : List UInt8 := [4, 28, 79, 89, 5, 29, 153, 0, 7, 4, 167, 0, 4, 3, 79, 185, 0, 186, 2, 0, 87, 42]
abbrev dktX1_hear_2 : List UInt8 := dkwX1_hear_2 ++ dktX1_hear_3
def dkwX1_hear_1 : List UInt8 := [184, 0, 161, 154, 0, 9, 42, 5, 182, 0, 192, 172, 42, 180, 0, 56, 6, 188, 10, 89, 3, 27, 79, 89]
abbrev dktX1_hear_1 : List UInt8 := dkwX1_hear_1 ++ dktX1_hear_2
def dkwX1_hear_0 : List UInt8 := [42, 27, 182, 0, 168, 42, 180, 0, 56, 185, 0, 158, 1, 0, 16, 8, 159, 0, 13, 28, 4, 16, 40]
abbrev dktX1_hear_0 : List UInt8 := dkwX1_hear_0 ++ dktX1_hear_1
theorem dksX1_hear_0 : cX1_hear.data.toList.drop 0 = dktX1_hear_0 := by decide +kernel
theorem dksX1_hear_1 : cX1_hear.data.toList.drop 23 = dktX1_hear_1 := dk_seg dksX1_hear_0 23 rfl rfl
theorem dksX1_hear_2 : cX1_hear.data.toList.drop 47 = dktX1_hear_2 := dk_seg dksX1_hear_1 24 rfl rfl
theorem dksX1_hear_3 : cX1_hear.data.toList.drop 69 = dktX1_hear_3 := dk_seg dksX1_hear_2 22 rfl rfl
theorem dX1_hear_0 : decode cX1_hear 0 = .ok (.aload_n 0, 1) := dk_42 (dk_at dksX1_hear_0 0 rfl rfl)
theorem dX1_hear_1 : decode cX1_hear 1 = .ok (.iload_n 1, 1) := dk_27 (dk_at dksX1_hear_0 1 rfl rfl)
theorem dX1_hear_2 : decode cX1_hear 2 = .ok (.invokevirtual 168, 3) := dk_182 0 168 (dk_at dksX1_hear_0 2 rfl rfl)
theorem dX1_hear_5 : decode cX1_hear 5 = .ok (.aload_n 0, 1) := dk_42 (dk_at dksX1_hear_0 5 rfl rfl)
theorem dX1_hear_6 : decode cX1_hear 6 = .ok (.getfield 56, 3) := dk_180 0 56 (dk_at dksX1_hear_0 6 rfl rfl)
theorem dX1_hear_9 : decode cX1_hear 9 = .ok (.invokeinterface 158 1, 5) := by decide +kernel
theorem dX1_hear_14 : decode cX1_hear 14 = .ok (.bipush 8, 2) := dk_16 8 (dk_at dksX1_hear_0 14 rfl rfl)
theorem dX1_hear_16 : decode cX1_hear 16 = .ok (.if_icmp .eq 13, 3) := dk_159 0 13 (dk_at dksX1_hear_0 16 rfl rfl)
theorem dX1_hear_19 : decode cX1_hear 19 = .ok (.iload_n 2, 1) := dk_28 (dk_at dksX1_hear_0 19 rfl rfl)
theorem dX1_hear_20 : decode cX1_hear 20 = .ok (.iconst 1, 1) := dk_4 (dk_at dksX1_hear_0 20 rfl rfl)
theorem dX1_hear_21 : decode cX1_hear 21 = .ok (.bipush 40, 2) := dk_16 40 (dk_at dksX1_hear_0 21 rfl rfl)
theorem dX1_hear_23 : decode cX1_hear 23 = .ok (.invokestatic 161, 3) := dk_184 0 161 (dk_at dksX1_hear_1 0 rfl rfl)
theorem dX1_hear_26 : decode cX1_hear 26 = .ok (.ifCond .ne 9, 3) := dk_154 0 9 (dk_at dksX1_hear_1 3 rfl rfl)
theorem dX1_hear_29 : decode cX1_hear 29 = .ok (.aload_n 0, 1) := dk_42 (dk_at dksX1_hear_1 6 rfl rfl)
theorem dX1_hear_30 : decode cX1_hear 30 = .ok (.iconst 2, 1) := dk_5 (dk_at dksX1_hear_1 7 rfl rfl)
theorem dX1_hear_31 : decode cX1_hear 31 = .ok (.invokevirtual 192, 3) := dk_182 0 192 (dk_at dksX1_hear_1 8 rfl rfl)
theorem dX1_hear_34 : decode cX1_hear 34 = .ok (.ireturn, 1) := dk_172 (dk_at dksX1_hear_1 11 rfl rfl)
theorem dX1_hear_35 : decode cX1_hear 35 = .ok (.aload_n 0, 1) := dk_42 (dk_at dksX1_hear_1 12 rfl rfl)
theorem dX1_hear_36 : decode cX1_hear 36 = .ok (.getfield 56, 3) := dk_180 0 56 (dk_at dksX1_hear_1 13 rfl rfl)
theorem dX1_hear_39 : decode cX1_hear 39 = .ok (.iconst 3, 1) := dk_6 (dk_at dksX1_hear_1 16 rfl rfl)
theorem dX1_hear_40 : decode cX1_hear 40 = .ok (.newarray .int, 2) := dk_188_10 (dk_at dksX1_hear_1 17 rfl rfl)
theorem dX1_hear_42 : decode cX1_hear 42 = .ok (.dup, 1) := dk_89 (dk_at dksX1_hear_1 19 rfl rfl)
theorem dX1_hear_43 : decode cX1_hear 43 = .ok (.iconst 0, 1) := dk_3 (dk_at dksX1_hear_1 20 rfl rfl)
theorem dX1_hear_44 : decode cX1_hear 44 = .ok (.iload_n 1, 1) := dk_27 (dk_at dksX1_hear_1 21 rfl rfl)
theorem dX1_hear_45 : decode cX1_hear 45 = .ok (.iastore, 1) := dk_79 (dk_at dksX1_hear_1 22 rfl rfl)
theorem dX1_hear_46 : decode cX1_hear 46 = .ok (.dup, 1) := dk_89 (dk_at dksX1_hear_1 23 rfl rfl)
theorem dX1_hear_47 : decode cX1_hear 47 = .ok (.iconst 1, 1) := dk_4 (dk_at dksX1_hear_2 0 rfl rfl)
theorem dX1_hear_48 : decode cX1_hear 48 = .ok (.iload_n 2, 1) := dk_28 (dk_at dksX1_hear_2 1 rfl rfl)
theorem dX1_hear_49 : decode cX1_hear 49 = .ok (.iastore, 1) := dk_79 (dk_at dksX1_hear_2 2 rfl rfl)
theorem dX1_hear_50 : decode cX1_hear 50 = .ok (.dup, 1) := dk_89 (dk_at dksX1_hear_2 3 rfl rfl)
theorem dX1_hear_51 : decode cX1_hear 51 = .ok (.iconst 2, 1) := dk_5 (dk_at dksX1_hear_2 4 rfl rfl)
theorem dX1_hear_52 : decode cX1_hear 52 = .ok (.iload_n 3, 1) := dk_29 (dk_at dksX1_hear_2 5 rfl rfl)
theorem dX1_hear_53 : decode cX1_hear 53 = .ok (.ifCond .eq 7, 3) := dk_153 0 7 (dk_at dksX1_hear_2 6 rfl rfl)
theorem dX1_hear_56 : decode cX1_hear 56 = .ok (.iconst 1, 1) := dk_4 (dk_at dksX1_hear_2 9 rfl rfl)
theorem dX1_hear_57 : decode cX1_hear 57 = .ok (.goto 4, 3) := dk_167 0 4 (dk_at dksX1_hear_2 10 rfl rfl)
theorem dX1_hear_60 : decode cX1_hear 60 = .ok (.iconst 0, 1) := dk_3 (dk_at dksX1_hear_2 13 rfl rfl)
theorem dX1_hear_61 : decode cX1_hear 61 = .ok (.iastore, 1) := dk_79 (dk_at dksX1_hear_2 14 rfl rfl)
theorem dX1_hear_62 : decode cX1_hear 62 = .ok (.invokeinterface 186 2, 5) := by decide +kernel
theorem dX1_hear_67 : decode cX1_hear 67 = .ok (.pop, 1) := dk_87 (dk_at dksX1_hear_2 20 rfl rfl)
theorem dX1_hear_68 : decode cX1_hear 68 = .ok (.aload_n 0, 1) := dk_42 (dk_at dksX1_hear_2 21 rfl rfl)
theorem dX1_hear_69 : decode cX1_hear 69 = .ok (.getfield 56, 3) := dk_180 0 56 (dk_at dksX1_hear_3 0 rfl rfl)
theorem dX1_hear_72 : decode cX1_hear 72 = .ok (.invokeinterface 158 1, 5) := by decide +kernel
theorem dX1_hear_77 : decode cX1_hear 77 = .ok (.ireturn, 1) := dk_172 (dk_at dksX1_hear_3 8 rfl rfl)
abbrev cX1_led : ByteArray := prog_1_method_49_code
def yX1_led : MethodName := ⟨RX1, "led", "(I)I"⟩
def dkwX1_led_3 : List UInt8 := [185, 0, 128, 2, 0, 192, 0, 134, 182, 0, 172, 172]
abbrev dktX1_led_3 : List UInt8 := dkwX1_led_3 ++ []
def dkwX1_led_2 : List UInt8 := [185, 0, 158, 1, 0, 167, 0, 29, 44, 185, 0, 218, 1, 0, 153, 0, 7, 2, 167, 0, 16, 44, 3]
abbrev dktX1_led_2 : List UInt8 := dkwX1_led_2 ++ dktX1_led_3
def dkwX1_led_1 : List UInt8 := [182, 1, 14, 153, 0, 7, 4, 167, 0, 4, 3, 172, 42, 182, 1, 21, 77, 27, 154, 0, 12, 44]
abbrev dktX1_led_1 : List UInt8 := dkwX1_led_1 ++ dktX1_led_2
def dkwX1_led_0 : List UInt8 := [27, 5, 184, 0, 225, 27, 5, 160, 0, 28, 42, 180, 0, 35, 42, 180, 0, 31, 182, 0, 221, 87, 42]
abbrev dktX1_led_0 : List UInt8 := dkwX1_led_0 ++ dktX1_led_1
theorem dksX1_led_0 : cX1_led.data.toList.drop 0 = dktX1_led_0 := by decide +kernel
theorem dksX1_led_1 : cX1_led.data.toList.drop 23 = dktX1_led_1 := dk_seg dksX1_led_0 23 rfl rfl
theorem dksX1_led_2 : cX1_led.data.toList.drop 45 = dktX1_led_2 := dk_seg dksX1_led_1 22 rfl rfl
theorem dksX1_led_3 : cX1_led.data.toList.drop 68 = dktX1_led_3 := dk_seg dksX1_led_2 23 rfl rfl
theorem dX1_led_0 : decode cX1_led 0 = .ok (.iload_n 1, 1) := dk_27 (dk_at dksX1_led_0 0 rfl rfl)
theorem dX1_led_1 : decode cX1_led 1 = .ok (.iconst 2, 1) := dk_5 (dk_at dksX1_led_0 1 rfl rfl)
theorem dX1_led_2 : decode cX1_led 2 = .ok (.invokestatic 225, 3) := dk_184 0 225 (dk_at dksX1_led_0 2 rfl rfl)
theorem dX1_led_5 : decode cX1_led 5 = .ok (.iload_n 1, 1) := dk_27 (dk_at dksX1_led_0 5 rfl rfl)
theorem dX1_led_6 : decode cX1_led 6 = .ok (.iconst 2, 1) := dk_5 (dk_at dksX1_led_0 6 rfl rfl)
theorem dX1_led_7 : decode cX1_led 7 = .ok (.if_icmp .ne 28, 3) := dk_160 0 28 (dk_at dksX1_led_0 7 rfl rfl)
theorem dX1_led_10 : decode cX1_led 10 = .ok (.aload_n 0, 1) := dk_42 (dk_at dksX1_led_0 10 rfl rfl)
theorem dX1_led_11 : decode cX1_led 11 = .ok (.getfield 35, 3) := dk_180 0 35 (dk_at dksX1_led_0 11 rfl rfl)
theorem dX1_led_14 : decode cX1_led 14 = .ok (.aload_n 0, 1) := dk_42 (dk_at dksX1_led_0 14 rfl rfl)
theorem dX1_led_15 : decode cX1_led 15 = .ok (.getfield 31, 3) := dk_180 0 31 (dk_at dksX1_led_0 15 rfl rfl)
theorem dX1_led_18 : decode cX1_led 18 = .ok (.invokevirtual 221, 3) := dk_182 0 221 (dk_at dksX1_led_0 18 rfl rfl)
theorem dX1_led_21 : decode cX1_led 21 = .ok (.pop, 1) := dk_87 (dk_at dksX1_led_0 21 rfl rfl)
theorem dX1_led_22 : decode cX1_led 22 = .ok (.aload_n 0, 1) := dk_42 (dk_at dksX1_led_0 22 rfl rfl)
theorem dX1_led_23 : decode cX1_led 23 = .ok (.invokevirtual 270, 3) := dk_182 1 14 (dk_at dksX1_led_1 0 rfl rfl)
theorem dX1_led_26 : decode cX1_led 26 = .ok (.ifCond .eq 7, 3) := dk_153 0 7 (dk_at dksX1_led_1 3 rfl rfl)
theorem dX1_led_29 : decode cX1_led 29 = .ok (.iconst 1, 1) := dk_4 (dk_at dksX1_led_1 6 rfl rfl)
theorem dX1_led_30 : decode cX1_led 30 = .ok (.goto 4, 3) := dk_167 0 4 (dk_at dksX1_led_1 7 rfl rfl)
theorem dX1_led_33 : decode cX1_led 33 = .ok (.iconst 0, 1) := dk_3 (dk_at dksX1_led_1 10 rfl rfl)
theorem dX1_led_34 : decode cX1_led 34 = .ok (.ireturn, 1) := dk_172 (dk_at dksX1_led_1 11 rfl rfl)
theorem dX1_led_35 : decode cX1_led 35 = .ok (.aload_n 0, 1) := dk_42 (dk_at dksX1_led_1 12 rfl rfl)
theorem dX1_led_36 : decode cX1_led 36 = .ok (.invokevirtual 277, 3) := dk_182 1 21 (dk_at dksX1_led_1 13 rfl rfl)
theorem dX1_led_39 : decode cX1_led 39 = .ok (.astore_n 2, 1) := dk_77 (dk_at dksX1_led_1 16 rfl rfl)
theorem dX1_led_40 : decode cX1_led 40 = .ok (.iload_n 1, 1) := dk_27 (dk_at dksX1_led_1 17 rfl rfl)
theorem dX1_led_41 : decode cX1_led 41 = .ok (.ifCond .ne 12, 3) := dk_154 0 12 (dk_at dksX1_led_1 18 rfl rfl)
theorem dX1_led_44 : decode cX1_led 44 = .ok (.aload_n 2, 1) := dk_44 (dk_at dksX1_led_1 21 rfl rfl)
theorem dX1_led_45 : decode cX1_led 45 = .ok (.invokeinterface 158 1, 5) := by decide +kernel
theorem dX1_led_50 : decode cX1_led 50 = .ok (.goto 29, 3) := dk_167 0 29 (dk_at dksX1_led_2 5 rfl rfl)
theorem dX1_led_53 : decode cX1_led 53 = .ok (.aload_n 2, 1) := dk_44 (dk_at dksX1_led_2 8 rfl rfl)
theorem dX1_led_54 : decode cX1_led 54 = .ok (.invokeinterface 218 1, 5) := by decide +kernel
theorem dX1_led_59 : decode cX1_led 59 = .ok (.ifCond .eq 7, 3) := dk_153 0 7 (dk_at dksX1_led_2 14 rfl rfl)
theorem dX1_led_62 : decode cX1_led 62 = .ok (.iconst (-1), 1) := dk_2 (dk_at dksX1_led_2 17 rfl rfl)
theorem dX1_led_63 : decode cX1_led 63 = .ok (.goto 16, 3) := dk_167 0 16 (dk_at dksX1_led_2 18 rfl rfl)
theorem dX1_led_66 : decode cX1_led 66 = .ok (.aload_n 2, 1) := dk_44 (dk_at dksX1_led_2 21 rfl rfl)
theorem dX1_led_67 : decode cX1_led 67 = .ok (.iconst 0, 1) := dk_3 (dk_at dksX1_led_2 22 rfl rfl)
theorem dX1_led_68 : decode cX1_led 68 = .ok (.invokeinterface 128 2, 5) := by decide +kernel
theorem dX1_led_73 : decode cX1_led 73 = .ok (.checkcast 134, 3) := dk_192 0 134 (dk_at dksX1_led_3 5 rfl rfl)
theorem dX1_led_76 : decode cX1_led 76 = .ok (.invokevirtual 172, 3) := dk_182 0 172 (dk_at dksX1_led_3 8 rfl rfl)
theorem dX1_led_79 : decode cX1_led 79 = .ok (.ireturn, 1) := dk_172 (dk_at dksX1_led_3 11 rfl rfl)
abbrev cX1_isSo : ByteArray := prog_1_method_46_code
def yX1_isSo : MethodName := ⟨RX1, "isSo", "()Z"⟩
def dkwX1_isSo_5 : List UInt8 := [3, 172, 132, 3, 1, 167, 255, 194, 132, 2, 1, 167, 255, 173, 4, 172]
abbrev dktX1_isSo_5 : List UInt8 := dkwX1_isSo_5 ++ []
def dkwX1_isSo_4 : List UInt8 := [160, 0, 26, 42, 180, 0, 35, 180, 0, 231, 25, 4, 3, 46, 122, 4, 126, 25, 4, 5, 46, 159, 0, 5]
abbrev dktX1_isSo_4 : List UInt8 := dkwX1_isSo_4 ++ dktX1_isSo_5
def dkwX1_isSo_3 : List UInt8 := [162, 0, 55, 42, 180, 0, 56, 29, 185, 0, 128, 2, 0, 192, 1, 10, 58, 4, 25, 4, 4, 46, 28]
abbrev dktX1_isSo_3 : List UInt8 := dkwX1_isSo_3 ++ dktX1_isSo_4
def dkwX1_isSo_2 : List UInt8 := [163, 0, 84, 42, 180, 0, 35, 182, 0, 237, 87, 3, 62, 29, 42, 180, 0, 56, 185, 0, 158, 1, 0]
abbrev dktX1_isSo_2 : List UInt8 := dkwX1_isSo_2 ++ dktX1_isSo_3
def dkwX1_isSo_1 : List UInt8 := [185, 0, 128, 2, 0, 192, 1, 10, 4, 46, 184, 0, 111, 60, 132, 2, 1, 167, 255, 220, 4, 61, 28, 27]
abbrev dktX1_isSo_1 : List UInt8 := dkwX1_isSo_1 ++ dktX1_isSo_2
def dkwX1_isSo_0 : List UInt8 := [3, 60, 3, 61, 28, 42, 180, 0, 56, 185, 0, 158, 1, 0, 162, 0, 29, 27, 42, 180, 0, 56, 28]
abbrev dktX1_isSo_0 : List UInt8 := dkwX1_isSo_0 ++ dktX1_isSo_1
theorem dksX1_isSo_0 : cX1_isSo.data.toList.drop 0 = dktX1_isSo_0 := by decide +kernel
theorem dksX1_isSo_1 : cX1_isSo.data.toList.drop 23 = dktX1_isSo_1 := dk_seg dksX1_isSo_0 23 rfl rfl
theorem dksX1_isSo_2 : cX1_isSo.data.toList.drop 47 = dktX1_isSo_2 := dk_seg dksX1_isSo_1 24 rfl rfl
theorem dksX1_isSo_3 : cX1_isSo.data.toList.drop 70 = dktX1_isSo_3 := dk_seg dksX1_isSo_2 23 rfl rfl
theorem dksX1_isSo_4 : cX1_isSo.data.toList.drop 93 = dktX1_isSo_4 := dk_seg dksX1_isSo_3 23 rfl rfl
theorem dksX1_isSo_5 : cX1_isSo.data.toList.drop 117 = dktX1_isSo_5 := dk_seg dksX1_isSo_4 24 rfl rfl
theorem dX1_isSo_0 : decode cX1_isSo 0 = .ok (.iconst 0, 1) := dk_3 (dk_at dksX1_isSo_0 0 rfl rfl)
theorem dX1_isSo_1 : decode cX1_isSo 1 = .ok (.istore_n 1, 1) := dk_60 (dk_at dksX1_isSo_0 1 rfl rfl)
theorem dX1_isSo_2 : decode cX1_isSo 2 = .ok (.iconst 0, 1) := dk_3 (dk_at dksX1_isSo_0 2 rfl rfl)
theorem dX1_isSo_3 : decode cX1_isSo 3 = .ok (.istore_n 2, 1) := dk_61 (dk_at dksX1_isSo_0 3 rfl rfl)
theorem dX1_isSo_4 : decode cX1_isSo 4 = .ok (.iload_n 2, 1) := dk_28 (dk_at dksX1_isSo_0 4 rfl rfl)
theorem dX1_isSo_5 : decode cX1_isSo 5 = .ok (.aload_n 0, 1) := dk_42 (dk_at dksX1_isSo_0 5 rfl rfl)
theorem dX1_isSo_6 : decode cX1_isSo 6 = .ok (.getfield 56, 3) := dk_180 0 56 (dk_at dksX1_isSo_0 6 rfl rfl)
theorem dX1_isSo_9 : decode cX1_isSo 9 = .ok (.invokeinterface 158 1, 5) := by decide +kernel
theorem dX1_isSo_14 : decode cX1_isSo 14 = .ok (.if_icmp .ge 29, 3) := dk_162 0 29 (dk_at dksX1_isSo_0 14 rfl rfl)
theorem dX1_isSo_17 : decode cX1_isSo 17 = .ok (.iload_n 1, 1) := dk_27 (dk_at dksX1_isSo_0 17 rfl rfl)
theorem dX1_isSo_18 : decode cX1_isSo 18 = .ok (.aload_n 0, 1) := dk_42 (dk_at dksX1_isSo_0 18 rfl rfl)
theorem dX1_isSo_19 : decode cX1_isSo 19 = .ok (.getfield 56, 3) := dk_180 0 56 (dk_at dksX1_isSo_0 19 rfl rfl)
theorem dX1_isSo_22 : decode cX1_isSo 22 = .ok (.iload_n 2, 1) := dk_28 (dk_at dksX1_isSo_0 22 rfl rfl)
theorem dX1_isSo_23 : decode cX1_isSo 23 = .ok (.invokeinterface 128 2, 5) := by decide +kernel
theorem dX1_isSo_28 : decode cX1_isSo 28 = .ok (.checkcast 266, 3) := dk_192 1 10 (dk_at dksX1_isSo_1 5 rfl rfl)
theorem dX1_isSo_31 : decode cX1_isSo 31 = .ok (.iconst 1, 1) := dk_4 (dk_at dksX1_isSo_1 8 rfl rfl)
theorem dX1_isSo_32 : decode cX1_isSo 32 = .ok (.iaload, 1) := dk_46 (dk_at dksX1_isSo_1 9 rfl rfl)
theorem dX1_isSo_33 : decode cX1_isSo 33 = .ok (.invokestatic 111, 3) := dk_184 0 111 (dk_at dksX1_isSo_1 10 rfl rfl)
theorem dX1_isSo_36 : decode cX1_isSo 36 = .ok (.istore_n 1, 1) := dk_60 (dk_at dksX1_isSo_1 13 rfl rfl)
theorem dX1_isSo_37 : decode cX1_isSo 37 = .ok (.iinc 2 1, 3) := dk_132 2 1 (dk_at dksX1_isSo_1 14 rfl rfl)
theorem dX1_isSo_40 : decode cX1_isSo 40 = .ok (.goto (-36), 3) := dk_167 255 220 (dk_at dksX1_isSo_1 17 rfl rfl)
theorem dX1_isSo_43 : decode cX1_isSo 43 = .ok (.iconst 1, 1) := dk_4 (dk_at dksX1_isSo_1 20 rfl rfl)
theorem dX1_isSo_44 : decode cX1_isSo 44 = .ok (.istore_n 2, 1) := dk_61 (dk_at dksX1_isSo_1 21 rfl rfl)
theorem dX1_isSo_45 : decode cX1_isSo 45 = .ok (.iload_n 2, 1) := dk_28 (dk_at dksX1_isSo_1 22 rfl rfl)
theorem dX1_isSo_46 : decode cX1_isSo 46 = .ok (.iload_n 1, 1) := dk_27 (dk_at dksX1_isSo_1 23 rfl rfl)
theorem dX1_isSo_47 : decode cX1_isSo 47 = .ok (.if_icmp .gt 84, 3) := dk_163 0 84 (dk_at dksX1_isSo_2 0 rfl rfl)
theorem dX1_isSo_50 : decode cX1_isSo 50 = .ok (.aload_n 0, 1) := dk_42 (dk_at dksX1_isSo_2 3 rfl rfl)
theorem dX1_isSo_51 : decode cX1_isSo 51 = .ok (.getfield 35, 3) := dk_180 0 35 (dk_at dksX1_isSo_2 4 rfl rfl)
theorem dX1_isSo_54 : decode cX1_isSo 54 = .ok (.invokevirtual 237, 3) := dk_182 0 237 (dk_at dksX1_isSo_2 7 rfl rfl)
theorem dX1_isSo_57 : decode cX1_isSo 57 = .ok (.pop, 1) := dk_87 (dk_at dksX1_isSo_2 10 rfl rfl)
theorem dX1_isSo_58 : decode cX1_isSo 58 = .ok (.iconst 0, 1) := dk_3 (dk_at dksX1_isSo_2 11 rfl rfl)
theorem dX1_isSo_59 : decode cX1_isSo 59 = .ok (.istore_n 3, 1) := dk_62 (dk_at dksX1_isSo_2 12 rfl rfl)
theorem dX1_isSo_60 : decode cX1_isSo 60 = .ok (.iload_n 3, 1) := dk_29 (dk_at dksX1_isSo_2 13 rfl rfl)
theorem dX1_isSo_61 : decode cX1_isSo 61 = .ok (.aload_n 0, 1) := dk_42 (dk_at dksX1_isSo_2 14 rfl rfl)
theorem dX1_isSo_62 : decode cX1_isSo 62 = .ok (.getfield 56, 3) := dk_180 0 56 (dk_at dksX1_isSo_2 15 rfl rfl)
theorem dX1_isSo_65 : decode cX1_isSo 65 = .ok (.invokeinterface 158 1, 5) := by decide +kernel
theorem dX1_isSo_70 : decode cX1_isSo 70 = .ok (.if_icmp .ge 55, 3) := dk_162 0 55 (dk_at dksX1_isSo_3 0 rfl rfl)
theorem dX1_isSo_73 : decode cX1_isSo 73 = .ok (.aload_n 0, 1) := dk_42 (dk_at dksX1_isSo_3 3 rfl rfl)
theorem dX1_isSo_74 : decode cX1_isSo 74 = .ok (.getfield 56, 3) := dk_180 0 56 (dk_at dksX1_isSo_3 4 rfl rfl)
theorem dX1_isSo_77 : decode cX1_isSo 77 = .ok (.iload_n 3, 1) := dk_29 (dk_at dksX1_isSo_3 7 rfl rfl)
theorem dX1_isSo_78 : decode cX1_isSo 78 = .ok (.invokeinterface 128 2, 5) := by decide +kernel
theorem dX1_isSo_83 : decode cX1_isSo 83 = .ok (.checkcast 266, 3) := dk_192 1 10 (dk_at dksX1_isSo_3 13 rfl rfl)
theorem dX1_isSo_86 : decode cX1_isSo 86 = .ok (.astore 4, 2) := dk_58 4 (dk_at dksX1_isSo_3 16 rfl rfl)
theorem dX1_isSo_88 : decode cX1_isSo 88 = .ok (.aload 4, 2) := dk_25 4 (dk_at dksX1_isSo_3 18 rfl rfl)
theorem dX1_isSo_90 : decode cX1_isSo 90 = .ok (.iconst 1, 1) := dk_4 (dk_at dksX1_isSo_3 20 rfl rfl)
theorem dX1_isSo_91 : decode cX1_isSo 91 = .ok (.iaload, 1) := dk_46 (dk_at dksX1_isSo_3 21 rfl rfl)
theorem dX1_isSo_92 : decode cX1_isSo 92 = .ok (.iload_n 2, 1) := dk_28 (dk_at dksX1_isSo_3 22 rfl rfl)
theorem dX1_isSo_93 : decode cX1_isSo 93 = .ok (.if_icmp .ne 26, 3) := dk_160 0 26 (dk_at dksX1_isSo_4 0 rfl rfl)
theorem dX1_isSo_96 : decode cX1_isSo 96 = .ok (.aload_n 0, 1) := dk_42 (dk_at dksX1_isSo_4 3 rfl rfl)
theorem dX1_isSo_97 : decode cX1_isSo 97 = .ok (.getfield 35, 3) := dk_180 0 35 (dk_at dksX1_isSo_4 4 rfl rfl)
theorem dX1_isSo_100 : decode cX1_isSo 100 = .ok (.getfield 231, 3) := dk_180 0 231 (dk_at dksX1_isSo_4 7 rfl rfl)
theorem dX1_isSo_103 : decode cX1_isSo 103 = .ok (.aload 4, 2) := dk_25 4 (dk_at dksX1_isSo_4 10 rfl rfl)
theorem dX1_isSo_105 : decode cX1_isSo 105 = .ok (.iconst 0, 1) := dk_3 (dk_at dksX1_isSo_4 12 rfl rfl)
theorem dX1_isSo_106 : decode cX1_isSo 106 = .ok (.iaload, 1) := dk_46 (dk_at dksX1_isSo_4 13 rfl rfl)
theorem dX1_isSo_107 : decode cX1_isSo 107 = .ok (.ishr, 1) := dk_122 (dk_at dksX1_isSo_4 14 rfl rfl)
theorem dX1_isSo_108 : decode cX1_isSo 108 = .ok (.iconst 1, 1) := dk_4 (dk_at dksX1_isSo_4 15 rfl rfl)
theorem dX1_isSo_109 : decode cX1_isSo 109 = .ok (.iand, 1) := dk_126 (dk_at dksX1_isSo_4 16 rfl rfl)
theorem dX1_isSo_110 : decode cX1_isSo 110 = .ok (.aload 4, 2) := dk_25 4 (dk_at dksX1_isSo_4 17 rfl rfl)
theorem dX1_isSo_112 : decode cX1_isSo 112 = .ok (.iconst 2, 1) := dk_5 (dk_at dksX1_isSo_4 19 rfl rfl)
theorem dX1_isSo_113 : decode cX1_isSo 113 = .ok (.iaload, 1) := dk_46 (dk_at dksX1_isSo_4 20 rfl rfl)
theorem dX1_isSo_114 : decode cX1_isSo 114 = .ok (.if_icmp .eq 5, 3) := dk_159 0 5 (dk_at dksX1_isSo_4 21 rfl rfl)
theorem dX1_isSo_117 : decode cX1_isSo 117 = .ok (.iconst 0, 1) := dk_3 (dk_at dksX1_isSo_5 0 rfl rfl)
theorem dX1_isSo_118 : decode cX1_isSo 118 = .ok (.ireturn, 1) := dk_172 (dk_at dksX1_isSo_5 1 rfl rfl)
theorem dX1_isSo_119 : decode cX1_isSo 119 = .ok (.iinc 3 1, 3) := dk_132 3 1 (dk_at dksX1_isSo_5 2 rfl rfl)
theorem dX1_isSo_122 : decode cX1_isSo 122 = .ok (.goto (-62), 3) := dk_167 255 194 (dk_at dksX1_isSo_5 5 rfl rfl)
theorem dX1_isSo_125 : decode cX1_isSo 125 = .ok (.iinc 2 1, 3) := dk_132 2 1 (dk_at dksX1_isSo_5 8 rfl rfl)
theorem dX1_isSo_128 : decode cX1_isSo 128 = .ok (.goto (-83), 3) := dk_167 255 173 (dk_at dksX1_isSo_5 11 rfl rfl)
theorem dX1_isSo_131 : decode cX1_isSo 131 = .ok (.iconst 1, 1) := dk_4 (dk_at dksX1_isSo_5 14 rfl rfl)
theorem dX1_isSo_132 : decode cX1_isSo 132 = .ok (.ireturn, 1) := dk_172 (dk_at dksX1_isSo_5 15 rfl rfl)
abbrev cX1_others : ByteArray := prog_1_method_48_code
def yX1_others : MethodName := ⟨RX1, "others", "()Ljava/util/List;"⟩
def dkwX1_others_4 : List UInt8 := [96, 184, 1, 17, 185, 0, 186, 2, 0, 87, 132, 3, 1, 167, 255, 172, 132, 2, 1, 167, 255, 151, 43, 176]
abbrev dktX1_others_4 : List UInt8 := dkwX1_others_4 ++ []
def dkwX1_others_3 : List UInt8 := [42, 16, 10, 28, 104, 29, 96, 182, 1, 11, 87, 42, 182, 1, 14, 153, 0, 19, 43, 16, 10, 28, 104, 29]
abbrev dktX1_others_3 : List UInt8 := dkwX1_others_3 ++ dktX1_others_4
def dkwX1_others_2 : List UInt8 := [180, 0, 31, 28, 29, 16, 9, 160, 0, 7, 2, 167, 0, 4, 29, 182, 0, 202, 153, 0, 6, 167, 0, 37]
abbrev dktX1_others_2 : List UInt8 := dkwX1_others_2 ++ dktX1_others_3
def dkwX1_others_1 : List UInt8 := [62, 29, 16, 9, 163, 0, 84, 29, 42, 180, 0, 22, 182, 0, 97, 16, 8, 184, 0, 161, 154, 0, 62, 42]
abbrev dktX1_others_1 : List UInt8 := dkwX1_others_1 ++ dktX1_others_2
def dkwX1_others_0 : List UInt8 := [187, 0, 49, 89, 183, 0, 51, 76, 3, 61, 28, 42, 180, 0, 22, 182, 0, 97, 162, 0, 100, 28, 4, 96]
abbrev dktX1_others_0 : List UInt8 := dkwX1_others_0 ++ dktX1_others_1
theorem dksX1_others_0 : cX1_others.data.toList.drop 0 = dktX1_others_0 := by decide +kernel
theorem dksX1_others_1 : cX1_others.data.toList.drop 24 = dktX1_others_1 := dk_seg dksX1_others_0 24 rfl rfl
theorem dksX1_others_2 : cX1_others.data.toList.drop 48 = dktX1_others_2 := dk_seg dksX1_others_1 24 rfl rfl
theorem dksX1_others_3 : cX1_others.data.toList.drop 72 = dktX1_others_3 := dk_seg dksX1_others_2 24 rfl rfl
theorem dksX1_others_4 : cX1_others.data.toList.drop 96 = dktX1_others_4 := dk_seg dksX1_others_3 24 rfl rfl
theorem dX1_others_0 : decode cX1_others 0 = .ok (.new 49, 3) := dk_187 0 49 (dk_at dksX1_others_0 0 rfl rfl)
theorem dX1_others_3 : decode cX1_others 3 = .ok (.dup, 1) := dk_89 (dk_at dksX1_others_0 3 rfl rfl)
theorem dX1_others_4 : decode cX1_others 4 = .ok (.invokespecial 51, 3) := dk_183 0 51 (dk_at dksX1_others_0 4 rfl rfl)
theorem dX1_others_7 : decode cX1_others 7 = .ok (.astore_n 1, 1) := dk_76 (dk_at dksX1_others_0 7 rfl rfl)
theorem dX1_others_8 : decode cX1_others 8 = .ok (.iconst 0, 1) := dk_3 (dk_at dksX1_others_0 8 rfl rfl)
theorem dX1_others_9 : decode cX1_others 9 = .ok (.istore_n 2, 1) := dk_61 (dk_at dksX1_others_0 9 rfl rfl)
theorem dX1_others_10 : decode cX1_others 10 = .ok (.iload_n 2, 1) := dk_28 (dk_at dksX1_others_0 10 rfl rfl)
theorem dX1_others_11 : decode cX1_others 11 = .ok (.aload_n 0, 1) := dk_42 (dk_at dksX1_others_0 11 rfl rfl)
theorem dX1_others_12 : decode cX1_others 12 = .ok (.getfield 22, 3) := dk_180 0 22 (dk_at dksX1_others_0 12 rfl rfl)
theorem dX1_others_15 : decode cX1_others 15 = .ok (.invokevirtual 97, 3) := dk_182 0 97 (dk_at dksX1_others_0 15 rfl rfl)
theorem dX1_others_18 : decode cX1_others 18 = .ok (.if_icmp .ge 100, 3) := dk_162 0 100 (dk_at dksX1_others_0 18 rfl rfl)
theorem dX1_others_21 : decode cX1_others 21 = .ok (.iload_n 2, 1) := dk_28 (dk_at dksX1_others_0 21 rfl rfl)
theorem dX1_others_22 : decode cX1_others 22 = .ok (.iconst 1, 1) := dk_4 (dk_at dksX1_others_0 22 rfl rfl)
theorem dX1_others_23 : decode cX1_others 23 = .ok (.iadd, 1) := dk_96 (dk_at dksX1_others_0 23 rfl rfl)
theorem dX1_others_24 : decode cX1_others 24 = .ok (.istore_n 3, 1) := dk_62 (dk_at dksX1_others_1 0 rfl rfl)
theorem dX1_others_25 : decode cX1_others 25 = .ok (.iload_n 3, 1) := dk_29 (dk_at dksX1_others_1 1 rfl rfl)
theorem dX1_others_26 : decode cX1_others 26 = .ok (.bipush 9, 2) := dk_16 9 (dk_at dksX1_others_1 2 rfl rfl)
theorem dX1_others_28 : decode cX1_others 28 = .ok (.if_icmp .gt 84, 3) := dk_163 0 84 (dk_at dksX1_others_1 4 rfl rfl)
theorem dX1_others_31 : decode cX1_others 31 = .ok (.iload_n 3, 1) := dk_29 (dk_at dksX1_others_1 7 rfl rfl)
theorem dX1_others_32 : decode cX1_others 32 = .ok (.aload_n 0, 1) := dk_42 (dk_at dksX1_others_1 8 rfl rfl)
theorem dX1_others_33 : decode cX1_others 33 = .ok (.getfield 22, 3) := dk_180 0 22 (dk_at dksX1_others_1 9 rfl rfl)
theorem dX1_others_36 : decode cX1_others 36 = .ok (.invokevirtual 97, 3) := dk_182 0 97 (dk_at dksX1_others_1 12 rfl rfl)
theorem dX1_others_39 : decode cX1_others 39 = .ok (.bipush 8, 2) := dk_16 8 (dk_at dksX1_others_1 15 rfl rfl)
theorem dX1_others_41 : decode cX1_others 41 = .ok (.invokestatic 161, 3) := dk_184 0 161 (dk_at dksX1_others_1 17 rfl rfl)
theorem dX1_others_44 : decode cX1_others 44 = .ok (.ifCond .ne 62, 3) := dk_154 0 62 (dk_at dksX1_others_1 20 rfl rfl)
theorem dX1_others_47 : decode cX1_others 47 = .ok (.aload_n 0, 1) := dk_42 (dk_at dksX1_others_1 23 rfl rfl)
theorem dX1_others_48 : decode cX1_others 48 = .ok (.getfield 31, 3) := dk_180 0 31 (dk_at dksX1_others_2 0 rfl rfl)
theorem dX1_others_51 : decode cX1_others 51 = .ok (.iload_n 2, 1) := dk_28 (dk_at dksX1_others_2 3 rfl rfl)
theorem dX1_others_52 : decode cX1_others 52 = .ok (.iload_n 3, 1) := dk_29 (dk_at dksX1_others_2 4 rfl rfl)
theorem dX1_others_53 : decode cX1_others 53 = .ok (.bipush 9, 2) := dk_16 9 (dk_at dksX1_others_2 5 rfl rfl)
theorem dX1_others_55 : decode cX1_others 55 = .ok (.if_icmp .ne 7, 3) := dk_160 0 7 (dk_at dksX1_others_2 7 rfl rfl)
theorem dX1_others_58 : decode cX1_others 58 = .ok (.iconst (-1), 1) := dk_2 (dk_at dksX1_others_2 10 rfl rfl)
theorem dX1_others_59 : decode cX1_others 59 = .ok (.goto 4, 3) := dk_167 0 4 (dk_at dksX1_others_2 11 rfl rfl)
theorem dX1_others_62 : decode cX1_others 62 = .ok (.iload_n 3, 1) := dk_29 (dk_at dksX1_others_2 14 rfl rfl)
theorem dX1_others_63 : decode cX1_others 63 = .ok (.invokevirtual 202, 3) := dk_182 0 202 (dk_at dksX1_others_2 15 rfl rfl)
theorem dX1_others_66 : decode cX1_others 66 = .ok (.ifCond .eq 6, 3) := dk_153 0 6 (dk_at dksX1_others_2 18 rfl rfl)
theorem dX1_others_69 : decode cX1_others 69 = .ok (.goto 37, 3) := dk_167 0 37 (dk_at dksX1_others_2 21 rfl rfl)
theorem dX1_others_72 : decode cX1_others 72 = .ok (.aload_n 0, 1) := dk_42 (dk_at dksX1_others_3 0 rfl rfl)
theorem dX1_others_73 : decode cX1_others 73 = .ok (.bipush 10, 2) := dk_16 10 (dk_at dksX1_others_3 1 rfl rfl)
theorem dX1_others_75 : decode cX1_others 75 = .ok (.iload_n 2, 1) := dk_28 (dk_at dksX1_others_3 3 rfl rfl)
theorem dX1_others_76 : decode cX1_others 76 = .ok (.imul, 1) := dk_104 (dk_at dksX1_others_3 4 rfl rfl)
theorem dX1_others_77 : decode cX1_others 77 = .ok (.iload_n 3, 1) := dk_29 (dk_at dksX1_others_3 5 rfl rfl)
theorem dX1_others_78 : decode cX1_others 78 = .ok (.iadd, 1) := dk_96 (dk_at dksX1_others_3 6 rfl rfl)
theorem dX1_others_79 : decode cX1_others 79 = .ok (.invokevirtual 267, 3) := dk_182 1 11 (dk_at dksX1_others_3 7 rfl rfl)
theorem dX1_others_82 : decode cX1_others 82 = .ok (.pop, 1) := dk_87 (dk_at dksX1_others_3 10 rfl rfl)
theorem dX1_others_83 : decode cX1_others 83 = .ok (.aload_n 0, 1) := dk_42 (dk_at dksX1_others_3 11 rfl rfl)
theorem dX1_others_84 : decode cX1_others 84 = .ok (.invokevirtual 270, 3) := dk_182 1 14 (dk_at dksX1_others_3 12 rfl rfl)
theorem dX1_others_87 : decode cX1_others 87 = .ok (.ifCond .eq 19, 3) := dk_153 0 19 (dk_at dksX1_others_3 15 rfl rfl)
theorem dX1_others_90 : decode cX1_others 90 = .ok (.aload_n 1, 1) := dk_43 (dk_at dksX1_others_3 18 rfl rfl)
theorem dX1_others_91 : decode cX1_others 91 = .ok (.bipush 10, 2) := dk_16 10 (dk_at dksX1_others_3 19 rfl rfl)
theorem dX1_others_93 : decode cX1_others 93 = .ok (.iload_n 2, 1) := dk_28 (dk_at dksX1_others_3 21 rfl rfl)
theorem dX1_others_94 : decode cX1_others 94 = .ok (.imul, 1) := dk_104 (dk_at dksX1_others_3 22 rfl rfl)
theorem dX1_others_95 : decode cX1_others 95 = .ok (.iload_n 3, 1) := dk_29 (dk_at dksX1_others_3 23 rfl rfl)
theorem dX1_others_96 : decode cX1_others 96 = .ok (.iadd, 1) := dk_96 (dk_at dksX1_others_4 0 rfl rfl)
theorem dX1_others_97 : decode cX1_others 97 = .ok (.invokestatic 273, 3) := dk_184 1 17 (dk_at dksX1_others_4 1 rfl rfl)
theorem dX1_others_100 : decode cX1_others 100 = .ok (.invokeinterface 186 2, 5) := by decide +kernel
theorem dX1_others_105 : decode cX1_others 105 = .ok (.pop, 1) := dk_87 (dk_at dksX1_others_4 9 rfl rfl)
theorem dX1_others_106 : decode cX1_others 106 = .ok (.iinc 3 1, 3) := dk_132 3 1 (dk_at dksX1_others_4 10 rfl rfl)
theorem dX1_others_109 : decode cX1_others 109 = .ok (.goto (-84), 3) := dk_167 255 172 (dk_at dksX1_others_4 13 rfl rfl)
theorem dX1_others_112 : decode cX1_others 112 = .ok (.iinc 2 1, 3) := dk_132 2 1 (dk_at dksX1_others_4 16 rfl rfl)
theorem dX1_others_115 : decode cX1_others 115 = .ok (.goto (-105), 3) := dk_167 255 151 (dk_at dksX1_others_4 19 rfl rfl)
theorem dX1_others_118 : decode cX1_others 118 = .ok (.aload_n 1, 1) := dk_43 (dk_at dksX1_others_4 22 rfl rfl)
theorem dX1_others_119 : decode cX1_others 119 = .ok (.areturn, 1) := dk_176 (dk_at dksX1_others_4 23 rfl rfl)
abbrev cX1_leadTo : ByteArray := prog_1_method_47_code
def yX1_leadTo : MethodName := ⟨RX1, "leadTo", "(I)LDripCups$Night;"⟩
def dkwX1_leadTo_1 : List UInt8 := [2, 167, 0, 7, 27, 16, 10, 112, 182, 0, 208, 42, 180, 0, 35, 176]
abbrev dktX1_leadTo_1 : List UInt8 := dkwX1_leadTo_1 ++ []
def dkwX1_leadTo_0 : List UInt8 := [42, 180, 0, 35, 42, 180, 0, 31, 182, 0, 221, 27, 16, 10, 108, 27, 16, 10, 112, 16, 9, 160, 0, 7]
abbrev dktX1_leadTo_0 : List UInt8 := dkwX1_leadTo_0 ++ dktX1_leadTo_1
theorem dksX1_leadTo_0 : cX1_leadTo.data.toList.drop 0 = dktX1_leadTo_0 := by decide +kernel
theorem dksX1_leadTo_1 : cX1_leadTo.data.toList.drop 24 = dktX1_leadTo_1 := dk_seg dksX1_leadTo_0 24 rfl rfl
theorem dX1_leadTo_0 : decode cX1_leadTo 0 = .ok (.aload_n 0, 1) := dk_42 (dk_at dksX1_leadTo_0 0 rfl rfl)
theorem dX1_leadTo_1 : decode cX1_leadTo 1 = .ok (.getfield 35, 3) := dk_180 0 35 (dk_at dksX1_leadTo_0 1 rfl rfl)
theorem dX1_leadTo_4 : decode cX1_leadTo 4 = .ok (.aload_n 0, 1) := dk_42 (dk_at dksX1_leadTo_0 4 rfl rfl)
theorem dX1_leadTo_5 : decode cX1_leadTo 5 = .ok (.getfield 31, 3) := dk_180 0 31 (dk_at dksX1_leadTo_0 5 rfl rfl)
theorem dX1_leadTo_8 : decode cX1_leadTo 8 = .ok (.invokevirtual 221, 3) := dk_182 0 221 (dk_at dksX1_leadTo_0 8 rfl rfl)
theorem dX1_leadTo_11 : decode cX1_leadTo 11 = .ok (.iload_n 1, 1) := dk_27 (dk_at dksX1_leadTo_0 11 rfl rfl)
theorem dX1_leadTo_12 : decode cX1_leadTo 12 = .ok (.bipush 10, 2) := dk_16 10 (dk_at dksX1_leadTo_0 12 rfl rfl)
theorem dX1_leadTo_14 : decode cX1_leadTo 14 = .ok (.idiv, 1) := dk_108 (dk_at dksX1_leadTo_0 14 rfl rfl)
theorem dX1_leadTo_15 : decode cX1_leadTo 15 = .ok (.iload_n 1, 1) := dk_27 (dk_at dksX1_leadTo_0 15 rfl rfl)
theorem dX1_leadTo_16 : decode cX1_leadTo 16 = .ok (.bipush 10, 2) := dk_16 10 (dk_at dksX1_leadTo_0 16 rfl rfl)
theorem dX1_leadTo_18 : decode cX1_leadTo 18 = .ok (.irem, 1) := dk_112 (dk_at dksX1_leadTo_0 18 rfl rfl)
theorem dX1_leadTo_19 : decode cX1_leadTo 19 = .ok (.bipush 9, 2) := dk_16 9 (dk_at dksX1_leadTo_0 19 rfl rfl)
theorem dX1_leadTo_21 : decode cX1_leadTo 21 = .ok (.if_icmp .ne 7, 3) := dk_160 0 7 (dk_at dksX1_leadTo_0 21 rfl rfl)
theorem dX1_leadTo_24 : decode cX1_leadTo 24 = .ok (.iconst (-1), 1) := dk_2 (dk_at dksX1_leadTo_1 0 rfl rfl)
theorem dX1_leadTo_25 : decode cX1_leadTo 25 = .ok (.goto 7, 3) := dk_167 0 7 (dk_at dksX1_leadTo_1 1 rfl rfl)
theorem dX1_leadTo_28 : decode cX1_leadTo 28 = .ok (.iload_n 1, 1) := dk_27 (dk_at dksX1_leadTo_1 4 rfl rfl)
theorem dX1_leadTo_29 : decode cX1_leadTo 29 = .ok (.bipush 10, 2) := dk_16 10 (dk_at dksX1_leadTo_1 5 rfl rfl)
theorem dX1_leadTo_31 : decode cX1_leadTo 31 = .ok (.irem, 1) := dk_112 (dk_at dksX1_leadTo_1 7 rfl rfl)
theorem dX1_leadTo_32 : decode cX1_leadTo 32 = .ok (.invokevirtual 208, 3) := dk_182 0 208 (dk_at dksX1_leadTo_1 8 rfl rfl)
theorem dX1_leadTo_35 : decode cX1_leadTo 35 = .ok (.aload_n 0, 1) := dk_42 (dk_at dksX1_leadTo_1 11 rfl rfl)
theorem dX1_leadTo_36 : decode cX1_leadTo 36 = .ok (.getfield 35, 3) := dk_180 0 35 (dk_at dksX1_leadTo_1 12 rfl rfl)
theorem dX1_leadTo_39 : decode cX1_leadTo 39 = .ok (.areturn, 1) := dk_176 (dk_at dksX1_leadTo_1 15 rfl rfl)
abbrev cX1_listen : ByteArray := prog_1_method_50_code
def yX1_listen : MethodName := ⟨RX1, "listen", "(I)I"⟩
def dkwX1_listen_9 : List UInt8 := [21, 4, 167, 0, 5, 21, 5, 172]
abbrev dktX1_listen_9 : List UInt8 := dkwX1_listen_9 ++ []
def dkwX1_listen_8 : List UInt8 := [167, 0, 13, 21, 6, 4, 96, 54, 4, 21, 7, 54, 5, 132, 6, 1, 167, 255, 151, 27, 154, 0, 8]
abbrev dktX1_listen_8 : List UInt8 := dkwX1_listen_8 ++ dktX1_listen_9
def dkwX1_listen_7 : List UInt8 := [167, 255, 217, 21, 9, 153, 0, 6, 132, 7, 1, 132, 8, 1, 167, 255, 190, 21, 7, 21, 5, 163, 0, 6]
abbrev dktX1_listen_7 : List UInt8 := dkwX1_listen_7 ++ dktX1_listen_8
def dkwX1_listen_6 : List UInt8 := [50, 21, 6, 46, 45, 21, 8, 50, 21, 6, 46, 159, 0, 7, 4, 167, 0, 4, 3, 54, 9, 132, 10, 1]
abbrev dktX1_listen_6 : List UInt8 := dkwX1_listen_6 ++ dktX1_listen_7
def dkwX1_listen_5 : List UInt8 := [162, 0, 65, 4, 54, 9, 3, 54, 10, 21, 10, 21, 8, 162, 0, 38, 21, 9, 153, 0, 33, 45, 21, 10]
abbrev dktX1_listen_5 : List UInt8 := dkwX1_listen_5 ++ dktX1_listen_6
def dkwX1_listen_4 : List UInt8 := [54, 5, 3, 54, 6, 21, 6, 16, 40, 162, 0, 104, 3, 54, 7, 3, 54, 8, 21, 8, 45, 190]
abbrev dktX1_listen_4 : List UInt8 := dkwX1_listen_4 ++ dktX1_listen_5
def dkwX1_listen_3 : List UInt8 := [182, 0, 237, 180, 0, 231, 79, 132, 5, 1, 167, 255, 229, 132, 4, 1, 167, 255, 194, 2, 54, 4, 3]
abbrev dktX1_listen_3 : List UInt8 := dkwX1_listen_3 ++ dktX1_listen_4
def dkwX1_listen_2 : List UInt8 := [182, 1, 11, 87, 3, 54, 5, 21, 5, 16, 40, 162, 0, 26, 45, 21, 4, 50, 21, 5, 42, 180, 0, 35]
abbrev dktX1_listen_2 : List UInt8 := dkwX1_listen_2 ++ dktX1_listen_3
def dkwX1_listen_1 : List UInt8 := [54, 4, 21, 4, 45, 190, 162, 0, 61, 42, 44, 21, 4, 185, 0, 128, 2, 0, 192, 0, 134, 182, 0, 172]
abbrev dktX1_listen_1 : List UInt8 := dkwX1_listen_1 ++ dktX1_listen_2
def dkwX1_listen_0 : List UInt8 := [27, 4, 184, 0, 225, 42, 182, 1, 21, 77, 44, 185, 0, 158, 1, 0, 16, 40, 197, 1, 25, 2, 78, 3]
abbrev dktX1_listen_0 : List UInt8 := dkwX1_listen_0 ++ dktX1_listen_1
theorem dksX1_listen_0 : cX1_listen.data.toList.drop 0 = dktX1_listen_0 := by decide +kernel
theorem dksX1_listen_1 : cX1_listen.data.toList.drop 24 = dktX1_listen_1 := dk_seg dksX1_listen_0 24 rfl rfl
theorem dksX1_listen_2 : cX1_listen.data.toList.drop 48 = dktX1_listen_2 := dk_seg dksX1_listen_1 24 rfl rfl
theorem dksX1_listen_3 : cX1_listen.data.toList.drop 72 = dktX1_listen_3 := dk_seg dksX1_listen_2 24 rfl rfl
theorem dksX1_listen_4 : cX1_listen.data.toList.drop 95 = dktX1_listen_4 := dk_seg dksX1_listen_3 23 rfl rfl
theorem dksX1_listen_5 : cX1_listen.data.toList.drop 117 = dktX1_listen_5 := dk_seg dksX1_listen_4 22 rfl rfl
theorem dksX1_listen_6 : cX1_listen.data.toList.drop 141 = dktX1_listen_6 := dk_seg dksX1_listen_5 24 rfl rfl
theorem dksX1_listen_7 : cX1_listen.data.toList.drop 165 = dktX1_listen_7 := dk_seg dksX1_listen_6 24 rfl rfl
theorem dksX1_listen_8 : cX1_listen.data.toList.drop 189 = dktX1_listen_8 := dk_seg dksX1_listen_7 24 rfl rfl
theorem dksX1_listen_9 : cX1_listen.data.toList.drop 212 = dktX1_listen_9 := dk_seg dksX1_listen_8 23 rfl rfl
theorem dX1_listen_0 : decode cX1_listen 0 = .ok (.iload_n 1, 1) := dk_27 (dk_at dksX1_listen_0 0 rfl rfl)
theorem dX1_listen_1 : decode cX1_listen 1 = .ok (.iconst 1, 1) := dk_4 (dk_at dksX1_listen_0 1 rfl rfl)
theorem dX1_listen_2 : decode cX1_listen 2 = .ok (.invokestatic 225, 3) := dk_184 0 225 (dk_at dksX1_listen_0 2 rfl rfl)
theorem dX1_listen_5 : decode cX1_listen 5 = .ok (.aload_n 0, 1) := dk_42 (dk_at dksX1_listen_0 5 rfl rfl)
theorem dX1_listen_6 : decode cX1_listen 6 = .ok (.invokevirtual 277, 3) := dk_182 1 21 (dk_at dksX1_listen_0 6 rfl rfl)
theorem dX1_listen_9 : decode cX1_listen 9 = .ok (.astore_n 2, 1) := dk_77 (dk_at dksX1_listen_0 9 rfl rfl)
theorem dX1_listen_10 : decode cX1_listen 10 = .ok (.aload_n 2, 1) := dk_44 (dk_at dksX1_listen_0 10 rfl rfl)
theorem dX1_listen_11 : decode cX1_listen 11 = .ok (.invokeinterface 158 1, 5) := by decide +kernel
theorem dX1_listen_16 : decode cX1_listen 16 = .ok (.bipush 40, 2) := dk_16 40 (dk_at dksX1_listen_0 16 rfl rfl)
theorem dX1_listen_18 : decode cX1_listen 18 = .ok (.multianewarray 281 2, 4) := by decide +kernel
theorem dX1_listen_22 : decode cX1_listen 22 = .ok (.astore_n 3, 1) := dk_78 (dk_at dksX1_listen_0 22 rfl rfl)
theorem dX1_listen_23 : decode cX1_listen 23 = .ok (.iconst 0, 1) := dk_3 (dk_at dksX1_listen_0 23 rfl rfl)
theorem dX1_listen_24 : decode cX1_listen 24 = .ok (.istore 4, 2) := dk_54 4 (dk_at dksX1_listen_1 0 rfl rfl)
theorem dX1_listen_26 : decode cX1_listen 26 = .ok (.iload 4, 2) := dk_21 4 (dk_at dksX1_listen_1 2 rfl rfl)
theorem dX1_listen_28 : decode cX1_listen 28 = .ok (.aload_n 3, 1) := dk_45 (dk_at dksX1_listen_1 4 rfl rfl)
theorem dX1_listen_29 : decode cX1_listen 29 = .ok (.arraylength, 1) := dk_190 (dk_at dksX1_listen_1 5 rfl rfl)
theorem dX1_listen_30 : decode cX1_listen 30 = .ok (.if_icmp .ge 61, 3) := dk_162 0 61 (dk_at dksX1_listen_1 6 rfl rfl)
theorem dX1_listen_33 : decode cX1_listen 33 = .ok (.aload_n 0, 1) := dk_42 (dk_at dksX1_listen_1 9 rfl rfl)
theorem dX1_listen_34 : decode cX1_listen 34 = .ok (.aload_n 2, 1) := dk_44 (dk_at dksX1_listen_1 10 rfl rfl)
theorem dX1_listen_35 : decode cX1_listen 35 = .ok (.iload 4, 2) := dk_21 4 (dk_at dksX1_listen_1 11 rfl rfl)
theorem dX1_listen_37 : decode cX1_listen 37 = .ok (.invokeinterface 128 2, 5) := by decide +kernel
theorem dX1_listen_42 : decode cX1_listen 42 = .ok (.checkcast 134, 3) := dk_192 0 134 (dk_at dksX1_listen_1 18 rfl rfl)
theorem dX1_listen_45 : decode cX1_listen 45 = .ok (.invokevirtual 172, 3) := dk_182 0 172 (dk_at dksX1_listen_1 21 rfl rfl)
theorem dX1_listen_48 : decode cX1_listen 48 = .ok (.invokevirtual 267, 3) := dk_182 1 11 (dk_at dksX1_listen_2 0 rfl rfl)
theorem dX1_listen_51 : decode cX1_listen 51 = .ok (.pop, 1) := dk_87 (dk_at dksX1_listen_2 3 rfl rfl)
theorem dX1_listen_52 : decode cX1_listen 52 = .ok (.iconst 0, 1) := dk_3 (dk_at dksX1_listen_2 4 rfl rfl)
theorem dX1_listen_53 : decode cX1_listen 53 = .ok (.istore 5, 2) := dk_54 5 (dk_at dksX1_listen_2 5 rfl rfl)
theorem dX1_listen_55 : decode cX1_listen 55 = .ok (.iload 5, 2) := dk_21 5 (dk_at dksX1_listen_2 7 rfl rfl)
theorem dX1_listen_57 : decode cX1_listen 57 = .ok (.bipush 40, 2) := dk_16 40 (dk_at dksX1_listen_2 9 rfl rfl)
theorem dX1_listen_59 : decode cX1_listen 59 = .ok (.if_icmp .ge 26, 3) := dk_162 0 26 (dk_at dksX1_listen_2 11 rfl rfl)
theorem dX1_listen_62 : decode cX1_listen 62 = .ok (.aload_n 3, 1) := dk_45 (dk_at dksX1_listen_2 14 rfl rfl)
theorem dX1_listen_63 : decode cX1_listen 63 = .ok (.iload 4, 2) := dk_21 4 (dk_at dksX1_listen_2 15 rfl rfl)
theorem dX1_listen_65 : decode cX1_listen 65 = .ok (.aaload, 1) := dk_50 (dk_at dksX1_listen_2 17 rfl rfl)
theorem dX1_listen_66 : decode cX1_listen 66 = .ok (.iload 5, 2) := dk_21 5 (dk_at dksX1_listen_2 18 rfl rfl)
theorem dX1_listen_68 : decode cX1_listen 68 = .ok (.aload_n 0, 1) := dk_42 (dk_at dksX1_listen_2 20 rfl rfl)
theorem dX1_listen_69 : decode cX1_listen 69 = .ok (.getfield 35, 3) := dk_180 0 35 (dk_at dksX1_listen_2 21 rfl rfl)
theorem dX1_listen_72 : decode cX1_listen 72 = .ok (.invokevirtual 237, 3) := dk_182 0 237 (dk_at dksX1_listen_3 0 rfl rfl)
theorem dX1_listen_75 : decode cX1_listen 75 = .ok (.getfield 231, 3) := dk_180 0 231 (dk_at dksX1_listen_3 3 rfl rfl)
theorem dX1_listen_78 : decode cX1_listen 78 = .ok (.iastore, 1) := dk_79 (dk_at dksX1_listen_3 6 rfl rfl)
theorem dX1_listen_79 : decode cX1_listen 79 = .ok (.iinc 5 1, 3) := dk_132 5 1 (dk_at dksX1_listen_3 7 rfl rfl)
theorem dX1_listen_82 : decode cX1_listen 82 = .ok (.goto (-27), 3) := dk_167 255 229 (dk_at dksX1_listen_3 10 rfl rfl)
theorem dX1_listen_85 : decode cX1_listen 85 = .ok (.iinc 4 1, 3) := dk_132 4 1 (dk_at dksX1_listen_3 13 rfl rfl)
theorem dX1_listen_88 : decode cX1_listen 88 = .ok (.goto (-62), 3) := dk_167 255 194 (dk_at dksX1_listen_3 16 rfl rfl)
theorem dX1_listen_91 : decode cX1_listen 91 = .ok (.iconst (-1), 1) := dk_2 (dk_at dksX1_listen_3 19 rfl rfl)
theorem dX1_listen_92 : decode cX1_listen 92 = .ok (.istore 4, 2) := dk_54 4 (dk_at dksX1_listen_3 20 rfl rfl)
theorem dX1_listen_94 : decode cX1_listen 94 = .ok (.iconst 0, 1) := dk_3 (dk_at dksX1_listen_3 22 rfl rfl)
theorem dX1_listen_95 : decode cX1_listen 95 = .ok (.istore 5, 2) := dk_54 5 (dk_at dksX1_listen_4 0 rfl rfl)
theorem dX1_listen_97 : decode cX1_listen 97 = .ok (.iconst 0, 1) := dk_3 (dk_at dksX1_listen_4 2 rfl rfl)
theorem dX1_listen_98 : decode cX1_listen 98 = .ok (.istore 6, 2) := dk_54 6 (dk_at dksX1_listen_4 3 rfl rfl)
theorem dX1_listen_100 : decode cX1_listen 100 = .ok (.iload 6, 2) := dk_21 6 (dk_at dksX1_listen_4 5 rfl rfl)
theorem dX1_listen_102 : decode cX1_listen 102 = .ok (.bipush 40, 2) := dk_16 40 (dk_at dksX1_listen_4 7 rfl rfl)
theorem dX1_listen_104 : decode cX1_listen 104 = .ok (.if_icmp .ge 104, 3) := dk_162 0 104 (dk_at dksX1_listen_4 9 rfl rfl)
theorem dX1_listen_107 : decode cX1_listen 107 = .ok (.iconst 0, 1) := dk_3 (dk_at dksX1_listen_4 12 rfl rfl)
theorem dX1_listen_108 : decode cX1_listen 108 = .ok (.istore 7, 2) := dk_54 7 (dk_at dksX1_listen_4 13 rfl rfl)
theorem dX1_listen_110 : decode cX1_listen 110 = .ok (.iconst 0, 1) := dk_3 (dk_at dksX1_listen_4 15 rfl rfl)
theorem dX1_listen_111 : decode cX1_listen 111 = .ok (.istore 8, 2) := dk_54 8 (dk_at dksX1_listen_4 16 rfl rfl)
theorem dX1_listen_113 : decode cX1_listen 113 = .ok (.iload 8, 2) := dk_21 8 (dk_at dksX1_listen_4 18 rfl rfl)
theorem dX1_listen_115 : decode cX1_listen 115 = .ok (.aload_n 3, 1) := dk_45 (dk_at dksX1_listen_4 20 rfl rfl)
theorem dX1_listen_116 : decode cX1_listen 116 = .ok (.arraylength, 1) := dk_190 (dk_at dksX1_listen_4 21 rfl rfl)
theorem dX1_listen_117 : decode cX1_listen 117 = .ok (.if_icmp .ge 65, 3) := dk_162 0 65 (dk_at dksX1_listen_5 0 rfl rfl)
theorem dX1_listen_120 : decode cX1_listen 120 = .ok (.iconst 1, 1) := dk_4 (dk_at dksX1_listen_5 3 rfl rfl)
theorem dX1_listen_121 : decode cX1_listen 121 = .ok (.istore 9, 2) := dk_54 9 (dk_at dksX1_listen_5 4 rfl rfl)
theorem dX1_listen_123 : decode cX1_listen 123 = .ok (.iconst 0, 1) := dk_3 (dk_at dksX1_listen_5 6 rfl rfl)
theorem dX1_listen_124 : decode cX1_listen 124 = .ok (.istore 10, 2) := dk_54 10 (dk_at dksX1_listen_5 7 rfl rfl)
theorem dX1_listen_126 : decode cX1_listen 126 = .ok (.iload 10, 2) := dk_21 10 (dk_at dksX1_listen_5 9 rfl rfl)
theorem dX1_listen_128 : decode cX1_listen 128 = .ok (.iload 8, 2) := dk_21 8 (dk_at dksX1_listen_5 11 rfl rfl)
theorem dX1_listen_130 : decode cX1_listen 130 = .ok (.if_icmp .ge 38, 3) := dk_162 0 38 (dk_at dksX1_listen_5 13 rfl rfl)
theorem dX1_listen_133 : decode cX1_listen 133 = .ok (.iload 9, 2) := dk_21 9 (dk_at dksX1_listen_5 16 rfl rfl)
theorem dX1_listen_135 : decode cX1_listen 135 = .ok (.ifCond .eq 33, 3) := dk_153 0 33 (dk_at dksX1_listen_5 18 rfl rfl)
theorem dX1_listen_138 : decode cX1_listen 138 = .ok (.aload_n 3, 1) := dk_45 (dk_at dksX1_listen_5 21 rfl rfl)
theorem dX1_listen_139 : decode cX1_listen 139 = .ok (.iload 10, 2) := dk_21 10 (dk_at dksX1_listen_5 22 rfl rfl)
theorem dX1_listen_141 : decode cX1_listen 141 = .ok (.aaload, 1) := dk_50 (dk_at dksX1_listen_6 0 rfl rfl)
theorem dX1_listen_142 : decode cX1_listen 142 = .ok (.iload 6, 2) := dk_21 6 (dk_at dksX1_listen_6 1 rfl rfl)
theorem dX1_listen_144 : decode cX1_listen 144 = .ok (.iaload, 1) := dk_46 (dk_at dksX1_listen_6 3 rfl rfl)
theorem dX1_listen_145 : decode cX1_listen 145 = .ok (.aload_n 3, 1) := dk_45 (dk_at dksX1_listen_6 4 rfl rfl)
theorem dX1_listen_146 : decode cX1_listen 146 = .ok (.iload 8, 2) := dk_21 8 (dk_at dksX1_listen_6 5 rfl rfl)
theorem dX1_listen_148 : decode cX1_listen 148 = .ok (.aaload, 1) := dk_50 (dk_at dksX1_listen_6 7 rfl rfl)
theorem dX1_listen_149 : decode cX1_listen 149 = .ok (.iload 6, 2) := dk_21 6 (dk_at dksX1_listen_6 8 rfl rfl)
theorem dX1_listen_151 : decode cX1_listen 151 = .ok (.iaload, 1) := dk_46 (dk_at dksX1_listen_6 10 rfl rfl)
theorem dX1_listen_152 : decode cX1_listen 152 = .ok (.if_icmp .eq 7, 3) := dk_159 0 7 (dk_at dksX1_listen_6 11 rfl rfl)
theorem dX1_listen_155 : decode cX1_listen 155 = .ok (.iconst 1, 1) := dk_4 (dk_at dksX1_listen_6 14 rfl rfl)
theorem dX1_listen_156 : decode cX1_listen 156 = .ok (.goto 4, 3) := dk_167 0 4 (dk_at dksX1_listen_6 15 rfl rfl)
theorem dX1_listen_159 : decode cX1_listen 159 = .ok (.iconst 0, 1) := dk_3 (dk_at dksX1_listen_6 18 rfl rfl)
theorem dX1_listen_160 : decode cX1_listen 160 = .ok (.istore 9, 2) := dk_54 9 (dk_at dksX1_listen_6 19 rfl rfl)
theorem dX1_listen_162 : decode cX1_listen 162 = .ok (.iinc 10 1, 3) := dk_132 10 1 (dk_at dksX1_listen_6 21 rfl rfl)
theorem dX1_listen_165 : decode cX1_listen 165 = .ok (.goto (-39), 3) := dk_167 255 217 (dk_at dksX1_listen_7 0 rfl rfl)
theorem dX1_listen_168 : decode cX1_listen 168 = .ok (.iload 9, 2) := dk_21 9 (dk_at dksX1_listen_7 3 rfl rfl)
theorem dX1_listen_170 : decode cX1_listen 170 = .ok (.ifCond .eq 6, 3) := dk_153 0 6 (dk_at dksX1_listen_7 5 rfl rfl)
theorem dX1_listen_173 : decode cX1_listen 173 = .ok (.iinc 7 1, 3) := dk_132 7 1 (dk_at dksX1_listen_7 8 rfl rfl)
theorem dX1_listen_176 : decode cX1_listen 176 = .ok (.iinc 8 1, 3) := dk_132 8 1 (dk_at dksX1_listen_7 11 rfl rfl)
theorem dX1_listen_179 : decode cX1_listen 179 = .ok (.goto (-66), 3) := dk_167 255 190 (dk_at dksX1_listen_7 14 rfl rfl)
theorem dX1_listen_182 : decode cX1_listen 182 = .ok (.iload 7, 2) := dk_21 7 (dk_at dksX1_listen_7 17 rfl rfl)
theorem dX1_listen_184 : decode cX1_listen 184 = .ok (.iload 5, 2) := dk_21 5 (dk_at dksX1_listen_7 19 rfl rfl)
theorem dX1_listen_186 : decode cX1_listen 186 = .ok (.if_icmp .gt 6, 3) := dk_163 0 6 (dk_at dksX1_listen_7 21 rfl rfl)
theorem dX1_listen_189 : decode cX1_listen 189 = .ok (.goto 13, 3) := dk_167 0 13 (dk_at dksX1_listen_8 0 rfl rfl)
theorem dX1_listen_192 : decode cX1_listen 192 = .ok (.iload 6, 2) := dk_21 6 (dk_at dksX1_listen_8 3 rfl rfl)
theorem dX1_listen_194 : decode cX1_listen 194 = .ok (.iconst 1, 1) := dk_4 (dk_at dksX1_listen_8 5 rfl rfl)
theorem dX1_listen_195 : decode cX1_listen 195 = .ok (.iadd, 1) := dk_96 (dk_at dksX1_listen_8 6 rfl rfl)
theorem dX1_listen_196 : decode cX1_listen 196 = .ok (.istore 4, 2) := dk_54 4 (dk_at dksX1_listen_8 7 rfl rfl)
theorem dX1_listen_198 : decode cX1_listen 198 = .ok (.iload 7, 2) := dk_21 7 (dk_at dksX1_listen_8 9 rfl rfl)
theorem dX1_listen_200 : decode cX1_listen 200 = .ok (.istore 5, 2) := dk_54 5 (dk_at dksX1_listen_8 11 rfl rfl)
theorem dX1_listen_202 : decode cX1_listen 202 = .ok (.iinc 6 1, 3) := dk_132 6 1 (dk_at dksX1_listen_8 13 rfl rfl)
theorem dX1_listen_205 : decode cX1_listen 205 = .ok (.goto (-105), 3) := dk_167 255 151 (dk_at dksX1_listen_8 16 rfl rfl)
theorem dX1_listen_208 : decode cX1_listen 208 = .ok (.iload_n 1, 1) := dk_27 (dk_at dksX1_listen_8 19 rfl rfl)
theorem dX1_listen_209 : decode cX1_listen 209 = .ok (.ifCond .ne 8, 3) := dk_154 0 8 (dk_at dksX1_listen_8 20 rfl rfl)
theorem dX1_listen_212 : decode cX1_listen 212 = .ok (.iload 4, 2) := dk_21 4 (dk_at dksX1_listen_9 0 rfl rfl)
theorem dX1_listen_214 : decode cX1_listen 214 = .ok (.goto 5, 3) := dk_167 0 5 (dk_at dksX1_listen_9 2 rfl rfl)
theorem dX1_listen_217 : decode cX1_listen 217 = .ok (.iload 5, 2) := dk_21 5 (dk_at dksX1_listen_9 5 rfl rfl)
theorem dX1_listen_219 : decode cX1_listen 219 = .ok (.ireturn, 1) := dk_172 (dk_at dksX1_listen_9 7 rfl rfl)
abbrev cX1_cold : ByteArray := prog_1_method_51_code
def yX1_cold : MethodName := ⟨RX1, "cold", "(III)I"⟩
def dkwX1_cold_6 : List UInt8 := [167, 255, 183, 21, 7, 153, 0, 10, 21, 4, 21, 6, 96, 54, 4, 132, 5, 1, 167, 255, 136, 21, 4, 172]
abbrev dktX1_cold_6 : List UInt8 := dkwX1_cold_6 ++ []
def dkwX1_cold_5 : List UInt8 := [54, 6, 21, 7, 42, 180, 0, 35, 182, 0, 237, 180, 0, 231, 27, 184, 0, 101, 128, 54, 7, 132, 8, 1]
abbrev dktX1_cold_5 : List UInt8 := dkwX1_cold_5 ++ dktX1_cold_6
def dkwX1_cold_4 : List UInt8 := [181, 1, 31, 21, 6, 42, 180, 0, 35, 180, 1, 27, 153, 0, 7, 29, 167, 0, 7, 16, 10, 29, 100, 104]
abbrev dktX1_cold_4 : List UInt8 := dkwX1_cold_4 ++ dktX1_cold_5
def dkwX1_cold_3 : List UInt8 := [162, 0, 73, 42, 180, 0, 35, 21, 5, 21, 8, 184, 0, 101, 181, 1, 27, 42, 180, 0, 35, 4]
abbrev dktX1_cold_3 : List UInt8 := dkwX1_cold_3 ++ dktX1_cold_4
def dkwX1_cold_2 : List UInt8 := [54, 6, 3, 54, 7, 42, 180, 0, 35, 42, 180, 0, 31, 182, 0, 221, 87, 3, 54, 8, 21, 8, 28]
abbrev dktX1_cold_2 : List UInt8 := dkwX1_cold_2 ++ dktX1_cold_3
def dkwX1_cold_1 : List UInt8 := [4, 167, 0, 4, 3, 184, 0, 62, 3, 54, 4, 3, 54, 5, 21, 5, 4, 28, 120, 162, 0, 118, 4]
abbrev dktX1_cold_1 : List UInt8 := dkwX1_cold_1 ++ dktX1_cold_2
def dkwX1_cold_0 : List UInt8 := [42, 27, 182, 0, 168, 28, 4, 8, 184, 0, 161, 153, 0, 17, 29, 3, 16, 10, 184, 0, 161, 153, 0, 7]
abbrev dktX1_cold_0 : List UInt8 := dkwX1_cold_0 ++ dktX1_cold_1
theorem dksX1_cold_0 : cX1_cold.data.toList.drop 0 = dktX1_cold_0 := by decide +kernel
theorem dksX1_cold_1 : cX1_cold.data.toList.drop 24 = dktX1_cold_1 := dk_seg dksX1_cold_0 24 rfl rfl
theorem dksX1_cold_2 : cX1_cold.data.toList.drop 47 = dktX1_cold_2 := dk_seg dksX1_cold_1 23 rfl rfl
theorem dksX1_cold_3 : cX1_cold.data.toList.drop 70 = dktX1_cold_3 := dk_seg dksX1_cold_2 23 rfl rfl
theorem dksX1_cold_4 : cX1_cold.data.toList.drop 92 = dktX1_cold_4 := dk_seg dksX1_cold_3 22 rfl rfl
theorem dksX1_cold_5 : cX1_cold.data.toList.drop 116 = dktX1_cold_5 := dk_seg dksX1_cold_4 24 rfl rfl
theorem dksX1_cold_6 : cX1_cold.data.toList.drop 140 = dktX1_cold_6 := dk_seg dksX1_cold_5 24 rfl rfl
theorem dX1_cold_0 : decode cX1_cold 0 = .ok (.aload_n 0, 1) := dk_42 (dk_at dksX1_cold_0 0 rfl rfl)
theorem dX1_cold_1 : decode cX1_cold 1 = .ok (.iload_n 1, 1) := dk_27 (dk_at dksX1_cold_0 1 rfl rfl)
theorem dX1_cold_2 : decode cX1_cold 2 = .ok (.invokevirtual 168, 3) := dk_182 0 168 (dk_at dksX1_cold_0 2 rfl rfl)
theorem dX1_cold_5 : decode cX1_cold 5 = .ok (.iload_n 2, 1) := dk_28 (dk_at dksX1_cold_0 5 rfl rfl)
theorem dX1_cold_6 : decode cX1_cold 6 = .ok (.iconst 1, 1) := dk_4 (dk_at dksX1_cold_0 6 rfl rfl)
theorem dX1_cold_7 : decode cX1_cold 7 = .ok (.iconst 5, 1) := dk_8 (dk_at dksX1_cold_0 7 rfl rfl)
theorem dX1_cold_8 : decode cX1_cold 8 = .ok (.invokestatic 161, 3) := dk_184 0 161 (dk_at dksX1_cold_0 8 rfl rfl)
theorem dX1_cold_11 : decode cX1_cold 11 = .ok (.ifCond .eq 17, 3) := dk_153 0 17 (dk_at dksX1_cold_0 11 rfl rfl)
theorem dX1_cold_14 : decode cX1_cold 14 = .ok (.iload_n 3, 1) := dk_29 (dk_at dksX1_cold_0 14 rfl rfl)
theorem dX1_cold_15 : decode cX1_cold 15 = .ok (.iconst 0, 1) := dk_3 (dk_at dksX1_cold_0 15 rfl rfl)
theorem dX1_cold_16 : decode cX1_cold 16 = .ok (.bipush 10, 2) := dk_16 10 (dk_at dksX1_cold_0 16 rfl rfl)
theorem dX1_cold_18 : decode cX1_cold 18 = .ok (.invokestatic 161, 3) := dk_184 0 161 (dk_at dksX1_cold_0 18 rfl rfl)
theorem dX1_cold_21 : decode cX1_cold 21 = .ok (.ifCond .eq 7, 3) := dk_153 0 7 (dk_at dksX1_cold_0 21 rfl rfl)
theorem dX1_cold_24 : decode cX1_cold 24 = .ok (.iconst 1, 1) := dk_4 (dk_at dksX1_cold_1 0 rfl rfl)
theorem dX1_cold_25 : decode cX1_cold 25 = .ok (.goto 4, 3) := dk_167 0 4 (dk_at dksX1_cold_1 1 rfl rfl)
theorem dX1_cold_28 : decode cX1_cold 28 = .ok (.iconst 0, 1) := dk_3 (dk_at dksX1_cold_1 4 rfl rfl)
theorem dX1_cold_29 : decode cX1_cold 29 = .ok (.invokestatic 62, 3) := dk_184 0 62 (dk_at dksX1_cold_1 5 rfl rfl)
theorem dX1_cold_32 : decode cX1_cold 32 = .ok (.iconst 0, 1) := dk_3 (dk_at dksX1_cold_1 8 rfl rfl)
theorem dX1_cold_33 : decode cX1_cold 33 = .ok (.istore 4, 2) := dk_54 4 (dk_at dksX1_cold_1 9 rfl rfl)
theorem dX1_cold_35 : decode cX1_cold 35 = .ok (.iconst 0, 1) := dk_3 (dk_at dksX1_cold_1 11 rfl rfl)
theorem dX1_cold_36 : decode cX1_cold 36 = .ok (.istore 5, 2) := dk_54 5 (dk_at dksX1_cold_1 12 rfl rfl)
theorem dX1_cold_38 : decode cX1_cold 38 = .ok (.iload 5, 2) := dk_21 5 (dk_at dksX1_cold_1 14 rfl rfl)
theorem dX1_cold_40 : decode cX1_cold 40 = .ok (.iconst 1, 1) := dk_4 (dk_at dksX1_cold_1 16 rfl rfl)
theorem dX1_cold_41 : decode cX1_cold 41 = .ok (.iload_n 2, 1) := dk_28 (dk_at dksX1_cold_1 17 rfl rfl)
theorem dX1_cold_42 : decode cX1_cold 42 = .ok (.ishl, 1) := dk_120 (dk_at dksX1_cold_1 18 rfl rfl)
theorem dX1_cold_43 : decode cX1_cold 43 = .ok (.if_icmp .ge 118, 3) := dk_162 0 118 (dk_at dksX1_cold_1 19 rfl rfl)
theorem dX1_cold_46 : decode cX1_cold 46 = .ok (.iconst 1, 1) := dk_4 (dk_at dksX1_cold_1 22 rfl rfl)
theorem dX1_cold_47 : decode cX1_cold 47 = .ok (.istore 6, 2) := dk_54 6 (dk_at dksX1_cold_2 0 rfl rfl)
theorem dX1_cold_49 : decode cX1_cold 49 = .ok (.iconst 0, 1) := dk_3 (dk_at dksX1_cold_2 2 rfl rfl)
theorem dX1_cold_50 : decode cX1_cold 50 = .ok (.istore 7, 2) := dk_54 7 (dk_at dksX1_cold_2 3 rfl rfl)
theorem dX1_cold_52 : decode cX1_cold 52 = .ok (.aload_n 0, 1) := dk_42 (dk_at dksX1_cold_2 5 rfl rfl)
theorem dX1_cold_53 : decode cX1_cold 53 = .ok (.getfield 35, 3) := dk_180 0 35 (dk_at dksX1_cold_2 6 rfl rfl)
theorem dX1_cold_56 : decode cX1_cold 56 = .ok (.aload_n 0, 1) := dk_42 (dk_at dksX1_cold_2 9 rfl rfl)
theorem dX1_cold_57 : decode cX1_cold 57 = .ok (.getfield 31, 3) := dk_180 0 31 (dk_at dksX1_cold_2 10 rfl rfl)
theorem dX1_cold_60 : decode cX1_cold 60 = .ok (.invokevirtual 221, 3) := dk_182 0 221 (dk_at dksX1_cold_2 13 rfl rfl)
theorem dX1_cold_63 : decode cX1_cold 63 = .ok (.pop, 1) := dk_87 (dk_at dksX1_cold_2 16 rfl rfl)
theorem dX1_cold_64 : decode cX1_cold 64 = .ok (.iconst 0, 1) := dk_3 (dk_at dksX1_cold_2 17 rfl rfl)
theorem dX1_cold_65 : decode cX1_cold 65 = .ok (.istore 8, 2) := dk_54 8 (dk_at dksX1_cold_2 18 rfl rfl)
theorem dX1_cold_67 : decode cX1_cold 67 = .ok (.iload 8, 2) := dk_21 8 (dk_at dksX1_cold_2 20 rfl rfl)
theorem dX1_cold_69 : decode cX1_cold 69 = .ok (.iload_n 2, 1) := dk_28 (dk_at dksX1_cold_2 22 rfl rfl)
theorem dX1_cold_70 : decode cX1_cold 70 = .ok (.if_icmp .ge 73, 3) := dk_162 0 73 (dk_at dksX1_cold_3 0 rfl rfl)
theorem dX1_cold_73 : decode cX1_cold 73 = .ok (.aload_n 0, 1) := dk_42 (dk_at dksX1_cold_3 3 rfl rfl)
theorem dX1_cold_74 : decode cX1_cold 74 = .ok (.getfield 35, 3) := dk_180 0 35 (dk_at dksX1_cold_3 4 rfl rfl)
theorem dX1_cold_77 : decode cX1_cold 77 = .ok (.iload 5, 2) := dk_21 5 (dk_at dksX1_cold_3 7 rfl rfl)
theorem dX1_cold_79 : decode cX1_cold 79 = .ok (.iload 8, 2) := dk_21 8 (dk_at dksX1_cold_3 9 rfl rfl)
theorem dX1_cold_81 : decode cX1_cold 81 = .ok (.invokestatic 101, 3) := dk_184 0 101 (dk_at dksX1_cold_3 11 rfl rfl)
theorem dX1_cold_84 : decode cX1_cold 84 = .ok (.putfield 283, 3) := dk_181 1 27 (dk_at dksX1_cold_3 14 rfl rfl)
theorem dX1_cold_87 : decode cX1_cold 87 = .ok (.aload_n 0, 1) := dk_42 (dk_at dksX1_cold_3 17 rfl rfl)
theorem dX1_cold_88 : decode cX1_cold 88 = .ok (.getfield 35, 3) := dk_180 0 35 (dk_at dksX1_cold_3 18 rfl rfl)
theorem dX1_cold_91 : decode cX1_cold 91 = .ok (.iconst 1, 1) := dk_4 (dk_at dksX1_cold_3 21 rfl rfl)
theorem dX1_cold_92 : decode cX1_cold 92 = .ok (.putfield 287, 3) := dk_181 1 31 (dk_at dksX1_cold_4 0 rfl rfl)
theorem dX1_cold_95 : decode cX1_cold 95 = .ok (.iload 6, 2) := dk_21 6 (dk_at dksX1_cold_4 3 rfl rfl)
theorem dX1_cold_97 : decode cX1_cold 97 = .ok (.aload_n 0, 1) := dk_42 (dk_at dksX1_cold_4 5 rfl rfl)
theorem dX1_cold_98 : decode cX1_cold 98 = .ok (.getfield 35, 3) := dk_180 0 35 (dk_at dksX1_cold_4 6 rfl rfl)
theorem dX1_cold_101 : decode cX1_cold 101 = .ok (.getfield 283, 3) := dk_180 1 27 (dk_at dksX1_cold_4 9 rfl rfl)
theorem dX1_cold_104 : decode cX1_cold 104 = .ok (.ifCond .eq 7, 3) := dk_153 0 7 (dk_at dksX1_cold_4 12 rfl rfl)
theorem dX1_cold_107 : decode cX1_cold 107 = .ok (.iload_n 3, 1) := dk_29 (dk_at dksX1_cold_4 15 rfl rfl)
theorem dX1_cold_108 : decode cX1_cold 108 = .ok (.goto 7, 3) := dk_167 0 7 (dk_at dksX1_cold_4 16 rfl rfl)
theorem dX1_cold_111 : decode cX1_cold 111 = .ok (.bipush 10, 2) := dk_16 10 (dk_at dksX1_cold_4 19 rfl rfl)
theorem dX1_cold_113 : decode cX1_cold 113 = .ok (.iload_n 3, 1) := dk_29 (dk_at dksX1_cold_4 21 rfl rfl)
theorem dX1_cold_114 : decode cX1_cold 114 = .ok (.isub, 1) := dk_100 (dk_at dksX1_cold_4 22 rfl rfl)
theorem dX1_cold_115 : decode cX1_cold 115 = .ok (.imul, 1) := dk_104 (dk_at dksX1_cold_4 23 rfl rfl)
theorem dX1_cold_116 : decode cX1_cold 116 = .ok (.istore 6, 2) := dk_54 6 (dk_at dksX1_cold_5 0 rfl rfl)
theorem dX1_cold_118 : decode cX1_cold 118 = .ok (.iload 7, 2) := dk_21 7 (dk_at dksX1_cold_5 2 rfl rfl)
theorem dX1_cold_120 : decode cX1_cold 120 = .ok (.aload_n 0, 1) := dk_42 (dk_at dksX1_cold_5 4 rfl rfl)
theorem dX1_cold_121 : decode cX1_cold 121 = .ok (.getfield 35, 3) := dk_180 0 35 (dk_at dksX1_cold_5 5 rfl rfl)
theorem dX1_cold_124 : decode cX1_cold 124 = .ok (.invokevirtual 237, 3) := dk_182 0 237 (dk_at dksX1_cold_5 8 rfl rfl)
theorem dX1_cold_127 : decode cX1_cold 127 = .ok (.getfield 231, 3) := dk_180 0 231 (dk_at dksX1_cold_5 11 rfl rfl)
theorem dX1_cold_130 : decode cX1_cold 130 = .ok (.iload_n 1, 1) := dk_27 (dk_at dksX1_cold_5 14 rfl rfl)
theorem dX1_cold_131 : decode cX1_cold 131 = .ok (.invokestatic 101, 3) := dk_184 0 101 (dk_at dksX1_cold_5 15 rfl rfl)
theorem dX1_cold_134 : decode cX1_cold 134 = .ok (.ior, 1) := dk_128 (dk_at dksX1_cold_5 18 rfl rfl)
theorem dX1_cold_135 : decode cX1_cold 135 = .ok (.istore 7, 2) := dk_54 7 (dk_at dksX1_cold_5 19 rfl rfl)
theorem dX1_cold_137 : decode cX1_cold 137 = .ok (.iinc 8 1, 3) := dk_132 8 1 (dk_at dksX1_cold_5 21 rfl rfl)
theorem dX1_cold_140 : decode cX1_cold 140 = .ok (.goto (-73), 3) := dk_167 255 183 (dk_at dksX1_cold_6 0 rfl rfl)
theorem dX1_cold_143 : decode cX1_cold 143 = .ok (.iload 7, 2) := dk_21 7 (dk_at dksX1_cold_6 3 rfl rfl)
theorem dX1_cold_145 : decode cX1_cold 145 = .ok (.ifCond .eq 10, 3) := dk_153 0 10 (dk_at dksX1_cold_6 5 rfl rfl)
theorem dX1_cold_148 : decode cX1_cold 148 = .ok (.iload 4, 2) := dk_21 4 (dk_at dksX1_cold_6 8 rfl rfl)
theorem dX1_cold_150 : decode cX1_cold 150 = .ok (.iload 6, 2) := dk_21 6 (dk_at dksX1_cold_6 10 rfl rfl)
theorem dX1_cold_152 : decode cX1_cold 152 = .ok (.iadd, 1) := dk_96 (dk_at dksX1_cold_6 12 rfl rfl)
theorem dX1_cold_153 : decode cX1_cold 153 = .ok (.istore 4, 2) := dk_54 4 (dk_at dksX1_cold_6 13 rfl rfl)
theorem dX1_cold_155 : decode cX1_cold 155 = .ok (.iinc 5 1, 3) := dk_132 5 1 (dk_at dksX1_cold_6 15 rfl rfl)
theorem dX1_cold_158 : decode cX1_cold 158 = .ok (.goto (-120), 3) := dk_167 255 136 (dk_at dksX1_cold_6 18 rfl rfl)
theorem dX1_cold_161 : decode cX1_cold 161 = .ok (.iload 4, 2) := dk_21 4 (dk_at dksX1_cold_6 21 rfl rfl)
theorem dX1_cold_163 : decode cX1_cold 163 = .ok (.ireturn, 1) := dk_172 (dk_at dksX1_cold_6 23 rfl rfl)
abbrev cX1_game : ByteArray := prog_1_method_53_code
def yX1_game : MethodName := ⟨RX1, "game", "(III)I"⟩
def dkwX1_game_6 : List UInt8 := [154, 0, 8, 21, 4, 167, 0, 5, 21, 5, 172]
abbrev dktX1_game_6 : List UInt8 := dkwX1_game_6 ++ []
def dkwX1_game_5 : List UInt8 := [104, 21, 7, 96, 54, 5, 132, 4, 1, 132, 7, 1, 167, 255, 172, 132, 6, 1, 167, 255, 157, 29]
abbrev dktX1_game_5 : List UInt8 := dkwX1_game_5 ++ dktX1_game_6
def dkwX1_game_4 : List UInt8 := [182, 1, 34, 4, 46, 25, 8, 4, 46, 164, 0, 6, 167, 0, 21, 21, 4, 154, 0, 13, 16, 10, 21, 6]
abbrev dktX1_game_4 : List UInt8 := dkwX1_game_4 ++ dktX1_game_5
def dkwX1_game_3 : List UInt8 := [21, 7, 182, 1, 34, 3, 46, 25, 8, 3, 46, 163, 0, 45, 42, 27, 28, 21, 6, 4, 21, 7, 100]
abbrev dktX1_game_3 : List UInt8 := dkwX1_game_3 ++ dktX1_game_4
def dkwX1_game_2 : List UInt8 := [5, 162, 0, 84, 42, 27, 28, 21, 6, 21, 7, 182, 1, 34, 58, 8, 42, 27, 28, 4, 21, 6, 100]
abbrev dktX1_game_2 : List UInt8 := dkwX1_game_2 ++ dktX1_game_3
def dkwX1_game_1 : List UInt8 := [3, 184, 0, 62, 3, 54, 4, 2, 54, 5, 3, 54, 6, 21, 6, 5, 162, 0, 99, 3, 54, 7, 21, 7]
abbrev dktX1_game_1 : List UInt8 := dkwX1_game_1 ++ dktX1_game_2
def dkwX1_game_0 : List UInt8 := [42, 27, 182, 0, 168, 42, 28, 182, 0, 168, 29, 4, 184, 0, 225, 27, 28, 159, 0, 7, 4, 167, 0, 4]
abbrev dktX1_game_0 : List UInt8 := dkwX1_game_0 ++ dktX1_game_1
theorem dksX1_game_0 : cX1_game.data.toList.drop 0 = dktX1_game_0 := by decide +kernel
theorem dksX1_game_1 : cX1_game.data.toList.drop 24 = dktX1_game_1 := dk_seg dksX1_game_0 24 rfl rfl
theorem dksX1_game_2 : cX1_game.data.toList.drop 48 = dktX1_game_2 := dk_seg dksX1_game_1 24 rfl rfl
theorem dksX1_game_3 : cX1_game.data.toList.drop 71 = dktX1_game_3 := dk_seg dksX1_game_2 23 rfl rfl
theorem dksX1_game_4 : cX1_game.data.toList.drop 94 = dktX1_game_4 := dk_seg dksX1_game_3 23 rfl rfl
theorem dksX1_game_5 : cX1_game.data.toList.drop 118 = dktX1_game_5 := dk_seg dksX1_game_4 24 rfl rfl
theorem dksX1_game_6 : cX1_game.data.toList.drop 140 = dktX1_game_6 := dk_seg dksX1_game_5 22 rfl rfl
theorem dX1_game_0 : decode cX1_game 0 = .ok (.aload_n 0, 1) := dk_42 (dk_at dksX1_game_0 0 rfl rfl)
theorem dX1_game_1 : decode cX1_game 1 = .ok (.iload_n 1, 1) := dk_27 (dk_at dksX1_game_0 1 rfl rfl)
theorem dX1_game_2 : decode cX1_game 2 = .ok (.invokevirtual 168, 3) := dk_182 0 168 (dk_at dksX1_game_0 2 rfl rfl)
theorem dX1_game_5 : decode cX1_game 5 = .ok (.aload_n 0, 1) := dk_42 (dk_at dksX1_game_0 5 rfl rfl)
theorem dX1_game_6 : decode cX1_game 6 = .ok (.iload_n 2, 1) := dk_28 (dk_at dksX1_game_0 6 rfl rfl)
theorem dX1_game_7 : decode cX1_game 7 = .ok (.invokevirtual 168, 3) := dk_182 0 168 (dk_at dksX1_game_0 7 rfl rfl)
theorem dX1_game_10 : decode cX1_game 10 = .ok (.iload_n 3, 1) := dk_29 (dk_at dksX1_game_0 10 rfl rfl)
theorem dX1_game_11 : decode cX1_game 11 = .ok (.iconst 1, 1) := dk_4 (dk_at dksX1_game_0 11 rfl rfl)
theorem dX1_game_12 : decode cX1_game 12 = .ok (.invokestatic 225, 3) := dk_184 0 225 (dk_at dksX1_game_0 12 rfl rfl)
theorem dX1_game_15 : decode cX1_game 15 = .ok (.iload_n 1, 1) := dk_27 (dk_at dksX1_game_0 15 rfl rfl)
theorem dX1_game_16 : decode cX1_game 16 = .ok (.iload_n 2, 1) := dk_28 (dk_at dksX1_game_0 16 rfl rfl)
theorem dX1_game_17 : decode cX1_game 17 = .ok (.if_icmp .eq 7, 3) := dk_159 0 7 (dk_at dksX1_game_0 17 rfl rfl)
theorem dX1_game_20 : decode cX1_game 20 = .ok (.iconst 1, 1) := dk_4 (dk_at dksX1_game_0 20 rfl rfl)
theorem dX1_game_21 : decode cX1_game 21 = .ok (.goto 4, 3) := dk_167 0 4 (dk_at dksX1_game_0 21 rfl rfl)
theorem dX1_game_24 : decode cX1_game 24 = .ok (.iconst 0, 1) := dk_3 (dk_at dksX1_game_1 0 rfl rfl)
theorem dX1_game_25 : decode cX1_game 25 = .ok (.invokestatic 62, 3) := dk_184 0 62 (dk_at dksX1_game_1 1 rfl rfl)
theorem dX1_game_28 : decode cX1_game 28 = .ok (.iconst 0, 1) := dk_3 (dk_at dksX1_game_1 4 rfl rfl)
theorem dX1_game_29 : decode cX1_game 29 = .ok (.istore 4, 2) := dk_54 4 (dk_at dksX1_game_1 5 rfl rfl)
theorem dX1_game_31 : decode cX1_game 31 = .ok (.iconst (-1), 1) := dk_2 (dk_at dksX1_game_1 7 rfl rfl)
theorem dX1_game_32 : decode cX1_game 32 = .ok (.istore 5, 2) := dk_54 5 (dk_at dksX1_game_1 8 rfl rfl)
theorem dX1_game_34 : decode cX1_game 34 = .ok (.iconst 0, 1) := dk_3 (dk_at dksX1_game_1 10 rfl rfl)
theorem dX1_game_35 : decode cX1_game 35 = .ok (.istore 6, 2) := dk_54 6 (dk_at dksX1_game_1 11 rfl rfl)
theorem dX1_game_37 : decode cX1_game 37 = .ok (.iload 6, 2) := dk_21 6 (dk_at dksX1_game_1 13 rfl rfl)
theorem dX1_game_39 : decode cX1_game 39 = .ok (.iconst 2, 1) := dk_5 (dk_at dksX1_game_1 15 rfl rfl)
theorem dX1_game_40 : decode cX1_game 40 = .ok (.if_icmp .ge 99, 3) := dk_162 0 99 (dk_at dksX1_game_1 16 rfl rfl)
theorem dX1_game_43 : decode cX1_game 43 = .ok (.iconst 0, 1) := dk_3 (dk_at dksX1_game_1 19 rfl rfl)
theorem dX1_game_44 : decode cX1_game 44 = .ok (.istore 7, 2) := dk_54 7 (dk_at dksX1_game_1 20 rfl rfl)
theorem dX1_game_46 : decode cX1_game 46 = .ok (.iload 7, 2) := dk_21 7 (dk_at dksX1_game_1 22 rfl rfl)
theorem dX1_game_48 : decode cX1_game 48 = .ok (.iconst 2, 1) := dk_5 (dk_at dksX1_game_2 0 rfl rfl)
theorem dX1_game_49 : decode cX1_game 49 = .ok (.if_icmp .ge 84, 3) := dk_162 0 84 (dk_at dksX1_game_2 1 rfl rfl)
theorem dX1_game_52 : decode cX1_game 52 = .ok (.aload_n 0, 1) := dk_42 (dk_at dksX1_game_2 4 rfl rfl)
theorem dX1_game_53 : decode cX1_game 53 = .ok (.iload_n 1, 1) := dk_27 (dk_at dksX1_game_2 5 rfl rfl)
theorem dX1_game_54 : decode cX1_game 54 = .ok (.iload_n 2, 1) := dk_28 (dk_at dksX1_game_2 6 rfl rfl)
theorem dX1_game_55 : decode cX1_game 55 = .ok (.iload 6, 2) := dk_21 6 (dk_at dksX1_game_2 7 rfl rfl)
theorem dX1_game_57 : decode cX1_game 57 = .ok (.iload 7, 2) := dk_21 7 (dk_at dksX1_game_2 9 rfl rfl)
theorem dX1_game_59 : decode cX1_game 59 = .ok (.invokevirtual 290, 3) := dk_182 1 34 (dk_at dksX1_game_2 11 rfl rfl)
theorem dX1_game_62 : decode cX1_game 62 = .ok (.astore 8, 2) := dk_58 8 (dk_at dksX1_game_2 14 rfl rfl)
theorem dX1_game_64 : decode cX1_game 64 = .ok (.aload_n 0, 1) := dk_42 (dk_at dksX1_game_2 16 rfl rfl)
theorem dX1_game_65 : decode cX1_game 65 = .ok (.iload_n 1, 1) := dk_27 (dk_at dksX1_game_2 17 rfl rfl)
theorem dX1_game_66 : decode cX1_game 66 = .ok (.iload_n 2, 1) := dk_28 (dk_at dksX1_game_2 18 rfl rfl)
theorem dX1_game_67 : decode cX1_game 67 = .ok (.iconst 1, 1) := dk_4 (dk_at dksX1_game_2 19 rfl rfl)
theorem dX1_game_68 : decode cX1_game 68 = .ok (.iload 6, 2) := dk_21 6 (dk_at dksX1_game_2 20 rfl rfl)
theorem dX1_game_70 : decode cX1_game 70 = .ok (.isub, 1) := dk_100 (dk_at dksX1_game_2 22 rfl rfl)
theorem dX1_game_71 : decode cX1_game 71 = .ok (.iload 7, 2) := dk_21 7 (dk_at dksX1_game_3 0 rfl rfl)
theorem dX1_game_73 : decode cX1_game 73 = .ok (.invokevirtual 290, 3) := dk_182 1 34 (dk_at dksX1_game_3 2 rfl rfl)
theorem dX1_game_76 : decode cX1_game 76 = .ok (.iconst 0, 1) := dk_3 (dk_at dksX1_game_3 5 rfl rfl)
theorem dX1_game_77 : decode cX1_game 77 = .ok (.iaload, 1) := dk_46 (dk_at dksX1_game_3 6 rfl rfl)
theorem dX1_game_78 : decode cX1_game 78 = .ok (.aload 8, 2) := dk_25 8 (dk_at dksX1_game_3 7 rfl rfl)
theorem dX1_game_80 : decode cX1_game 80 = .ok (.iconst 0, 1) := dk_3 (dk_at dksX1_game_3 9 rfl rfl)
theorem dX1_game_81 : decode cX1_game 81 = .ok (.iaload, 1) := dk_46 (dk_at dksX1_game_3 10 rfl rfl)
theorem dX1_game_82 : decode cX1_game 82 = .ok (.if_icmp .gt 45, 3) := dk_163 0 45 (dk_at dksX1_game_3 11 rfl rfl)
theorem dX1_game_85 : decode cX1_game 85 = .ok (.aload_n 0, 1) := dk_42 (dk_at dksX1_game_3 14 rfl rfl)
theorem dX1_game_86 : decode cX1_game 86 = .ok (.iload_n 1, 1) := dk_27 (dk_at dksX1_game_3 15 rfl rfl)
theorem dX1_game_87 : decode cX1_game 87 = .ok (.iload_n 2, 1) := dk_28 (dk_at dksX1_game_3 16 rfl rfl)
theorem dX1_game_88 : decode cX1_game 88 = .ok (.iload 6, 2) := dk_21 6 (dk_at dksX1_game_3 17 rfl rfl)
theorem dX1_game_90 : decode cX1_game 90 = .ok (.iconst 1, 1) := dk_4 (dk_at dksX1_game_3 19 rfl rfl)
theorem dX1_game_91 : decode cX1_game 91 = .ok (.iload 7, 2) := dk_21 7 (dk_at dksX1_game_3 20 rfl rfl)
theorem dX1_game_93 : decode cX1_game 93 = .ok (.isub, 1) := dk_100 (dk_at dksX1_game_3 22 rfl rfl)
theorem dX1_game_94 : decode cX1_game 94 = .ok (.invokevirtual 290, 3) := dk_182 1 34 (dk_at dksX1_game_4 0 rfl rfl)
theorem dX1_game_97 : decode cX1_game 97 = .ok (.iconst 1, 1) := dk_4 (dk_at dksX1_game_4 3 rfl rfl)
theorem dX1_game_98 : decode cX1_game 98 = .ok (.iaload, 1) := dk_46 (dk_at dksX1_game_4 4 rfl rfl)
theorem dX1_game_99 : decode cX1_game 99 = .ok (.aload 8, 2) := dk_25 8 (dk_at dksX1_game_4 5 rfl rfl)
theorem dX1_game_101 : decode cX1_game 101 = .ok (.iconst 1, 1) := dk_4 (dk_at dksX1_game_4 7 rfl rfl)
theorem dX1_game_102 : decode cX1_game 102 = .ok (.iaload, 1) := dk_46 (dk_at dksX1_game_4 8 rfl rfl)
theorem dX1_game_103 : decode cX1_game 103 = .ok (.if_icmp .le 6, 3) := dk_164 0 6 (dk_at dksX1_game_4 9 rfl rfl)
theorem dX1_game_106 : decode cX1_game 106 = .ok (.goto 21, 3) := dk_167 0 21 (dk_at dksX1_game_4 12 rfl rfl)
theorem dX1_game_109 : decode cX1_game 109 = .ok (.iload 4, 2) := dk_21 4 (dk_at dksX1_game_4 15 rfl rfl)
theorem dX1_game_111 : decode cX1_game 111 = .ok (.ifCond .ne 13, 3) := dk_154 0 13 (dk_at dksX1_game_4 17 rfl rfl)
theorem dX1_game_114 : decode cX1_game 114 = .ok (.bipush 10, 2) := dk_16 10 (dk_at dksX1_game_4 20 rfl rfl)
theorem dX1_game_116 : decode cX1_game 116 = .ok (.iload 6, 2) := dk_21 6 (dk_at dksX1_game_4 22 rfl rfl)
theorem dX1_game_118 : decode cX1_game 118 = .ok (.imul, 1) := dk_104 (dk_at dksX1_game_5 0 rfl rfl)
theorem dX1_game_119 : decode cX1_game 119 = .ok (.iload 7, 2) := dk_21 7 (dk_at dksX1_game_5 1 rfl rfl)
theorem dX1_game_121 : decode cX1_game 121 = .ok (.iadd, 1) := dk_96 (dk_at dksX1_game_5 3 rfl rfl)
theorem dX1_game_122 : decode cX1_game 122 = .ok (.istore 5, 2) := dk_54 5 (dk_at dksX1_game_5 4 rfl rfl)
theorem dX1_game_124 : decode cX1_game 124 = .ok (.iinc 4 1, 3) := dk_132 4 1 (dk_at dksX1_game_5 6 rfl rfl)
theorem dX1_game_127 : decode cX1_game 127 = .ok (.iinc 7 1, 3) := dk_132 7 1 (dk_at dksX1_game_5 9 rfl rfl)
theorem dX1_game_130 : decode cX1_game 130 = .ok (.goto (-84), 3) := dk_167 255 172 (dk_at dksX1_game_5 12 rfl rfl)
theorem dX1_game_133 : decode cX1_game 133 = .ok (.iinc 6 1, 3) := dk_132 6 1 (dk_at dksX1_game_5 15 rfl rfl)
theorem dX1_game_136 : decode cX1_game 136 = .ok (.goto (-99), 3) := dk_167 255 157 (dk_at dksX1_game_5 18 rfl rfl)
theorem dX1_game_139 : decode cX1_game 139 = .ok (.iload_n 3, 1) := dk_29 (dk_at dksX1_game_5 21 rfl rfl)
theorem dX1_game_140 : decode cX1_game 140 = .ok (.ifCond .ne 8, 3) := dk_154 0 8 (dk_at dksX1_game_6 0 rfl rfl)
theorem dX1_game_143 : decode cX1_game 143 = .ok (.iload 4, 2) := dk_21 4 (dk_at dksX1_game_6 3 rfl rfl)
theorem dX1_game_145 : decode cX1_game 145 = .ok (.goto 5, 3) := dk_167 0 5 (dk_at dksX1_game_6 5 rfl rfl)
theorem dX1_game_148 : decode cX1_game 148 = .ok (.iload 5, 2) := dk_21 5 (dk_at dksX1_game_6 8 rfl rfl)
theorem dX1_game_150 : decode cX1_game 150 = .ok (.ireturn, 1) := dk_172 (dk_at dksX1_game_6 10 rfl rfl)
abbrev cX1_gains : ByteArray := prog_1_method_52_code
def yX1_gains : MethodName := ⟨RX1, "gains", "(IIII)[I"⟩
def dkwX1_gains_5 : List UInt8 := [4, 21, 5, 116, 5, 108, 21, 4, 100, 79, 176]
abbrev dktX1_gains_5 : List UInt8 := dkwX1_gains_5 ++ []
def dkwX1_gains_4 : List UInt8 := [180, 0, 31, 180, 0, 175, 28, 46, 96, 54, 5, 5, 188, 10, 89, 3, 21, 5, 5, 108, 29, 100, 79, 89]
abbrev dktX1_gains_4 : List UInt8 := dkwX1_gains_4 ++ dktX1_gains_5
def dkwX1_gains_3 : List UInt8 := [27, 46, 42, 180, 0, 31, 180, 0, 175, 27, 46, 100, 42, 180, 0, 35, 180, 0, 175, 28, 46, 100, 42]
abbrev dktX1_gains_3 : List UInt8 := dkwX1_gains_3 ++ dktX1_gains_4
def dkwX1_gains_2 : List UInt8 := [4, 28, 120, 128, 181, 0, 143, 42, 180, 0, 35, 16, 12, 182, 0, 198, 87, 42, 180, 0, 35, 180, 0, 175]
abbrev dktX1_gains_2 : List UInt8 := dkwX1_gains_2 ++ dktX1_gains_3
def dkwX1_gains_1 : List UInt8 := [180, 0, 143, 4, 27, 120, 128, 181, 0, 143, 21, 4, 4, 160, 0, 18, 42, 180, 0, 35, 89, 180, 0, 143]
abbrev dktX1_gains_1 : List UInt8 := dkwX1_gains_1 ++ dktX1_gains_2
def dkwX1_gains_0 : List UInt8 := [42, 180, 0, 35, 42, 180, 0, 31, 182, 0, 221, 87, 29, 4, 160, 0, 18, 42, 180, 0, 35, 89]
abbrev dktX1_gains_0 : List UInt8 := dkwX1_gains_0 ++ dktX1_gains_1
theorem dksX1_gains_0 : cX1_gains.data.toList.drop 0 = dktX1_gains_0 := by decide +kernel
theorem dksX1_gains_1 : cX1_gains.data.toList.drop 22 = dktX1_gains_1 := dk_seg dksX1_gains_0 22 rfl rfl
theorem dksX1_gains_2 : cX1_gains.data.toList.drop 46 = dktX1_gains_2 := dk_seg dksX1_gains_1 24 rfl rfl
theorem dksX1_gains_3 : cX1_gains.data.toList.drop 70 = dktX1_gains_3 := dk_seg dksX1_gains_2 24 rfl rfl
theorem dksX1_gains_4 : cX1_gains.data.toList.drop 93 = dktX1_gains_4 := dk_seg dksX1_gains_3 23 rfl rfl
theorem dksX1_gains_5 : cX1_gains.data.toList.drop 117 = dktX1_gains_5 := dk_seg dksX1_gains_4 24 rfl rfl
theorem dX1_gains_0 : decode cX1_gains 0 = .ok (.aload_n 0, 1) := dk_42 (dk_at dksX1_gains_0 0 rfl rfl)
theorem dX1_gains_1 : decode cX1_gains 1 = .ok (.getfield 35, 3) := dk_180 0 35 (dk_at dksX1_gains_0 1 rfl rfl)
theorem dX1_gains_4 : decode cX1_gains 4 = .ok (.aload_n 0, 1) := dk_42 (dk_at dksX1_gains_0 4 rfl rfl)
theorem dX1_gains_5 : decode cX1_gains 5 = .ok (.getfield 31, 3) := dk_180 0 31 (dk_at dksX1_gains_0 5 rfl rfl)
theorem dX1_gains_8 : decode cX1_gains 8 = .ok (.invokevirtual 221, 3) := dk_182 0 221 (dk_at dksX1_gains_0 8 rfl rfl)
theorem dX1_gains_11 : decode cX1_gains 11 = .ok (.pop, 1) := dk_87 (dk_at dksX1_gains_0 11 rfl rfl)
theorem dX1_gains_12 : decode cX1_gains 12 = .ok (.iload_n 3, 1) := dk_29 (dk_at dksX1_gains_0 12 rfl rfl)
theorem dX1_gains_13 : decode cX1_gains 13 = .ok (.iconst 1, 1) := dk_4 (dk_at dksX1_gains_0 13 rfl rfl)
theorem dX1_gains_14 : decode cX1_gains 14 = .ok (.if_icmp .ne 18, 3) := dk_160 0 18 (dk_at dksX1_gains_0 14 rfl rfl)
theorem dX1_gains_17 : decode cX1_gains 17 = .ok (.aload_n 0, 1) := dk_42 (dk_at dksX1_gains_0 17 rfl rfl)
theorem dX1_gains_18 : decode cX1_gains 18 = .ok (.getfield 35, 3) := dk_180 0 35 (dk_at dksX1_gains_0 18 rfl rfl)
theorem dX1_gains_21 : decode cX1_gains 21 = .ok (.dup, 1) := dk_89 (dk_at dksX1_gains_0 21 rfl rfl)
theorem dX1_gains_22 : decode cX1_gains 22 = .ok (.getfield 143, 3) := dk_180 0 143 (dk_at dksX1_gains_1 0 rfl rfl)
theorem dX1_gains_25 : decode cX1_gains 25 = .ok (.iconst 1, 1) := dk_4 (dk_at dksX1_gains_1 3 rfl rfl)
theorem dX1_gains_26 : decode cX1_gains 26 = .ok (.iload_n 1, 1) := dk_27 (dk_at dksX1_gains_1 4 rfl rfl)
theorem dX1_gains_27 : decode cX1_gains 27 = .ok (.ishl, 1) := dk_120 (dk_at dksX1_gains_1 5 rfl rfl)
theorem dX1_gains_28 : decode cX1_gains 28 = .ok (.ior, 1) := dk_128 (dk_at dksX1_gains_1 6 rfl rfl)
theorem dX1_gains_29 : decode cX1_gains 29 = .ok (.putfield 143, 3) := dk_181 0 143 (dk_at dksX1_gains_1 7 rfl rfl)
theorem dX1_gains_32 : decode cX1_gains 32 = .ok (.iload 4, 2) := dk_21 4 (dk_at dksX1_gains_1 10 rfl rfl)
theorem dX1_gains_34 : decode cX1_gains 34 = .ok (.iconst 1, 1) := dk_4 (dk_at dksX1_gains_1 12 rfl rfl)
theorem dX1_gains_35 : decode cX1_gains 35 = .ok (.if_icmp .ne 18, 3) := dk_160 0 18 (dk_at dksX1_gains_1 13 rfl rfl)
theorem dX1_gains_38 : decode cX1_gains 38 = .ok (.aload_n 0, 1) := dk_42 (dk_at dksX1_gains_1 16 rfl rfl)
theorem dX1_gains_39 : decode cX1_gains 39 = .ok (.getfield 35, 3) := dk_180 0 35 (dk_at dksX1_gains_1 17 rfl rfl)
theorem dX1_gains_42 : decode cX1_gains 42 = .ok (.dup, 1) := dk_89 (dk_at dksX1_gains_1 20 rfl rfl)
theorem dX1_gains_43 : decode cX1_gains 43 = .ok (.getfield 143, 3) := dk_180 0 143 (dk_at dksX1_gains_1 21 rfl rfl)
theorem dX1_gains_46 : decode cX1_gains 46 = .ok (.iconst 1, 1) := dk_4 (dk_at dksX1_gains_2 0 rfl rfl)
theorem dX1_gains_47 : decode cX1_gains 47 = .ok (.iload_n 2, 1) := dk_28 (dk_at dksX1_gains_2 1 rfl rfl)
theorem dX1_gains_48 : decode cX1_gains 48 = .ok (.ishl, 1) := dk_120 (dk_at dksX1_gains_2 2 rfl rfl)
theorem dX1_gains_49 : decode cX1_gains 49 = .ok (.ior, 1) := dk_128 (dk_at dksX1_gains_2 3 rfl rfl)
theorem dX1_gains_50 : decode cX1_gains 50 = .ok (.putfield 143, 3) := dk_181 0 143 (dk_at dksX1_gains_2 4 rfl rfl)
theorem dX1_gains_53 : decode cX1_gains 53 = .ok (.aload_n 0, 1) := dk_42 (dk_at dksX1_gains_2 7 rfl rfl)
theorem dX1_gains_54 : decode cX1_gains 54 = .ok (.getfield 35, 3) := dk_180 0 35 (dk_at dksX1_gains_2 8 rfl rfl)
theorem dX1_gains_57 : decode cX1_gains 57 = .ok (.bipush 12, 2) := dk_16 12 (dk_at dksX1_gains_2 11 rfl rfl)
theorem dX1_gains_59 : decode cX1_gains 59 = .ok (.invokevirtual 198, 3) := dk_182 0 198 (dk_at dksX1_gains_2 13 rfl rfl)
theorem dX1_gains_62 : decode cX1_gains 62 = .ok (.pop, 1) := dk_87 (dk_at dksX1_gains_2 16 rfl rfl)
theorem dX1_gains_63 : decode cX1_gains 63 = .ok (.aload_n 0, 1) := dk_42 (dk_at dksX1_gains_2 17 rfl rfl)
theorem dX1_gains_64 : decode cX1_gains 64 = .ok (.getfield 35, 3) := dk_180 0 35 (dk_at dksX1_gains_2 18 rfl rfl)
theorem dX1_gains_67 : decode cX1_gains 67 = .ok (.getfield 175, 3) := dk_180 0 175 (dk_at dksX1_gains_2 21 rfl rfl)
theorem dX1_gains_70 : decode cX1_gains 70 = .ok (.iload_n 1, 1) := dk_27 (dk_at dksX1_gains_3 0 rfl rfl)
theorem dX1_gains_71 : decode cX1_gains 71 = .ok (.iaload, 1) := dk_46 (dk_at dksX1_gains_3 1 rfl rfl)
theorem dX1_gains_72 : decode cX1_gains 72 = .ok (.aload_n 0, 1) := dk_42 (dk_at dksX1_gains_3 2 rfl rfl)
theorem dX1_gains_73 : decode cX1_gains 73 = .ok (.getfield 31, 3) := dk_180 0 31 (dk_at dksX1_gains_3 3 rfl rfl)
theorem dX1_gains_76 : decode cX1_gains 76 = .ok (.getfield 175, 3) := dk_180 0 175 (dk_at dksX1_gains_3 6 rfl rfl)
theorem dX1_gains_79 : decode cX1_gains 79 = .ok (.iload_n 1, 1) := dk_27 (dk_at dksX1_gains_3 9 rfl rfl)
theorem dX1_gains_80 : decode cX1_gains 80 = .ok (.iaload, 1) := dk_46 (dk_at dksX1_gains_3 10 rfl rfl)
theorem dX1_gains_81 : decode cX1_gains 81 = .ok (.isub, 1) := dk_100 (dk_at dksX1_gains_3 11 rfl rfl)
theorem dX1_gains_82 : decode cX1_gains 82 = .ok (.aload_n 0, 1) := dk_42 (dk_at dksX1_gains_3 12 rfl rfl)
theorem dX1_gains_83 : decode cX1_gains 83 = .ok (.getfield 35, 3) := dk_180 0 35 (dk_at dksX1_gains_3 13 rfl rfl)
theorem dX1_gains_86 : decode cX1_gains 86 = .ok (.getfield 175, 3) := dk_180 0 175 (dk_at dksX1_gains_3 16 rfl rfl)
theorem dX1_gains_89 : decode cX1_gains 89 = .ok (.iload_n 2, 1) := dk_28 (dk_at dksX1_gains_3 19 rfl rfl)
theorem dX1_gains_90 : decode cX1_gains 90 = .ok (.iaload, 1) := dk_46 (dk_at dksX1_gains_3 20 rfl rfl)
theorem dX1_gains_91 : decode cX1_gains 91 = .ok (.isub, 1) := dk_100 (dk_at dksX1_gains_3 21 rfl rfl)
theorem dX1_gains_92 : decode cX1_gains 92 = .ok (.aload_n 0, 1) := dk_42 (dk_at dksX1_gains_3 22 rfl rfl)
theorem dX1_gains_93 : decode cX1_gains 93 = .ok (.getfield 31, 3) := dk_180 0 31 (dk_at dksX1_gains_4 0 rfl rfl)
theorem dX1_gains_96 : decode cX1_gains 96 = .ok (.getfield 175, 3) := dk_180 0 175 (dk_at dksX1_gains_4 3 rfl rfl)
theorem dX1_gains_99 : decode cX1_gains 99 = .ok (.iload_n 2, 1) := dk_28 (dk_at dksX1_gains_4 6 rfl rfl)
theorem dX1_gains_100 : decode cX1_gains 100 = .ok (.iaload, 1) := dk_46 (dk_at dksX1_gains_4 7 rfl rfl)
theorem dX1_gains_101 : decode cX1_gains 101 = .ok (.iadd, 1) := dk_96 (dk_at dksX1_gains_4 8 rfl rfl)
theorem dX1_gains_102 : decode cX1_gains 102 = .ok (.istore 5, 2) := dk_54 5 (dk_at dksX1_gains_4 9 rfl rfl)
theorem dX1_gains_104 : decode cX1_gains 104 = .ok (.iconst 2, 1) := dk_5 (dk_at dksX1_gains_4 11 rfl rfl)
theorem dX1_gains_105 : decode cX1_gains 105 = .ok (.newarray .int, 2) := dk_188_10 (dk_at dksX1_gains_4 12 rfl rfl)
theorem dX1_gains_107 : decode cX1_gains 107 = .ok (.dup, 1) := dk_89 (dk_at dksX1_gains_4 14 rfl rfl)
theorem dX1_gains_108 : decode cX1_gains 108 = .ok (.iconst 0, 1) := dk_3 (dk_at dksX1_gains_4 15 rfl rfl)
theorem dX1_gains_109 : decode cX1_gains 109 = .ok (.iload 5, 2) := dk_21 5 (dk_at dksX1_gains_4 16 rfl rfl)
theorem dX1_gains_111 : decode cX1_gains 111 = .ok (.iconst 2, 1) := dk_5 (dk_at dksX1_gains_4 18 rfl rfl)
theorem dX1_gains_112 : decode cX1_gains 112 = .ok (.idiv, 1) := dk_108 (dk_at dksX1_gains_4 19 rfl rfl)
theorem dX1_gains_113 : decode cX1_gains 113 = .ok (.iload_n 3, 1) := dk_29 (dk_at dksX1_gains_4 20 rfl rfl)
theorem dX1_gains_114 : decode cX1_gains 114 = .ok (.isub, 1) := dk_100 (dk_at dksX1_gains_4 21 rfl rfl)
theorem dX1_gains_115 : decode cX1_gains 115 = .ok (.iastore, 1) := dk_79 (dk_at dksX1_gains_4 22 rfl rfl)
theorem dX1_gains_116 : decode cX1_gains 116 = .ok (.dup, 1) := dk_89 (dk_at dksX1_gains_4 23 rfl rfl)
theorem dX1_gains_117 : decode cX1_gains 117 = .ok (.iconst 1, 1) := dk_4 (dk_at dksX1_gains_5 0 rfl rfl)
theorem dX1_gains_118 : decode cX1_gains 118 = .ok (.iload 5, 2) := dk_21 5 (dk_at dksX1_gains_5 1 rfl rfl)
theorem dX1_gains_120 : decode cX1_gains 120 = .ok (.ineg, 1) := dk_116 (dk_at dksX1_gains_5 3 rfl rfl)
theorem dX1_gains_121 : decode cX1_gains 121 = .ok (.iconst 2, 1) := dk_5 (dk_at dksX1_gains_5 4 rfl rfl)
theorem dX1_gains_122 : decode cX1_gains 122 = .ok (.idiv, 1) := dk_108 (dk_at dksX1_gains_5 5 rfl rfl)
theorem dX1_gains_123 : decode cX1_gains 123 = .ok (.iload 4, 2) := dk_21 4 (dk_at dksX1_gains_5 6 rfl rfl)
theorem dX1_gains_125 : decode cX1_gains 125 = .ok (.isub, 1) := dk_100 (dk_at dksX1_gains_5 8 rfl rfl)
theorem dX1_gains_126 : decode cX1_gains 126 = .ok (.iastore, 1) := dk_79 (dk_at dksX1_gains_5 9 rfl rfl)
theorem dX1_gains_127 : decode cX1_gains 127 = .ok (.areturn, 1) := dk_176 (dk_at dksX1_gains_5 10 rfl rfl)
abbrev cX1_years : ByteArray := prog_1_method_56_code
def yX1_years : MethodName := ⟨RX1, "years", "(III)I"⟩
def dkwX1_years_6 : List UInt8 := [182, 0, 97, 21, 5, 184, 0, 249, 100, 172]
abbrev dktX1_years_6 : List UInt8 := dkwX1_years_6 ++ []
def dkwX1_years_5 : List UInt8 := [167, 0, 31, 29, 4, 160, 0, 13, 42, 180, 0, 35, 182, 0, 146, 167, 0, 16, 42, 180, 0, 22]
abbrev dktX1_years_5 : List UInt8 := dkwX1_years_5 ++ dktX1_years_6
def dkwX1_years_4 : List UInt8 := [21, 7, 46, 96, 54, 4, 132, 7, 1, 167, 255, 226, 132, 6, 1, 167, 255, 192, 29, 154, 0, 8, 21, 4]
abbrev dktX1_years_4 : List UInt8 := dkwX1_years_4 ++ dktX1_years_5
def dkwX1_years_3 : List UInt8 := [54, 7, 21, 7, 42, 180, 0, 22, 182, 0, 97, 162, 0, 24, 21, 4, 42, 180, 0, 35, 180, 1, 48]
abbrev dktX1_years_3 : List UInt8 := dkwX1_years_3 ++ dktX1_years_4
def dkwX1_years_2 : List UInt8 := [162, 0, 64, 42, 182, 1, 45, 21, 5, 42, 180, 0, 35, 182, 0, 237, 180, 0, 231, 128, 54, 5, 3]
abbrev dktX1_years_2 : List UInt8 := dkwX1_years_2 ++ dktX1_years_3
def dkwX1_years_1 : List UInt8 := [180, 0, 35, 42, 180, 0, 31, 182, 0, 221, 87, 3, 54, 4, 3, 54, 5, 3, 54, 6, 21, 6, 28]
abbrev dktX1_years_1 : List UInt8 := dkwX1_years_1 ++ dktX1_years_2
def dkwX1_years_0 : List UInt8 := [29, 5, 184, 0, 225, 28, 3, 17, 0, 200, 184, 0, 161, 184, 0, 62, 42, 27, 181, 1, 38, 42]
abbrev dktX1_years_0 : List UInt8 := dkwX1_years_0 ++ dktX1_years_1
theorem dksX1_years_0 : cX1_years.data.toList.drop 0 = dktX1_years_0 := by decide +kernel
theorem dksX1_years_1 : cX1_years.data.toList.drop 22 = dktX1_years_1 := dk_seg dksX1_years_0 22 rfl rfl
theorem dksX1_years_2 : cX1_years.data.toList.drop 45 = dktX1_years_2 := dk_seg dksX1_years_1 23 rfl rfl
theorem dksX1_years_3 : cX1_years.data.toList.drop 68 = dktX1_years_3 := dk_seg dksX1_years_2 23 rfl rfl
theorem dksX1_years_4 : cX1_years.data.toList.drop 91 = dktX1_years_4 := dk_seg dksX1_years_3 23 rfl rfl
theorem dksX1_years_5 : cX1_years.data.toList.drop 115 = dktX1_years_5 := dk_seg dksX1_years_4 24 rfl rfl
theorem dksX1_years_6 : cX1_years.data.toList.drop 137 = dktX1_years_6 := dk_seg dksX1_years_5 22 rfl rfl
theorem dX1_years_0 : decode cX1_years 0 = .ok (.iload_n 3, 1) := dk_29 (dk_at dksX1_years_0 0 rfl rfl)
theorem dX1_years_1 : decode cX1_years 1 = .ok (.iconst 2, 1) := dk_5 (dk_at dksX1_years_0 1 rfl rfl)
theorem dX1_years_2 : decode cX1_years 2 = .ok (.invokestatic 225, 3) := dk_184 0 225 (dk_at dksX1_years_0 2 rfl rfl)
theorem dX1_years_5 : decode cX1_years 5 = .ok (.iload_n 2, 1) := dk_28 (dk_at dksX1_years_0 5 rfl rfl)
theorem dX1_years_6 : decode cX1_years 6 = .ok (.iconst 0, 1) := dk_3 (dk_at dksX1_years_0 6 rfl rfl)
theorem dX1_years_7 : decode cX1_years 7 = .ok (.sipush 200, 3) := dk_17 0 200 (dk_at dksX1_years_0 7 rfl rfl)
theorem dX1_years_10 : decode cX1_years 10 = .ok (.invokestatic 161, 3) := dk_184 0 161 (dk_at dksX1_years_0 10 rfl rfl)
theorem dX1_years_13 : decode cX1_years 13 = .ok (.invokestatic 62, 3) := dk_184 0 62 (dk_at dksX1_years_0 13 rfl rfl)
theorem dX1_years_16 : decode cX1_years 16 = .ok (.aload_n 0, 1) := dk_42 (dk_at dksX1_years_0 16 rfl rfl)
theorem dX1_years_17 : decode cX1_years 17 = .ok (.iload_n 1, 1) := dk_27 (dk_at dksX1_years_0 17 rfl rfl)
theorem dX1_years_18 : decode cX1_years 18 = .ok (.putfield 294, 3) := dk_181 1 38 (dk_at dksX1_years_0 18 rfl rfl)
theorem dX1_years_21 : decode cX1_years 21 = .ok (.aload_n 0, 1) := dk_42 (dk_at dksX1_years_0 21 rfl rfl)
theorem dX1_years_22 : decode cX1_years 22 = .ok (.getfield 35, 3) := dk_180 0 35 (dk_at dksX1_years_1 0 rfl rfl)
theorem dX1_years_25 : decode cX1_years 25 = .ok (.aload_n 0, 1) := dk_42 (dk_at dksX1_years_1 3 rfl rfl)
theorem dX1_years_26 : decode cX1_years 26 = .ok (.getfield 31, 3) := dk_180 0 31 (dk_at dksX1_years_1 4 rfl rfl)
theorem dX1_years_29 : decode cX1_years 29 = .ok (.invokevirtual 221, 3) := dk_182 0 221 (dk_at dksX1_years_1 7 rfl rfl)
theorem dX1_years_32 : decode cX1_years 32 = .ok (.pop, 1) := dk_87 (dk_at dksX1_years_1 10 rfl rfl)
theorem dX1_years_33 : decode cX1_years 33 = .ok (.iconst 0, 1) := dk_3 (dk_at dksX1_years_1 11 rfl rfl)
theorem dX1_years_34 : decode cX1_years 34 = .ok (.istore 4, 2) := dk_54 4 (dk_at dksX1_years_1 12 rfl rfl)
theorem dX1_years_36 : decode cX1_years 36 = .ok (.iconst 0, 1) := dk_3 (dk_at dksX1_years_1 14 rfl rfl)
theorem dX1_years_37 : decode cX1_years 37 = .ok (.istore 5, 2) := dk_54 5 (dk_at dksX1_years_1 15 rfl rfl)
theorem dX1_years_39 : decode cX1_years 39 = .ok (.iconst 0, 1) := dk_3 (dk_at dksX1_years_1 17 rfl rfl)
theorem dX1_years_40 : decode cX1_years 40 = .ok (.istore 6, 2) := dk_54 6 (dk_at dksX1_years_1 18 rfl rfl)
theorem dX1_years_42 : decode cX1_years 42 = .ok (.iload 6, 2) := dk_21 6 (dk_at dksX1_years_1 20 rfl rfl)
theorem dX1_years_44 : decode cX1_years 44 = .ok (.iload_n 2, 1) := dk_28 (dk_at dksX1_years_1 22 rfl rfl)
theorem dX1_years_45 : decode cX1_years 45 = .ok (.if_icmp .ge 64, 3) := dk_162 0 64 (dk_at dksX1_years_2 0 rfl rfl)
theorem dX1_years_48 : decode cX1_years 48 = .ok (.aload_n 0, 1) := dk_42 (dk_at dksX1_years_2 3 rfl rfl)
theorem dX1_years_49 : decode cX1_years 49 = .ok (.invokevirtual 301, 3) := dk_182 1 45 (dk_at dksX1_years_2 4 rfl rfl)
theorem dX1_years_52 : decode cX1_years 52 = .ok (.iload 5, 2) := dk_21 5 (dk_at dksX1_years_2 7 rfl rfl)
theorem dX1_years_54 : decode cX1_years 54 = .ok (.aload_n 0, 1) := dk_42 (dk_at dksX1_years_2 9 rfl rfl)
theorem dX1_years_55 : decode cX1_years 55 = .ok (.getfield 35, 3) := dk_180 0 35 (dk_at dksX1_years_2 10 rfl rfl)
theorem dX1_years_58 : decode cX1_years 58 = .ok (.invokevirtual 237, 3) := dk_182 0 237 (dk_at dksX1_years_2 13 rfl rfl)
theorem dX1_years_61 : decode cX1_years 61 = .ok (.getfield 231, 3) := dk_180 0 231 (dk_at dksX1_years_2 16 rfl rfl)
theorem dX1_years_64 : decode cX1_years 64 = .ok (.ior, 1) := dk_128 (dk_at dksX1_years_2 19 rfl rfl)
theorem dX1_years_65 : decode cX1_years 65 = .ok (.istore 5, 2) := dk_54 5 (dk_at dksX1_years_2 20 rfl rfl)
theorem dX1_years_67 : decode cX1_years 67 = .ok (.iconst 0, 1) := dk_3 (dk_at dksX1_years_2 22 rfl rfl)
theorem dX1_years_68 : decode cX1_years 68 = .ok (.istore 7, 2) := dk_54 7 (dk_at dksX1_years_3 0 rfl rfl)
theorem dX1_years_70 : decode cX1_years 70 = .ok (.iload 7, 2) := dk_21 7 (dk_at dksX1_years_3 2 rfl rfl)
theorem dX1_years_72 : decode cX1_years 72 = .ok (.aload_n 0, 1) := dk_42 (dk_at dksX1_years_3 4 rfl rfl)
theorem dX1_years_73 : decode cX1_years 73 = .ok (.getfield 22, 3) := dk_180 0 22 (dk_at dksX1_years_3 5 rfl rfl)
theorem dX1_years_76 : decode cX1_years 76 = .ok (.invokevirtual 97, 3) := dk_182 0 97 (dk_at dksX1_years_3 8 rfl rfl)
theorem dX1_years_79 : decode cX1_years 79 = .ok (.if_icmp .ge 24, 3) := dk_162 0 24 (dk_at dksX1_years_3 11 rfl rfl)
theorem dX1_years_82 : decode cX1_years 82 = .ok (.iload 4, 2) := dk_21 4 (dk_at dksX1_years_3 14 rfl rfl)
theorem dX1_years_84 : decode cX1_years 84 = .ok (.aload_n 0, 1) := dk_42 (dk_at dksX1_years_3 16 rfl rfl)
theorem dX1_years_85 : decode cX1_years 85 = .ok (.getfield 35, 3) := dk_180 0 35 (dk_at dksX1_years_3 17 rfl rfl)
theorem dX1_years_88 : decode cX1_years 88 = .ok (.getfield 304, 3) := dk_180 1 48 (dk_at dksX1_years_3 20 rfl rfl)
theorem dX1_years_91 : decode cX1_years 91 = .ok (.iload 7, 2) := dk_21 7 (dk_at dksX1_years_4 0 rfl rfl)
theorem dX1_years_93 : decode cX1_years 93 = .ok (.iaload, 1) := dk_46 (dk_at dksX1_years_4 2 rfl rfl)
theorem dX1_years_94 : decode cX1_years 94 = .ok (.iadd, 1) := dk_96 (dk_at dksX1_years_4 3 rfl rfl)
theorem dX1_years_95 : decode cX1_years 95 = .ok (.istore 4, 2) := dk_54 4 (dk_at dksX1_years_4 4 rfl rfl)
theorem dX1_years_97 : decode cX1_years 97 = .ok (.iinc 7 1, 3) := dk_132 7 1 (dk_at dksX1_years_4 6 rfl rfl)
theorem dX1_years_100 : decode cX1_years 100 = .ok (.goto (-30), 3) := dk_167 255 226 (dk_at dksX1_years_4 9 rfl rfl)
theorem dX1_years_103 : decode cX1_years 103 = .ok (.iinc 6 1, 3) := dk_132 6 1 (dk_at dksX1_years_4 12 rfl rfl)
theorem dX1_years_106 : decode cX1_years 106 = .ok (.goto (-64), 3) := dk_167 255 192 (dk_at dksX1_years_4 15 rfl rfl)
theorem dX1_years_109 : decode cX1_years 109 = .ok (.iload_n 3, 1) := dk_29 (dk_at dksX1_years_4 18 rfl rfl)
theorem dX1_years_110 : decode cX1_years 110 = .ok (.ifCond .ne 8, 3) := dk_154 0 8 (dk_at dksX1_years_4 19 rfl rfl)
theorem dX1_years_113 : decode cX1_years 113 = .ok (.iload 4, 2) := dk_21 4 (dk_at dksX1_years_4 22 rfl rfl)
theorem dX1_years_115 : decode cX1_years 115 = .ok (.goto 31, 3) := dk_167 0 31 (dk_at dksX1_years_5 0 rfl rfl)
theorem dX1_years_118 : decode cX1_years 118 = .ok (.iload_n 3, 1) := dk_29 (dk_at dksX1_years_5 3 rfl rfl)
theorem dX1_years_119 : decode cX1_years 119 = .ok (.iconst 1, 1) := dk_4 (dk_at dksX1_years_5 4 rfl rfl)
theorem dX1_years_120 : decode cX1_years 120 = .ok (.if_icmp .ne 13, 3) := dk_160 0 13 (dk_at dksX1_years_5 5 rfl rfl)
theorem dX1_years_123 : decode cX1_years 123 = .ok (.aload_n 0, 1) := dk_42 (dk_at dksX1_years_5 8 rfl rfl)
theorem dX1_years_124 : decode cX1_years 124 = .ok (.getfield 35, 3) := dk_180 0 35 (dk_at dksX1_years_5 9 rfl rfl)
theorem dX1_years_127 : decode cX1_years 127 = .ok (.invokevirtual 146, 3) := dk_182 0 146 (dk_at dksX1_years_5 12 rfl rfl)
theorem dX1_years_130 : decode cX1_years 130 = .ok (.goto 16, 3) := dk_167 0 16 (dk_at dksX1_years_5 15 rfl rfl)
theorem dX1_years_133 : decode cX1_years 133 = .ok (.aload_n 0, 1) := dk_42 (dk_at dksX1_years_5 18 rfl rfl)
theorem dX1_years_134 : decode cX1_years 134 = .ok (.getfield 22, 3) := dk_180 0 22 (dk_at dksX1_years_5 19 rfl rfl)
theorem dX1_years_137 : decode cX1_years 137 = .ok (.invokevirtual 97, 3) := dk_182 0 97 (dk_at dksX1_years_6 0 rfl rfl)
theorem dX1_years_140 : decode cX1_years 140 = .ok (.iload 5, 2) := dk_21 5 (dk_at dksX1_years_6 3 rfl rfl)
theorem dX1_years_142 : decode cX1_years 142 = .ok (.invokestatic 249, 3) := dk_184 0 249 (dk_at dksX1_years_6 5 rfl rfl)
theorem dX1_years_145 : decode cX1_years 145 = .ok (.isub, 1) := dk_100 (dk_at dksX1_years_6 8 rfl rfl)
theorem dX1_years_146 : decode cX1_years 146 = .ok (.ireturn, 1) := dk_172 (dk_at dksX1_years_6 9 rfl rfl)
abbrev cX1_befalls : ByteArray := prog_1_method_55_code
def yX1_befalls : MethodName := ⟨RX1, "befalls", "()V"⟩
def dkwX1_befalls_4 : List UInt8 := [28, 29, 28, 164, 0, 7, 29, 167, 0, 4, 2, 182, 0, 208, 177]
abbrev dktX1_befalls_4 : List UInt8 := dkwX1_befalls_4 ++ []
def dkwX1_befalls_3 : List UInt8 := [182, 0, 215, 27, 5, 160, 0, 33, 42, 42, 180, 0, 22, 182, 0, 97, 182, 1, 42, 62, 42, 180, 0, 35]
abbrev dktX1_befalls_3 : List UInt8 := dkwX1_befalls_3 ++ dktX1_befalls_4
def dkwX1_befalls_2 : List UInt8 := [28, 120, 130, 181, 0, 143, 27, 4, 160, 0, 19, 42, 180, 0, 35, 28, 42, 16, 30, 182, 1, 42, 4, 96]
abbrev dktX1_befalls_2 : List UInt8 := dkwX1_befalls_2 ++ dktX1_befalls_3
def dkwX1_befalls_1 : List UInt8 := [42, 180, 0, 22, 182, 0, 97, 182, 1, 42, 61, 27, 154, 0, 18, 42, 180, 0, 35, 89, 180, 0, 143, 4]
abbrev dktX1_befalls_1 : List UInt8 := dkwX1_befalls_1 ++ dktX1_befalls_2
def dkwX1_befalls_0 : List UInt8 := [42, 16, 6, 182, 1, 42, 60, 27, 5, 163, 0, 13, 42, 180, 0, 22, 182, 0, 97, 154, 0, 4, 177, 42]
abbrev dktX1_befalls_0 : List UInt8 := dkwX1_befalls_0 ++ dktX1_befalls_1
theorem dksX1_befalls_0 : cX1_befalls.data.toList.drop 0 = dktX1_befalls_0 := by decide +kernel
theorem dksX1_befalls_1 : cX1_befalls.data.toList.drop 24 = dktX1_befalls_1 := dk_seg dksX1_befalls_0 24 rfl rfl
theorem dksX1_befalls_2 : cX1_befalls.data.toList.drop 48 = dktX1_befalls_2 := dk_seg dksX1_befalls_1 24 rfl rfl
theorem dksX1_befalls_3 : cX1_befalls.data.toList.drop 72 = dktX1_befalls_3 := dk_seg dksX1_befalls_2 24 rfl rfl
theorem dksX1_befalls_4 : cX1_befalls.data.toList.drop 96 = dktX1_befalls_4 := dk_seg dksX1_befalls_3 24 rfl rfl
theorem dX1_befalls_0 : decode cX1_befalls 0 = .ok (.aload_n 0, 1) := dk_42 (dk_at dksX1_befalls_0 0 rfl rfl)
theorem dX1_befalls_1 : decode cX1_befalls 1 = .ok (.bipush 6, 2) := dk_16 6 (dk_at dksX1_befalls_0 1 rfl rfl)
theorem dX1_befalls_3 : decode cX1_befalls 3 = .ok (.invokevirtual 298, 3) := dk_182 1 42 (dk_at dksX1_befalls_0 3 rfl rfl)
theorem dX1_befalls_6 : decode cX1_befalls 6 = .ok (.istore_n 1, 1) := dk_60 (dk_at dksX1_befalls_0 6 rfl rfl)
theorem dX1_befalls_7 : decode cX1_befalls 7 = .ok (.iload_n 1, 1) := dk_27 (dk_at dksX1_befalls_0 7 rfl rfl)
theorem dX1_befalls_8 : decode cX1_befalls 8 = .ok (.iconst 2, 1) := dk_5 (dk_at dksX1_befalls_0 8 rfl rfl)
theorem dX1_befalls_9 : decode cX1_befalls 9 = .ok (.if_icmp .gt 13, 3) := dk_163 0 13 (dk_at dksX1_befalls_0 9 rfl rfl)
theorem dX1_befalls_12 : decode cX1_befalls 12 = .ok (.aload_n 0, 1) := dk_42 (dk_at dksX1_befalls_0 12 rfl rfl)
theorem dX1_befalls_13 : decode cX1_befalls 13 = .ok (.getfield 22, 3) := dk_180 0 22 (dk_at dksX1_befalls_0 13 rfl rfl)
theorem dX1_befalls_16 : decode cX1_befalls 16 = .ok (.invokevirtual 97, 3) := dk_182 0 97 (dk_at dksX1_befalls_0 16 rfl rfl)
theorem dX1_befalls_19 : decode cX1_befalls 19 = .ok (.ifCond .ne 4, 3) := dk_154 0 4 (dk_at dksX1_befalls_0 19 rfl rfl)
theorem dX1_befalls_22 : decode cX1_befalls 22 = .ok (.return_, 1) := dk_177 (dk_at dksX1_befalls_0 22 rfl rfl)
theorem dX1_befalls_23 : decode cX1_befalls 23 = .ok (.aload_n 0, 1) := dk_42 (dk_at dksX1_befalls_0 23 rfl rfl)
theorem dX1_befalls_24 : decode cX1_befalls 24 = .ok (.aload_n 0, 1) := dk_42 (dk_at dksX1_befalls_1 0 rfl rfl)
theorem dX1_befalls_25 : decode cX1_befalls 25 = .ok (.getfield 22, 3) := dk_180 0 22 (dk_at dksX1_befalls_1 1 rfl rfl)
theorem dX1_befalls_28 : decode cX1_befalls 28 = .ok (.invokevirtual 97, 3) := dk_182 0 97 (dk_at dksX1_befalls_1 4 rfl rfl)
theorem dX1_befalls_31 : decode cX1_befalls 31 = .ok (.invokevirtual 298, 3) := dk_182 1 42 (dk_at dksX1_befalls_1 7 rfl rfl)
theorem dX1_befalls_34 : decode cX1_befalls 34 = .ok (.istore_n 2, 1) := dk_61 (dk_at dksX1_befalls_1 10 rfl rfl)
theorem dX1_befalls_35 : decode cX1_befalls 35 = .ok (.iload_n 1, 1) := dk_27 (dk_at dksX1_befalls_1 11 rfl rfl)
theorem dX1_befalls_36 : decode cX1_befalls 36 = .ok (.ifCond .ne 18, 3) := dk_154 0 18 (dk_at dksX1_befalls_1 12 rfl rfl)
theorem dX1_befalls_39 : decode cX1_befalls 39 = .ok (.aload_n 0, 1) := dk_42 (dk_at dksX1_befalls_1 15 rfl rfl)
theorem dX1_befalls_40 : decode cX1_befalls 40 = .ok (.getfield 35, 3) := dk_180 0 35 (dk_at dksX1_befalls_1 16 rfl rfl)
theorem dX1_befalls_43 : decode cX1_befalls 43 = .ok (.dup, 1) := dk_89 (dk_at dksX1_befalls_1 19 rfl rfl)
theorem dX1_befalls_44 : decode cX1_befalls 44 = .ok (.getfield 143, 3) := dk_180 0 143 (dk_at dksX1_befalls_1 20 rfl rfl)
theorem dX1_befalls_47 : decode cX1_befalls 47 = .ok (.iconst 1, 1) := dk_4 (dk_at dksX1_befalls_1 23 rfl rfl)
theorem dX1_befalls_48 : decode cX1_befalls 48 = .ok (.iload_n 2, 1) := dk_28 (dk_at dksX1_befalls_2 0 rfl rfl)
theorem dX1_befalls_49 : decode cX1_befalls 49 = .ok (.ishl, 1) := dk_120 (dk_at dksX1_befalls_2 1 rfl rfl)
theorem dX1_befalls_50 : decode cX1_befalls 50 = .ok (.ixor, 1) := dk_130 (dk_at dksX1_befalls_2 2 rfl rfl)
theorem dX1_befalls_51 : decode cX1_befalls 51 = .ok (.putfield 143, 3) := dk_181 0 143 (dk_at dksX1_befalls_2 3 rfl rfl)
theorem dX1_befalls_54 : decode cX1_befalls 54 = .ok (.iload_n 1, 1) := dk_27 (dk_at dksX1_befalls_2 6 rfl rfl)
theorem dX1_befalls_55 : decode cX1_befalls 55 = .ok (.iconst 1, 1) := dk_4 (dk_at dksX1_befalls_2 7 rfl rfl)
theorem dX1_befalls_56 : decode cX1_befalls 56 = .ok (.if_icmp .ne 19, 3) := dk_160 0 19 (dk_at dksX1_befalls_2 8 rfl rfl)
theorem dX1_befalls_59 : decode cX1_befalls 59 = .ok (.aload_n 0, 1) := dk_42 (dk_at dksX1_befalls_2 11 rfl rfl)
theorem dX1_befalls_60 : decode cX1_befalls 60 = .ok (.getfield 35, 3) := dk_180 0 35 (dk_at dksX1_befalls_2 12 rfl rfl)
theorem dX1_befalls_63 : decode cX1_befalls 63 = .ok (.iload_n 2, 1) := dk_28 (dk_at dksX1_befalls_2 15 rfl rfl)
theorem dX1_befalls_64 : decode cX1_befalls 64 = .ok (.aload_n 0, 1) := dk_42 (dk_at dksX1_befalls_2 16 rfl rfl)
theorem dX1_befalls_65 : decode cX1_befalls 65 = .ok (.bipush 30, 2) := dk_16 30 (dk_at dksX1_befalls_2 17 rfl rfl)
theorem dX1_befalls_67 : decode cX1_befalls 67 = .ok (.invokevirtual 298, 3) := dk_182 1 42 (dk_at dksX1_befalls_2 19 rfl rfl)
theorem dX1_befalls_70 : decode cX1_befalls 70 = .ok (.iconst 1, 1) := dk_4 (dk_at dksX1_befalls_2 22 rfl rfl)
theorem dX1_befalls_71 : decode cX1_befalls 71 = .ok (.iadd, 1) := dk_96 (dk_at dksX1_befalls_2 23 rfl rfl)
theorem dX1_befalls_72 : decode cX1_befalls 72 = .ok (.invokevirtual 215, 3) := dk_182 0 215 (dk_at dksX1_befalls_3 0 rfl rfl)
theorem dX1_befalls_75 : decode cX1_befalls 75 = .ok (.iload_n 1, 1) := dk_27 (dk_at dksX1_befalls_3 3 rfl rfl)
theorem dX1_befalls_76 : decode cX1_befalls 76 = .ok (.iconst 2, 1) := dk_5 (dk_at dksX1_befalls_3 4 rfl rfl)
theorem dX1_befalls_77 : decode cX1_befalls 77 = .ok (.if_icmp .ne 33, 3) := dk_160 0 33 (dk_at dksX1_befalls_3 5 rfl rfl)
theorem dX1_befalls_80 : decode cX1_befalls 80 = .ok (.aload_n 0, 1) := dk_42 (dk_at dksX1_befalls_3 8 rfl rfl)
theorem dX1_befalls_81 : decode cX1_befalls 81 = .ok (.aload_n 0, 1) := dk_42 (dk_at dksX1_befalls_3 9 rfl rfl)
theorem dX1_befalls_82 : decode cX1_befalls 82 = .ok (.getfield 22, 3) := dk_180 0 22 (dk_at dksX1_befalls_3 10 rfl rfl)
theorem dX1_befalls_85 : decode cX1_befalls 85 = .ok (.invokevirtual 97, 3) := dk_182 0 97 (dk_at dksX1_befalls_3 13 rfl rfl)
theorem dX1_befalls_88 : decode cX1_befalls 88 = .ok (.invokevirtual 298, 3) := dk_182 1 42 (dk_at dksX1_befalls_3 16 rfl rfl)
theorem dX1_befalls_91 : decode cX1_befalls 91 = .ok (.istore_n 3, 1) := dk_62 (dk_at dksX1_befalls_3 19 rfl rfl)
theorem dX1_befalls_92 : decode cX1_befalls 92 = .ok (.aload_n 0, 1) := dk_42 (dk_at dksX1_befalls_3 20 rfl rfl)
theorem dX1_befalls_93 : decode cX1_befalls 93 = .ok (.getfield 35, 3) := dk_180 0 35 (dk_at dksX1_befalls_3 21 rfl rfl)
theorem dX1_befalls_96 : decode cX1_befalls 96 = .ok (.iload_n 2, 1) := dk_28 (dk_at dksX1_befalls_4 0 rfl rfl)
theorem dX1_befalls_97 : decode cX1_befalls 97 = .ok (.iload_n 3, 1) := dk_29 (dk_at dksX1_befalls_4 1 rfl rfl)
theorem dX1_befalls_98 : decode cX1_befalls 98 = .ok (.iload_n 2, 1) := dk_28 (dk_at dksX1_befalls_4 2 rfl rfl)
theorem dX1_befalls_99 : decode cX1_befalls 99 = .ok (.if_icmp .le 7, 3) := dk_164 0 7 (dk_at dksX1_befalls_4 3 rfl rfl)
theorem dX1_befalls_102 : decode cX1_befalls 102 = .ok (.iload_n 3, 1) := dk_29 (dk_at dksX1_befalls_4 6 rfl rfl)
theorem dX1_befalls_103 : decode cX1_befalls 103 = .ok (.goto 4, 3) := dk_167 0 4 (dk_at dksX1_befalls_4 7 rfl rfl)
theorem dX1_befalls_106 : decode cX1_befalls 106 = .ok (.iconst (-1), 1) := dk_2 (dk_at dksX1_befalls_4 10 rfl rfl)
theorem dX1_befalls_107 : decode cX1_befalls 107 = .ok (.invokevirtual 208, 3) := dk_182 0 208 (dk_at dksX1_befalls_4 11 rfl rfl)
theorem dX1_befalls_110 : decode cX1_befalls 110 = .ok (.return_, 1) := dk_177 (dk_at dksX1_befalls_4 14 rfl rfl)
abbrev cX1_draw : ByteArray := prog_1_method_54_code
def yX1_draw : MethodName := ⟨RX1, "draw", "(I)I"⟩
def dkwX1_draw_1 : List UInt8 := [17, 127, 255, 126, 27, 112, 172]
abbrev dktX1_draw_1 : List UInt8 := dkwX1_draw_1 ++ []
def dkwX1_draw_0 : List UInt8 := [42, 42, 180, 1, 38, 19, 1, 41, 104, 17, 48, 57, 96, 181, 1, 38, 42, 180, 1, 38, 16, 16, 122]
abbrev dktX1_draw_0 : List UInt8 := dkwX1_draw_0 ++ dktX1_draw_1
theorem dksX1_draw_0 : cX1_draw.data.toList.drop 0 = dktX1_draw_0 := by decide +kernel
theorem dksX1_draw_1 : cX1_draw.data.toList.drop 23 = dktX1_draw_1 := dk_seg dksX1_draw_0 23 rfl rfl
theorem dX1_draw_0 : decode cX1_draw 0 = .ok (.aload_n 0, 1) := dk_42 (dk_at dksX1_draw_0 0 rfl rfl)
theorem dX1_draw_1 : decode cX1_draw 1 = .ok (.aload_n 0, 1) := dk_42 (dk_at dksX1_draw_0 1 rfl rfl)
theorem dX1_draw_2 : decode cX1_draw 2 = .ok (.getfield 294, 3) := dk_180 1 38 (dk_at dksX1_draw_0 2 rfl rfl)
theorem dX1_draw_5 : decode cX1_draw 5 = .ok (.ldc_w 297, 3) := dk_19 1 41 (dk_at dksX1_draw_0 5 rfl rfl)
theorem dX1_draw_8 : decode cX1_draw 8 = .ok (.imul, 1) := dk_104 (dk_at dksX1_draw_0 8 rfl rfl)
theorem dX1_draw_9 : decode cX1_draw 9 = .ok (.sipush 12345, 3) := dk_17 48 57 (dk_at dksX1_draw_0 9 rfl rfl)
theorem dX1_draw_12 : decode cX1_draw 12 = .ok (.iadd, 1) := dk_96 (dk_at dksX1_draw_0 12 rfl rfl)
theorem dX1_draw_13 : decode cX1_draw 13 = .ok (.putfield 294, 3) := dk_181 1 38 (dk_at dksX1_draw_0 13 rfl rfl)
theorem dX1_draw_16 : decode cX1_draw 16 = .ok (.aload_n 0, 1) := dk_42 (dk_at dksX1_draw_0 16 rfl rfl)
theorem dX1_draw_17 : decode cX1_draw 17 = .ok (.getfield 294, 3) := dk_180 1 38 (dk_at dksX1_draw_0 17 rfl rfl)
theorem dX1_draw_20 : decode cX1_draw 20 = .ok (.bipush 16, 2) := dk_16 16 (dk_at dksX1_draw_0 20 rfl rfl)
theorem dX1_draw_22 : decode cX1_draw 22 = .ok (.ishr, 1) := dk_122 (dk_at dksX1_draw_0 22 rfl rfl)
theorem dX1_draw_23 : decode cX1_draw 23 = .ok (.sipush 32767, 3) := dk_17 127 255 (dk_at dksX1_draw_1 0 rfl rfl)
theorem dX1_draw_26 : decode cX1_draw 26 = .ok (.iand, 1) := dk_126 (dk_at dksX1_draw_1 3 rfl rfl)
theorem dX1_draw_27 : decode cX1_draw 27 = .ok (.iload_n 1, 1) := dk_27 (dk_at dksX1_draw_1 4 rfl rfl)
theorem dX1_draw_28 : decode cX1_draw 28 = .ok (.irem, 1) := dk_112 (dk_at dksX1_draw_1 5 rfl rfl)
theorem dX1_draw_29 : decode cX1_draw 29 = .ok (.ireturn, 1) := dk_172 (dk_at dksX1_draw_1 6 rfl rfl)
abbrev cX1_later : ByteArray := prog_1_method_57_code
def yX1_later : MethodName := ⟨RX1, "later", "(II)I"⟩
def dkwX1_later_2 : List UInt8 := [182, 1, 54, 167, 0, 10, 42, 180, 0, 35, 180, 1, 57, 172]
abbrev dktX1_later_2 : List UInt8 := dkwX1_later_2 ++ []
def dkwX1_later_1 : List UInt8 := [154, 0, 13, 42, 180, 0, 35, 182, 1, 51, 167, 0, 25, 28, 4, 160, 0, 13, 42, 180, 0, 35]
abbrev dktX1_later_1 : List UInt8 := dkwX1_later_1 ++ dktX1_later_2
def dkwX1_later_0 : List UInt8 := [28, 5, 184, 0, 225, 27, 3, 17, 0, 200, 184, 0, 161, 184, 0, 62, 42, 27, 182, 0, 228, 87, 28]
abbrev dktX1_later_0 : List UInt8 := dkwX1_later_0 ++ dktX1_later_1
theorem dksX1_later_0 : cX1_later.data.toList.drop 0 = dktX1_later_0 := by decide +kernel
theorem dksX1_later_1 : cX1_later.data.toList.drop 23 = dktX1_later_1 := dk_seg dksX1_later_0 23 rfl rfl
theorem dksX1_later_2 : cX1_later.data.toList.drop 45 = dktX1_later_2 := dk_seg dksX1_later_1 22 rfl rfl
theorem dX1_later_0 : decode cX1_later 0 = .ok (.iload_n 2, 1) := dk_28 (dk_at dksX1_later_0 0 rfl rfl)
theorem dX1_later_1 : decode cX1_later 1 = .ok (.iconst 2, 1) := dk_5 (dk_at dksX1_later_0 1 rfl rfl)
theorem dX1_later_2 : decode cX1_later 2 = .ok (.invokestatic 225, 3) := dk_184 0 225 (dk_at dksX1_later_0 2 rfl rfl)
theorem dX1_later_5 : decode cX1_later 5 = .ok (.iload_n 1, 1) := dk_27 (dk_at dksX1_later_0 5 rfl rfl)
theorem dX1_later_6 : decode cX1_later 6 = .ok (.iconst 0, 1) := dk_3 (dk_at dksX1_later_0 6 rfl rfl)
theorem dX1_later_7 : decode cX1_later 7 = .ok (.sipush 200, 3) := dk_17 0 200 (dk_at dksX1_later_0 7 rfl rfl)
theorem dX1_later_10 : decode cX1_later 10 = .ok (.invokestatic 161, 3) := dk_184 0 161 (dk_at dksX1_later_0 10 rfl rfl)
theorem dX1_later_13 : decode cX1_later 13 = .ok (.invokestatic 62, 3) := dk_184 0 62 (dk_at dksX1_later_0 13 rfl rfl)
theorem dX1_later_16 : decode cX1_later 16 = .ok (.aload_n 0, 1) := dk_42 (dk_at dksX1_later_0 16 rfl rfl)
theorem dX1_later_17 : decode cX1_later 17 = .ok (.iload_n 1, 1) := dk_27 (dk_at dksX1_later_0 17 rfl rfl)
theorem dX1_later_18 : decode cX1_later 18 = .ok (.invokevirtual 228, 3) := dk_182 0 228 (dk_at dksX1_later_0 18 rfl rfl)
theorem dX1_later_21 : decode cX1_later 21 = .ok (.pop, 1) := dk_87 (dk_at dksX1_later_0 21 rfl rfl)
theorem dX1_later_22 : decode cX1_later 22 = .ok (.iload_n 2, 1) := dk_28 (dk_at dksX1_later_0 22 rfl rfl)
theorem dX1_later_23 : decode cX1_later 23 = .ok (.ifCond .ne 13, 3) := dk_154 0 13 (dk_at dksX1_later_1 0 rfl rfl)
theorem dX1_later_26 : decode cX1_later 26 = .ok (.aload_n 0, 1) := dk_42 (dk_at dksX1_later_1 3 rfl rfl)
theorem dX1_later_27 : decode cX1_later 27 = .ok (.getfield 35, 3) := dk_180 0 35 (dk_at dksX1_later_1 4 rfl rfl)
theorem dX1_later_30 : decode cX1_later 30 = .ok (.invokevirtual 307, 3) := dk_182 1 51 (dk_at dksX1_later_1 7 rfl rfl)
theorem dX1_later_33 : decode cX1_later 33 = .ok (.goto 25, 3) := dk_167 0 25 (dk_at dksX1_later_1 10 rfl rfl)
theorem dX1_later_36 : decode cX1_later 36 = .ok (.iload_n 2, 1) := dk_28 (dk_at dksX1_later_1 13 rfl rfl)
theorem dX1_later_37 : decode cX1_later 37 = .ok (.iconst 1, 1) := dk_4 (dk_at dksX1_later_1 14 rfl rfl)
theorem dX1_later_38 : decode cX1_later 38 = .ok (.if_icmp .ne 13, 3) := dk_160 0 13 (dk_at dksX1_later_1 15 rfl rfl)
theorem dX1_later_41 : decode cX1_later 41 = .ok (.aload_n 0, 1) := dk_42 (dk_at dksX1_later_1 18 rfl rfl)
theorem dX1_later_42 : decode cX1_later 42 = .ok (.getfield 35, 3) := dk_180 0 35 (dk_at dksX1_later_1 19 rfl rfl)
theorem dX1_later_45 : decode cX1_later 45 = .ok (.invokevirtual 310, 3) := dk_182 1 54 (dk_at dksX1_later_2 0 rfl rfl)
theorem dX1_later_48 : decode cX1_later 48 = .ok (.goto 10, 3) := dk_167 0 10 (dk_at dksX1_later_2 3 rfl rfl)
theorem dX1_later_51 : decode cX1_later 51 = .ok (.aload_n 0, 1) := dk_42 (dk_at dksX1_later_2 6 rfl rfl)
theorem dX1_later_52 : decode cX1_later 52 = .ok (.getfield 35, 3) := dk_180 0 35 (dk_at dksX1_later_2 7 rfl rfl)
theorem dX1_later_55 : decode cX1_later 55 = .ok (.getfield 313, 3) := dk_180 1 57 (dk_at dksX1_later_2 10 rfl rfl)
theorem dX1_later_58 : decode cX1_later 58 = .ok (.ireturn, 1) := dk_172 (dk_at dksX1_later_2 13 rfl rfl)
abbrev cX1_oftenest : ByteArray := prog_1_method_58_code
def yX1_oftenest : MethodName := ⟨RX1, "oftenest", "(I)I"⟩
def dkwX1_oftenest_3 : List UInt8 := [21, 5, 62, 132, 4, 1, 167, 255, 203, 28, 172]
abbrev dktX1_oftenest_3 : List UInt8 := dkwX1_oftenest_3 ++ []
def dkwX1_oftenest_2 : List UInt8 := [180, 0, 31, 180, 0, 175, 21, 4, 46, 100, 54, 5, 21, 5, 29, 163, 0, 6, 167, 0, 9, 21, 4, 61]
abbrev dktX1_oftenest_2 : List UInt8 := dkwX1_oftenest_2 ++ dktX1_oftenest_3
def dkwX1_oftenest_1 : List UInt8 := [21, 4, 42, 180, 0, 22, 182, 0, 97, 162, 0, 47, 42, 180, 0, 35, 180, 0, 175, 21, 4, 46, 42]
abbrev dktX1_oftenest_1 : List UInt8 := dkwX1_oftenest_1 ++ dktX1_oftenest_2
def dkwX1_oftenest_0 : List UInt8 := [27, 4, 17, 0, 200, 184, 0, 161, 184, 0, 62, 42, 27, 182, 0, 228, 87, 2, 61, 2, 62, 3, 54, 4]
abbrev dktX1_oftenest_0 : List UInt8 := dkwX1_oftenest_0 ++ dktX1_oftenest_1
theorem dksX1_oftenest_0 : cX1_oftenest.data.toList.drop 0 = dktX1_oftenest_0 := by decide +kernel
theorem dksX1_oftenest_1 : cX1_oftenest.data.toList.drop 24 = dktX1_oftenest_1 := dk_seg dksX1_oftenest_0 24 rfl rfl
theorem dksX1_oftenest_2 : cX1_oftenest.data.toList.drop 47 = dktX1_oftenest_2 := dk_seg dksX1_oftenest_1 23 rfl rfl
theorem dksX1_oftenest_3 : cX1_oftenest.data.toList.drop 71 = dktX1_oftenest_3 := dk_seg dksX1_oftenest_2 24 rfl rfl
theorem dX1_oftenest_0 : decode cX1_oftenest 0 = .ok (.iload_n 1, 1) := dk_27 (dk_at dksX1_oftenest_0 0 rfl rfl)
theorem dX1_oftenest_1 : decode cX1_oftenest 1 = .ok (.iconst 1, 1) := dk_4 (dk_at dksX1_oftenest_0 1 rfl rfl)
theorem dX1_oftenest_2 : decode cX1_oftenest 2 = .ok (.sipush 200, 3) := dk_17 0 200 (dk_at dksX1_oftenest_0 2 rfl rfl)
theorem dX1_oftenest_5 : decode cX1_oftenest 5 = .ok (.invokestatic 161, 3) := dk_184 0 161 (dk_at dksX1_oftenest_0 5 rfl rfl)
theorem dX1_oftenest_8 : decode cX1_oftenest 8 = .ok (.invokestatic 62, 3) := dk_184 0 62 (dk_at dksX1_oftenest_0 8 rfl rfl)
theorem dX1_oftenest_11 : decode cX1_oftenest 11 = .ok (.aload_n 0, 1) := dk_42 (dk_at dksX1_oftenest_0 11 rfl rfl)
theorem dX1_oftenest_12 : decode cX1_oftenest 12 = .ok (.iload_n 1, 1) := dk_27 (dk_at dksX1_oftenest_0 12 rfl rfl)
theorem dX1_oftenest_13 : decode cX1_oftenest 13 = .ok (.invokevirtual 228, 3) := dk_182 0 228 (dk_at dksX1_oftenest_0 13 rfl rfl)
theorem dX1_oftenest_16 : decode cX1_oftenest 16 = .ok (.pop, 1) := dk_87 (dk_at dksX1_oftenest_0 16 rfl rfl)
theorem dX1_oftenest_17 : decode cX1_oftenest 17 = .ok (.iconst (-1), 1) := dk_2 (dk_at dksX1_oftenest_0 17 rfl rfl)
theorem dX1_oftenest_18 : decode cX1_oftenest 18 = .ok (.istore_n 2, 1) := dk_61 (dk_at dksX1_oftenest_0 18 rfl rfl)
theorem dX1_oftenest_19 : decode cX1_oftenest 19 = .ok (.iconst (-1), 1) := dk_2 (dk_at dksX1_oftenest_0 19 rfl rfl)
theorem dX1_oftenest_20 : decode cX1_oftenest 20 = .ok (.istore_n 3, 1) := dk_62 (dk_at dksX1_oftenest_0 20 rfl rfl)
theorem dX1_oftenest_21 : decode cX1_oftenest 21 = .ok (.iconst 0, 1) := dk_3 (dk_at dksX1_oftenest_0 21 rfl rfl)
theorem dX1_oftenest_22 : decode cX1_oftenest 22 = .ok (.istore 4, 2) := dk_54 4 (dk_at dksX1_oftenest_0 22 rfl rfl)
theorem dX1_oftenest_24 : decode cX1_oftenest 24 = .ok (.iload 4, 2) := dk_21 4 (dk_at dksX1_oftenest_1 0 rfl rfl)
theorem dX1_oftenest_26 : decode cX1_oftenest 26 = .ok (.aload_n 0, 1) := dk_42 (dk_at dksX1_oftenest_1 2 rfl rfl)
theorem dX1_oftenest_27 : decode cX1_oftenest 27 = .ok (.getfield 22, 3) := dk_180 0 22 (dk_at dksX1_oftenest_1 3 rfl rfl)
theorem dX1_oftenest_30 : decode cX1_oftenest 30 = .ok (.invokevirtual 97, 3) := dk_182 0 97 (dk_at dksX1_oftenest_1 6 rfl rfl)
theorem dX1_oftenest_33 : decode cX1_oftenest 33 = .ok (.if_icmp .ge 47, 3) := dk_162 0 47 (dk_at dksX1_oftenest_1 9 rfl rfl)
theorem dX1_oftenest_36 : decode cX1_oftenest 36 = .ok (.aload_n 0, 1) := dk_42 (dk_at dksX1_oftenest_1 12 rfl rfl)
theorem dX1_oftenest_37 : decode cX1_oftenest 37 = .ok (.getfield 35, 3) := dk_180 0 35 (dk_at dksX1_oftenest_1 13 rfl rfl)
theorem dX1_oftenest_40 : decode cX1_oftenest 40 = .ok (.getfield 175, 3) := dk_180 0 175 (dk_at dksX1_oftenest_1 16 rfl rfl)
theorem dX1_oftenest_43 : decode cX1_oftenest 43 = .ok (.iload 4, 2) := dk_21 4 (dk_at dksX1_oftenest_1 19 rfl rfl)
theorem dX1_oftenest_45 : decode cX1_oftenest 45 = .ok (.iaload, 1) := dk_46 (dk_at dksX1_oftenest_1 21 rfl rfl)
theorem dX1_oftenest_46 : decode cX1_oftenest 46 = .ok (.aload_n 0, 1) := dk_42 (dk_at dksX1_oftenest_1 22 rfl rfl)
theorem dX1_oftenest_47 : decode cX1_oftenest 47 = .ok (.getfield 31, 3) := dk_180 0 31 (dk_at dksX1_oftenest_2 0 rfl rfl)
theorem dX1_oftenest_50 : decode cX1_oftenest 50 = .ok (.getfield 175, 3) := dk_180 0 175 (dk_at dksX1_oftenest_2 3 rfl rfl)
theorem dX1_oftenest_53 : decode cX1_oftenest 53 = .ok (.iload 4, 2) := dk_21 4 (dk_at dksX1_oftenest_2 6 rfl rfl)
theorem dX1_oftenest_55 : decode cX1_oftenest 55 = .ok (.iaload, 1) := dk_46 (dk_at dksX1_oftenest_2 8 rfl rfl)
theorem dX1_oftenest_56 : decode cX1_oftenest 56 = .ok (.isub, 1) := dk_100 (dk_at dksX1_oftenest_2 9 rfl rfl)
theorem dX1_oftenest_57 : decode cX1_oftenest 57 = .ok (.istore 5, 2) := dk_54 5 (dk_at dksX1_oftenest_2 10 rfl rfl)
theorem dX1_oftenest_59 : decode cX1_oftenest 59 = .ok (.iload 5, 2) := dk_21 5 (dk_at dksX1_oftenest_2 12 rfl rfl)
theorem dX1_oftenest_61 : decode cX1_oftenest 61 = .ok (.iload_n 3, 1) := dk_29 (dk_at dksX1_oftenest_2 14 rfl rfl)
theorem dX1_oftenest_62 : decode cX1_oftenest 62 = .ok (.if_icmp .gt 6, 3) := dk_163 0 6 (dk_at dksX1_oftenest_2 15 rfl rfl)
theorem dX1_oftenest_65 : decode cX1_oftenest 65 = .ok (.goto 9, 3) := dk_167 0 9 (dk_at dksX1_oftenest_2 18 rfl rfl)
theorem dX1_oftenest_68 : decode cX1_oftenest 68 = .ok (.iload 4, 2) := dk_21 4 (dk_at dksX1_oftenest_2 21 rfl rfl)
theorem dX1_oftenest_70 : decode cX1_oftenest 70 = .ok (.istore_n 2, 1) := dk_61 (dk_at dksX1_oftenest_2 23 rfl rfl)
theorem dX1_oftenest_71 : decode cX1_oftenest 71 = .ok (.iload 5, 2) := dk_21 5 (dk_at dksX1_oftenest_3 0 rfl rfl)
theorem dX1_oftenest_73 : decode cX1_oftenest 73 = .ok (.istore_n 3, 1) := dk_62 (dk_at dksX1_oftenest_3 2 rfl rfl)
theorem dX1_oftenest_74 : decode cX1_oftenest 74 = .ok (.iinc 4 1, 3) := dk_132 4 1 (dk_at dksX1_oftenest_3 3 rfl rfl)
theorem dX1_oftenest_77 : decode cX1_oftenest 77 = .ok (.goto (-53), 3) := dk_167 255 203 (dk_at dksX1_oftenest_3 6 rfl rfl)
theorem dX1_oftenest_80 : decode cX1_oftenest 80 = .ok (.iload_n 2, 1) := dk_28 (dk_at dksX1_oftenest_3 9 rfl rfl)
theorem dX1_oftenest_81 : decode cX1_oftenest 81 = .ok (.ireturn, 1) := dk_172 (dk_at dksX1_oftenest_3 10 rfl rfl)
abbrev cX1_pause : ByteArray := prog_1_method_60_code
def yX1_pause : MethodName := ⟨RX1, "pause", "(I)I"⟩
def dkwX1_pause_2 : List UInt8 := [167, 0, 14, 28, 2, 159, 0, 7, 29, 28, 100, 172, 29, 61, 132, 3, 1, 167, 255, 215, 2, 172]
abbrev dktX1_pause_2 : List UInt8 := dkwX1_pause_2 ++ []
def dkwX1_pause_1 : List UInt8 := [17, 0, 200, 163, 0, 40, 42, 180, 0, 35, 182, 0, 237, 180, 0, 231, 27, 184, 0, 101, 154, 0, 6]
abbrev dktX1_pause_1 : List UInt8 := dkwX1_pause_1 ++ dktX1_pause_2
def dkwX1_pause_0 : List UInt8 := [42, 27, 182, 0, 168, 2, 61, 42, 180, 0, 35, 42, 180, 0, 31, 182, 0, 221, 87, 4, 62, 29]
abbrev dktX1_pause_0 : List UInt8 := dkwX1_pause_0 ++ dktX1_pause_1
theorem dksX1_pause_0 : cX1_pause.data.toList.drop 0 = dktX1_pause_0 := by decide +kernel
theorem dksX1_pause_1 : cX1_pause.data.toList.drop 22 = dktX1_pause_1 := dk_seg dksX1_pause_0 22 rfl rfl
theorem dksX1_pause_2 : cX1_pause.data.toList.drop 45 = dktX1_pause_2 := dk_seg dksX1_pause_1 23 rfl rfl
theorem dX1_pause_0 : decode cX1_pause 0 = .ok (.aload_n 0, 1) := dk_42 (dk_at dksX1_pause_0 0 rfl rfl)
theorem dX1_pause_1 : decode cX1_pause 1 = .ok (.iload_n 1, 1) := dk_27 (dk_at dksX1_pause_0 1 rfl rfl)
theorem dX1_pause_2 : decode cX1_pause 2 = .ok (.invokevirtual 168, 3) := dk_182 0 168 (dk_at dksX1_pause_0 2 rfl rfl)
theorem dX1_pause_5 : decode cX1_pause 5 = .ok (.iconst (-1), 1) := dk_2 (dk_at dksX1_pause_0 5 rfl rfl)
theorem dX1_pause_6 : decode cX1_pause 6 = .ok (.istore_n 2, 1) := dk_61 (dk_at dksX1_pause_0 6 rfl rfl)
theorem dX1_pause_7 : decode cX1_pause 7 = .ok (.aload_n 0, 1) := dk_42 (dk_at dksX1_pause_0 7 rfl rfl)
theorem dX1_pause_8 : decode cX1_pause 8 = .ok (.getfield 35, 3) := dk_180 0 35 (dk_at dksX1_pause_0 8 rfl rfl)
theorem dX1_pause_11 : decode cX1_pause 11 = .ok (.aload_n 0, 1) := dk_42 (dk_at dksX1_pause_0 11 rfl rfl)
theorem dX1_pause_12 : decode cX1_pause 12 = .ok (.getfield 31, 3) := dk_180 0 31 (dk_at dksX1_pause_0 12 rfl rfl)
theorem dX1_pause_15 : decode cX1_pause 15 = .ok (.invokevirtual 221, 3) := dk_182 0 221 (dk_at dksX1_pause_0 15 rfl rfl)
theorem dX1_pause_18 : decode cX1_pause 18 = .ok (.pop, 1) := dk_87 (dk_at dksX1_pause_0 18 rfl rfl)
theorem dX1_pause_19 : decode cX1_pause 19 = .ok (.iconst 1, 1) := dk_4 (dk_at dksX1_pause_0 19 rfl rfl)
theorem dX1_pause_20 : decode cX1_pause 20 = .ok (.istore_n 3, 1) := dk_62 (dk_at dksX1_pause_0 20 rfl rfl)
theorem dX1_pause_21 : decode cX1_pause 21 = .ok (.iload_n 3, 1) := dk_29 (dk_at dksX1_pause_0 21 rfl rfl)
theorem dX1_pause_22 : decode cX1_pause 22 = .ok (.sipush 200, 3) := dk_17 0 200 (dk_at dksX1_pause_1 0 rfl rfl)
theorem dX1_pause_25 : decode cX1_pause 25 = .ok (.if_icmp .gt 40, 3) := dk_163 0 40 (dk_at dksX1_pause_1 3 rfl rfl)
theorem dX1_pause_28 : decode cX1_pause 28 = .ok (.aload_n 0, 1) := dk_42 (dk_at dksX1_pause_1 6 rfl rfl)
theorem dX1_pause_29 : decode cX1_pause 29 = .ok (.getfield 35, 3) := dk_180 0 35 (dk_at dksX1_pause_1 7 rfl rfl)
theorem dX1_pause_32 : decode cX1_pause 32 = .ok (.invokevirtual 237, 3) := dk_182 0 237 (dk_at dksX1_pause_1 10 rfl rfl)
theorem dX1_pause_35 : decode cX1_pause 35 = .ok (.getfield 231, 3) := dk_180 0 231 (dk_at dksX1_pause_1 13 rfl rfl)
theorem dX1_pause_38 : decode cX1_pause 38 = .ok (.iload_n 1, 1) := dk_27 (dk_at dksX1_pause_1 16 rfl rfl)
theorem dX1_pause_39 : decode cX1_pause 39 = .ok (.invokestatic 101, 3) := dk_184 0 101 (dk_at dksX1_pause_1 17 rfl rfl)
theorem dX1_pause_42 : decode cX1_pause 42 = .ok (.ifCond .ne 6, 3) := dk_154 0 6 (dk_at dksX1_pause_1 20 rfl rfl)
theorem dX1_pause_45 : decode cX1_pause 45 = .ok (.goto 14, 3) := dk_167 0 14 (dk_at dksX1_pause_2 0 rfl rfl)
theorem dX1_pause_48 : decode cX1_pause 48 = .ok (.iload_n 2, 1) := dk_28 (dk_at dksX1_pause_2 3 rfl rfl)
theorem dX1_pause_49 : decode cX1_pause 49 = .ok (.iconst (-1), 1) := dk_2 (dk_at dksX1_pause_2 4 rfl rfl)
theorem dX1_pause_50 : decode cX1_pause 50 = .ok (.if_icmp .eq 7, 3) := dk_159 0 7 (dk_at dksX1_pause_2 5 rfl rfl)
theorem dX1_pause_53 : decode cX1_pause 53 = .ok (.iload_n 3, 1) := dk_29 (dk_at dksX1_pause_2 8 rfl rfl)
theorem dX1_pause_54 : decode cX1_pause 54 = .ok (.iload_n 2, 1) := dk_28 (dk_at dksX1_pause_2 9 rfl rfl)
theorem dX1_pause_55 : decode cX1_pause 55 = .ok (.isub, 1) := dk_100 (dk_at dksX1_pause_2 10 rfl rfl)
theorem dX1_pause_56 : decode cX1_pause 56 = .ok (.ireturn, 1) := dk_172 (dk_at dksX1_pause_2 11 rfl rfl)
theorem dX1_pause_57 : decode cX1_pause 57 = .ok (.iload_n 3, 1) := dk_29 (dk_at dksX1_pause_2 12 rfl rfl)
theorem dX1_pause_58 : decode cX1_pause 58 = .ok (.istore_n 2, 1) := dk_61 (dk_at dksX1_pause_2 13 rfl rfl)
theorem dX1_pause_59 : decode cX1_pause 59 = .ok (.iinc 3 1, 3) := dk_132 3 1 (dk_at dksX1_pause_2 14 rfl rfl)
theorem dX1_pause_62 : decode cX1_pause 62 = .ok (.goto (-41), 3) := dk_167 255 215 (dk_at dksX1_pause_2 17 rfl rfl)
theorem dX1_pause_65 : decode cX1_pause 65 = .ok (.iconst (-1), 1) := dk_2 (dk_at dksX1_pause_2 20 rfl rfl)
theorem dX1_pause_66 : decode cX1_pause 66 = .ok (.ireturn, 1) := dk_172 (dk_at dksX1_pause_2 21 rfl rfl)
abbrev cX1_giver : ByteArray := prog_1_method_62_code
def yX1_giver : MethodName := ⟨RX1, "giver", "(II)I"⟩
def dkwX1_giver_4 : List UInt8 := [132, 7, 1, 167, 255, 193, 21, 4, 172]
abbrev dktX1_giver_4 : List UInt8 := dkwX1_giver_4 ++ []
def dkwX1_giver_3 : List UInt8 := [20, 1, 72, 55, 8, 22, 8, 22, 5, 148, 157, 0, 6, 167, 0, 11, 21, 7, 54, 4, 22, 8, 55, 5]
abbrev dktX1_giver_3 : List UInt8 := dkwX1_giver_3 ++ dktX1_giver_4
def dkwX1_giver_2 : List UInt8 := [184, 0, 101, 153, 0, 20, 42, 21, 7, 27, 45, 16, 9, 21, 7, 96, 47, 182, 1, 74, 167, 0, 6]
abbrev dktX1_giver_2 : List UInt8 := dkwX1_giver_2 ++ dktX1_giver_3
def dkwX1_giver_1 : List UInt8 := [2, 54, 4, 20, 1, 72, 55, 5, 3, 54, 7, 21, 7, 27, 162, 0, 63, 42, 21, 7, 182, 0, 93, 27]
abbrev dktX1_giver_1 : List UInt8 := dkwX1_giver_1 ++ dktX1_giver_2
def dkwX1_giver_0 : List UInt8 := [42, 27, 182, 0, 168, 28, 3, 18, 252, 184, 0, 161, 184, 0, 62, 42, 180, 0, 31, 28, 182, 0, 253, 78]
abbrev dktX1_giver_0 : List UInt8 := dkwX1_giver_0 ++ dktX1_giver_1
theorem dksX1_giver_0 : cX1_giver.data.toList.drop 0 = dktX1_giver_0 := by decide +kernel
theorem dksX1_giver_1 : cX1_giver.data.toList.drop 24 = dktX1_giver_1 := dk_seg dksX1_giver_0 24 rfl rfl
theorem dksX1_giver_2 : cX1_giver.data.toList.drop 48 = dktX1_giver_2 := dk_seg dksX1_giver_1 24 rfl rfl
theorem dksX1_giver_3 : cX1_giver.data.toList.drop 71 = dktX1_giver_3 := dk_seg dksX1_giver_2 23 rfl rfl
theorem dksX1_giver_4 : cX1_giver.data.toList.drop 95 = dktX1_giver_4 := dk_seg dksX1_giver_3 24 rfl rfl
theorem dX1_giver_0 : decode cX1_giver 0 = .ok (.aload_n 0, 1) := dk_42 (dk_at dksX1_giver_0 0 rfl rfl)
theorem dX1_giver_1 : decode cX1_giver 1 = .ok (.iload_n 1, 1) := dk_27 (dk_at dksX1_giver_0 1 rfl rfl)
theorem dX1_giver_2 : decode cX1_giver 2 = .ok (.invokevirtual 168, 3) := dk_182 0 168 (dk_at dksX1_giver_0 2 rfl rfl)
theorem dX1_giver_5 : decode cX1_giver 5 = .ok (.iload_n 2, 1) := dk_28 (dk_at dksX1_giver_0 5 rfl rfl)
theorem dX1_giver_6 : decode cX1_giver 6 = .ok (.iconst 0, 1) := dk_3 (dk_at dksX1_giver_0 6 rfl rfl)
theorem dX1_giver_7 : decode cX1_giver 7 = .ok (.ldc 252, 2) := dk_18 252 (dk_at dksX1_giver_0 7 rfl rfl)
theorem dX1_giver_9 : decode cX1_giver 9 = .ok (.invokestatic 161, 3) := dk_184 0 161 (dk_at dksX1_giver_0 9 rfl rfl)
theorem dX1_giver_12 : decode cX1_giver 12 = .ok (.invokestatic 62, 3) := dk_184 0 62 (dk_at dksX1_giver_0 12 rfl rfl)
theorem dX1_giver_15 : decode cX1_giver 15 = .ok (.aload_n 0, 1) := dk_42 (dk_at dksX1_giver_0 15 rfl rfl)
theorem dX1_giver_16 : decode cX1_giver 16 = .ok (.getfield 31, 3) := dk_180 0 31 (dk_at dksX1_giver_0 16 rfl rfl)
theorem dX1_giver_19 : decode cX1_giver 19 = .ok (.iload_n 2, 1) := dk_28 (dk_at dksX1_giver_0 19 rfl rfl)
theorem dX1_giver_20 : decode cX1_giver 20 = .ok (.invokevirtual 253, 3) := dk_182 0 253 (dk_at dksX1_giver_0 20 rfl rfl)
theorem dX1_giver_23 : decode cX1_giver 23 = .ok (.astore_n 3, 1) := dk_78 (dk_at dksX1_giver_0 23 rfl rfl)
theorem dX1_giver_24 : decode cX1_giver 24 = .ok (.iconst (-1), 1) := dk_2 (dk_at dksX1_giver_1 0 rfl rfl)
theorem dX1_giver_25 : decode cX1_giver 25 = .ok (.istore 4, 2) := dk_54 4 (dk_at dksX1_giver_1 1 rfl rfl)
theorem dX1_giver_27 : decode cX1_giver 27 = .ok (.ldc2_w 328, 3) := dk_20 1 72 (dk_at dksX1_giver_1 3 rfl rfl)
theorem dX1_giver_30 : decode cX1_giver 30 = .ok (.lstore 5, 2) := dk_55 5 (dk_at dksX1_giver_1 6 rfl rfl)
theorem dX1_giver_32 : decode cX1_giver 32 = .ok (.iconst 0, 1) := dk_3 (dk_at dksX1_giver_1 8 rfl rfl)
theorem dX1_giver_33 : decode cX1_giver 33 = .ok (.istore 7, 2) := dk_54 7 (dk_at dksX1_giver_1 9 rfl rfl)
theorem dX1_giver_35 : decode cX1_giver 35 = .ok (.iload 7, 2) := dk_21 7 (dk_at dksX1_giver_1 11 rfl rfl)
theorem dX1_giver_37 : decode cX1_giver 37 = .ok (.iload_n 1, 1) := dk_27 (dk_at dksX1_giver_1 13 rfl rfl)
theorem dX1_giver_38 : decode cX1_giver 38 = .ok (.if_icmp .ge 63, 3) := dk_162 0 63 (dk_at dksX1_giver_1 14 rfl rfl)
theorem dX1_giver_41 : decode cX1_giver 41 = .ok (.aload_n 0, 1) := dk_42 (dk_at dksX1_giver_1 17 rfl rfl)
theorem dX1_giver_42 : decode cX1_giver 42 = .ok (.iload 7, 2) := dk_21 7 (dk_at dksX1_giver_1 18 rfl rfl)
theorem dX1_giver_44 : decode cX1_giver 44 = .ok (.invokevirtual 93, 3) := dk_182 0 93 (dk_at dksX1_giver_1 20 rfl rfl)
theorem dX1_giver_47 : decode cX1_giver 47 = .ok (.iload_n 1, 1) := dk_27 (dk_at dksX1_giver_1 23 rfl rfl)
theorem dX1_giver_48 : decode cX1_giver 48 = .ok (.invokestatic 101, 3) := dk_184 0 101 (dk_at dksX1_giver_2 0 rfl rfl)
theorem dX1_giver_51 : decode cX1_giver 51 = .ok (.ifCond .eq 20, 3) := dk_153 0 20 (dk_at dksX1_giver_2 3 rfl rfl)
theorem dX1_giver_54 : decode cX1_giver 54 = .ok (.aload_n 0, 1) := dk_42 (dk_at dksX1_giver_2 6 rfl rfl)
theorem dX1_giver_55 : decode cX1_giver 55 = .ok (.iload 7, 2) := dk_21 7 (dk_at dksX1_giver_2 7 rfl rfl)
theorem dX1_giver_57 : decode cX1_giver 57 = .ok (.iload_n 1, 1) := dk_27 (dk_at dksX1_giver_2 9 rfl rfl)
theorem dX1_giver_58 : decode cX1_giver 58 = .ok (.aload_n 3, 1) := dk_45 (dk_at dksX1_giver_2 10 rfl rfl)
theorem dX1_giver_59 : decode cX1_giver 59 = .ok (.bipush 9, 2) := dk_16 9 (dk_at dksX1_giver_2 11 rfl rfl)
theorem dX1_giver_61 : decode cX1_giver 61 = .ok (.iload 7, 2) := dk_21 7 (dk_at dksX1_giver_2 13 rfl rfl)
theorem dX1_giver_63 : decode cX1_giver 63 = .ok (.iadd, 1) := dk_96 (dk_at dksX1_giver_2 15 rfl rfl)
theorem dX1_giver_64 : decode cX1_giver 64 = .ok (.laload, 1) := dk_47 (dk_at dksX1_giver_2 16 rfl rfl)
theorem dX1_giver_65 : decode cX1_giver 65 = .ok (.invokevirtual 330, 3) := dk_182 1 74 (dk_at dksX1_giver_2 17 rfl rfl)
theorem dX1_giver_68 : decode cX1_giver 68 = .ok (.goto 6, 3) := dk_167 0 6 (dk_at dksX1_giver_2 20 rfl rfl)
theorem dX1_giver_71 : decode cX1_giver 71 = .ok (.ldc2_w 328, 3) := dk_20 1 72 (dk_at dksX1_giver_3 0 rfl rfl)
theorem dX1_giver_74 : decode cX1_giver 74 = .ok (.lstore 8, 2) := dk_55 8 (dk_at dksX1_giver_3 3 rfl rfl)
theorem dX1_giver_76 : decode cX1_giver 76 = .ok (.lload 8, 2) := dk_22 8 (dk_at dksX1_giver_3 5 rfl rfl)
theorem dX1_giver_78 : decode cX1_giver 78 = .ok (.lload 5, 2) := dk_22 5 (dk_at dksX1_giver_3 7 rfl rfl)
theorem dX1_giver_80 : decode cX1_giver 80 = .ok (.lcmp, 1) := dk_148 (dk_at dksX1_giver_3 9 rfl rfl)
theorem dX1_giver_81 : decode cX1_giver 81 = .ok (.ifCond .gt 6, 3) := dk_157 0 6 (dk_at dksX1_giver_3 10 rfl rfl)
theorem dX1_giver_84 : decode cX1_giver 84 = .ok (.goto 11, 3) := dk_167 0 11 (dk_at dksX1_giver_3 13 rfl rfl)
theorem dX1_giver_87 : decode cX1_giver 87 = .ok (.iload 7, 2) := dk_21 7 (dk_at dksX1_giver_3 16 rfl rfl)
theorem dX1_giver_89 : decode cX1_giver 89 = .ok (.istore 4, 2) := dk_54 4 (dk_at dksX1_giver_3 18 rfl rfl)
theorem dX1_giver_91 : decode cX1_giver 91 = .ok (.lload 8, 2) := dk_22 8 (dk_at dksX1_giver_3 20 rfl rfl)
theorem dX1_giver_93 : decode cX1_giver 93 = .ok (.lstore 5, 2) := dk_55 5 (dk_at dksX1_giver_3 22 rfl rfl)
theorem dX1_giver_95 : decode cX1_giver 95 = .ok (.iinc 7 1, 3) := dk_132 7 1 (dk_at dksX1_giver_4 0 rfl rfl)
theorem dX1_giver_98 : decode cX1_giver 98 = .ok (.goto (-63), 3) := dk_167 255 193 (dk_at dksX1_giver_4 3 rfl rfl)
theorem dX1_giver_101 : decode cX1_giver 101 = .ok (.iload 4, 2) := dk_21 4 (dk_at dksX1_giver_4 6 rfl rfl)
theorem dX1_giver_103 : decode cX1_giver 103 = .ok (.ireturn, 1) := dk_172 (dk_at dksX1_giver_4 8 rfl rfl)
abbrev cX1_gives : ByteArray := prog_1_method_61_code
def yX1_gives : MethodName := ⟨RX1, "gives", "(IIJ)J"⟩
def dkwX1_gives_3 : List UInt8 := [20, 1, 70, 109, 167, 0, 4, 9, 173]
abbrev dktX1_gives_3 : List UInt8 := dkwX1_gives_3 ++ []
def dkwX1_gives_2 : List UInt8 := [97, 20, 1, 70, 109, 167, 0, 25, 42, 180, 0, 31, 27, 4, 182, 0, 89, 28, 160, 0, 11, 33]
abbrev dktX1_gives_2 : List UInt8 := dkwX1_gives_2 ++ dktX1_gives_3
def dkwX1_gives_1 : List UInt8 := [160, 0, 7, 33, 167, 0, 4, 9, 173, 42, 180, 0, 31, 27, 3, 182, 0, 89, 28, 160, 0, 13, 33, 10]
abbrev dktX1_gives_1 : List UInt8 := dkwX1_gives_1 ++ dktX1_gives_2
def dkwX1_gives_0 : List UInt8 := [42, 180, 0, 31, 180, 1, 64, 27, 46, 16, 254, 160, 0, 22, 42, 180, 0, 31, 180, 1, 67, 27, 46, 28]
abbrev dktX1_gives_0 : List UInt8 := dkwX1_gives_0 ++ dktX1_gives_1
theorem dksX1_gives_0 : cX1_gives.data.toList.drop 0 = dktX1_gives_0 := by decide +kernel
theorem dksX1_gives_1 : cX1_gives.data.toList.drop 24 = dktX1_gives_1 := dk_seg dksX1_gives_0 24 rfl rfl
theorem dksX1_gives_2 : cX1_gives.data.toList.drop 48 = dktX1_gives_2 := dk_seg dksX1_gives_1 24 rfl rfl
theorem dksX1_gives_3 : cX1_gives.data.toList.drop 70 = dktX1_gives_3 := dk_seg dksX1_gives_2 22 rfl rfl
theorem dX1_gives_0 : decode cX1_gives 0 = .ok (.aload_n 0, 1) := dk_42 (dk_at dksX1_gives_0 0 rfl rfl)
theorem dX1_gives_1 : decode cX1_gives 1 = .ok (.getfield 31, 3) := dk_180 0 31 (dk_at dksX1_gives_0 1 rfl rfl)
theorem dX1_gives_4 : decode cX1_gives 4 = .ok (.getfield 320, 3) := dk_180 1 64 (dk_at dksX1_gives_0 4 rfl rfl)
theorem dX1_gives_7 : decode cX1_gives 7 = .ok (.iload_n 1, 1) := dk_27 (dk_at dksX1_gives_0 7 rfl rfl)
theorem dX1_gives_8 : decode cX1_gives 8 = .ok (.iaload, 1) := dk_46 (dk_at dksX1_gives_0 8 rfl rfl)
theorem dX1_gives_9 : decode cX1_gives 9 = .ok (.bipush (-2), 2) := dk_16 254 (dk_at dksX1_gives_0 9 rfl rfl)
theorem dX1_gives_11 : decode cX1_gives 11 = .ok (.if_icmp .ne 22, 3) := dk_160 0 22 (dk_at dksX1_gives_0 11 rfl rfl)
theorem dX1_gives_14 : decode cX1_gives 14 = .ok (.aload_n 0, 1) := dk_42 (dk_at dksX1_gives_0 14 rfl rfl)
theorem dX1_gives_15 : decode cX1_gives 15 = .ok (.getfield 31, 3) := dk_180 0 31 (dk_at dksX1_gives_0 15 rfl rfl)
theorem dX1_gives_18 : decode cX1_gives 18 = .ok (.getfield 323, 3) := dk_180 1 67 (dk_at dksX1_gives_0 18 rfl rfl)
theorem dX1_gives_21 : decode cX1_gives 21 = .ok (.iload_n 1, 1) := dk_27 (dk_at dksX1_gives_0 21 rfl rfl)
theorem dX1_gives_22 : decode cX1_gives 22 = .ok (.iaload, 1) := dk_46 (dk_at dksX1_gives_0 22 rfl rfl)
theorem dX1_gives_23 : decode cX1_gives 23 = .ok (.iload_n 2, 1) := dk_28 (dk_at dksX1_gives_0 23 rfl rfl)
theorem dX1_gives_24 : decode cX1_gives 24 = .ok (.if_icmp .ne 7, 3) := dk_160 0 7 (dk_at dksX1_gives_1 0 rfl rfl)
theorem dX1_gives_27 : decode cX1_gives 27 = .ok (.lload_n 3, 1) := dk_33 (dk_at dksX1_gives_1 3 rfl rfl)
theorem dX1_gives_28 : decode cX1_gives 28 = .ok (.goto 4, 3) := dk_167 0 4 (dk_at dksX1_gives_1 4 rfl rfl)
theorem dX1_gives_31 : decode cX1_gives 31 = .ok (.lconst 0, 1) := dk_9 (dk_at dksX1_gives_1 7 rfl rfl)
theorem dX1_gives_32 : decode cX1_gives 32 = .ok (.lreturn, 1) := dk_173 (dk_at dksX1_gives_1 8 rfl rfl)
theorem dX1_gives_33 : decode cX1_gives 33 = .ok (.aload_n 0, 1) := dk_42 (dk_at dksX1_gives_1 9 rfl rfl)
theorem dX1_gives_34 : decode cX1_gives 34 = .ok (.getfield 31, 3) := dk_180 0 31 (dk_at dksX1_gives_1 10 rfl rfl)
theorem dX1_gives_37 : decode cX1_gives 37 = .ok (.iload_n 1, 1) := dk_27 (dk_at dksX1_gives_1 13 rfl rfl)
theorem dX1_gives_38 : decode cX1_gives 38 = .ok (.iconst 0, 1) := dk_3 (dk_at dksX1_gives_1 14 rfl rfl)
theorem dX1_gives_39 : decode cX1_gives 39 = .ok (.invokevirtual 89, 3) := dk_182 0 89 (dk_at dksX1_gives_1 15 rfl rfl)
theorem dX1_gives_42 : decode cX1_gives 42 = .ok (.iload_n 2, 1) := dk_28 (dk_at dksX1_gives_1 18 rfl rfl)
theorem dX1_gives_43 : decode cX1_gives 43 = .ok (.if_icmp .ne 13, 3) := dk_160 0 13 (dk_at dksX1_gives_1 19 rfl rfl)
theorem dX1_gives_46 : decode cX1_gives 46 = .ok (.lload_n 3, 1) := dk_33 (dk_at dksX1_gives_1 22 rfl rfl)
theorem dX1_gives_47 : decode cX1_gives 47 = .ok (.lconst 1, 1) := dk_10 (dk_at dksX1_gives_1 23 rfl rfl)
theorem dX1_gives_48 : decode cX1_gives 48 = .ok (.ladd, 1) := dk_97 (dk_at dksX1_gives_2 0 rfl rfl)
theorem dX1_gives_49 : decode cX1_gives 49 = .ok (.ldc2_w 326, 3) := dk_20 1 70 (dk_at dksX1_gives_2 1 rfl rfl)
theorem dX1_gives_52 : decode cX1_gives 52 = .ok (.ldiv, 1) := dk_109 (dk_at dksX1_gives_2 4 rfl rfl)
theorem dX1_gives_53 : decode cX1_gives 53 = .ok (.goto 25, 3) := dk_167 0 25 (dk_at dksX1_gives_2 5 rfl rfl)
theorem dX1_gives_56 : decode cX1_gives 56 = .ok (.aload_n 0, 1) := dk_42 (dk_at dksX1_gives_2 8 rfl rfl)
theorem dX1_gives_57 : decode cX1_gives 57 = .ok (.getfield 31, 3) := dk_180 0 31 (dk_at dksX1_gives_2 9 rfl rfl)
theorem dX1_gives_60 : decode cX1_gives 60 = .ok (.iload_n 1, 1) := dk_27 (dk_at dksX1_gives_2 12 rfl rfl)
theorem dX1_gives_61 : decode cX1_gives 61 = .ok (.iconst 1, 1) := dk_4 (dk_at dksX1_gives_2 13 rfl rfl)
theorem dX1_gives_62 : decode cX1_gives 62 = .ok (.invokevirtual 89, 3) := dk_182 0 89 (dk_at dksX1_gives_2 14 rfl rfl)
theorem dX1_gives_65 : decode cX1_gives 65 = .ok (.iload_n 2, 1) := dk_28 (dk_at dksX1_gives_2 17 rfl rfl)
theorem dX1_gives_66 : decode cX1_gives 66 = .ok (.if_icmp .ne 11, 3) := dk_160 0 11 (dk_at dksX1_gives_2 18 rfl rfl)
theorem dX1_gives_69 : decode cX1_gives 69 = .ok (.lload_n 3, 1) := dk_33 (dk_at dksX1_gives_2 21 rfl rfl)
theorem dX1_gives_70 : decode cX1_gives 70 = .ok (.ldc2_w 326, 3) := dk_20 1 70 (dk_at dksX1_gives_3 0 rfl rfl)
theorem dX1_gives_73 : decode cX1_gives 73 = .ok (.ldiv, 1) := dk_109 (dk_at dksX1_gives_3 3 rfl rfl)
theorem dX1_gives_74 : decode cX1_gives 74 = .ok (.goto 4, 3) := dk_167 0 4 (dk_at dksX1_gives_3 4 rfl rfl)
theorem dX1_gives_77 : decode cX1_gives 77 = .ok (.lconst 0, 1) := dk_9 (dk_at dksX1_gives_3 7 rfl rfl)
theorem dX1_gives_78 : decode cX1_gives 78 = .ok (.lreturn, 1) := dk_173 (dk_at dksX1_gives_3 8 rfl rfl)
abbrev cX1_toPour : ByteArray := prog_1_method_63_code
def yX1_toPour : MethodName := ⟨RX1, "toPour", "(II)I"⟩
def dkwX1_toPour_2 : List UInt8 := [180, 0, 231, 27, 184, 0, 101, 153, 0, 5, 29, 172, 132, 3, 1, 167, 255, 210, 2, 172]
abbrev dktX1_toPour_2 : List UInt8 := dkwX1_toPour_2 ++ []
def dkwX1_toPour_1 : List UInt8 := [180, 0, 35, 42, 180, 0, 31, 182, 0, 221, 27, 29, 182, 0, 212, 87, 42, 180, 0, 35, 28, 182, 0, 198]
abbrev dktX1_toPour_1 : List UInt8 := dkwX1_toPour_1 ++ dktX1_toPour_2
def dkwX1_toPour_0 : List UInt8 := [42, 27, 182, 0, 168, 28, 4, 16, 60, 184, 0, 161, 184, 0, 62, 3, 62, 29, 16, 50, 163, 0, 46, 42]
abbrev dktX1_toPour_0 : List UInt8 := dkwX1_toPour_0 ++ dktX1_toPour_1
theorem dksX1_toPour_0 : cX1_toPour.data.toList.drop 0 = dktX1_toPour_0 := by decide +kernel
theorem dksX1_toPour_1 : cX1_toPour.data.toList.drop 24 = dktX1_toPour_1 := dk_seg dksX1_toPour_0 24 rfl rfl
theorem dksX1_toPour_2 : cX1_toPour.data.toList.drop 48 = dktX1_toPour_2 := dk_seg dksX1_toPour_1 24 rfl rfl
theorem dX1_toPour_0 : decode cX1_toPour 0 = .ok (.aload_n 0, 1) := dk_42 (dk_at dksX1_toPour_0 0 rfl rfl)
theorem dX1_toPour_1 : decode cX1_toPour 1 = .ok (.iload_n 1, 1) := dk_27 (dk_at dksX1_toPour_0 1 rfl rfl)
theorem dX1_toPour_2 : decode cX1_toPour 2 = .ok (.invokevirtual 168, 3) := dk_182 0 168 (dk_at dksX1_toPour_0 2 rfl rfl)
theorem dX1_toPour_5 : decode cX1_toPour 5 = .ok (.iload_n 2, 1) := dk_28 (dk_at dksX1_toPour_0 5 rfl rfl)
theorem dX1_toPour_6 : decode cX1_toPour 6 = .ok (.iconst 1, 1) := dk_4 (dk_at dksX1_toPour_0 6 rfl rfl)
theorem dX1_toPour_7 : decode cX1_toPour 7 = .ok (.bipush 60, 2) := dk_16 60 (dk_at dksX1_toPour_0 7 rfl rfl)
theorem dX1_toPour_9 : decode cX1_toPour 9 = .ok (.invokestatic 161, 3) := dk_184 0 161 (dk_at dksX1_toPour_0 9 rfl rfl)
theorem dX1_toPour_12 : decode cX1_toPour 12 = .ok (.invokestatic 62, 3) := dk_184 0 62 (dk_at dksX1_toPour_0 12 rfl rfl)
theorem dX1_toPour_15 : decode cX1_toPour 15 = .ok (.iconst 0, 1) := dk_3 (dk_at dksX1_toPour_0 15 rfl rfl)
theorem dX1_toPour_16 : decode cX1_toPour 16 = .ok (.istore_n 3, 1) := dk_62 (dk_at dksX1_toPour_0 16 rfl rfl)
theorem dX1_toPour_17 : decode cX1_toPour 17 = .ok (.iload_n 3, 1) := dk_29 (dk_at dksX1_toPour_0 17 rfl rfl)
theorem dX1_toPour_18 : decode cX1_toPour 18 = .ok (.bipush 50, 2) := dk_16 50 (dk_at dksX1_toPour_0 18 rfl rfl)
theorem dX1_toPour_20 : decode cX1_toPour 20 = .ok (.if_icmp .gt 46, 3) := dk_163 0 46 (dk_at dksX1_toPour_0 20 rfl rfl)
theorem dX1_toPour_23 : decode cX1_toPour 23 = .ok (.aload_n 0, 1) := dk_42 (dk_at dksX1_toPour_0 23 rfl rfl)
theorem dX1_toPour_24 : decode cX1_toPour 24 = .ok (.getfield 35, 3) := dk_180 0 35 (dk_at dksX1_toPour_1 0 rfl rfl)
theorem dX1_toPour_27 : decode cX1_toPour 27 = .ok (.aload_n 0, 1) := dk_42 (dk_at dksX1_toPour_1 3 rfl rfl)
theorem dX1_toPour_28 : decode cX1_toPour 28 = .ok (.getfield 31, 3) := dk_180 0 31 (dk_at dksX1_toPour_1 4 rfl rfl)
theorem dX1_toPour_31 : decode cX1_toPour 31 = .ok (.invokevirtual 221, 3) := dk_182 0 221 (dk_at dksX1_toPour_1 7 rfl rfl)
theorem dX1_toPour_34 : decode cX1_toPour 34 = .ok (.iload_n 1, 1) := dk_27 (dk_at dksX1_toPour_1 10 rfl rfl)
theorem dX1_toPour_35 : decode cX1_toPour 35 = .ok (.iload_n 3, 1) := dk_29 (dk_at dksX1_toPour_1 11 rfl rfl)
theorem dX1_toPour_36 : decode cX1_toPour 36 = .ok (.invokevirtual 212, 3) := dk_182 0 212 (dk_at dksX1_toPour_1 12 rfl rfl)
theorem dX1_toPour_39 : decode cX1_toPour 39 = .ok (.pop, 1) := dk_87 (dk_at dksX1_toPour_1 15 rfl rfl)
theorem dX1_toPour_40 : decode cX1_toPour 40 = .ok (.aload_n 0, 1) := dk_42 (dk_at dksX1_toPour_1 16 rfl rfl)
theorem dX1_toPour_41 : decode cX1_toPour 41 = .ok (.getfield 35, 3) := dk_180 0 35 (dk_at dksX1_toPour_1 17 rfl rfl)
theorem dX1_toPour_44 : decode cX1_toPour 44 = .ok (.iload_n 2, 1) := dk_28 (dk_at dksX1_toPour_1 20 rfl rfl)
theorem dX1_toPour_45 : decode cX1_toPour 45 = .ok (.invokevirtual 198, 3) := dk_182 0 198 (dk_at dksX1_toPour_1 21 rfl rfl)
theorem dX1_toPour_48 : decode cX1_toPour 48 = .ok (.getfield 231, 3) := dk_180 0 231 (dk_at dksX1_toPour_2 0 rfl rfl)
theorem dX1_toPour_51 : decode cX1_toPour 51 = .ok (.iload_n 1, 1) := dk_27 (dk_at dksX1_toPour_2 3 rfl rfl)
theorem dX1_toPour_52 : decode cX1_toPour 52 = .ok (.invokestatic 101, 3) := dk_184 0 101 (dk_at dksX1_toPour_2 4 rfl rfl)
theorem dX1_toPour_55 : decode cX1_toPour 55 = .ok (.ifCond .eq 5, 3) := dk_153 0 5 (dk_at dksX1_toPour_2 7 rfl rfl)
theorem dX1_toPour_58 : decode cX1_toPour 58 = .ok (.iload_n 3, 1) := dk_29 (dk_at dksX1_toPour_2 10 rfl rfl)
theorem dX1_toPour_59 : decode cX1_toPour 59 = .ok (.ireturn, 1) := dk_172 (dk_at dksX1_toPour_2 11 rfl rfl)
theorem dX1_toPour_60 : decode cX1_toPour 60 = .ok (.iinc 3 1, 3) := dk_132 3 1 (dk_at dksX1_toPour_2 12 rfl rfl)
theorem dX1_toPour_63 : decode cX1_toPour 63 = .ok (.goto (-46), 3) := dk_167 255 210 (dk_at dksX1_toPour_2 15 rfl rfl)
theorem dX1_toPour_66 : decode cX1_toPour 66 = .ok (.iconst (-1), 1) := dk_2 (dk_at dksX1_toPour_2 18 rfl rfl)
theorem dX1_toPour_67 : decode cX1_toPour 67 = .ok (.ireturn, 1) := dk_172 (dk_at dksX1_toPour_2 19 rfl rfl)
abbrev cX1_ways : ByteArray := prog_1_method_65_code
def yX1_ways : MethodName := ⟨RX1, "ways", "(II)I"⟩
def dkwX1_ways_0 : List UInt8 := [42, 27, 182, 0, 168, 42, 28, 182, 0, 168, 42, 27, 28, 182, 1, 78, 172]
abbrev dktX1_ways_0 : List UInt8 := dkwX1_ways_0 ++ []
theorem dksX1_ways_0 : cX1_ways.data.toList.drop 0 = dktX1_ways_0 := by decide +kernel
theorem dX1_ways_0 : decode cX1_ways 0 = .ok (.aload_n 0, 1) := dk_42 (dk_at dksX1_ways_0 0 rfl rfl)
theorem dX1_ways_1 : decode cX1_ways 1 = .ok (.iload_n 1, 1) := dk_27 (dk_at dksX1_ways_0 1 rfl rfl)
theorem dX1_ways_2 : decode cX1_ways 2 = .ok (.invokevirtual 168, 3) := dk_182 0 168 (dk_at dksX1_ways_0 2 rfl rfl)
theorem dX1_ways_5 : decode cX1_ways 5 = .ok (.aload_n 0, 1) := dk_42 (dk_at dksX1_ways_0 5 rfl rfl)
theorem dX1_ways_6 : decode cX1_ways 6 = .ok (.iload_n 2, 1) := dk_28 (dk_at dksX1_ways_0 6 rfl rfl)
theorem dX1_ways_7 : decode cX1_ways 7 = .ok (.invokevirtual 168, 3) := dk_182 0 168 (dk_at dksX1_ways_0 7 rfl rfl)
theorem dX1_ways_10 : decode cX1_ways 10 = .ok (.aload_n 0, 1) := dk_42 (dk_at dksX1_ways_0 10 rfl rfl)
theorem dX1_ways_11 : decode cX1_ways 11 = .ok (.iload_n 1, 1) := dk_27 (dk_at dksX1_ways_0 11 rfl rfl)
theorem dX1_ways_12 : decode cX1_ways 12 = .ok (.iload_n 2, 1) := dk_28 (dk_at dksX1_ways_0 12 rfl rfl)
theorem dX1_ways_13 : decode cX1_ways 13 = .ok (.invokevirtual 334, 3) := dk_182 1 78 (dk_at dksX1_ways_0 13 rfl rfl)
theorem dX1_ways_16 : decode cX1_ways 16 = .ok (.ireturn, 1) := dk_172 (dk_at dksX1_ways_0 16 rfl rfl)
abbrev cX1_waysTo : ByteArray := prog_1_method_64_code
def yX1_waysTo : MethodName := ⟨RX1, "waysTo", "(II)I"⟩
def dkwX1_waysTo_2 : List UInt8 := [96, 62, 132, 4, 1, 167, 255, 218, 29, 172]
abbrev dktX1_waysTo_2 : List UInt8 := dkwX1_waysTo_2 ++ []
def dkwX1_waysTo_1 : List UInt8 := [162, 0, 32, 42, 27, 182, 0, 93, 21, 4, 184, 0, 101, 153, 0, 13, 29, 42, 21, 4, 28, 182, 1, 78]
abbrev dktX1_waysTo_1 : List UInt8 := dkwX1_waysTo_1 ++ dktX1_waysTo_2
def dkwX1_waysTo_0 : List UInt8 := [27, 28, 160, 0, 5, 4, 172, 3, 62, 27, 4, 96, 54, 4, 21, 4, 42, 180, 0, 22, 182, 0, 97]
abbrev dktX1_waysTo_0 : List UInt8 := dkwX1_waysTo_0 ++ dktX1_waysTo_1
theorem dksX1_waysTo_0 : cX1_waysTo.data.toList.drop 0 = dktX1_waysTo_0 := by decide +kernel
theorem dksX1_waysTo_1 : cX1_waysTo.data.toList.drop 23 = dktX1_waysTo_1 := dk_seg dksX1_waysTo_0 23 rfl rfl
theorem dksX1_waysTo_2 : cX1_waysTo.data.toList.drop 47 = dktX1_waysTo_2 := dk_seg dksX1_waysTo_1 24 rfl rfl
theorem dX1_waysTo_0 : decode cX1_waysTo 0 = .ok (.iload_n 1, 1) := dk_27 (dk_at dksX1_waysTo_0 0 rfl rfl)
theorem dX1_waysTo_1 : decode cX1_waysTo 1 = .ok (.iload_n 2, 1) := dk_28 (dk_at dksX1_waysTo_0 1 rfl rfl)
theorem dX1_waysTo_2 : decode cX1_waysTo 2 = .ok (.if_icmp .ne 5, 3) := dk_160 0 5 (dk_at dksX1_waysTo_0 2 rfl rfl)
theorem dX1_waysTo_5 : decode cX1_waysTo 5 = .ok (.iconst 1, 1) := dk_4 (dk_at dksX1_waysTo_0 5 rfl rfl)
theorem dX1_waysTo_6 : decode cX1_waysTo 6 = .ok (.ireturn, 1) := dk_172 (dk_at dksX1_waysTo_0 6 rfl rfl)
theorem dX1_waysTo_7 : decode cX1_waysTo 7 = .ok (.iconst 0, 1) := dk_3 (dk_at dksX1_waysTo_0 7 rfl rfl)
theorem dX1_waysTo_8 : decode cX1_waysTo 8 = .ok (.istore_n 3, 1) := dk_62 (dk_at dksX1_waysTo_0 8 rfl rfl)
theorem dX1_waysTo_9 : decode cX1_waysTo 9 = .ok (.iload_n 1, 1) := dk_27 (dk_at dksX1_waysTo_0 9 rfl rfl)
theorem dX1_waysTo_10 : decode cX1_waysTo 10 = .ok (.iconst 1, 1) := dk_4 (dk_at dksX1_waysTo_0 10 rfl rfl)
theorem dX1_waysTo_11 : decode cX1_waysTo 11 = .ok (.iadd, 1) := dk_96 (dk_at dksX1_waysTo_0 11 rfl rfl)
theorem dX1_waysTo_12 : decode cX1_waysTo 12 = .ok (.istore 4, 2) := dk_54 4 (dk_at dksX1_waysTo_0 12 rfl rfl)
theorem dX1_waysTo_14 : decode cX1_waysTo 14 = .ok (.iload 4, 2) := dk_21 4 (dk_at dksX1_waysTo_0 14 rfl rfl)
theorem dX1_waysTo_16 : decode cX1_waysTo 16 = .ok (.aload_n 0, 1) := dk_42 (dk_at dksX1_waysTo_0 16 rfl rfl)
theorem dX1_waysTo_17 : decode cX1_waysTo 17 = .ok (.getfield 22, 3) := dk_180 0 22 (dk_at dksX1_waysTo_0 17 rfl rfl)
theorem dX1_waysTo_20 : decode cX1_waysTo 20 = .ok (.invokevirtual 97, 3) := dk_182 0 97 (dk_at dksX1_waysTo_0 20 rfl rfl)
theorem dX1_waysTo_23 : decode cX1_waysTo 23 = .ok (.if_icmp .ge 32, 3) := dk_162 0 32 (dk_at dksX1_waysTo_1 0 rfl rfl)
theorem dX1_waysTo_26 : decode cX1_waysTo 26 = .ok (.aload_n 0, 1) := dk_42 (dk_at dksX1_waysTo_1 3 rfl rfl)
theorem dX1_waysTo_27 : decode cX1_waysTo 27 = .ok (.iload_n 1, 1) := dk_27 (dk_at dksX1_waysTo_1 4 rfl rfl)
theorem dX1_waysTo_28 : decode cX1_waysTo 28 = .ok (.invokevirtual 93, 3) := dk_182 0 93 (dk_at dksX1_waysTo_1 5 rfl rfl)
theorem dX1_waysTo_31 : decode cX1_waysTo 31 = .ok (.iload 4, 2) := dk_21 4 (dk_at dksX1_waysTo_1 8 rfl rfl)
theorem dX1_waysTo_33 : decode cX1_waysTo 33 = .ok (.invokestatic 101, 3) := dk_184 0 101 (dk_at dksX1_waysTo_1 10 rfl rfl)
theorem dX1_waysTo_36 : decode cX1_waysTo 36 = .ok (.ifCond .eq 13, 3) := dk_153 0 13 (dk_at dksX1_waysTo_1 13 rfl rfl)
theorem dX1_waysTo_39 : decode cX1_waysTo 39 = .ok (.iload_n 3, 1) := dk_29 (dk_at dksX1_waysTo_1 16 rfl rfl)
theorem dX1_waysTo_40 : decode cX1_waysTo 40 = .ok (.aload_n 0, 1) := dk_42 (dk_at dksX1_waysTo_1 17 rfl rfl)
theorem dX1_waysTo_41 : decode cX1_waysTo 41 = .ok (.iload 4, 2) := dk_21 4 (dk_at dksX1_waysTo_1 18 rfl rfl)
theorem dX1_waysTo_43 : decode cX1_waysTo 43 = .ok (.iload_n 2, 1) := dk_28 (dk_at dksX1_waysTo_1 20 rfl rfl)
theorem dX1_waysTo_44 : decode cX1_waysTo 44 = .ok (.invokevirtual 334, 3) := dk_182 1 78 (dk_at dksX1_waysTo_1 21 rfl rfl)
theorem dX1_waysTo_47 : decode cX1_waysTo 47 = .ok (.iadd, 1) := dk_96 (dk_at dksX1_waysTo_2 0 rfl rfl)
theorem dX1_waysTo_48 : decode cX1_waysTo 48 = .ok (.istore_n 3, 1) := dk_62 (dk_at dksX1_waysTo_2 1 rfl rfl)
theorem dX1_waysTo_49 : decode cX1_waysTo 49 = .ok (.iinc 4 1, 3) := dk_132 4 1 (dk_at dksX1_waysTo_2 2 rfl rfl)
theorem dX1_waysTo_52 : decode cX1_waysTo 52 = .ok (.goto (-38), 3) := dk_167 255 218 (dk_at dksX1_waysTo_2 5 rfl rfl)
theorem dX1_waysTo_55 : decode cX1_waysTo 55 = .ok (.iload_n 3, 1) := dk_29 (dk_at dksX1_waysTo_2 8 rfl rfl)
theorem dX1_waysTo_56 : decode cX1_waysTo 56 = .ok (.ireturn, 1) := dk_172 (dk_at dksX1_waysTo_2 9 rfl rfl)
abbrev cX1_chorus : ByteArray := prog_1_method_66_code
def yX1_chorus : MethodName := ⟨RX1, "chorus", "(II)I"⟩
def dkwX1_chorus_2 : List UInt8 := [180, 0, 231, 2, 130, 126, 154, 0, 6, 132, 3, 1, 132, 4, 1, 167, 255, 227, 29, 172]
abbrev dktX1_chorus_2 : List UInt8 := dkwX1_chorus_2 ++ []
def dkwX1_chorus_1 : List UInt8 := [180, 0, 31, 182, 0, 221, 87, 3, 54, 4, 21, 4, 28, 162, 0, 29, 27, 42, 180, 0, 35, 182, 0, 237]
abbrev dktX1_chorus_1 : List UInt8 := dkwX1_chorus_1 ++ dktX1_chorus_2
def dkwX1_chorus_0 : List UInt8 := [42, 27, 182, 0, 243, 28, 4, 17, 0, 200, 184, 0, 161, 184, 0, 62, 3, 62, 42, 180, 0, 35, 42]
abbrev dktX1_chorus_0 : List UInt8 := dkwX1_chorus_0 ++ dktX1_chorus_1
theorem dksX1_chorus_0 : cX1_chorus.data.toList.drop 0 = dktX1_chorus_0 := by decide +kernel
theorem dksX1_chorus_1 : cX1_chorus.data.toList.drop 23 = dktX1_chorus_1 := dk_seg dksX1_chorus_0 23 rfl rfl
theorem dksX1_chorus_2 : cX1_chorus.data.toList.drop 47 = dktX1_chorus_2 := dk_seg dksX1_chorus_1 24 rfl rfl
theorem dX1_chorus_0 : decode cX1_chorus 0 = .ok (.aload_n 0, 1) := dk_42 (dk_at dksX1_chorus_0 0 rfl rfl)
theorem dX1_chorus_1 : decode cX1_chorus 1 = .ok (.iload_n 1, 1) := dk_27 (dk_at dksX1_chorus_0 1 rfl rfl)
theorem dX1_chorus_2 : decode cX1_chorus 2 = .ok (.invokevirtual 243, 3) := dk_182 0 243 (dk_at dksX1_chorus_0 2 rfl rfl)
theorem dX1_chorus_5 : decode cX1_chorus 5 = .ok (.iload_n 2, 1) := dk_28 (dk_at dksX1_chorus_0 5 rfl rfl)
theorem dX1_chorus_6 : decode cX1_chorus 6 = .ok (.iconst 1, 1) := dk_4 (dk_at dksX1_chorus_0 6 rfl rfl)
theorem dX1_chorus_7 : decode cX1_chorus 7 = .ok (.sipush 200, 3) := dk_17 0 200 (dk_at dksX1_chorus_0 7 rfl rfl)
theorem dX1_chorus_10 : decode cX1_chorus 10 = .ok (.invokestatic 161, 3) := dk_184 0 161 (dk_at dksX1_chorus_0 10 rfl rfl)
theorem dX1_chorus_13 : decode cX1_chorus 13 = .ok (.invokestatic 62, 3) := dk_184 0 62 (dk_at dksX1_chorus_0 13 rfl rfl)
theorem dX1_chorus_16 : decode cX1_chorus 16 = .ok (.iconst 0, 1) := dk_3 (dk_at dksX1_chorus_0 16 rfl rfl)
theorem dX1_chorus_17 : decode cX1_chorus 17 = .ok (.istore_n 3, 1) := dk_62 (dk_at dksX1_chorus_0 17 rfl rfl)
theorem dX1_chorus_18 : decode cX1_chorus 18 = .ok (.aload_n 0, 1) := dk_42 (dk_at dksX1_chorus_0 18 rfl rfl)
theorem dX1_chorus_19 : decode cX1_chorus 19 = .ok (.getfield 35, 3) := dk_180 0 35 (dk_at dksX1_chorus_0 19 rfl rfl)
theorem dX1_chorus_22 : decode cX1_chorus 22 = .ok (.aload_n 0, 1) := dk_42 (dk_at dksX1_chorus_0 22 rfl rfl)
theorem dX1_chorus_23 : decode cX1_chorus 23 = .ok (.getfield 31, 3) := dk_180 0 31 (dk_at dksX1_chorus_1 0 rfl rfl)
theorem dX1_chorus_26 : decode cX1_chorus 26 = .ok (.invokevirtual 221, 3) := dk_182 0 221 (dk_at dksX1_chorus_1 3 rfl rfl)
theorem dX1_chorus_29 : decode cX1_chorus 29 = .ok (.pop, 1) := dk_87 (dk_at dksX1_chorus_1 6 rfl rfl)
theorem dX1_chorus_30 : decode cX1_chorus 30 = .ok (.iconst 0, 1) := dk_3 (dk_at dksX1_chorus_1 7 rfl rfl)
theorem dX1_chorus_31 : decode cX1_chorus 31 = .ok (.istore 4, 2) := dk_54 4 (dk_at dksX1_chorus_1 8 rfl rfl)
theorem dX1_chorus_33 : decode cX1_chorus 33 = .ok (.iload 4, 2) := dk_21 4 (dk_at dksX1_chorus_1 10 rfl rfl)
theorem dX1_chorus_35 : decode cX1_chorus 35 = .ok (.iload_n 2, 1) := dk_28 (dk_at dksX1_chorus_1 12 rfl rfl)
theorem dX1_chorus_36 : decode cX1_chorus 36 = .ok (.if_icmp .ge 29, 3) := dk_162 0 29 (dk_at dksX1_chorus_1 13 rfl rfl)
theorem dX1_chorus_39 : decode cX1_chorus 39 = .ok (.iload_n 1, 1) := dk_27 (dk_at dksX1_chorus_1 16 rfl rfl)
theorem dX1_chorus_40 : decode cX1_chorus 40 = .ok (.aload_n 0, 1) := dk_42 (dk_at dksX1_chorus_1 17 rfl rfl)
theorem dX1_chorus_41 : decode cX1_chorus 41 = .ok (.getfield 35, 3) := dk_180 0 35 (dk_at dksX1_chorus_1 18 rfl rfl)
theorem dX1_chorus_44 : decode cX1_chorus 44 = .ok (.invokevirtual 237, 3) := dk_182 0 237 (dk_at dksX1_chorus_1 21 rfl rfl)
theorem dX1_chorus_47 : decode cX1_chorus 47 = .ok (.getfield 231, 3) := dk_180 0 231 (dk_at dksX1_chorus_2 0 rfl rfl)
theorem dX1_chorus_50 : decode cX1_chorus 50 = .ok (.iconst (-1), 1) := dk_2 (dk_at dksX1_chorus_2 3 rfl rfl)
theorem dX1_chorus_51 : decode cX1_chorus 51 = .ok (.ixor, 1) := dk_130 (dk_at dksX1_chorus_2 4 rfl rfl)
theorem dX1_chorus_52 : decode cX1_chorus 52 = .ok (.iand, 1) := dk_126 (dk_at dksX1_chorus_2 5 rfl rfl)
theorem dX1_chorus_53 : decode cX1_chorus 53 = .ok (.ifCond .ne 6, 3) := dk_154 0 6 (dk_at dksX1_chorus_2 6 rfl rfl)
theorem dX1_chorus_56 : decode cX1_chorus 56 = .ok (.iinc 3 1, 3) := dk_132 3 1 (dk_at dksX1_chorus_2 9 rfl rfl)
theorem dX1_chorus_59 : decode cX1_chorus 59 = .ok (.iinc 4 1, 3) := dk_132 4 1 (dk_at dksX1_chorus_2 12 rfl rfl)
theorem dX1_chorus_62 : decode cX1_chorus 62 = .ok (.goto (-29), 3) := dk_167 255 227 (dk_at dksX1_chorus_2 15 rfl rfl)
theorem dX1_chorus_65 : decode cX1_chorus 65 = .ok (.iload_n 3, 1) := dk_29 (dk_at dksX1_chorus_2 18 rfl rfl)
theorem dX1_chorus_66 : decode cX1_chorus 66 = .ok (.ireturn, 1) := dk_172 (dk_at dksX1_chorus_2 19 rfl rfl)
abbrev cX1_never : ByteArray := prog_1_method_67_code
def yX1_never : MethodName := ⟨RX1, "never", "(I)I"⟩
def dkwX1_never_2 : List UInt8 := [182, 0, 237, 180, 0, 231, 2, 130, 126, 61, 132, 3, 1, 167, 255, 233, 28, 172]
abbrev dktX1_never_2 : List UInt8 := dkwX1_never_2 ++ []
def dkwX1_never_1 : List UInt8 := [180, 0, 35, 42, 180, 0, 31, 182, 0, 221, 87, 3, 62, 29, 27, 162, 0, 24, 28, 42, 180, 0, 35]
abbrev dktX1_never_1 : List UInt8 := dkwX1_never_1 ++ dktX1_never_2
def dkwX1_never_0 : List UInt8 := [27, 4, 17, 0, 200, 184, 0, 161, 184, 0, 62, 4, 42, 180, 0, 22, 182, 0, 97, 120, 4, 100, 61, 42]
abbrev dktX1_never_0 : List UInt8 := dkwX1_never_0 ++ dktX1_never_1
theorem dksX1_never_0 : cX1_never.data.toList.drop 0 = dktX1_never_0 := by decide +kernel
theorem dksX1_never_1 : cX1_never.data.toList.drop 24 = dktX1_never_1 := dk_seg dksX1_never_0 24 rfl rfl
theorem dksX1_never_2 : cX1_never.data.toList.drop 47 = dktX1_never_2 := dk_seg dksX1_never_1 23 rfl rfl
theorem dX1_never_0 : decode cX1_never 0 = .ok (.iload_n 1, 1) := dk_27 (dk_at dksX1_never_0 0 rfl rfl)
theorem dX1_never_1 : decode cX1_never 1 = .ok (.iconst 1, 1) := dk_4 (dk_at dksX1_never_0 1 rfl rfl)
theorem dX1_never_2 : decode cX1_never 2 = .ok (.sipush 200, 3) := dk_17 0 200 (dk_at dksX1_never_0 2 rfl rfl)
theorem dX1_never_5 : decode cX1_never 5 = .ok (.invokestatic 161, 3) := dk_184 0 161 (dk_at dksX1_never_0 5 rfl rfl)
theorem dX1_never_8 : decode cX1_never 8 = .ok (.invokestatic 62, 3) := dk_184 0 62 (dk_at dksX1_never_0 8 rfl rfl)
theorem dX1_never_11 : decode cX1_never 11 = .ok (.iconst 1, 1) := dk_4 (dk_at dksX1_never_0 11 rfl rfl)
theorem dX1_never_12 : decode cX1_never 12 = .ok (.aload_n 0, 1) := dk_42 (dk_at dksX1_never_0 12 rfl rfl)
theorem dX1_never_13 : decode cX1_never 13 = .ok (.getfield 22, 3) := dk_180 0 22 (dk_at dksX1_never_0 13 rfl rfl)
theorem dX1_never_16 : decode cX1_never 16 = .ok (.invokevirtual 97, 3) := dk_182 0 97 (dk_at dksX1_never_0 16 rfl rfl)
theorem dX1_never_19 : decode cX1_never 19 = .ok (.ishl, 1) := dk_120 (dk_at dksX1_never_0 19 rfl rfl)
theorem dX1_never_20 : decode cX1_never 20 = .ok (.iconst 1, 1) := dk_4 (dk_at dksX1_never_0 20 rfl rfl)
theorem dX1_never_21 : decode cX1_never 21 = .ok (.isub, 1) := dk_100 (dk_at dksX1_never_0 21 rfl rfl)
theorem dX1_never_22 : decode cX1_never 22 = .ok (.istore_n 2, 1) := dk_61 (dk_at dksX1_never_0 22 rfl rfl)
theorem dX1_never_23 : decode cX1_never 23 = .ok (.aload_n 0, 1) := dk_42 (dk_at dksX1_never_0 23 rfl rfl)
theorem dX1_never_24 : decode cX1_never 24 = .ok (.getfield 35, 3) := dk_180 0 35 (dk_at dksX1_never_1 0 rfl rfl)
theorem dX1_never_27 : decode cX1_never 27 = .ok (.aload_n 0, 1) := dk_42 (dk_at dksX1_never_1 3 rfl rfl)
theorem dX1_never_28 : decode cX1_never 28 = .ok (.getfield 31, 3) := dk_180 0 31 (dk_at dksX1_never_1 4 rfl rfl)
theorem dX1_never_31 : decode cX1_never 31 = .ok (.invokevirtual 221, 3) := dk_182 0 221 (dk_at dksX1_never_1 7 rfl rfl)
theorem dX1_never_34 : decode cX1_never 34 = .ok (.pop, 1) := dk_87 (dk_at dksX1_never_1 10 rfl rfl)
theorem dX1_never_35 : decode cX1_never 35 = .ok (.iconst 0, 1) := dk_3 (dk_at dksX1_never_1 11 rfl rfl)
theorem dX1_never_36 : decode cX1_never 36 = .ok (.istore_n 3, 1) := dk_62 (dk_at dksX1_never_1 12 rfl rfl)
theorem dX1_never_37 : decode cX1_never 37 = .ok (.iload_n 3, 1) := dk_29 (dk_at dksX1_never_1 13 rfl rfl)
theorem dX1_never_38 : decode cX1_never 38 = .ok (.iload_n 1, 1) := dk_27 (dk_at dksX1_never_1 14 rfl rfl)
theorem dX1_never_39 : decode cX1_never 39 = .ok (.if_icmp .ge 24, 3) := dk_162 0 24 (dk_at dksX1_never_1 15 rfl rfl)
theorem dX1_never_42 : decode cX1_never 42 = .ok (.iload_n 2, 1) := dk_28 (dk_at dksX1_never_1 18 rfl rfl)
theorem dX1_never_43 : decode cX1_never 43 = .ok (.aload_n 0, 1) := dk_42 (dk_at dksX1_never_1 19 rfl rfl)
theorem dX1_never_44 : decode cX1_never 44 = .ok (.getfield 35, 3) := dk_180 0 35 (dk_at dksX1_never_1 20 rfl rfl)
theorem dX1_never_47 : decode cX1_never 47 = .ok (.invokevirtual 237, 3) := dk_182 0 237 (dk_at dksX1_never_2 0 rfl rfl)
theorem dX1_never_50 : decode cX1_never 50 = .ok (.getfield 231, 3) := dk_180 0 231 (dk_at dksX1_never_2 3 rfl rfl)
theorem dX1_never_53 : decode cX1_never 53 = .ok (.iconst (-1), 1) := dk_2 (dk_at dksX1_never_2 6 rfl rfl)
theorem dX1_never_54 : decode cX1_never 54 = .ok (.ixor, 1) := dk_130 (dk_at dksX1_never_2 7 rfl rfl)
theorem dX1_never_55 : decode cX1_never 55 = .ok (.iand, 1) := dk_126 (dk_at dksX1_never_2 8 rfl rfl)
theorem dX1_never_56 : decode cX1_never 56 = .ok (.istore_n 2, 1) := dk_61 (dk_at dksX1_never_2 9 rfl rfl)
theorem dX1_never_57 : decode cX1_never 57 = .ok (.iinc 3 1, 3) := dk_132 3 1 (dk_at dksX1_never_2 10 rfl rfl)
theorem dX1_never_60 : decode cX1_never 60 = .ok (.goto (-23), 3) := dk_167 255 233 (dk_at dksX1_never_2 13 rfl rfl)
theorem dX1_never_63 : decode cX1_never 63 = .ok (.iload_n 2, 1) := dk_28 (dk_at dksX1_never_2 16 rfl rfl)
theorem dX1_never_64 : decode cX1_never 64 = .ok (.ireturn, 1) := dk_172 (dk_at dksX1_never_2 17 rfl rfl)
abbrev cX1_swell : ByteArray := prog_1_method_68_code
def yX1_swell : MethodName := ⟨RX1, "swell", "(II)I"⟩
def dkwX1_swell_2 : List UInt8 := [42, 180, 0, 35, 182, 0, 237, 180, 0, 122, 27, 46, 184, 0, 111, 62, 132, 4, 1, 167, 255, 230, 29, 172]
abbrev dktX1_swell_2 : List UInt8 := dkwX1_swell_2 ++ []
def dkwX1_swell_1 : List UInt8 := [46, 62, 42, 180, 0, 35, 42, 180, 0, 31, 182, 0, 221, 87, 3, 54, 4, 21, 4, 28, 162, 0, 26, 29]
abbrev dktX1_swell_1 : List UInt8 := dkwX1_swell_1 ++ dktX1_swell_2
def dkwX1_swell_0 : List UInt8 := [42, 27, 182, 0, 168, 28, 3, 17, 0, 200, 184, 0, 161, 184, 0, 62, 42, 180, 0, 31, 180, 0, 122, 27]
abbrev dktX1_swell_0 : List UInt8 := dkwX1_swell_0 ++ dktX1_swell_1
theorem dksX1_swell_0 : cX1_swell.data.toList.drop 0 = dktX1_swell_0 := by decide +kernel
theorem dksX1_swell_1 : cX1_swell.data.toList.drop 24 = dktX1_swell_1 := dk_seg dksX1_swell_0 24 rfl rfl
theorem dksX1_swell_2 : cX1_swell.data.toList.drop 48 = dktX1_swell_2 := dk_seg dksX1_swell_1 24 rfl rfl
theorem dX1_swell_0 : decode cX1_swell 0 = .ok (.aload_n 0, 1) := dk_42 (dk_at dksX1_swell_0 0 rfl rfl)
theorem dX1_swell_1 : decode cX1_swell 1 = .ok (.iload_n 1, 1) := dk_27 (dk_at dksX1_swell_0 1 rfl rfl)
theorem dX1_swell_2 : decode cX1_swell 2 = .ok (.invokevirtual 168, 3) := dk_182 0 168 (dk_at dksX1_swell_0 2 rfl rfl)
theorem dX1_swell_5 : decode cX1_swell 5 = .ok (.iload_n 2, 1) := dk_28 (dk_at dksX1_swell_0 5 rfl rfl)
theorem dX1_swell_6 : decode cX1_swell 6 = .ok (.iconst 0, 1) := dk_3 (dk_at dksX1_swell_0 6 rfl rfl)
theorem dX1_swell_7 : decode cX1_swell 7 = .ok (.sipush 200, 3) := dk_17 0 200 (dk_at dksX1_swell_0 7 rfl rfl)
theorem dX1_swell_10 : decode cX1_swell 10 = .ok (.invokestatic 161, 3) := dk_184 0 161 (dk_at dksX1_swell_0 10 rfl rfl)
theorem dX1_swell_13 : decode cX1_swell 13 = .ok (.invokestatic 62, 3) := dk_184 0 62 (dk_at dksX1_swell_0 13 rfl rfl)
theorem dX1_swell_16 : decode cX1_swell 16 = .ok (.aload_n 0, 1) := dk_42 (dk_at dksX1_swell_0 16 rfl rfl)
theorem dX1_swell_17 : decode cX1_swell 17 = .ok (.getfield 31, 3) := dk_180 0 31 (dk_at dksX1_swell_0 17 rfl rfl)
theorem dX1_swell_20 : decode cX1_swell 20 = .ok (.getfield 122, 3) := dk_180 0 122 (dk_at dksX1_swell_0 20 rfl rfl)
theorem dX1_swell_23 : decode cX1_swell 23 = .ok (.iload_n 1, 1) := dk_27 (dk_at dksX1_swell_0 23 rfl rfl)
theorem dX1_swell_24 : decode cX1_swell 24 = .ok (.iaload, 1) := dk_46 (dk_at dksX1_swell_1 0 rfl rfl)
theorem dX1_swell_25 : decode cX1_swell 25 = .ok (.istore_n 3, 1) := dk_62 (dk_at dksX1_swell_1 1 rfl rfl)
theorem dX1_swell_26 : decode cX1_swell 26 = .ok (.aload_n 0, 1) := dk_42 (dk_at dksX1_swell_1 2 rfl rfl)
theorem dX1_swell_27 : decode cX1_swell 27 = .ok (.getfield 35, 3) := dk_180 0 35 (dk_at dksX1_swell_1 3 rfl rfl)
theorem dX1_swell_30 : decode cX1_swell 30 = .ok (.aload_n 0, 1) := dk_42 (dk_at dksX1_swell_1 6 rfl rfl)
theorem dX1_swell_31 : decode cX1_swell 31 = .ok (.getfield 31, 3) := dk_180 0 31 (dk_at dksX1_swell_1 7 rfl rfl)
theorem dX1_swell_34 : decode cX1_swell 34 = .ok (.invokevirtual 221, 3) := dk_182 0 221 (dk_at dksX1_swell_1 10 rfl rfl)
theorem dX1_swell_37 : decode cX1_swell 37 = .ok (.pop, 1) := dk_87 (dk_at dksX1_swell_1 13 rfl rfl)
theorem dX1_swell_38 : decode cX1_swell 38 = .ok (.iconst 0, 1) := dk_3 (dk_at dksX1_swell_1 14 rfl rfl)
theorem dX1_swell_39 : decode cX1_swell 39 = .ok (.istore 4, 2) := dk_54 4 (dk_at dksX1_swell_1 15 rfl rfl)
theorem dX1_swell_41 : decode cX1_swell 41 = .ok (.iload 4, 2) := dk_21 4 (dk_at dksX1_swell_1 17 rfl rfl)
theorem dX1_swell_43 : decode cX1_swell 43 = .ok (.iload_n 2, 1) := dk_28 (dk_at dksX1_swell_1 19 rfl rfl)
theorem dX1_swell_44 : decode cX1_swell 44 = .ok (.if_icmp .ge 26, 3) := dk_162 0 26 (dk_at dksX1_swell_1 20 rfl rfl)
theorem dX1_swell_47 : decode cX1_swell 47 = .ok (.iload_n 3, 1) := dk_29 (dk_at dksX1_swell_1 23 rfl rfl)
theorem dX1_swell_48 : decode cX1_swell 48 = .ok (.aload_n 0, 1) := dk_42 (dk_at dksX1_swell_2 0 rfl rfl)
theorem dX1_swell_49 : decode cX1_swell 49 = .ok (.getfield 35, 3) := dk_180 0 35 (dk_at dksX1_swell_2 1 rfl rfl)
theorem dX1_swell_52 : decode cX1_swell 52 = .ok (.invokevirtual 237, 3) := dk_182 0 237 (dk_at dksX1_swell_2 4 rfl rfl)
theorem dX1_swell_55 : decode cX1_swell 55 = .ok (.getfield 122, 3) := dk_180 0 122 (dk_at dksX1_swell_2 7 rfl rfl)
theorem dX1_swell_58 : decode cX1_swell 58 = .ok (.iload_n 1, 1) := dk_27 (dk_at dksX1_swell_2 10 rfl rfl)
theorem dX1_swell_59 : decode cX1_swell 59 = .ok (.iaload, 1) := dk_46 (dk_at dksX1_swell_2 11 rfl rfl)
theorem dX1_swell_60 : decode cX1_swell 60 = .ok (.invokestatic 111, 3) := dk_184 0 111 (dk_at dksX1_swell_2 12 rfl rfl)
theorem dX1_swell_63 : decode cX1_swell 63 = .ok (.istore_n 3, 1) := dk_62 (dk_at dksX1_swell_2 15 rfl rfl)
theorem dX1_swell_64 : decode cX1_swell 64 = .ok (.iinc 4 1, 3) := dk_132 4 1 (dk_at dksX1_swell_2 16 rfl rfl)
theorem dX1_swell_67 : decode cX1_swell 67 = .ok (.goto (-26), 3) := dk_167 255 230 (dk_at dksX1_swell_2 19 rfl rfl)
theorem dX1_swell_70 : decode cX1_swell 70 = .ok (.iload_n 3, 1) := dk_29 (dk_at dksX1_swell_2 22 rfl rfl)
theorem dX1_swell_71 : decode cX1_swell 71 = .ok (.ireturn, 1) := dk_172 (dk_at dksX1_swell_2 23 rfl rfl)
theorem q115 : (Jvm.Cond.initialized "DripCups") ∈ lw_all := lw_g (lw_at lw_m1 1 rfl) rfl
theorem q149 : (Jvm.Cond.instantiable "DripCups" (14 : Nat)) ∈ lw_all := lw_g (lw_at lw_m1 35 rfl) rfl
theorem q151 : (Jvm.Cond.instanceMethod ({ cls := "DripCups", name := "<init>", desc := "()V" } : Jvm.MethodName)) ∈ lw_all := lw_g (lw_at lw_m1 37 rfl) rfl
theorem q152 : (Jvm.Cond.code ({ cls := "DripCups", name := "<init>", desc := "()V" } : Jvm.MethodName) prog_1_method_5_code (1 : Nat) (Option.none : Option Jvm.ClassFile.FieldType)) ∈ lw_all := lw_g (lw_at lw_m1 38 rfl) rfl
theorem q153 : (Jvm.Cond.methodLink "DripCups" (10 : Nat) ({ cls := "java/lang/Object", name := "<init>", desc := "()V" } : Jvm.MethodName)) ∈ lw_all := lw_g (lw_at lw_m1 39 rfl) rfl
theorem q156 : (Jvm.Cond.classLink "DripCups" (19 : Nat) "DripCups$Cave") ∈ lw_all := lw_g (lw_at lw_m1 42 rfl) rfl
theorem q158 : (Jvm.Cond.methodLinkNest "DripCups" (21 : Nat) ({ cls := "DripCups$Cave", name := "<init>", desc := "()V" } : Jvm.MethodName) "DripCups") ∈ lw_tbl := lw_at lw_m1 44 rfl
theorem q191 : (Jvm.Cond.fieldLinkNest "DripCups" (125 : Nat) "DripCups$Cave" "springs" "Ljava/util/List;" "DripCups") ∈ lw_tbl := lw_at lw_m1 77 rfl
theorem q204 : (Jvm.Cond.classLink "DripCups" (26 : Nat) "DripCups$Night") ∈ lw_all := lw_g (lw_at lw_m1 90 rfl) rfl
theorem q206 : (Jvm.Cond.methodLink "DripCups" (28 : Nat) ({ cls := "DripCups$Night", name := "<init>", desc := "(LDripCups;)V" } : Jvm.MethodName)) ∈ lw_all := lw_g (lw_at lw_m1 92 rfl) rfl
theorem q211 : (Jvm.Cond.fieldLinkNest "DripCups" (119 : Nat) "DripCups$Night" "holds" "[I" "DripCups") ∈ lw_tbl := lw_at lw_m1 97 rfl
theorem q214 : (Jvm.Cond.fieldLinkNest "DripCups" (122 : Nat) "DripCups$Night" "fill" "[I" "DripCups") ∈ lw_tbl := lw_at lw_m1 100 rfl
theorem q217 : (Jvm.Cond.fieldLinkNest "DripCups" (175 : Nat) "DripCups$Night" "tips" "[I" "DripCups") ∈ lw_tbl := lw_at lw_m1 103 rfl
theorem q220 : (Jvm.Cond.fieldLinkNest "DripCups" (323 : Nat) "DripCups$Night" "one" "[I" "DripCups") ∈ lw_tbl := lw_at lw_m1 106 rfl
theorem q223 : (Jvm.Cond.fieldLinkNest "DripCups" (320 : Nat) "DripCups$Night" "two" "[I" "DripCups") ∈ lw_tbl := lw_at lw_m1 109 rfl
theorem q226 : (Jvm.Cond.fieldLinkNest "DripCups" (140 : Nat) "DripCups$Night" "hour" "I" "DripCups") ∈ lw_tbl := lw_at lw_m1 112 rfl
theorem q228 : (Jvm.Cond.fieldLinkNest "DripCups" (143 : Nat) "DripCups$Night" "plugged" "I" "DripCups") ∈ lw_tbl := lw_at lw_m1 114 rfl
theorem q231 : (Jvm.Cond.fieldLinkNest "DripCups" (287 : Nat) "DripCups$Night" "warm" "Z" "DripCups") ∈ lw_tbl := lw_at lw_m1 117 rfl
theorem q233 : (Jvm.Cond.fieldLinkNest "DripCups" (283 : Nat) "DripCups$Night" "rests" "Z" "DripCups") ∈ lw_tbl := lw_at lw_m1 119 rfl
theorem q236 : (Jvm.Cond.fieldLinkNest "DripCups" (304 : Nat) "DripCups$Night" "often" "[I" "DripCups") ∈ lw_tbl := lw_at lw_m1 122 rfl
theorem q238 : (Jvm.Cond.fieldLinkNest "DripCups" (231 : Nat) "DripCups$Night" "tipped" "I" "DripCups") ∈ lw_tbl := lw_at lw_m1 124 rfl
theorem q240 : (Jvm.Cond.fieldLinkNest "DripCups" (313 : Nat) "DripCups$Night" "lost" "I" "DripCups") ∈ lw_tbl := lw_at lw_m1 126 rfl
theorem q275 : (Jvm.Cond.classLink "DripCups" (49 : Nat) "java/util/ArrayList") ∈ lw_all := lw_g (lw_at lw_m1 161 rfl) rfl
theorem q276 : (Jvm.Cond.methodLink "DripCups" (51 : Nat) ({ cls := "java/util/ArrayList", name := "<init>", desc := "()V" } : Jvm.MethodName)) ∈ lw_all := lw_g (lw_at lw_m1 162 rfl) rfl
theorem q277 : (Jvm.Cond.fieldLink "DripCups" (13 : Nat) "DripCups" "values" "[I") ∈ lw_all := lw_g (lw_at lw_m1 163 rfl) rfl
theorem q279 : (Jvm.Cond.fieldLink "DripCups" (22 : Nat) "DripCups" "cavern" "LDripCups$Cave;") ∈ lw_all := lw_g (lw_at lw_m1 165 rfl) rfl
theorem q281 : (Jvm.Cond.fieldLink "DripCups" (31 : Nat) "DripCups" "night" "LDripCups$Night;") ∈ lw_all := lw_g (lw_at lw_m1 167 rfl) rfl
theorem q282 : (Jvm.Cond.fieldLink "DripCups" (35 : Nat) "DripCups" "tried" "LDripCups$Night;") ∈ lw_all := lw_g (lw_at lw_m1 168 rfl) rfl
theorem q284 : (Jvm.Cond.fieldLink "DripCups" (38 : Nat) "DripCups" "tape" "[B") ∈ lw_all := lw_g (lw_at lw_m1 170 rfl) rfl
theorem q285 : (Jvm.Cond.fieldLink "DripCups" (59 : Nat) "DripCups" "taped" "I") ∈ lw_all := lw_g (lw_at lw_m1 171 rfl) rfl
theorem q286 : (Jvm.Cond.fieldLink "DripCups" (42 : Nat) "DripCups" "faultPlace" "I") ∈ lw_all := lw_g (lw_at lw_m1 172 rfl) rfl
theorem q287 : (Jvm.Cond.fieldLink "DripCups" (46 : Nat) "DripCups" "refused" "[I") ∈ lw_all := lw_g (lw_at lw_m1 173 rfl) rfl
theorem q288 : (Jvm.Cond.fieldLink "DripCups" (52 : Nat) "DripCups" "acts" "Ljava/util/List;") ∈ lw_all := lw_g (lw_at lw_m1 174 rfl) rfl
theorem q289 : (Jvm.Cond.fieldLink "DripCups" (56 : Nat) "DripCups" "heard" "Ljava/util/List;") ∈ lw_all := lw_g (lw_at lw_m1 175 rfl) rfl
theorem q290 : (Jvm.Cond.fieldLink "DripCups" (86 : Nat) "DripCups" "nightThen" "LDripCups$Night;") ∈ lw_all := lw_g (lw_at lw_m1 176 rfl) rfl
theorem q291 : (Jvm.Cond.fieldLink "DripCups" (340 : Nat) "DripCups" "actsThen" "Ljava/util/List;") ∈ lw_all := lw_g (lw_at lw_m1 177 rfl) rfl
theorem q292 : (Jvm.Cond.fieldLink "DripCups" (343 : Nat) "DripCups" "heardThen" "Ljava/util/List;") ∈ lw_all := lw_g (lw_at lw_m1 178 rfl) rfl
theorem q293 : (Jvm.Cond.fieldLink "DripCups" (294 : Nat) "DripCups" "seed" "I") ∈ lw_all := lw_g (lw_at lw_m1 179 rfl) rfl
theorem q294 : (Jvm.Cond.laysFinal "DripCups" "DripCups" "values" "[I") ∈ lw_all := lw_g (lw_at lw_m1 180 rfl) rfl
theorem q295 : (Jvm.Cond.soleField "DripCups" "values") ∈ lw_all := lw_g (lw_at lw_m1 181 rfl) rfl
theorem q296 : (Jvm.Cond.lays "DripCups" "DripCups" "cavern" "LDripCups$Cave;") ∈ lw_all := lw_g (lw_at lw_m1 182 rfl) rfl
theorem q297 : (Jvm.Cond.soleField "DripCups" "cavern") ∈ lw_all := lw_g (lw_at lw_m1 183 rfl) rfl
theorem q298 : (Jvm.Cond.lays "DripCups" "DripCups" "night" "LDripCups$Night;") ∈ lw_all := lw_g (lw_at lw_m1 184 rfl) rfl
theorem q299 : (Jvm.Cond.soleField "DripCups" "night") ∈ lw_all := lw_g (lw_at lw_m1 185 rfl) rfl
theorem q300 : (Jvm.Cond.laysFinal "DripCups" "DripCups" "tried" "LDripCups$Night;") ∈ lw_all := lw_g (lw_at lw_m1 186 rfl) rfl
theorem q301 : (Jvm.Cond.soleField "DripCups" "tried") ∈ lw_all := lw_g (lw_at lw_m1 187 rfl) rfl
theorem q302 : (Jvm.Cond.laysFinal "DripCups" "DripCups" "tape" "[B") ∈ lw_all := lw_g (lw_at lw_m1 188 rfl) rfl
theorem q303 : (Jvm.Cond.soleField "DripCups" "tape") ∈ lw_all := lw_g (lw_at lw_m1 189 rfl) rfl
theorem q304 : (Jvm.Cond.lays "DripCups" "DripCups" "taped" "I") ∈ lw_all := lw_g (lw_at lw_m1 190 rfl) rfl
theorem q305 : (Jvm.Cond.soleField "DripCups" "taped") ∈ lw_all := lw_g (lw_at lw_m1 191 rfl) rfl
theorem q306 : (Jvm.Cond.lays "DripCups" "DripCups" "faultPlace" "I") ∈ lw_all := lw_g (lw_at lw_m1 192 rfl) rfl
theorem q307 : (Jvm.Cond.soleField "DripCups" "faultPlace") ∈ lw_all := lw_g (lw_at lw_m1 193 rfl) rfl
theorem q308 : (Jvm.Cond.laysFinal "DripCups" "DripCups" "refused" "[I") ∈ lw_all := lw_g (lw_at lw_m1 194 rfl) rfl
theorem q309 : (Jvm.Cond.soleField "DripCups" "refused") ∈ lw_all := lw_g (lw_at lw_m1 195 rfl) rfl
theorem q310 : (Jvm.Cond.lays "DripCups" "DripCups" "acts" "Ljava/util/List;") ∈ lw_all := lw_g (lw_at lw_m1 196 rfl) rfl
theorem q311 : (Jvm.Cond.soleField "DripCups" "acts") ∈ lw_all := lw_g (lw_at lw_m1 197 rfl) rfl
theorem q312 : (Jvm.Cond.lays "DripCups" "DripCups" "heard" "Ljava/util/List;") ∈ lw_all := lw_g (lw_at lw_m1 198 rfl) rfl
theorem q313 : (Jvm.Cond.soleField "DripCups" "heard") ∈ lw_all := lw_g (lw_at lw_m1 199 rfl) rfl
theorem q314 : (Jvm.Cond.lays "DripCups" "DripCups" "nightThen" "LDripCups$Night;") ∈ lw_all := lw_g (lw_at lw_m1 200 rfl) rfl
theorem q315 : (Jvm.Cond.soleField "DripCups" "nightThen") ∈ lw_all := lw_g (lw_at lw_m1 201 rfl) rfl
theorem q316 : (Jvm.Cond.lays "DripCups" "DripCups" "actsThen" "Ljava/util/List;") ∈ lw_all := lw_g (lw_at lw_m1 202 rfl) rfl
theorem q317 : (Jvm.Cond.soleField "DripCups" "actsThen") ∈ lw_all := lw_g (lw_at lw_m1 203 rfl) rfl
theorem q318 : (Jvm.Cond.lays "DripCups" "DripCups" "heardThen" "Ljava/util/List;") ∈ lw_all := lw_g (lw_at lw_m1 204 rfl) rfl
theorem q319 : (Jvm.Cond.soleField "DripCups" "heardThen") ∈ lw_all := lw_g (lw_at lw_m1 205 rfl) rfl
theorem q320 : (Jvm.Cond.lays "DripCups" "DripCups" "seed" "I") ∈ lw_all := lw_g (lw_at lw_m1 206 rfl) rfl
theorem q321 : (Jvm.Cond.soleField "DripCups" "seed") ∈ lw_all := lw_g (lw_at lw_m1 207 rfl) rfl
theorem q322 : (Jvm.Cond.superclass "DripCups" "java/lang/Object") ∈ lw_all := lw_g (lw_at lw_m1 208 rfl) rfl
theorem q325 : (Jvm.Cond.instanceMethod ({ cls := "DripCups", name := "feed", desc := "(IIIII)I" } : Jvm.MethodName)) ∈ lw_all := lw_g (lw_at lw_m1 211 rfl) rfl
theorem q326 : (Jvm.Cond.selects "DripCups" ({ cls := "DripCups", name := "feed", desc := "(IIIII)I" } : Jvm.MethodName) ({ cls := "DripCups", name := "feed", desc := "(IIIII)I" } : Jvm.MethodName)) ∈ lw_all := lw_g (lw_at lw_m1 212 rfl) rfl
theorem q327 : (Jvm.Cond.code ({ cls := "DripCups", name := "feed", desc := "(IIIII)I" } : Jvm.MethodName) prog_1_method_6_code (8 : Nat) (Option.some Jvm.ClassFile.FieldType.int)) ∈ lw_all := lw_g (lw_at lw_m1 213 rfl) rfl
theorem q329 : (Jvm.Cond.instanceMethod ({ cls := "DripCups", name := "fault", desc := "()I" } : Jvm.MethodName)) ∈ lw_all := lw_g (lw_at lw_m1 215 rfl) rfl
theorem q330 : (Jvm.Cond.selects "DripCups" ({ cls := "DripCups", name := "fault", desc := "()I" } : Jvm.MethodName) ({ cls := "DripCups", name := "fault", desc := "()I" } : Jvm.MethodName)) ∈ lw_all := lw_g (lw_at lw_m1 216 rfl) rfl
theorem q331 : (Jvm.Cond.code ({ cls := "DripCups", name := "fault", desc := "()I" } : Jvm.MethodName) prog_1_method_8_code (1 : Nat) (Option.some Jvm.ClassFile.FieldType.int)) ∈ lw_all := lw_g (lw_at lw_m1 217 rfl) rfl
theorem q333 : (Jvm.Cond.instanceMethod ({ cls := "DripCups", name := "hours", desc := "(I)I" } : Jvm.MethodName)) ∈ lw_all := lw_g (lw_at lw_m1 219 rfl) rfl
theorem q334 : (Jvm.Cond.selects "DripCups" ({ cls := "DripCups", name := "hours", desc := "(I)I" } : Jvm.MethodName) ({ cls := "DripCups", name := "hours", desc := "(I)I" } : Jvm.MethodName)) ∈ lw_all := lw_g (lw_at lw_m1 220 rfl) rfl
theorem q335 : (Jvm.Cond.code ({ cls := "DripCups", name := "hours", desc := "(I)I" } : Jvm.MethodName) prog_1_method_22_code (2 : Nat) (Option.some Jvm.ClassFile.FieldType.int)) ∈ lw_all := lw_g (lw_at lw_m1 221 rfl) rfl
theorem q336 : (Jvm.Cond.methodLink "DripCups" (161 : Nat) ({ cls := "DripCups", name := "in", desc := "(III)Z" } : Jvm.MethodName)) ∈ lw_all := lw_g (lw_at lw_m1 222 rfl) rfl
theorem q337 : (Jvm.Cond.static ({ cls := "DripCups", name := "in", desc := "(III)Z" } : Jvm.MethodName)) ∈ lw_all := lw_g (lw_at lw_m1 223 rfl) rfl
theorem q338 : (Jvm.Cond.code ({ cls := "DripCups", name := "in", desc := "(III)Z" } : Jvm.MethodName) prog_1_method_1_code (3 : Nat) (Option.some Jvm.ClassFile.FieldType.boolean)) ∈ lw_all := lw_g (lw_at lw_m1 224 rfl) rfl
theorem q339 : (Jvm.Cond.methodLink "DripCups" (192 : Nat) ({ cls := "DripCups", name := "refuse", desc := "(I)I" } : Jvm.MethodName)) ∈ lw_all := lw_g (lw_at lw_m1 225 rfl) rfl
theorem q340 : (Jvm.Cond.privateMethod ({ cls := "DripCups", name := "refuse", desc := "(I)I" } : Jvm.MethodName)) ∈ lw_tbl := lw_at lw_m1 226 rfl
theorem q341 : (Jvm.Cond.instanceMethod ({ cls := "DripCups", name := "refuse", desc := "(I)I" } : Jvm.MethodName)) ∈ lw_all := lw_g (lw_at lw_m1 227 rfl) rfl
theorem q342 : (Jvm.Cond.code ({ cls := "DripCups", name := "refuse", desc := "(I)I" } : Jvm.MethodName) prog_1_method_20_code (2 : Nat) (Option.some Jvm.ClassFile.FieldType.int)) ∈ lw_all := lw_g (lw_at lw_m1 228 rfl) rfl
theorem q343 : (Jvm.Cond.methodLink "DripCups" (195 : Nat) ({ cls := "DripCups", name := "keep", desc := "()V" } : Jvm.MethodName)) ∈ lw_all := lw_g (lw_at lw_m1 229 rfl) rfl
theorem q344 : (Jvm.Cond.privateMethod ({ cls := "DripCups", name := "keep", desc := "()V" } : Jvm.MethodName)) ∈ lw_tbl := lw_at lw_m1 230 rfl
theorem q345 : (Jvm.Cond.instanceMethod ({ cls := "DripCups", name := "keep", desc := "()V" } : Jvm.MethodName)) ∈ lw_all := lw_g (lw_at lw_m1 231 rfl) rfl
theorem q346 : (Jvm.Cond.code ({ cls := "DripCups", name := "keep", desc := "()V" } : Jvm.MethodName) prog_1_method_19_code (1 : Nat) (Option.none : Option Jvm.ClassFile.FieldType)) ∈ lw_all := lw_g (lw_at lw_m1 232 rfl) rfl
theorem q347 : (Jvm.Cond.methodLink "DripCups" (182 : Nat) ({ cls := "DripCups$Night", name := "copy", desc := "()LDripCups$Night;" } : Jvm.MethodName)) ∈ lw_all := lw_g (lw_at lw_m1 233 rfl) rfl
theorem q357 : (Jvm.Cond.interfaceEntry "DripCups" (186 : Nat)) ∈ lw_tbl := lw_at lw_m2 3 rfl
theorem q358 : (Jvm.Cond.methodLink "DripCups" (186 : Nat) ({ cls := "java/util/List", name := "add", desc := "(Ljava/lang/Object;)Z" } : Jvm.MethodName)) ∈ lw_all := lw_g (lw_at lw_m2 4 rfl) rfl
theorem q395 : (Jvm.Cond.selects "DripCups" ({ cls := "java/lang/Object", name := "getClass", desc := "()Ljava/lang/Class;" } : Jvm.MethodName) ({ cls := "java/lang/Object", name := "getClass", desc := "()Ljava/lang/Class;" } : Jvm.MethodName)) ∈ lw_all := lw_g (lw_at lw_m2 41 rfl) rfl
theorem q425 : (Jvm.Cond.interfaceEntry "DripCups" (158 : Nat)) ∈ lw_tbl := lw_at lw_m2 71 rfl
theorem q426 : (Jvm.Cond.methodLink "DripCups" (158 : Nat) ({ cls := "java/util/List", name := "size", desc := "()I" } : Jvm.MethodName)) ∈ lw_all := lw_g (lw_at lw_m2 72 rfl) rfl
theorem q434 : (Jvm.Cond.interfaceEntry "DripCups" (189 : Nat)) ∈ lw_tbl := lw_at lw_m2 80 rfl
theorem q435 : (Jvm.Cond.methodLink "DripCups" (189 : Nat) ({ cls := "java/util/List", name := "remove", desc := "(I)Ljava/lang/Object;" } : Jvm.MethodName)) ∈ lw_all := lw_g (lw_at lw_m2 81 rfl) rfl
theorem q454 : (Jvm.Cond.methodLink "DripCups" (198 : Nat) ({ cls := "DripCups$Night", name := "after", desc := "(I)LDripCups$Night;" } : Jvm.MethodName)) ∈ lw_all := lw_g (lw_at lw_m2 100 rfl) rfl
theorem q477 : (Jvm.Cond.static ({ cls := "DripCups", name := "isOf", desc := "(II)Z" } : Jvm.MethodName)) ∈ lw_all := lw_g (lw_at lw_m2 123 rfl) rfl
theorem q478 : (Jvm.Cond.code ({ cls := "DripCups", name := "isOf", desc := "(II)Z" } : Jvm.MethodName) prog_1_method_4_code (2 : Nat) (Option.some Jvm.ClassFile.FieldType.boolean)) ∈ lw_all := lw_g (lw_at lw_m2 124 rfl) rfl
theorem q588 : (Jvm.Cond.instanceMethod ({ cls := "DripCups", name := "undo", desc := "()I" } : Jvm.MethodName)) ∈ lw_all := lw_g (lw_at lw_m2 234 rfl) rfl
theorem q589 : (Jvm.Cond.selects "DripCups" ({ cls := "DripCups", name := "undo", desc := "()I" } : Jvm.MethodName) ({ cls := "DripCups", name := "undo", desc := "()I" } : Jvm.MethodName)) ∈ lw_all := lw_g (lw_at lw_m2 235 rfl) rfl
theorem q590 : (Jvm.Cond.code ({ cls := "DripCups", name := "undo", desc := "()I" } : Jvm.MethodName) prog_1_method_27_code (1 : Nat) (Option.some Jvm.ClassFile.FieldType.int)) ∈ lw_all := lw_g (lw_at lw_m2 236 rfl) rfl
theorem q591 : (Jvm.Cond.interfaceEntry "DripCups" (218 : Nat)) ∈ lw_tbl := lw_at lw_m2 237 rfl
theorem q592 : (Jvm.Cond.methodLink "DripCups" (218 : Nat) ({ cls := "java/util/List", name := "isEmpty", desc := "()Z" } : Jvm.MethodName)) ∈ lw_all := lw_g (lw_at lw_m2 238 rfl) rfl
theorem q601 : (Jvm.Cond.instanceMethod ({ cls := "DripCups", name := "forget", desc := "()V" } : Jvm.MethodName)) ∈ lw_all := lw_g (lw_at lw_m3 7 rfl) rfl
theorem q602 : (Jvm.Cond.selects "DripCups" ({ cls := "DripCups", name := "forget", desc := "()V" } : Jvm.MethodName) ({ cls := "DripCups", name := "forget", desc := "()V" } : Jvm.MethodName)) ∈ lw_all := lw_g (lw_at lw_m3 8 rfl) rfl
theorem q603 : (Jvm.Cond.code ({ cls := "DripCups", name := "forget", desc := "()V" } : Jvm.MethodName) prog_1_method_45_code (1 : Nat) (Option.none : Option Jvm.ClassFile.FieldType)) ∈ lw_all := lw_g (lw_at lw_m3 9 rfl) rfl
theorem q605 : (Jvm.Cond.instanceMethod ({ cls := "DripCups", name := "round", desc := "()I" } : Jvm.MethodName)) ∈ lw_all := lw_g (lw_at lw_m3 11 rfl) rfl
theorem q606 : (Jvm.Cond.selects "DripCups" ({ cls := "DripCups", name := "round", desc := "()I" } : Jvm.MethodName) ({ cls := "DripCups", name := "round", desc := "()I" } : Jvm.MethodName)) ∈ lw_all := lw_g (lw_at lw_m3 12 rfl) rfl
theorem q607 : (Jvm.Cond.code ({ cls := "DripCups", name := "round", desc := "()I" } : Jvm.MethodName) prog_1_method_59_code (2 : Nat) (Option.some Jvm.ClassFile.FieldType.int)) ∈ lw_all := lw_g (lw_at lw_m3 13 rfl) rfl
theorem q608 : (Jvm.Cond.methodLink "DripCups" (221 : Nat) ({ cls := "DripCups$Night", name := "be", desc := "(LDripCups$Night;)LDripCups$Night;" } : Jvm.MethodName)) ∈ lw_all := lw_g (lw_at lw_m3 14 rfl) rfl
theorem q609 : (Jvm.Cond.methodLink "DripCups" (237 : Nat) ({ cls := "DripCups$Night", name := "pass", desc := "()LDripCups$Night;" } : Jvm.MethodName)) ∈ lw_all := lw_g (lw_at lw_m3 15 rfl) rfl
theorem q610 : (Jvm.Cond.methodLink "DripCups" (316 : Nat) ({ cls := "DripCups$Night", name := "isAsFull", desc := "(LDripCups$Night;)Z" } : Jvm.MethodName)) ∈ lw_all := lw_g (lw_at lw_m3 16 rfl) rfl
theorem q615 : (Jvm.Cond.instanceMethod ({ cls := "DripCups", name := "image", desc := "()V" } : Jvm.MethodName)) ∈ lw_all := lw_g (lw_at lw_m3 21 rfl) rfl
theorem q616 : (Jvm.Cond.selects "DripCups" ({ cls := "DripCups", name := "image", desc := "()V" } : Jvm.MethodName) ({ cls := "DripCups", name := "image", desc := "()V" } : Jvm.MethodName)) ∈ lw_all := lw_g (lw_at lw_m3 22 rfl) rfl
theorem q617 : (Jvm.Cond.code ({ cls := "DripCups", name := "image", desc := "()V" } : Jvm.MethodName) prog_1_method_69_code (1 : Nat) (Option.none : Option Jvm.ClassFile.FieldType)) ∈ lw_all := lw_g (lw_at lw_m3 23 rfl) rfl
theorem q618 : (Jvm.Cond.methodLink "DripCups" (337 : Nat) ({ cls := "java/util/ArrayList", name := "<init>", desc := "(Ljava/util/Collection;)V" } : Jvm.MethodName)) ∈ lw_all := lw_g (lw_at lw_m3 24 rfl) rfl
theorem q643 : (Jvm.Cond.instanceMethod ({ cls := "DripCups", name := "restore", desc := "()Z" } : Jvm.MethodName)) ∈ lw_all := lw_g (lw_at lw_m3 49 rfl) rfl
theorem q644 : (Jvm.Cond.selects "DripCups" ({ cls := "DripCups", name := "restore", desc := "()Z" } : Jvm.MethodName) ({ cls := "DripCups", name := "restore", desc := "()Z" } : Jvm.MethodName)) ∈ lw_all := lw_g (lw_at lw_m3 50 rfl) rfl
theorem q645 : (Jvm.Cond.code ({ cls := "DripCups", name := "restore", desc := "()Z" } : Jvm.MethodName) prog_1_method_70_code (1 : Nat) (Option.some Jvm.ClassFile.FieldType.boolean)) ∈ lw_all := lw_g (lw_at lw_m3 51 rfl) rfl
theorem q651 : (Jvm.Cond.instanceMethod ({ cls := "DripCups", name := "cave", desc := "(I)I" } : Jvm.MethodName)) ∈ lw_all := lw_g (lw_at lw_m3 57 rfl) rfl
theorem q652 : (Jvm.Cond.selects "DripCups" ({ cls := "DripCups", name := "cave", desc := "(I)I" } : Jvm.MethodName) ({ cls := "DripCups", name := "cave", desc := "(I)I" } : Jvm.MethodName)) ∈ lw_all := lw_g (lw_at lw_m3 58 rfl) rfl
theorem q653 : (Jvm.Cond.codeWith ({ cls := "DripCups", name := "cave", desc := "(I)I" } : Jvm.MethodName) prog_1_method_7_code (4 : Nat) (Option.some Jvm.ClassFile.FieldType.int) [((40 : Nat), (48 : Nat), (51 : Nat), (75 : Nat))]) ∈ lw_all := lw_g (lw_at lw_m3 59 rfl) rfl
theorem q654 : (Jvm.Cond.classLink "DripCups" (75 : Nat) "DripCups$Wrong") ∈ lw_all := lw_g (lw_at lw_m3 60 rfl) rfl
theorem q655 : (Jvm.Cond.methodLink "DripCups" (62 : Nat) ({ cls := "DripCups", name := "right", desc := "(Z)V" } : Jvm.MethodName)) ∈ lw_all := lw_g (lw_at lw_m3 61 rfl) rfl
theorem q656 : (Jvm.Cond.static ({ cls := "DripCups", name := "right", desc := "(Z)V" } : Jvm.MethodName)) ∈ lw_all := lw_g (lw_at lw_m3 62 rfl) rfl
theorem q657 : (Jvm.Cond.code ({ cls := "DripCups", name := "right", desc := "(Z)V" } : Jvm.MethodName) prog_1_method_3_code (1 : Nat) (Option.none : Option Jvm.ClassFile.FieldType)) ∈ lw_all := lw_g (lw_at lw_m3 63 rfl) rfl
theorem q658 : (Jvm.Cond.classLink "DripCups" (7 : Nat) "java/lang/IllegalArgumentException") ∈ lw_all := lw_g (lw_at lw_m3 64 rfl) rfl
theorem q699 : (Jvm.Cond.methodLink "DripCups" (9 : Nat) ({ cls := "java/lang/IllegalArgumentException", name := "<init>", desc := "()V" } : Jvm.MethodName)) ∈ lw_all := lw_g (lw_at lw_m3 105 rfl) rfl
theorem q722 : (Jvm.Cond.classLink "DripCups" (66 : Nat) "DripCups$Reader") ∈ lw_all := lw_g (lw_at lw_m3 128 rfl) rfl
theorem q724 : (Jvm.Cond.methodLink "DripCups" (68 : Nat) ({ cls := "DripCups$Reader", name := "<init>", desc := "(LDripCups;I)V" } : Jvm.MethodName)) ∈ lw_all := lw_g (lw_at lw_m3 130 rfl) rfl
theorem q745 : (Jvm.Cond.fieldLinkNest "DripCups" (83 : Nat) "DripCups$Reader" "begun" "LDripCups$Night;" "DripCups") ∈ lw_tbl := lw_at lw_m3 151 rfl
theorem q751 : (Jvm.Cond.fieldLinkNest "DripCups" (77 : Nat) "DripCups$Reader" "begins" "I" "DripCups") ∈ lw_tbl := lw_at lw_m3 157 rfl
theorem q784 : (Jvm.Cond.methodLink "DripCups" (71 : Nat) ({ cls := "DripCups$Reader", name := "read", desc := "()LDripCups$Cave;" } : Jvm.MethodName)) ∈ lw_all := lw_g (lw_at lw_m3 190 rfl) rfl
theorem q933 : (Jvm.Cond.fieldLinkNest "DripCups" (80 : Nat) "DripCups$Wrong" "kind" "I" "DripCups") ∈ lw_tbl := lw_at lw_m4 99 rfl
theorem q1169 : (Jvm.Cond.instanceMethod ({ cls := "DripCups", name := "count", desc := "(I)I" } : Jvm.MethodName)) ∈ lw_all := lw_g (lw_at lw_m5 95 rfl) rfl
theorem q1170 : (Jvm.Cond.selects "DripCups" ({ cls := "DripCups", name := "count", desc := "(I)I" } : Jvm.MethodName) ({ cls := "DripCups", name := "count", desc := "(I)I" } : Jvm.MethodName)) ∈ lw_all := lw_g (lw_at lw_m5 96 rfl) rfl
theorem q1171 : (Jvm.Cond.code ({ cls := "DripCups", name := "count", desc := "(I)I" } : Jvm.MethodName) prog_1_method_15_code (2 : Nat) (Option.some Jvm.ClassFile.FieldType.int)) ∈ lw_all := lw_g (lw_at lw_m5 97 rfl) rfl
theorem q1172 : (Jvm.Cond.methodLink "DripCups" (97 : Nat) ({ cls := "DripCups$Cave", name := "cups", desc := "()I" } : Jvm.MethodName)) ∈ lw_all := lw_g (lw_at lw_m5 98 rfl) rfl
theorem q1173 : (Jvm.Cond.methodLink "DripCups" (146 : Nat) ({ cls := "DripCups$Night", name := "allFill", desc := "()I" } : Jvm.MethodName)) ∈ lw_all := lw_g (lw_at lw_m5 99 rfl) rfl
theorem q1177 : (Jvm.Cond.methodLink "DripCups" (149 : Nat) ({ cls := "DripCups$Night", name := "allTips", desc := "()I" } : Jvm.MethodName)) ∈ lw_all := lw_g (lw_at lw_m5 103 rfl) rfl
theorem q1185 : (Jvm.Cond.methodLink "DripCups" (152 : Nat) ({ cls := "DripCups", name := "roots", desc := "()I" } : Jvm.MethodName)) ∈ lw_all := lw_g (lw_at lw_m5 111 rfl) rfl
theorem q1186 : (Jvm.Cond.privateMethod ({ cls := "DripCups", name := "roots", desc := "()I" } : Jvm.MethodName)) ∈ lw_tbl := lw_at lw_m5 112 rfl
theorem q1187 : (Jvm.Cond.instanceMethod ({ cls := "DripCups", name := "roots", desc := "()I" } : Jvm.MethodName)) ∈ lw_all := lw_g (lw_at lw_m5 113 rfl) rfl
theorem q1188 : (Jvm.Cond.code ({ cls := "DripCups", name := "roots", desc := "()I" } : Jvm.MethodName) prog_1_method_13_code (3 : Nat) (Option.some Jvm.ClassFile.FieldType.int)) ∈ lw_all := lw_g (lw_at lw_m5 114 rfl) rfl
theorem q1189 : (Jvm.Cond.methodLink "DripCups" (116 : Nat) ({ cls := "DripCups", name := "above", desc := "(I)I" } : Jvm.MethodName)) ∈ lw_all := lw_g (lw_at lw_m5 115 rfl) rfl
theorem q1190 : (Jvm.Cond.privateMethod ({ cls := "DripCups", name := "above", desc := "(I)I" } : Jvm.MethodName)) ∈ lw_tbl := lw_at lw_m5 116 rfl
theorem q1191 : (Jvm.Cond.instanceMethod ({ cls := "DripCups", name := "above", desc := "(I)I" } : Jvm.MethodName)) ∈ lw_all := lw_g (lw_at lw_m5 117 rfl) rfl
theorem q1192 : (Jvm.Cond.code ({ cls := "DripCups", name := "above", desc := "(I)I" } : Jvm.MethodName) prog_1_method_11_code (4 : Nat) (Option.some Jvm.ClassFile.FieldType.int)) ∈ lw_all := lw_g (lw_at lw_m5 118 rfl) rfl
theorem q1193 : (Jvm.Cond.methodLink "DripCups" (105 : Nat) ({ cls := "DripCups", name := "below", desc := "(I)I" } : Jvm.MethodName)) ∈ lw_all := lw_g (lw_at lw_m5 119 rfl) rfl
theorem q1194 : (Jvm.Cond.privateMethod ({ cls := "DripCups", name := "below", desc := "(I)I" } : Jvm.MethodName)) ∈ lw_tbl := lw_at lw_m5 120 rfl
theorem q1195 : (Jvm.Cond.instanceMethod ({ cls := "DripCups", name := "below", desc := "(I)I" } : Jvm.MethodName)) ∈ lw_all := lw_g (lw_at lw_m5 121 rfl) rfl
theorem q1196 : (Jvm.Cond.code ({ cls := "DripCups", name := "below", desc := "(I)I" } : Jvm.MethodName) prog_1_method_10_code (4 : Nat) (Option.some Jvm.ClassFile.FieldType.int)) ∈ lw_all := lw_g (lw_at lw_m5 122 rfl) rfl
theorem q1197 : (Jvm.Cond.methodLink "DripCups" (93 : Nat) ({ cls := "DripCups", name := "straight", desc := "(I)I" } : Jvm.MethodName)) ∈ lw_all := lw_g (lw_at lw_m5 123 rfl) rfl
theorem q1198 : (Jvm.Cond.privateMethod ({ cls := "DripCups", name := "straight", desc := "(I)I" } : Jvm.MethodName)) ∈ lw_tbl := lw_at lw_m5 124 rfl
theorem q1199 : (Jvm.Cond.instanceMethod ({ cls := "DripCups", name := "straight", desc := "(I)I" } : Jvm.MethodName)) ∈ lw_all := lw_g (lw_at lw_m5 125 rfl) rfl
theorem q1200 : (Jvm.Cond.code ({ cls := "DripCups", name := "straight", desc := "(I)I" } : Jvm.MethodName) prog_1_method_9_code (4 : Nat) (Option.some Jvm.ClassFile.FieldType.int)) ∈ lw_all := lw_g (lw_at lw_m5 126 rfl) rfl
theorem q1201 : (Jvm.Cond.methodLink "DripCups" (89 : Nat) ({ cls := "DripCups$Night", name := "into", desc := "(II)I" } : Jvm.MethodName)) ∈ lw_all := lw_g (lw_at lw_m5 127 rfl) rfl
theorem q1202 : (Jvm.Cond.methodLink "DripCups" (101 : Nat) ({ cls := "DripCups", name := "isOf", desc := "(II)Z" } : Jvm.MethodName)) ∈ lw_all := lw_g (lw_at lw_m5 128 rfl) rfl
theorem q1203 : (Jvm.Cond.methodLink "DripCups" (155 : Nat) ({ cls := "DripCups", name := "alike", desc := "()I" } : Jvm.MethodName)) ∈ lw_all := lw_g (lw_at lw_m5 129 rfl) rfl
theorem q1204 : (Jvm.Cond.privateMethod ({ cls := "DripCups", name := "alike", desc := "()I" } : Jvm.MethodName)) ∈ lw_tbl := lw_at lw_m5 130 rfl
theorem q1205 : (Jvm.Cond.instanceMethod ({ cls := "DripCups", name := "alike", desc := "()I" } : Jvm.MethodName)) ∈ lw_all := lw_g (lw_at lw_m5 131 rfl) rfl
theorem q1206 : (Jvm.Cond.code ({ cls := "DripCups", name := "alike", desc := "()I" } : Jvm.MethodName) prog_1_method_14_code (5 : Nat) (Option.some Jvm.ClassFile.FieldType.int)) ∈ lw_all := lw_g (lw_at lw_m5 132 rfl) rfl
theorem q1207 : (Jvm.Cond.interfaceEntry "DripCups" (128 : Nat)) ∈ lw_tbl := lw_at lw_m5 133 rfl
theorem q1208 : (Jvm.Cond.methodLink "DripCups" (128 : Nat) ({ cls := "java/util/List", name := "get", desc := "(I)Ljava/lang/Object;" } : Jvm.MethodName)) ∈ lw_all := lw_g (lw_at lw_m5 134 rfl) rfl
theorem q1209 : (Jvm.Cond.classLink "DripCups" (134 : Nat) "java/lang/Integer") ∈ lw_all := lw_g (lw_at lw_m5 135 rfl) rfl
theorem q1210 : (Jvm.Cond.methodLink "DripCups" (136 : Nat) ({ cls := "java/lang/Integer", name := "equals", desc := "(Ljava/lang/Object;)Z" } : Jvm.MethodName)) ∈ lw_all := lw_g (lw_at lw_m5 136 rfl) rfl
theorem q1215 : (Jvm.Cond.methodLink "DripCups" (165 : Nat) ({ cls := "DripCups", name := "found", desc := "(Z)V" } : Jvm.MethodName)) ∈ lw_all := lw_g (lw_at lw_m5 141 rfl) rfl
theorem q1216 : (Jvm.Cond.static ({ cls := "DripCups", name := "found", desc := "(Z)V" } : Jvm.MethodName)) ∈ lw_all := lw_g (lw_at lw_m5 142 rfl) rfl
theorem q1217 : (Jvm.Cond.code ({ cls := "DripCups", name := "found", desc := "(Z)V" } : Jvm.MethodName) prog_1_method_2_code (1 : Nat) (Option.none : Option Jvm.ClassFile.FieldType)) ∈ lw_all := lw_g (lw_at lw_m5 143 rfl) rfl
theorem q1218 : (Jvm.Cond.classLink "DripCups" (1 : Nat) "java/util/NoSuchElementException") ∈ lw_all := lw_g (lw_at lw_m5 144 rfl) rfl
theorem q1227 : (Jvm.Cond.methodLink "DripCups" (3 : Nat) ({ cls := "java/util/NoSuchElementException", name := "<init>", desc := "()V" } : Jvm.MethodName)) ∈ lw_all := lw_g (lw_at lw_m5 153 rfl) rfl
theorem q1237 : (Jvm.Cond.instanceMethod ({ cls := "DripCups", name := "cup", desc := "(II)I" } : Jvm.MethodName)) ∈ lw_all := lw_g (lw_at lw_m5 163 rfl) rfl
theorem q1238 : (Jvm.Cond.selects "DripCups" ({ cls := "DripCups", name := "cup", desc := "(II)I" } : Jvm.MethodName) ({ cls := "DripCups", name := "cup", desc := "(II)I" } : Jvm.MethodName)) ∈ lw_all := lw_g (lw_at lw_m5 164 rfl) rfl
theorem q1239 : (Jvm.Cond.code ({ cls := "DripCups", name := "cup", desc := "(II)I" } : Jvm.MethodName) prog_1_method_18_code (3 : Nat) (Option.some Jvm.ClassFile.FieldType.int)) ∈ lw_all := lw_g (lw_at lw_m5 165 rfl) rfl
theorem q1240 : (Jvm.Cond.methodLink "DripCups" (168 : Nat) ({ cls := "DripCups", name := "aCup", desc := "(I)V" } : Jvm.MethodName)) ∈ lw_all := lw_g (lw_at lw_m5 166 rfl) rfl
theorem q1241 : (Jvm.Cond.privateMethod ({ cls := "DripCups", name := "aCup", desc := "(I)V" } : Jvm.MethodName)) ∈ lw_tbl := lw_at lw_m5 167 rfl
theorem q1242 : (Jvm.Cond.instanceMethod ({ cls := "DripCups", name := "aCup", desc := "(I)V" } : Jvm.MethodName)) ∈ lw_all := lw_g (lw_at lw_m5 168 rfl) rfl
theorem q1243 : (Jvm.Cond.code ({ cls := "DripCups", name := "aCup", desc := "(I)V" } : Jvm.MethodName) prog_1_method_16_code (2 : Nat) (Option.none : Option Jvm.ClassFile.FieldType)) ∈ lw_all := lw_g (lw_at lw_m5 169 rfl) rfl
theorem q1244 : (Jvm.Cond.methodLink "DripCups" (172 : Nat) ({ cls := "java/lang/Integer", name := "intValue", desc := "()I" } : Jvm.MethodName)) ∈ lw_all := lw_g (lw_at lw_m5 170 rfl) rfl
theorem q1245 : (Jvm.Cond.methodLink "DripCups" (178 : Nat) ({ cls := "DripCups$Night", name := "isPlugged", desc := "(I)Z" } : Jvm.MethodName)) ∈ lw_all := lw_g (lw_at lw_m5 171 rfl) rfl
theorem q1246 : (Jvm.Cond.methodLink "DripCups" (108 : Nat) ({ cls := "DripCups", name := "deep", desc := "(I)I" } : Jvm.MethodName)) ∈ lw_all := lw_g (lw_at lw_m5 172 rfl) rfl
theorem q1247 : (Jvm.Cond.privateMethod ({ cls := "DripCups", name := "deep", desc := "(I)I" } : Jvm.MethodName)) ∈ lw_tbl := lw_at lw_m5 173 rfl
theorem q1248 : (Jvm.Cond.instanceMethod ({ cls := "DripCups", name := "deep", desc := "(I)I" } : Jvm.MethodName)) ∈ lw_all := lw_g (lw_at lw_m5 174 rfl) rfl
theorem q1249 : (Jvm.Cond.code ({ cls := "DripCups", name := "deep", desc := "(I)I" } : Jvm.MethodName) prog_1_method_12_code (4 : Nat) (Option.some Jvm.ClassFile.FieldType.int)) ∈ lw_all := lw_g (lw_at lw_m5 175 rfl) rfl
theorem q1250 : (Jvm.Cond.methodLink "DripCups" (111 : Nat) ({ cls := "java/lang/Math", name := "max", desc := "(II)I" } : Jvm.MethodName)) ∈ lw_all := lw_g (lw_at lw_m5 176 rfl) rfl
theorem q1255 : (Jvm.Cond.instanceMethod ({ cls := "DripCups", name := "lead", desc := "(II)Z" } : Jvm.MethodName)) ∈ lw_all := lw_g (lw_at lw_m5 181 rfl) rfl
theorem q1256 : (Jvm.Cond.selects "DripCups" ({ cls := "DripCups", name := "lead", desc := "(II)Z" } : Jvm.MethodName) ({ cls := "DripCups", name := "lead", desc := "(II)Z" } : Jvm.MethodName)) ∈ lw_all := lw_g (lw_at lw_m5 182 rfl) rfl
theorem q1257 : (Jvm.Cond.code ({ cls := "DripCups", name := "lead", desc := "(II)Z" } : Jvm.MethodName) prog_1_method_23_code (3 : Nat) (Option.some Jvm.ClassFile.FieldType.boolean)) ∈ lw_all := lw_g (lw_at lw_m5 183 rfl) rfl
theorem q1258 : (Jvm.Cond.methodLink "DripCups" (202 : Nat) ({ cls := "DripCups$Night", name := "isLed", desc := "(II)Z" } : Jvm.MethodName)) ∈ lw_all := lw_g (lw_at lw_m5 184 rfl) rfl
theorem q1262 : (Jvm.Cond.methodLink "DripCups" (205 : Nat) ({ cls := "DripCups", name := "refused", desc := "()Z" } : Jvm.MethodName)) ∈ lw_all := lw_g (lw_at lw_m5 188 rfl) rfl
theorem q1263 : (Jvm.Cond.privateMethod ({ cls := "DripCups", name := "refused", desc := "()Z" } : Jvm.MethodName)) ∈ lw_tbl := lw_at lw_m5 189 rfl
theorem q1264 : (Jvm.Cond.instanceMethod ({ cls := "DripCups", name := "refused", desc := "()Z" } : Jvm.MethodName)) ∈ lw_all := lw_g (lw_at lw_m5 190 rfl) rfl
theorem q1265 : (Jvm.Cond.code ({ cls := "DripCups", name := "refused", desc := "()Z" } : Jvm.MethodName) prog_1_method_21_code (1 : Nat) (Option.some Jvm.ClassFile.FieldType.boolean)) ∈ lw_all := lw_g (lw_at lw_m5 191 rfl) rfl
theorem q1266 : (Jvm.Cond.methodLink "DripCups" (208 : Nat) ({ cls := "DripCups$Night", name := "lead", desc := "(II)V" } : Jvm.MethodName)) ∈ lw_all := lw_g (lw_at lw_m5 192 rfl) rfl
theorem q1274 : (Jvm.Cond.instanceMethod ({ cls := "DripCups", name := "plug", desc := "(IZ)Z" } : Jvm.MethodName)) ∈ lw_all := lw_g (lw_at lw_m5 200 rfl) rfl
theorem q1275 : (Jvm.Cond.selects "DripCups" ({ cls := "DripCups", name := "plug", desc := "(IZ)Z" } : Jvm.MethodName) ({ cls := "DripCups", name := "plug", desc := "(IZ)Z" } : Jvm.MethodName)) ∈ lw_all := lw_g (lw_at lw_m5 201 rfl) rfl
theorem q1276 : (Jvm.Cond.code ({ cls := "DripCups", name := "plug", desc := "(IZ)Z" } : Jvm.MethodName) prog_1_method_24_code (3 : Nat) (Option.some Jvm.ClassFile.FieldType.boolean)) ∈ lw_all := lw_g (lw_at lw_m5 202 rfl) rfl
theorem q1281 : (Jvm.Cond.instanceMethod ({ cls := "DripCups", name := "pour", desc := "(II)I" } : Jvm.MethodName)) ∈ lw_all := lw_g (lw_at lw_m5 207 rfl) rfl
theorem q1282 : (Jvm.Cond.selects "DripCups" ({ cls := "DripCups", name := "pour", desc := "(II)I" } : Jvm.MethodName) ({ cls := "DripCups", name := "pour", desc := "(II)I" } : Jvm.MethodName)) ∈ lw_all := lw_g (lw_at lw_m5 208 rfl) rfl
theorem q1283 : (Jvm.Cond.code ({ cls := "DripCups", name := "pour", desc := "(II)I" } : Jvm.MethodName) prog_1_method_25_code (3 : Nat) (Option.some Jvm.ClassFile.FieldType.int)) ∈ lw_all := lw_g (lw_at lw_m5 209 rfl) rfl
theorem q1284 : (Jvm.Cond.methodLink "DripCups" (212 : Nat) ({ cls := "DripCups$Night", name := "pour", desc := "(II)I" } : Jvm.MethodName)) ∈ lw_all := lw_g (lw_at lw_m5 210 rfl) rfl
theorem q1292 : (Jvm.Cond.instanceMethod ({ cls := "DripCups", name := "crack", desc := "(II)I" } : Jvm.MethodName)) ∈ lw_all := lw_g (lw_at lw_m5 218 rfl) rfl
theorem q1293 : (Jvm.Cond.selects "DripCups" ({ cls := "DripCups", name := "crack", desc := "(II)I" } : Jvm.MethodName) ({ cls := "DripCups", name := "crack", desc := "(II)I" } : Jvm.MethodName)) ∈ lw_all := lw_g (lw_at lw_m5 219 rfl) rfl
theorem q1294 : (Jvm.Cond.code ({ cls := "DripCups", name := "crack", desc := "(II)I" } : Jvm.MethodName) prog_1_method_26_code (4 : Nat) (Option.some Jvm.ClassFile.FieldType.int)) ∈ lw_all := lw_g (lw_at lw_m5 220 rfl) rfl
theorem q1295 : (Jvm.Cond.methodLink "DripCups" (215 : Nat) ({ cls := "DripCups$Night", name := "crack", desc := "(II)V" } : Jvm.MethodName)) ∈ lw_all := lw_g (lw_at lw_m5 221 rfl) rfl
theorem q1303 : (Jvm.Cond.instanceMethod ({ cls := "DripCups", name := "then", desc := "(III)I" } : Jvm.MethodName)) ∈ lw_all := lw_g (lw_at lw_m5 229 rfl) rfl
theorem q1304 : (Jvm.Cond.selects "DripCups" ({ cls := "DripCups", name := "then", desc := "(III)I" } : Jvm.MethodName) ({ cls := "DripCups", name := "then", desc := "(III)I" } : Jvm.MethodName)) ∈ lw_all := lw_g (lw_at lw_m5 230 rfl) rfl
theorem q1305 : (Jvm.Cond.code ({ cls := "DripCups", name := "then", desc := "(III)I" } : Jvm.MethodName) prog_1_method_29_code (4 : Nat) (Option.some Jvm.ClassFile.FieldType.int)) ∈ lw_all := lw_g (lw_at lw_m5 231 rfl) rfl
theorem q1306 : (Jvm.Cond.methodLink "DripCups" (225 : Nat) ({ cls := "DripCups", name := "oneOf", desc := "(II)V" } : Jvm.MethodName)) ∈ lw_all := lw_g (lw_at lw_m5 232 rfl) rfl
theorem q1307 : (Jvm.Cond.static ({ cls := "DripCups", name := "oneOf", desc := "(II)V" } : Jvm.MethodName)) ∈ lw_all := lw_g (lw_at lw_m5 233 rfl) rfl
theorem q1308 : (Jvm.Cond.code ({ cls := "DripCups", name := "oneOf", desc := "(II)V" } : Jvm.MethodName) prog_1_method_17_code (2 : Nat) (Option.none : Option Jvm.ClassFile.FieldType)) ∈ lw_all := lw_g (lw_at lw_m5 234 rfl) rfl
theorem q1309 : (Jvm.Cond.methodLink "DripCups" (228 : Nat) ({ cls := "DripCups", name := "tryOn", desc := "(I)LDripCups$Night;" } : Jvm.MethodName)) ∈ lw_all := lw_g (lw_at lw_m5 235 rfl) rfl
theorem q1310 : (Jvm.Cond.privateMethod ({ cls := "DripCups", name := "tryOn", desc := "(I)LDripCups$Night;" } : Jvm.MethodName)) ∈ lw_tbl := lw_at lw_m5 236 rfl
theorem q1311 : (Jvm.Cond.instanceMethod ({ cls := "DripCups", name := "tryOn", desc := "(I)LDripCups$Night;" } : Jvm.MethodName)) ∈ lw_all := lw_g (lw_at lw_m5 237 rfl) rfl
theorem q1312 : (Jvm.Cond.code ({ cls := "DripCups", name := "tryOn", desc := "(I)LDripCups$Night;" } : Jvm.MethodName) prog_1_method_28_code (2 : Nat) (Option.some (Jvm.ClassFile.FieldType.object "DripCups$Night"))) ∈ lw_all := lw_g (lw_at lw_m5 238 rfl) rfl
theorem q1317 : (Jvm.Cond.instanceMethod ({ cls := "DripCups", name := "tipping", desc := "(I)I" } : Jvm.MethodName)) ∈ lw_all := lw_g (lw_at lw_m6 3 rfl) rfl
theorem q1318 : (Jvm.Cond.selects "DripCups" ({ cls := "DripCups", name := "tipping", desc := "(I)I" } : Jvm.MethodName) ({ cls := "DripCups", name := "tipping", desc := "(I)I" } : Jvm.MethodName)) ∈ lw_all := lw_g (lw_at lw_m6 4 rfl) rfl
theorem q1319 : (Jvm.Cond.code ({ cls := "DripCups", name := "tipping", desc := "(I)I" } : Jvm.MethodName) prog_1_method_30_code (2 : Nat) (Option.some Jvm.ClassFile.FieldType.int)) ∈ lw_all := lw_g (lw_at lw_m6 5 rfl) rfl
theorem q1324 : (Jvm.Cond.instanceMethod ({ cls := "DripCups", name := "next", desc := "(I)I" } : Jvm.MethodName)) ∈ lw_all := lw_g (lw_at lw_m6 10 rfl) rfl
theorem q1325 : (Jvm.Cond.selects "DripCups" ({ cls := "DripCups", name := "next", desc := "(I)I" } : Jvm.MethodName) ({ cls := "DripCups", name := "next", desc := "(I)I" } : Jvm.MethodName)) ∈ lw_all := lw_g (lw_at lw_m6 11 rfl) rfl
theorem q1326 : (Jvm.Cond.code ({ cls := "DripCups", name := "next", desc := "(I)I" } : Jvm.MethodName) prog_1_method_31_code (2 : Nat) (Option.some Jvm.ClassFile.FieldType.int)) ∈ lw_all := lw_g (lw_at lw_m6 12 rfl) rfl
theorem q1327 : (Jvm.Cond.methodLink "DripCups" (234 : Nat) ({ cls := "DripCups", name := "firstOf", desc := "(II)I" } : Jvm.MethodName)) ∈ lw_all := lw_g (lw_at lw_m6 13 rfl) rfl
theorem q1328 : (Jvm.Cond.privateMethod ({ cls := "DripCups", name := "firstOf", desc := "(II)I" } : Jvm.MethodName)) ∈ lw_tbl := lw_at lw_m6 14 rfl
theorem q1329 : (Jvm.Cond.instanceMethod ({ cls := "DripCups", name := "firstOf", desc := "(II)I" } : Jvm.MethodName)) ∈ lw_all := lw_g (lw_at lw_m6 15 rfl) rfl
theorem q1330 : (Jvm.Cond.code ({ cls := "DripCups", name := "firstOf", desc := "(II)I" } : Jvm.MethodName) prog_1_method_33_code (3 : Nat) (Option.some Jvm.ClassFile.FieldType.int)) ∈ lw_all := lw_g (lw_at lw_m6 16 rfl) rfl
theorem q1331 : (Jvm.Cond.methodLink "DripCups" (240 : Nat) ({ cls := "DripCups", name := "firstOn", desc := "(II)I" } : Jvm.MethodName)) ∈ lw_all := lw_g (lw_at lw_m6 17 rfl) rfl
theorem q1332 : (Jvm.Cond.privateMethod ({ cls := "DripCups", name := "firstOn", desc := "(II)I" } : Jvm.MethodName)) ∈ lw_tbl := lw_at lw_m6 18 rfl
theorem q1333 : (Jvm.Cond.instanceMethod ({ cls := "DripCups", name := "firstOn", desc := "(II)I" } : Jvm.MethodName)) ∈ lw_all := lw_g (lw_at lw_m6 19 rfl) rfl
theorem q1334 : (Jvm.Cond.code ({ cls := "DripCups", name := "firstOn", desc := "(II)I" } : Jvm.MethodName) prog_1_method_32_code (4 : Nat) (Option.some Jvm.ClassFile.FieldType.int)) ∈ lw_all := lw_g (lw_at lw_m6 20 rfl) rfl
theorem q1339 : (Jvm.Cond.instanceMethod ({ cls := "DripCups", name := "together", desc := "(I)I" } : Jvm.MethodName)) ∈ lw_all := lw_g (lw_at lw_m6 25 rfl) rfl
theorem q1340 : (Jvm.Cond.selects "DripCups" ({ cls := "DripCups", name := "together", desc := "(I)I" } : Jvm.MethodName) ({ cls := "DripCups", name := "together", desc := "(I)I" } : Jvm.MethodName)) ∈ lw_all := lw_g (lw_at lw_m6 26 rfl) rfl
theorem q1341 : (Jvm.Cond.code ({ cls := "DripCups", name := "together", desc := "(I)I" } : Jvm.MethodName) prog_1_method_35_code (2 : Nat) (Option.some Jvm.ClassFile.FieldType.int)) ∈ lw_all := lw_g (lw_at lw_m6 27 rfl) rfl
theorem q1342 : (Jvm.Cond.methodLink "DripCups" (243 : Nat) ({ cls := "DripCups", name := "someCups", desc := "(I)V" } : Jvm.MethodName)) ∈ lw_all := lw_g (lw_at lw_m6 28 rfl) rfl
theorem q1343 : (Jvm.Cond.privateMethod ({ cls := "DripCups", name := "someCups", desc := "(I)V" } : Jvm.MethodName)) ∈ lw_tbl := lw_at lw_m6 29 rfl
theorem q1344 : (Jvm.Cond.instanceMethod ({ cls := "DripCups", name := "someCups", desc := "(I)V" } : Jvm.MethodName)) ∈ lw_all := lw_g (lw_at lw_m6 30 rfl) rfl
theorem q1345 : (Jvm.Cond.code ({ cls := "DripCups", name := "someCups", desc := "(I)V" } : Jvm.MethodName) prog_1_method_34_code (2 : Nat) (Option.none : Option Jvm.ClassFile.FieldType)) ∈ lw_all := lw_g (lw_at lw_m6 31 rfl) rfl
theorem q1350 : (Jvm.Cond.instanceMethod ({ cls := "DripCups", name := "sound", desc := "(II)I" } : Jvm.MethodName)) ∈ lw_all := lw_g (lw_at lw_m6 36 rfl) rfl
theorem q1351 : (Jvm.Cond.selects "DripCups" ({ cls := "DripCups", name := "sound", desc := "(II)I" } : Jvm.MethodName) ({ cls := "DripCups", name := "sound", desc := "(II)I" } : Jvm.MethodName)) ∈ lw_all := lw_g (lw_at lw_m6 37 rfl) rfl
theorem q1352 : (Jvm.Cond.code ({ cls := "DripCups", name := "sound", desc := "(II)I" } : Jvm.MethodName) prog_1_method_37_code (9 : Nat) (Option.some Jvm.ClassFile.FieldType.int)) ∈ lw_all := lw_g (lw_at lw_m6 38 rfl) rfl
theorem q1353 : (Jvm.Cond.methodLink "DripCups" (249 : Nat) ({ cls := "java/lang/Integer", name := "bitCount", desc := "(I)I" } : Jvm.MethodName)) ∈ lw_all := lw_g (lw_at lw_m6 39 rfl) rfl
theorem q1363 : (Jvm.Cond.instanceMethod ({ cls := "DripCups", name := "fallen", desc := "(II)I" } : Jvm.MethodName)) ∈ lw_all := lw_g (lw_at lw_m6 49 rfl) rfl
theorem q1364 : (Jvm.Cond.selects "DripCups" ({ cls := "DripCups", name := "fallen", desc := "(II)I" } : Jvm.MethodName) ({ cls := "DripCups", name := "fallen", desc := "(II)I" } : Jvm.MethodName)) ∈ lw_all := lw_g (lw_at lw_m6 50 rfl) rfl
theorem q1365 : (Jvm.Cond.code ({ cls := "DripCups", name := "fallen", desc := "(II)I" } : Jvm.MethodName) prog_1_method_38_code (3 : Nat) (Option.some Jvm.ClassFile.FieldType.int)) ∈ lw_all := lw_g (lw_at lw_m6 51 rfl) rfl
theorem q1366 : (Jvm.Cond.constant "DripCups" (252 : Nat) (1000000 : Int32)) ∈ lw_all := lw_g (lw_at lw_m6 52 rfl) rfl
theorem q1367 : (Jvm.Cond.methodLink "DripCups" (253 : Nat) ({ cls := "DripCups$Night", name := "flows", desc := "(I)[J" } : Jvm.MethodName)) ∈ lw_all := lw_g (lw_at lw_m6 53 rfl) rfl
theorem q1377 : (Jvm.Cond.instanceMethod ({ cls := "DripCups", name := "nth", desc := "(II)I" } : Jvm.MethodName)) ∈ lw_all := lw_g (lw_at lw_m6 63 rfl) rfl
theorem q1378 : (Jvm.Cond.selects "DripCups" ({ cls := "DripCups", name := "nth", desc := "(II)I" } : Jvm.MethodName) ({ cls := "DripCups", name := "nth", desc := "(II)I" } : Jvm.MethodName)) ∈ lw_all := lw_g (lw_at lw_m6 64 rfl) rfl
theorem q1379 : (Jvm.Cond.code ({ cls := "DripCups", name := "nth", desc := "(II)I" } : Jvm.MethodName) prog_1_method_40_code (6 : Nat) (Option.some Jvm.ClassFile.FieldType.int)) ∈ lw_all := lw_g (lw_at lw_m6 65 rfl) rfl
theorem q1380 : (Jvm.Cond.constant "DripCups" (257 : Nat) (100000000 : Int32)) ∈ lw_all := lw_g (lw_at lw_m6 66 rfl) rfl
theorem q1381 : (Jvm.Cond.constant "DripCups" (258 : Nat) (1000001 : Int32)) ∈ lw_all := lw_g (lw_at lw_m6 67 rfl) rfl
theorem q1386 : (Jvm.Cond.instanceMethod ({ cls := "DripCups", name := "meeting", desc := "(I)I" } : Jvm.MethodName)) ∈ lw_all := lw_g (lw_at lw_m6 72 rfl) rfl
theorem q1387 : (Jvm.Cond.selects "DripCups" ({ cls := "DripCups", name := "meeting", desc := "(I)I" } : Jvm.MethodName) ({ cls := "DripCups", name := "meeting", desc := "(I)I" } : Jvm.MethodName)) ∈ lw_all := lw_g (lw_at lw_m6 73 rfl) rfl
theorem q1388 : (Jvm.Cond.code ({ cls := "DripCups", name := "meeting", desc := "(I)I" } : Jvm.MethodName) prog_1_method_36_code (2 : Nat) (Option.some Jvm.ClassFile.FieldType.int)) ∈ lw_all := lw_g (lw_at lw_m6 74 rfl) rfl
theorem q1389 : (Jvm.Cond.methodLink "DripCups" (246 : Nat) ({ cls := "DripCups$Night", name := "bare", desc := "()LDripCups$Night;" } : Jvm.MethodName)) ∈ lw_all := lw_g (lw_at lw_m6 75 rfl) rfl
theorem q1397 : (Jvm.Cond.instanceMethod ({ cls := "DripCups", name := "flow", desc := "(II)I" } : Jvm.MethodName)) ∈ lw_all := lw_g (lw_at lw_m6 83 rfl) rfl
theorem q1398 : (Jvm.Cond.selects "DripCups" ({ cls := "DripCups", name := "flow", desc := "(II)I" } : Jvm.MethodName) ({ cls := "DripCups", name := "flow", desc := "(II)I" } : Jvm.MethodName)) ∈ lw_all := lw_g (lw_at lw_m6 84 rfl) rfl
theorem q1399 : (Jvm.Cond.code ({ cls := "DripCups", name := "flow", desc := "(II)I" } : Jvm.MethodName) prog_1_method_39_code (3 : Nat) (Option.some Jvm.ClassFile.FieldType.int)) ∈ lw_all := lw_g (lw_at lw_m6 85 rfl) rfl
theorem q1404 : (Jvm.Cond.instanceMethod ({ cls := "DripCups", name := "tier", desc := "(II)I" } : Jvm.MethodName)) ∈ lw_all := lw_g (lw_at lw_m6 90 rfl) rfl
theorem q1405 : (Jvm.Cond.selects "DripCups" ({ cls := "DripCups", name := "tier", desc := "(II)I" } : Jvm.MethodName) ({ cls := "DripCups", name := "tier", desc := "(II)I" } : Jvm.MethodName)) ∈ lw_all := lw_g (lw_at lw_m6 91 rfl) rfl
theorem q1406 : (Jvm.Cond.code ({ cls := "DripCups", name := "tier", desc := "(II)I" } : Jvm.MethodName) prog_1_method_41_code (3 : Nat) (Option.some Jvm.ClassFile.FieldType.int)) ∈ lw_all := lw_g (lw_at lw_m6 92 rfl) rfl
theorem q1411 : (Jvm.Cond.instanceMethod ({ cls := "DripCups", name := "toCrack", desc := "(IIII)I" } : Jvm.MethodName)) ∈ lw_all := lw_g (lw_at lw_m6 97 rfl) rfl
theorem q1412 : (Jvm.Cond.selects "DripCups" ({ cls := "DripCups", name := "toCrack", desc := "(IIII)I" } : Jvm.MethodName) ({ cls := "DripCups", name := "toCrack", desc := "(IIII)I" } : Jvm.MethodName)) ∈ lw_all := lw_g (lw_at lw_m6 98 rfl) rfl
theorem q1413 : (Jvm.Cond.code ({ cls := "DripCups", name := "toCrack", desc := "(IIII)I" } : Jvm.MethodName) prog_1_method_42_code (9 : Nat) (Option.some Jvm.ClassFile.FieldType.int)) ∈ lw_all := lw_g (lw_at lw_m6 99 rfl) rfl
theorem q1414 : (Jvm.Cond.constant "DripCups" (259 : Nat) (2147483647 : Int32)) ∈ lw_all := lw_g (lw_at lw_m6 100 rfl) rfl
theorem q1415 : (Jvm.Cond.methodLink "DripCups" (260 : Nat) ({ cls := "java/lang/Math", name := "abs", desc := "(I)I" } : Jvm.MethodName)) ∈ lw_all := lw_g (lw_at lw_m6 101 rfl) rfl
theorem q1422 : (Jvm.Cond.instanceMethod ({ cls := "DripCups", name := "office", desc := "(II)I" } : Jvm.MethodName)) ∈ lw_all := lw_g (lw_at lw_m6 108 rfl) rfl
theorem q1423 : (Jvm.Cond.selects "DripCups" ({ cls := "DripCups", name := "office", desc := "(II)I" } : Jvm.MethodName) ({ cls := "DripCups", name := "office", desc := "(II)I" } : Jvm.MethodName)) ∈ lw_all := lw_g (lw_at lw_m6 109 rfl) rfl
theorem q1424 : (Jvm.Cond.code ({ cls := "DripCups", name := "office", desc := "(II)I" } : Jvm.MethodName) prog_1_method_43_code (7 : Nat) (Option.some Jvm.ClassFile.FieldType.int)) ∈ lw_all := lw_g (lw_at lw_m6 110 rfl) rfl
theorem q1425 : (Jvm.Cond.methodLink "DripCups" (263 : Nat) ({ cls := "java/lang/Integer", name := "numberOfTrailingZeros", desc := "(I)I" } : Jvm.MethodName)) ∈ lw_all := lw_g (lw_at lw_m6 111 rfl) rfl
theorem q1433 : (Jvm.Cond.instanceMethod ({ cls := "DripCups", name := "hear", desc := "(IIZ)I" } : Jvm.MethodName)) ∈ lw_all := lw_g (lw_at lw_m6 119 rfl) rfl
theorem q1434 : (Jvm.Cond.selects "DripCups" ({ cls := "DripCups", name := "hear", desc := "(IIZ)I" } : Jvm.MethodName) ({ cls := "DripCups", name := "hear", desc := "(IIZ)I" } : Jvm.MethodName)) ∈ lw_all := lw_g (lw_at lw_m6 120 rfl) rfl
theorem q1435 : (Jvm.Cond.code ({ cls := "DripCups", name := "hear", desc := "(IIZ)I" } : Jvm.MethodName) prog_1_method_44_code (4 : Nat) (Option.some Jvm.ClassFile.FieldType.int)) ∈ lw_all := lw_g (lw_at lw_m6 121 rfl) rfl
theorem q1440 : (Jvm.Cond.instanceMethod ({ cls := "DripCups", name := "led", desc := "(I)I" } : Jvm.MethodName)) ∈ lw_all := lw_g (lw_at lw_m6 126 rfl) rfl
theorem q1441 : (Jvm.Cond.selects "DripCups" ({ cls := "DripCups", name := "led", desc := "(I)I" } : Jvm.MethodName) ({ cls := "DripCups", name := "led", desc := "(I)I" } : Jvm.MethodName)) ∈ lw_all := lw_g (lw_at lw_m6 127 rfl) rfl
theorem q1442 : (Jvm.Cond.code ({ cls := "DripCups", name := "led", desc := "(I)I" } : Jvm.MethodName) prog_1_method_49_code (3 : Nat) (Option.some Jvm.ClassFile.FieldType.int)) ∈ lw_all := lw_g (lw_at lw_m6 128 rfl) rfl
theorem q1443 : (Jvm.Cond.methodLink "DripCups" (270 : Nat) ({ cls := "DripCups", name := "isSo", desc := "()Z" } : Jvm.MethodName)) ∈ lw_all := lw_g (lw_at lw_m6 129 rfl) rfl
theorem q1444 : (Jvm.Cond.privateMethod ({ cls := "DripCups", name := "isSo", desc := "()Z" } : Jvm.MethodName)) ∈ lw_tbl := lw_at lw_m6 130 rfl
theorem q1445 : (Jvm.Cond.instanceMethod ({ cls := "DripCups", name := "isSo", desc := "()Z" } : Jvm.MethodName)) ∈ lw_all := lw_g (lw_at lw_m6 131 rfl) rfl
theorem q1446 : (Jvm.Cond.code ({ cls := "DripCups", name := "isSo", desc := "()Z" } : Jvm.MethodName) prog_1_method_46_code (5 : Nat) (Option.some Jvm.ClassFile.FieldType.boolean)) ∈ lw_all := lw_g (lw_at lw_m6 132 rfl) rfl
theorem q1447 : (Jvm.Cond.classLink "DripCups" (266 : Nat) "[I") ∈ lw_all := lw_g (lw_at lw_m6 133 rfl) rfl
theorem q1448 : (Jvm.Cond.methodLink "DripCups" (277 : Nat) ({ cls := "DripCups", name := "others", desc := "()Ljava/util/List;" } : Jvm.MethodName)) ∈ lw_all := lw_g (lw_at lw_m6 134 rfl) rfl
theorem q1449 : (Jvm.Cond.privateMethod ({ cls := "DripCups", name := "others", desc := "()Ljava/util/List;" } : Jvm.MethodName)) ∈ lw_tbl := lw_at lw_m6 135 rfl
theorem q1450 : (Jvm.Cond.instanceMethod ({ cls := "DripCups", name := "others", desc := "()Ljava/util/List;" } : Jvm.MethodName)) ∈ lw_all := lw_g (lw_at lw_m6 136 rfl) rfl
theorem q1451 : (Jvm.Cond.code ({ cls := "DripCups", name := "others", desc := "()Ljava/util/List;" } : Jvm.MethodName) prog_1_method_48_code (4 : Nat) (Option.some (Jvm.ClassFile.FieldType.object "java/util/List"))) ∈ lw_all := lw_g (lw_at lw_m6 137 rfl) rfl
theorem q1452 : (Jvm.Cond.methodLink "DripCups" (267 : Nat) ({ cls := "DripCups", name := "leadTo", desc := "(I)LDripCups$Night;" } : Jvm.MethodName)) ∈ lw_all := lw_g (lw_at lw_m6 138 rfl) rfl
theorem q1453 : (Jvm.Cond.privateMethod ({ cls := "DripCups", name := "leadTo", desc := "(I)LDripCups$Night;" } : Jvm.MethodName)) ∈ lw_tbl := lw_at lw_m6 139 rfl
theorem q1454 : (Jvm.Cond.instanceMethod ({ cls := "DripCups", name := "leadTo", desc := "(I)LDripCups$Night;" } : Jvm.MethodName)) ∈ lw_all := lw_g (lw_at lw_m6 140 rfl) rfl
theorem q1455 : (Jvm.Cond.code ({ cls := "DripCups", name := "leadTo", desc := "(I)LDripCups$Night;" } : Jvm.MethodName) prog_1_method_47_code (2 : Nat) (Option.some (Jvm.ClassFile.FieldType.object "DripCups$Night"))) ∈ lw_all := lw_g (lw_at lw_m6 141 rfl) rfl
theorem q1456 : (Jvm.Cond.methodLink "DripCups" (273 : Nat) ({ cls := "java/lang/Integer", name := "valueOf", desc := "(I)Ljava/lang/Integer;" } : Jvm.MethodName)) ∈ lw_all := lw_g (lw_at lw_m6 142 rfl) rfl
theorem q1461 : (Jvm.Cond.instanceMethod ({ cls := "DripCups", name := "listen", desc := "(I)I" } : Jvm.MethodName)) ∈ lw_all := lw_g (lw_at lw_m6 147 rfl) rfl
theorem q1462 : (Jvm.Cond.selects "DripCups" ({ cls := "DripCups", name := "listen", desc := "(I)I" } : Jvm.MethodName) ({ cls := "DripCups", name := "listen", desc := "(I)I" } : Jvm.MethodName)) ∈ lw_all := lw_g (lw_at lw_m6 148 rfl) rfl
theorem q1463 : (Jvm.Cond.code ({ cls := "DripCups", name := "listen", desc := "(I)I" } : Jvm.MethodName) prog_1_method_50_code (11 : Nat) (Option.some Jvm.ClassFile.FieldType.int)) ∈ lw_all := lw_g (lw_at lw_m6 149 rfl) rfl
theorem q1464 : (Jvm.Cond.classLink "DripCups" (281 : Nat) "[[I") ∈ lw_all := lw_g (lw_at lw_m6 150 rfl) rfl
theorem q1470 : (Jvm.Cond.instanceMethod ({ cls := "DripCups", name := "cold", desc := "(III)I" } : Jvm.MethodName)) ∈ lw_all := lw_g (lw_at lw_m6 156 rfl) rfl
theorem q1471 : (Jvm.Cond.selects "DripCups" ({ cls := "DripCups", name := "cold", desc := "(III)I" } : Jvm.MethodName) ({ cls := "DripCups", name := "cold", desc := "(III)I" } : Jvm.MethodName)) ∈ lw_all := lw_g (lw_at lw_m6 157 rfl) rfl
theorem q1472 : (Jvm.Cond.code ({ cls := "DripCups", name := "cold", desc := "(III)I" } : Jvm.MethodName) prog_1_method_51_code (9 : Nat) (Option.some Jvm.ClassFile.FieldType.int)) ∈ lw_all := lw_g (lw_at lw_m6 158 rfl) rfl
theorem q1477 : (Jvm.Cond.instanceMethod ({ cls := "DripCups", name := "game", desc := "(III)I" } : Jvm.MethodName)) ∈ lw_all := lw_g (lw_at lw_m6 163 rfl) rfl
theorem q1478 : (Jvm.Cond.selects "DripCups" ({ cls := "DripCups", name := "game", desc := "(III)I" } : Jvm.MethodName) ({ cls := "DripCups", name := "game", desc := "(III)I" } : Jvm.MethodName)) ∈ lw_all := lw_g (lw_at lw_m6 164 rfl) rfl
theorem q1479 : (Jvm.Cond.code ({ cls := "DripCups", name := "game", desc := "(III)I" } : Jvm.MethodName) prog_1_method_53_code (9 : Nat) (Option.some Jvm.ClassFile.FieldType.int)) ∈ lw_all := lw_g (lw_at lw_m6 165 rfl) rfl
theorem q1480 : (Jvm.Cond.methodLink "DripCups" (290 : Nat) ({ cls := "DripCups", name := "gains", desc := "(IIII)[I" } : Jvm.MethodName)) ∈ lw_all := lw_g (lw_at lw_m6 166 rfl) rfl
theorem q1481 : (Jvm.Cond.privateMethod ({ cls := "DripCups", name := "gains", desc := "(IIII)[I" } : Jvm.MethodName)) ∈ lw_tbl := lw_at lw_m6 167 rfl
theorem q1482 : (Jvm.Cond.instanceMethod ({ cls := "DripCups", name := "gains", desc := "(IIII)[I" } : Jvm.MethodName)) ∈ lw_all := lw_g (lw_at lw_m6 168 rfl) rfl
theorem q1483 : (Jvm.Cond.code ({ cls := "DripCups", name := "gains", desc := "(IIII)[I" } : Jvm.MethodName) prog_1_method_52_code (6 : Nat) (Option.some (Jvm.ClassFile.FieldType.array Jvm.ClassFile.FieldType.int))) ∈ lw_all := lw_g (lw_at lw_m6 169 rfl) rfl
theorem q1488 : (Jvm.Cond.instanceMethod ({ cls := "DripCups", name := "years", desc := "(III)I" } : Jvm.MethodName)) ∈ lw_all := lw_g (lw_at lw_m6 174 rfl) rfl
theorem q1489 : (Jvm.Cond.selects "DripCups" ({ cls := "DripCups", name := "years", desc := "(III)I" } : Jvm.MethodName) ({ cls := "DripCups", name := "years", desc := "(III)I" } : Jvm.MethodName)) ∈ lw_all := lw_g (lw_at lw_m6 175 rfl) rfl
theorem q1490 : (Jvm.Cond.code ({ cls := "DripCups", name := "years", desc := "(III)I" } : Jvm.MethodName) prog_1_method_56_code (8 : Nat) (Option.some Jvm.ClassFile.FieldType.int)) ∈ lw_all := lw_g (lw_at lw_m6 176 rfl) rfl
theorem q1491 : (Jvm.Cond.methodLink "DripCups" (301 : Nat) ({ cls := "DripCups", name := "befalls", desc := "()V" } : Jvm.MethodName)) ∈ lw_all := lw_g (lw_at lw_m6 177 rfl) rfl
theorem q1492 : (Jvm.Cond.privateMethod ({ cls := "DripCups", name := "befalls", desc := "()V" } : Jvm.MethodName)) ∈ lw_tbl := lw_at lw_m6 178 rfl
theorem q1493 : (Jvm.Cond.instanceMethod ({ cls := "DripCups", name := "befalls", desc := "()V" } : Jvm.MethodName)) ∈ lw_all := lw_g (lw_at lw_m6 179 rfl) rfl
theorem q1494 : (Jvm.Cond.code ({ cls := "DripCups", name := "befalls", desc := "()V" } : Jvm.MethodName) prog_1_method_55_code (4 : Nat) (Option.none : Option Jvm.ClassFile.FieldType)) ∈ lw_all := lw_g (lw_at lw_m6 180 rfl) rfl
theorem q1495 : (Jvm.Cond.methodLink "DripCups" (298 : Nat) ({ cls := "DripCups", name := "draw", desc := "(I)I" } : Jvm.MethodName)) ∈ lw_all := lw_g (lw_at lw_m6 181 rfl) rfl
theorem q1496 : (Jvm.Cond.privateMethod ({ cls := "DripCups", name := "draw", desc := "(I)I" } : Jvm.MethodName)) ∈ lw_tbl := lw_at lw_m6 182 rfl
theorem q1497 : (Jvm.Cond.instanceMethod ({ cls := "DripCups", name := "draw", desc := "(I)I" } : Jvm.MethodName)) ∈ lw_all := lw_g (lw_at lw_m6 183 rfl) rfl
theorem q1498 : (Jvm.Cond.code ({ cls := "DripCups", name := "draw", desc := "(I)I" } : Jvm.MethodName) prog_1_method_54_code (2 : Nat) (Option.some Jvm.ClassFile.FieldType.int)) ∈ lw_all := lw_g (lw_at lw_m6 184 rfl) rfl
theorem q1499 : (Jvm.Cond.constant "DripCups" (297 : Nat) (1103515245 : Int32)) ∈ lw_all := lw_g (lw_at lw_m6 185 rfl) rfl
theorem q1504 : (Jvm.Cond.instanceMethod ({ cls := "DripCups", name := "later", desc := "(II)I" } : Jvm.MethodName)) ∈ lw_all := lw_g (lw_at lw_m6 190 rfl) rfl
theorem q1505 : (Jvm.Cond.selects "DripCups" ({ cls := "DripCups", name := "later", desc := "(II)I" } : Jvm.MethodName) ({ cls := "DripCups", name := "later", desc := "(II)I" } : Jvm.MethodName)) ∈ lw_all := lw_g (lw_at lw_m6 191 rfl) rfl
theorem q1506 : (Jvm.Cond.code ({ cls := "DripCups", name := "later", desc := "(II)I" } : Jvm.MethodName) prog_1_method_57_code (3 : Nat) (Option.some Jvm.ClassFile.FieldType.int)) ∈ lw_all := lw_g (lw_at lw_m6 192 rfl) rfl
theorem q1507 : (Jvm.Cond.methodLink "DripCups" (307 : Nat) ({ cls := "DripCups$Night", name := "fullest", desc := "()I" } : Jvm.MethodName)) ∈ lw_all := lw_g (lw_at lw_m6 193 rfl) rfl
theorem q1511 : (Jvm.Cond.methodLink "DripCups" (310 : Nat) ({ cls := "DripCups$Night", name := "dry", desc := "()I" } : Jvm.MethodName)) ∈ lw_all := lw_g (lw_at lw_m6 197 rfl) rfl
theorem q1519 : (Jvm.Cond.instanceMethod ({ cls := "DripCups", name := "oftenest", desc := "(I)I" } : Jvm.MethodName)) ∈ lw_all := lw_g (lw_at lw_m6 205 rfl) rfl
theorem q1520 : (Jvm.Cond.selects "DripCups" ({ cls := "DripCups", name := "oftenest", desc := "(I)I" } : Jvm.MethodName) ({ cls := "DripCups", name := "oftenest", desc := "(I)I" } : Jvm.MethodName)) ∈ lw_all := lw_g (lw_at lw_m6 206 rfl) rfl
theorem q1521 : (Jvm.Cond.code ({ cls := "DripCups", name := "oftenest", desc := "(I)I" } : Jvm.MethodName) prog_1_method_58_code (6 : Nat) (Option.some Jvm.ClassFile.FieldType.int)) ∈ lw_all := lw_g (lw_at lw_m6 207 rfl) rfl
theorem q1526 : (Jvm.Cond.instanceMethod ({ cls := "DripCups", name := "pause", desc := "(I)I" } : Jvm.MethodName)) ∈ lw_all := lw_g (lw_at lw_m6 212 rfl) rfl
theorem q1527 : (Jvm.Cond.selects "DripCups" ({ cls := "DripCups", name := "pause", desc := "(I)I" } : Jvm.MethodName) ({ cls := "DripCups", name := "pause", desc := "(I)I" } : Jvm.MethodName)) ∈ lw_all := lw_g (lw_at lw_m6 213 rfl) rfl
theorem q1528 : (Jvm.Cond.code ({ cls := "DripCups", name := "pause", desc := "(I)I" } : Jvm.MethodName) prog_1_method_60_code (4 : Nat) (Option.some Jvm.ClassFile.FieldType.int)) ∈ lw_all := lw_g (lw_at lw_m6 214 rfl) rfl
theorem q1533 : (Jvm.Cond.instanceMethod ({ cls := "DripCups", name := "giver", desc := "(II)I" } : Jvm.MethodName)) ∈ lw_all := lw_g (lw_at lw_m6 219 rfl) rfl
theorem q1534 : (Jvm.Cond.selects "DripCups" ({ cls := "DripCups", name := "giver", desc := "(II)I" } : Jvm.MethodName) ({ cls := "DripCups", name := "giver", desc := "(II)I" } : Jvm.MethodName)) ∈ lw_all := lw_g (lw_at lw_m6 220 rfl) rfl
theorem q1535 : (Jvm.Cond.code ({ cls := "DripCups", name := "giver", desc := "(II)I" } : Jvm.MethodName) prog_1_method_62_code (10 : Nat) (Option.some Jvm.ClassFile.FieldType.int)) ∈ lw_all := lw_g (lw_at lw_m6 221 rfl) rfl
theorem q1536 : (Jvm.Cond.constantLong "DripCups" (328 : Nat) (-1 : Int64)) ∈ lw_all := lw_g (lw_at lw_m6 222 rfl) rfl
theorem q1537 : (Jvm.Cond.methodLink "DripCups" (330 : Nat) ({ cls := "DripCups", name := "gives", desc := "(IIJ)J" } : Jvm.MethodName)) ∈ lw_all := lw_g (lw_at lw_m6 223 rfl) rfl
theorem q1538 : (Jvm.Cond.privateMethod ({ cls := "DripCups", name := "gives", desc := "(IIJ)J" } : Jvm.MethodName)) ∈ lw_tbl := lw_at lw_m6 224 rfl
theorem q1539 : (Jvm.Cond.instanceMethod ({ cls := "DripCups", name := "gives", desc := "(IIJ)J" } : Jvm.MethodName)) ∈ lw_all := lw_g (lw_at lw_m6 225 rfl) rfl
theorem q1540 : (Jvm.Cond.code ({ cls := "DripCups", name := "gives", desc := "(IIJ)J" } : Jvm.MethodName) prog_1_method_61_code (5 : Nat) (Option.some Jvm.ClassFile.FieldType.long)) ∈ lw_all := lw_g (lw_at lw_m6 226 rfl) rfl
theorem q1541 : (Jvm.Cond.constantLong "DripCups" (326 : Nat) (2 : Int64)) ∈ lw_all := lw_g (lw_at lw_m6 227 rfl) rfl
theorem q1546 : (Jvm.Cond.instanceMethod ({ cls := "DripCups", name := "toPour", desc := "(II)I" } : Jvm.MethodName)) ∈ lw_all := lw_g (lw_at lw_m6 232 rfl) rfl
theorem q1547 : (Jvm.Cond.selects "DripCups" ({ cls := "DripCups", name := "toPour", desc := "(II)I" } : Jvm.MethodName) ({ cls := "DripCups", name := "toPour", desc := "(II)I" } : Jvm.MethodName)) ∈ lw_all := lw_g (lw_at lw_m6 233 rfl) rfl
theorem q1548 : (Jvm.Cond.code ({ cls := "DripCups", name := "toPour", desc := "(II)I" } : Jvm.MethodName) prog_1_method_63_code (4 : Nat) (Option.some Jvm.ClassFile.FieldType.int)) ∈ lw_all := lw_g (lw_at lw_m6 234 rfl) rfl
theorem q1553 : (Jvm.Cond.instanceMethod ({ cls := "DripCups", name := "ways", desc := "(II)I" } : Jvm.MethodName)) ∈ lw_all := lw_g (lw_at lw_m6 239 rfl) rfl
theorem q1554 : (Jvm.Cond.selects "DripCups" ({ cls := "DripCups", name := "ways", desc := "(II)I" } : Jvm.MethodName) ({ cls := "DripCups", name := "ways", desc := "(II)I" } : Jvm.MethodName)) ∈ lw_all := lw_g (lw_at lw_m7 0 rfl) rfl
theorem q1555 : (Jvm.Cond.code ({ cls := "DripCups", name := "ways", desc := "(II)I" } : Jvm.MethodName) prog_1_method_65_code (3 : Nat) (Option.some Jvm.ClassFile.FieldType.int)) ∈ lw_all := lw_g (lw_at lw_m7 1 rfl) rfl
theorem q1556 : (Jvm.Cond.methodLink "DripCups" (334 : Nat) ({ cls := "DripCups", name := "waysTo", desc := "(II)I" } : Jvm.MethodName)) ∈ lw_all := lw_g (lw_at lw_m7 2 rfl) rfl
theorem q1557 : (Jvm.Cond.privateMethod ({ cls := "DripCups", name := "waysTo", desc := "(II)I" } : Jvm.MethodName)) ∈ lw_tbl := lw_at lw_m7 3 rfl
theorem q1558 : (Jvm.Cond.instanceMethod ({ cls := "DripCups", name := "waysTo", desc := "(II)I" } : Jvm.MethodName)) ∈ lw_all := lw_g (lw_at lw_m7 4 rfl) rfl
theorem q1559 : (Jvm.Cond.code ({ cls := "DripCups", name := "waysTo", desc := "(II)I" } : Jvm.MethodName) prog_1_method_64_code (5 : Nat) (Option.some Jvm.ClassFile.FieldType.int)) ∈ lw_all := lw_g (lw_at lw_m7 5 rfl) rfl
theorem q1564 : (Jvm.Cond.instanceMethod ({ cls := "DripCups", name := "chorus", desc := "(II)I" } : Jvm.MethodName)) ∈ lw_all := lw_g (lw_at lw_m7 10 rfl) rfl
theorem q1565 : (Jvm.Cond.selects "DripCups" ({ cls := "DripCups", name := "chorus", desc := "(II)I" } : Jvm.MethodName) ({ cls := "DripCups", name := "chorus", desc := "(II)I" } : Jvm.MethodName)) ∈ lw_all := lw_g (lw_at lw_m7 11 rfl) rfl
theorem q1566 : (Jvm.Cond.code ({ cls := "DripCups", name := "chorus", desc := "(II)I" } : Jvm.MethodName) prog_1_method_66_code (5 : Nat) (Option.some Jvm.ClassFile.FieldType.int)) ∈ lw_all := lw_g (lw_at lw_m7 12 rfl) rfl
theorem q1571 : (Jvm.Cond.instanceMethod ({ cls := "DripCups", name := "never", desc := "(I)I" } : Jvm.MethodName)) ∈ lw_all := lw_g (lw_at lw_m7 17 rfl) rfl
theorem q1572 : (Jvm.Cond.selects "DripCups" ({ cls := "DripCups", name := "never", desc := "(I)I" } : Jvm.MethodName) ({ cls := "DripCups", name := "never", desc := "(I)I" } : Jvm.MethodName)) ∈ lw_all := lw_g (lw_at lw_m7 18 rfl) rfl
theorem q1573 : (Jvm.Cond.code ({ cls := "DripCups", name := "never", desc := "(I)I" } : Jvm.MethodName) prog_1_method_67_code (4 : Nat) (Option.some Jvm.ClassFile.FieldType.int)) ∈ lw_all := lw_g (lw_at lw_m7 19 rfl) rfl
theorem q1578 : (Jvm.Cond.instanceMethod ({ cls := "DripCups", name := "swell", desc := "(II)I" } : Jvm.MethodName)) ∈ lw_all := lw_g (lw_at lw_m7 24 rfl) rfl
theorem q1579 : (Jvm.Cond.selects "DripCups" ({ cls := "DripCups", name := "swell", desc := "(II)I" } : Jvm.MethodName) ({ cls := "DripCups", name := "swell", desc := "(II)I" } : Jvm.MethodName)) ∈ lw_all := lw_g (lw_at lw_m7 25 rfl) rfl
theorem q1580 : (Jvm.Cond.code ({ cls := "DripCups", name := "swell", desc := "(II)I" } : Jvm.MethodName) prog_1_method_68_code (5 : Nat) (Option.some Jvm.ClassFile.FieldType.int)) ∈ lw_all := lw_g (lw_at lw_m7 26 rfl) rfl
theorem q2230 : (Jvm.Cond.castable "DripCups" "java/lang/Object") ∈ lw_tbl := lw_at lw_m9 196 rfl
theorem in_X1 : ∀ w ∈ wsX10, w ∈ lw_all := lw_in wsX10 [294, 296, 298, 300, 302, 304, 306, 308, 310, 312, 314, 316, 318, 320] (by decide +kernel) (by decide +kernel)
/-! DripCups$Cave -/
set_option maxRecDepth 100000
def RX2 : String := "DripCups$Cave"
def TX2 : u_T := fun k => match k with
  | 0 => ("DripCups$Cave", "springs", "Ljava/util/List;", true)
  | 1 => ("DripCups$Cave", "leaks", "LDripCups$Form;", false)
  | _ => ("DripCups$Cave", "frost", "LDripCups$Form;", false)
def tyX2 : Nat → FieldType := fun k => match k with
  | 0 => .object "java/util/List"
  | 1 => .object "DripCups$Form"
  | _ => .object "DripCups$Form"
abbrev wsX20 : List Cond := u_ws RX2 TX2 3
theorem nmX2 : ∀ a, a < 3 → ∀ b, b < 3 → a ≠ b → (TX2 a).2.1 ≠ (TX2 b).2.1 := by decide +kernel
theorem tyX2_ok : ∀ k, k < 3 → parseFieldDescriptor (TX2 k).2.2.1 = some (tyX2 k) := by decide +kernel
abbrev cX2_init : ByteArray := prog_2_method_1_code
def yX2_init : MethodName := ⟨RX2, "<init>", "()V"⟩
def dkwX2_init_0 : List UInt8 := [42, 183, 0, 1, 42, 187, 0, 7, 89, 183, 0, 9, 181, 0, 10, 177]
abbrev dktX2_init_0 : List UInt8 := dkwX2_init_0 ++ []
theorem dksX2_init_0 : cX2_init.data.toList.drop 0 = dktX2_init_0 := by decide +kernel
theorem dX2_init_0 : decode cX2_init 0 = .ok (.aload_n 0, 1) := dk_42 (dk_at dksX2_init_0 0 rfl rfl)
theorem dX2_init_1 : decode cX2_init 1 = .ok (.invokespecial 1, 3) := dk_183 0 1 (dk_at dksX2_init_0 1 rfl rfl)
theorem dX2_init_4 : decode cX2_init 4 = .ok (.aload_n 0, 1) := dk_42 (dk_at dksX2_init_0 4 rfl rfl)
theorem dX2_init_5 : decode cX2_init 5 = .ok (.new 7, 3) := dk_187 0 7 (dk_at dksX2_init_0 5 rfl rfl)
theorem dX2_init_8 : decode cX2_init 8 = .ok (.dup, 1) := dk_89 (dk_at dksX2_init_0 8 rfl rfl)
theorem dX2_init_9 : decode cX2_init 9 = .ok (.invokespecial 9, 3) := dk_183 0 9 (dk_at dksX2_init_0 9 rfl rfl)
theorem dX2_init_12 : decode cX2_init 12 = .ok (.putfield 10, 3) := dk_181 0 10 (dk_at dksX2_init_0 12 rfl rfl)
theorem dX2_init_15 : decode cX2_init 15 = .ok (.return_, 1) := dk_177 (dk_at dksX2_init_0 15 rfl rfl)
abbrev cX2_cups : ByteArray := prog_2_method_2_code
def yX2_cups : MethodName := ⟨RX2, "cups", "()I"⟩
def dkwX2_cups_0 : List UInt8 := [42, 180, 0, 10, 185, 0, 16, 1, 0, 172]
abbrev dktX2_cups_0 : List UInt8 := dkwX2_cups_0 ++ []
theorem dksX2_cups_0 : cX2_cups.data.toList.drop 0 = dktX2_cups_0 := by decide +kernel
theorem dX2_cups_0 : decode cX2_cups 0 = .ok (.aload_n 0, 1) := dk_42 (dk_at dksX2_cups_0 0 rfl rfl)
theorem dX2_cups_1 : decode cX2_cups 1 = .ok (.getfield 10, 3) := dk_180 0 10 (dk_at dksX2_cups_0 1 rfl rfl)
theorem dX2_cups_4 : decode cX2_cups 4 = .ok (.invokeinterface 16 1, 5) := by decide +kernel
theorem dX2_cups_9 : decode cX2_cups 9 = .ok (.ireturn, 1) := dk_172 (dk_at dksX2_cups_0 9 rfl rfl)
theorem q116 : (Jvm.Cond.initialized "DripCups$Cave") ∈ lw_all := lw_g (lw_at lw_m1 2 rfl) rfl
theorem q157 : (Jvm.Cond.instantiable "DripCups$Cave" (3 : Nat)) ∈ lw_all := lw_g (lw_at lw_m1 43 rfl) rfl
theorem q159 : (Jvm.Cond.instanceMethod ({ cls := "DripCups$Cave", name := "<init>", desc := "()V" } : Jvm.MethodName)) ∈ lw_all := lw_g (lw_at lw_m1 45 rfl) rfl
theorem q160 : (Jvm.Cond.code ({ cls := "DripCups$Cave", name := "<init>", desc := "()V" } : Jvm.MethodName) prog_2_method_1_code (1 : Nat) (Option.none : Option Jvm.ClassFile.FieldType)) ∈ lw_all := lw_g (lw_at lw_m1 46 rfl) rfl
theorem q161 : (Jvm.Cond.methodLink "DripCups$Cave" (1 : Nat) ({ cls := "java/lang/Object", name := "<init>", desc := "()V" } : Jvm.MethodName)) ∈ lw_all := lw_g (lw_at lw_m1 47 rfl) rfl
theorem q162 : (Jvm.Cond.classLink "DripCups$Cave" (7 : Nat) "java/util/ArrayList") ∈ lw_all := lw_g (lw_at lw_m1 48 rfl) rfl
theorem q164 : (Jvm.Cond.methodLink "DripCups$Cave" (9 : Nat) ({ cls := "java/util/ArrayList", name := "<init>", desc := "()V" } : Jvm.MethodName)) ∈ lw_all := lw_g (lw_at lw_m1 50 rfl) rfl
theorem q189 : (Jvm.Cond.fieldLink "DripCups$Cave" (10 : Nat) "DripCups$Cave" "springs" "Ljava/util/List;") ∈ lw_all := lw_g (lw_at lw_m1 75 rfl) rfl
theorem q197 : (Jvm.Cond.laysFinal "DripCups$Cave" "DripCups$Cave" "springs" "Ljava/util/List;") ∈ lw_all := lw_g (lw_at lw_m1 83 rfl) rfl
theorem q198 : (Jvm.Cond.soleField "DripCups$Cave" "springs") ∈ lw_all := lw_g (lw_at lw_m1 84 rfl) rfl
theorem q199 : (Jvm.Cond.lays "DripCups$Cave" "DripCups$Cave" "leaks" "LDripCups$Form;") ∈ lw_all := lw_g (lw_at lw_m1 85 rfl) rfl
theorem q200 : (Jvm.Cond.soleField "DripCups$Cave" "leaks") ∈ lw_all := lw_g (lw_at lw_m1 86 rfl) rfl
theorem q201 : (Jvm.Cond.lays "DripCups$Cave" "DripCups$Cave" "frost" "LDripCups$Form;") ∈ lw_all := lw_g (lw_at lw_m1 87 rfl) rfl
theorem q202 : (Jvm.Cond.soleField "DripCups$Cave" "frost") ∈ lw_all := lw_g (lw_at lw_m1 88 rfl) rfl
theorem q203 : (Jvm.Cond.superclass "DripCups$Cave" "java/lang/Object") ∈ lw_all := lw_g (lw_at lw_m1 89 rfl) rfl
theorem q396 : (Jvm.Cond.selects "DripCups$Cave" ({ cls := "java/lang/Object", name := "getClass", desc := "()Ljava/lang/Class;" } : Jvm.MethodName) ({ cls := "java/lang/Object", name := "getClass", desc := "()Ljava/lang/Class;" } : Jvm.MethodName)) ∈ lw_all := lw_g (lw_at lw_m2 42 rfl) rfl
theorem q463 : (Jvm.Cond.instanceMethod ({ cls := "DripCups$Cave", name := "cups", desc := "()I" } : Jvm.MethodName)) ∈ lw_all := lw_g (lw_at lw_m2 109 rfl) rfl
theorem q464 : (Jvm.Cond.selects "DripCups$Cave" ({ cls := "DripCups$Cave", name := "cups", desc := "()I" } : Jvm.MethodName) ({ cls := "DripCups$Cave", name := "cups", desc := "()I" } : Jvm.MethodName)) ∈ lw_all := lw_g (lw_at lw_m2 110 rfl) rfl
theorem q465 : (Jvm.Cond.code ({ cls := "DripCups$Cave", name := "cups", desc := "()I" } : Jvm.MethodName) prog_2_method_2_code (1 : Nat) (Option.some Jvm.ClassFile.FieldType.int)) ∈ lw_all := lw_g (lw_at lw_m2 111 rfl) rfl
theorem q466 : (Jvm.Cond.interfaceEntry "DripCups$Cave" (16 : Nat)) ∈ lw_tbl := lw_at lw_m2 112 rfl
theorem q467 : (Jvm.Cond.methodLink "DripCups$Cave" (16 : Nat) ({ cls := "java/util/List", name := "size", desc := "()I" } : Jvm.MethodName)) ∈ lw_all := lw_g (lw_at lw_m2 113 rfl) rfl
theorem q2231 : (Jvm.Cond.castable "DripCups$Cave" "java/lang/Object") ∈ lw_tbl := lw_at lw_m9 197 rfl
theorem in_X2 : ∀ w ∈ wsX20, w ∈ lw_all := lw_in wsX20 [197, 199, 201] (by decide +kernel) (by decide +kernel)
/-! DripCups$Night -/
set_option maxRecDepth 100000
def RX3 : String := "DripCups$Night"
def TX3 : u_T := fun k => match k with
  | 0 => ("DripCups$Night", "holds", "[I", true)
  | 1 => ("DripCups$Night", "fill", "[I", true)
  | 2 => ("DripCups$Night", "tips", "[I", true)
  | 3 => ("DripCups$Night", "one", "[I", true)
  | 4 => ("DripCups$Night", "two", "[I", true)
  | 5 => ("DripCups$Night", "turn", "[I", true)
  | 6 => ("DripCups$Night", "hour", "I", false)
  | 7 => ("DripCups$Night", "plugged", "I", false)
  | 8 => ("DripCups$Night", "bare", "Z", false)
  | 9 => ("DripCups$Night", "warm", "Z", false)
  | 10 => ("DripCups$Night", "rests", "Z", false)
  | 11 => ("DripCups$Night", "coming", "[I", true)
  | 12 => ("DripCups$Night", "often", "[I", true)
  | 13 => ("DripCups$Night", "tipped", "I", false)
  | 14 => ("DripCups$Night", "lost", "I", false)
  | _ => ("DripCups$Night", "this$0", "LDripCups;", true)
def tyX3 : Nat → FieldType := fun k => match k with
  | 0 => .array .int
  | 1 => .array .int
  | 2 => .array .int
  | 3 => .array .int
  | 4 => .array .int
  | 5 => .array .int
  | 6 => .int
  | 7 => .int
  | 8 => .boolean
  | 9 => .boolean
  | 10 => .boolean
  | 11 => .array .int
  | 12 => .array .int
  | 13 => .int
  | 14 => .int
  | _ => .object "DripCups"
abbrev wsX30 : List Cond := u_ws RX3 TX3 16
set_option maxRecDepth 100000 in
theorem nmX3 : ∀ a, a < 16 → ∀ b, b < 16 → a ≠ b → (TX3 a).2.1 ≠ (TX3 b).2.1 := by decide +kernel
set_option maxRecDepth 100000 in
theorem tyX3_ok : ∀ k, k < 16 → parseFieldDescriptor (TX3 k).2.2.1 = some (tyX3 k) := by decide +kernel
abbrev cX3_init : ByteArray := prog_5_method_1_code
def yX3_init : MethodName := ⟨RX3, "<init>", "(LDripCups;)V"⟩
def dkwX3_init_4 : List UInt8 := [16, 254, 79, 132, 2, 1, 167, 255, 232, 177]
abbrev dktX3_init_4 : List UInt8 := dkwX3_init_4 ++ []
def dkwX3_init_3 : List UInt8 := [181, 0, 37, 3, 61, 28, 16, 9, 162, 0, 24, 42, 180, 0, 25, 28, 2, 79, 42, 180, 0, 28, 28]
abbrev dktX3_init_3 : List UInt8 := dkwX3_init_3 ++ dktX3_init_4
def dkwX3_init_2 : List UInt8 := [181, 0, 28, 42, 16, 9, 188, 10, 181, 0, 31, 42, 16, 9, 188, 10, 181, 0, 34, 42, 16, 9, 188, 10]
abbrev dktX3_init_2 : List UInt8 := dkwX3_init_2 ++ dktX3_init_3
def dkwX3_init_1 : List UInt8 := [181, 0, 19, 42, 16, 9, 188, 10, 181, 0, 22, 42, 16, 9, 188, 10, 181, 0, 25, 42, 16, 9, 188, 10]
abbrev dktX3_init_1 : List UInt8 := dkwX3_init_1 ++ dktX3_init_2
def dkwX3_init_0 : List UInt8 := [42, 43, 181, 0, 3, 42, 183, 0, 9, 42, 16, 9, 188, 10, 181, 0, 15, 42, 16, 9, 188, 10]
abbrev dktX3_init_0 : List UInt8 := dkwX3_init_0 ++ dktX3_init_1
theorem dksX3_init_0 : cX3_init.data.toList.drop 0 = dktX3_init_0 := by decide +kernel
theorem dksX3_init_1 : cX3_init.data.toList.drop 22 = dktX3_init_1 := dk_seg dksX3_init_0 22 rfl rfl
theorem dksX3_init_2 : cX3_init.data.toList.drop 46 = dktX3_init_2 := dk_seg dksX3_init_1 24 rfl rfl
theorem dksX3_init_3 : cX3_init.data.toList.drop 70 = dktX3_init_3 := dk_seg dksX3_init_2 24 rfl rfl
theorem dksX3_init_4 : cX3_init.data.toList.drop 93 = dktX3_init_4 := dk_seg dksX3_init_3 23 rfl rfl
theorem dX3_init_0 : decode cX3_init 0 = .ok (.aload_n 0, 1) := dk_42 (dk_at dksX3_init_0 0 rfl rfl)
theorem dX3_init_1 : decode cX3_init 1 = .ok (.aload_n 1, 1) := dk_43 (dk_at dksX3_init_0 1 rfl rfl)
theorem dX3_init_2 : decode cX3_init 2 = .ok (.putfield 3, 3) := dk_181 0 3 (dk_at dksX3_init_0 2 rfl rfl)
theorem dX3_init_5 : decode cX3_init 5 = .ok (.aload_n 0, 1) := dk_42 (dk_at dksX3_init_0 5 rfl rfl)
theorem dX3_init_6 : decode cX3_init 6 = .ok (.invokespecial 9, 3) := dk_183 0 9 (dk_at dksX3_init_0 6 rfl rfl)
theorem dX3_init_9 : decode cX3_init 9 = .ok (.aload_n 0, 1) := dk_42 (dk_at dksX3_init_0 9 rfl rfl)
theorem dX3_init_10 : decode cX3_init 10 = .ok (.bipush 9, 2) := dk_16 9 (dk_at dksX3_init_0 10 rfl rfl)
theorem dX3_init_12 : decode cX3_init 12 = .ok (.newarray .int, 2) := dk_188_10 (dk_at dksX3_init_0 12 rfl rfl)
theorem dX3_init_14 : decode cX3_init 14 = .ok (.putfield 15, 3) := dk_181 0 15 (dk_at dksX3_init_0 14 rfl rfl)
theorem dX3_init_17 : decode cX3_init 17 = .ok (.aload_n 0, 1) := dk_42 (dk_at dksX3_init_0 17 rfl rfl)
theorem dX3_init_18 : decode cX3_init 18 = .ok (.bipush 9, 2) := dk_16 9 (dk_at dksX3_init_0 18 rfl rfl)
theorem dX3_init_20 : decode cX3_init 20 = .ok (.newarray .int, 2) := dk_188_10 (dk_at dksX3_init_0 20 rfl rfl)
theorem dX3_init_22 : decode cX3_init 22 = .ok (.putfield 19, 3) := dk_181 0 19 (dk_at dksX3_init_1 0 rfl rfl)
theorem dX3_init_25 : decode cX3_init 25 = .ok (.aload_n 0, 1) := dk_42 (dk_at dksX3_init_1 3 rfl rfl)
theorem dX3_init_26 : decode cX3_init 26 = .ok (.bipush 9, 2) := dk_16 9 (dk_at dksX3_init_1 4 rfl rfl)
theorem dX3_init_28 : decode cX3_init 28 = .ok (.newarray .int, 2) := dk_188_10 (dk_at dksX3_init_1 6 rfl rfl)
theorem dX3_init_30 : decode cX3_init 30 = .ok (.putfield 22, 3) := dk_181 0 22 (dk_at dksX3_init_1 8 rfl rfl)
theorem dX3_init_33 : decode cX3_init 33 = .ok (.aload_n 0, 1) := dk_42 (dk_at dksX3_init_1 11 rfl rfl)
theorem dX3_init_34 : decode cX3_init 34 = .ok (.bipush 9, 2) := dk_16 9 (dk_at dksX3_init_1 12 rfl rfl)
theorem dX3_init_36 : decode cX3_init 36 = .ok (.newarray .int, 2) := dk_188_10 (dk_at dksX3_init_1 14 rfl rfl)
theorem dX3_init_38 : decode cX3_init 38 = .ok (.putfield 25, 3) := dk_181 0 25 (dk_at dksX3_init_1 16 rfl rfl)
theorem dX3_init_41 : decode cX3_init 41 = .ok (.aload_n 0, 1) := dk_42 (dk_at dksX3_init_1 19 rfl rfl)
theorem dX3_init_42 : decode cX3_init 42 = .ok (.bipush 9, 2) := dk_16 9 (dk_at dksX3_init_1 20 rfl rfl)
theorem dX3_init_44 : decode cX3_init 44 = .ok (.newarray .int, 2) := dk_188_10 (dk_at dksX3_init_1 22 rfl rfl)
theorem dX3_init_46 : decode cX3_init 46 = .ok (.putfield 28, 3) := dk_181 0 28 (dk_at dksX3_init_2 0 rfl rfl)
theorem dX3_init_49 : decode cX3_init 49 = .ok (.aload_n 0, 1) := dk_42 (dk_at dksX3_init_2 3 rfl rfl)
theorem dX3_init_50 : decode cX3_init 50 = .ok (.bipush 9, 2) := dk_16 9 (dk_at dksX3_init_2 4 rfl rfl)
theorem dX3_init_52 : decode cX3_init 52 = .ok (.newarray .int, 2) := dk_188_10 (dk_at dksX3_init_2 6 rfl rfl)
theorem dX3_init_54 : decode cX3_init 54 = .ok (.putfield 31, 3) := dk_181 0 31 (dk_at dksX3_init_2 8 rfl rfl)
theorem dX3_init_57 : decode cX3_init 57 = .ok (.aload_n 0, 1) := dk_42 (dk_at dksX3_init_2 11 rfl rfl)
theorem dX3_init_58 : decode cX3_init 58 = .ok (.bipush 9, 2) := dk_16 9 (dk_at dksX3_init_2 12 rfl rfl)
theorem dX3_init_60 : decode cX3_init 60 = .ok (.newarray .int, 2) := dk_188_10 (dk_at dksX3_init_2 14 rfl rfl)
theorem dX3_init_62 : decode cX3_init 62 = .ok (.putfield 34, 3) := dk_181 0 34 (dk_at dksX3_init_2 16 rfl rfl)
theorem dX3_init_65 : decode cX3_init 65 = .ok (.aload_n 0, 1) := dk_42 (dk_at dksX3_init_2 19 rfl rfl)
theorem dX3_init_66 : decode cX3_init 66 = .ok (.bipush 9, 2) := dk_16 9 (dk_at dksX3_init_2 20 rfl rfl)
theorem dX3_init_68 : decode cX3_init 68 = .ok (.newarray .int, 2) := dk_188_10 (dk_at dksX3_init_2 22 rfl rfl)
theorem dX3_init_70 : decode cX3_init 70 = .ok (.putfield 37, 3) := dk_181 0 37 (dk_at dksX3_init_3 0 rfl rfl)
theorem dX3_init_73 : decode cX3_init 73 = .ok (.iconst 0, 1) := dk_3 (dk_at dksX3_init_3 3 rfl rfl)
theorem dX3_init_74 : decode cX3_init 74 = .ok (.istore_n 2, 1) := dk_61 (dk_at dksX3_init_3 4 rfl rfl)
theorem dX3_init_75 : decode cX3_init 75 = .ok (.iload_n 2, 1) := dk_28 (dk_at dksX3_init_3 5 rfl rfl)
theorem dX3_init_76 : decode cX3_init 76 = .ok (.bipush 9, 2) := dk_16 9 (dk_at dksX3_init_3 6 rfl rfl)
theorem dX3_init_78 : decode cX3_init 78 = .ok (.if_icmp .ge 24, 3) := dk_162 0 24 (dk_at dksX3_init_3 8 rfl rfl)
theorem dX3_init_81 : decode cX3_init 81 = .ok (.aload_n 0, 1) := dk_42 (dk_at dksX3_init_3 11 rfl rfl)
theorem dX3_init_82 : decode cX3_init 82 = .ok (.getfield 25, 3) := dk_180 0 25 (dk_at dksX3_init_3 12 rfl rfl)
theorem dX3_init_85 : decode cX3_init 85 = .ok (.iload_n 2, 1) := dk_28 (dk_at dksX3_init_3 15 rfl rfl)
theorem dX3_init_86 : decode cX3_init 86 = .ok (.iconst (-1), 1) := dk_2 (dk_at dksX3_init_3 16 rfl rfl)
theorem dX3_init_87 : decode cX3_init 87 = .ok (.iastore, 1) := dk_79 (dk_at dksX3_init_3 17 rfl rfl)
theorem dX3_init_88 : decode cX3_init 88 = .ok (.aload_n 0, 1) := dk_42 (dk_at dksX3_init_3 18 rfl rfl)
theorem dX3_init_89 : decode cX3_init 89 = .ok (.getfield 28, 3) := dk_180 0 28 (dk_at dksX3_init_3 19 rfl rfl)
theorem dX3_init_92 : decode cX3_init 92 = .ok (.iload_n 2, 1) := dk_28 (dk_at dksX3_init_3 22 rfl rfl)
theorem dX3_init_93 : decode cX3_init 93 = .ok (.bipush (-2), 2) := dk_16 254 (dk_at dksX3_init_4 0 rfl rfl)
theorem dX3_init_95 : decode cX3_init 95 = .ok (.iastore, 1) := dk_79 (dk_at dksX3_init_4 2 rfl rfl)
theorem dX3_init_96 : decode cX3_init 96 = .ok (.iinc 2 1, 3) := dk_132 2 1 (dk_at dksX3_init_4 3 rfl rfl)
theorem dX3_init_99 : decode cX3_init 99 = .ok (.goto (-24), 3) := dk_167 255 232 (dk_at dksX3_init_4 6 rfl rfl)
theorem dX3_init_102 : decode cX3_init 102 = .ok (.return_, 1) := dk_177 (dk_at dksX3_init_4 9 rfl rfl)
abbrev cX3_copy : ByteArray := prog_5_method_2_code
def yX3_copy : MethodName := ⟨RX3, "copy", "()LDripCups$Night;"⟩
def dkwX3_copy_0 : List UInt8 := [187, 0, 4, 89, 42, 180, 0, 3, 183, 0, 40, 42, 182, 0, 43, 176]
abbrev dktX3_copy_0 : List UInt8 := dkwX3_copy_0 ++ []
theorem dksX3_copy_0 : cX3_copy.data.toList.drop 0 = dktX3_copy_0 := by decide +kernel
theorem dX3_copy_0 : decode cX3_copy 0 = .ok (.new 4, 3) := dk_187 0 4 (dk_at dksX3_copy_0 0 rfl rfl)
theorem dX3_copy_3 : decode cX3_copy 3 = .ok (.dup, 1) := dk_89 (dk_at dksX3_copy_0 3 rfl rfl)
theorem dX3_copy_4 : decode cX3_copy 4 = .ok (.aload_n 0, 1) := dk_42 (dk_at dksX3_copy_0 4 rfl rfl)
theorem dX3_copy_5 : decode cX3_copy 5 = .ok (.getfield 3, 3) := dk_180 0 3 (dk_at dksX3_copy_0 5 rfl rfl)
theorem dX3_copy_8 : decode cX3_copy 8 = .ok (.invokespecial 40, 3) := dk_183 0 40 (dk_at dksX3_copy_0 8 rfl rfl)
theorem dX3_copy_11 : decode cX3_copy 11 = .ok (.aload_n 0, 1) := dk_42 (dk_at dksX3_copy_0 11 rfl rfl)
theorem dX3_copy_12 : decode cX3_copy 12 = .ok (.invokevirtual 43, 3) := dk_182 0 43 (dk_at dksX3_copy_0 12 rfl rfl)
theorem dX3_copy_15 : decode cX3_copy 15 = .ok (.areturn, 1) := dk_176 (dk_at dksX3_copy_0 15 rfl rfl)
abbrev cX3_be : ByteArray := prog_5_method_3_code
def yX3_be : MethodName := ⟨RX3, "be", "(LDripCups$Night;)LDripCups$Night;"⟩
def dkwX3_be_5 : List UInt8 := [42, 3, 181, 0, 61, 42, 3, 181, 0, 64, 42, 176]
abbrev dktX3_be_5 : List UInt8 := dkwX3_be_5 ++ []
def dkwX3_be_4 : List UInt8 := [180, 0, 47, 181, 0, 47, 42, 43, 180, 0, 51, 181, 0, 51, 42, 3, 181, 0, 54, 42, 3, 181, 0, 58]
abbrev dktX3_be_4 : List UInt8 := dkwX3_be_4 ++ dktX3_be_5
def dkwX3_be_3 : List UInt8 := [28, 43, 180, 0, 31, 28, 46, 79, 42, 180, 0, 34, 28, 3, 79, 132, 2, 1, 167, 255, 168, 42, 43]
abbrev dktX3_be_3 : List UInt8 := dkwX3_be_3 ++ dktX3_be_4
def dkwX3_be_2 : List UInt8 := [28, 43, 180, 0, 25, 28, 46, 79, 42, 180, 0, 28, 28, 43, 180, 0, 28, 28, 46, 79, 42, 180, 0, 31]
abbrev dktX3_be_2 : List UInt8 := dkwX3_be_2 ++ dktX3_be_3
def dkwX3_be_1 : List UInt8 := [28, 43, 180, 0, 19, 28, 46, 79, 42, 180, 0, 22, 28, 43, 180, 0, 22, 28, 46, 79, 42, 180, 0, 25]
abbrev dktX3_be_1 : List UInt8 := dkwX3_be_1 ++ dktX3_be_2
def dkwX3_be_0 : List UInt8 := [3, 61, 28, 16, 9, 162, 0, 88, 42, 180, 0, 15, 28, 43, 180, 0, 15, 28, 46, 79, 42, 180, 0, 19]
abbrev dktX3_be_0 : List UInt8 := dkwX3_be_0 ++ dktX3_be_1
theorem dksX3_be_0 : cX3_be.data.toList.drop 0 = dktX3_be_0 := by decide +kernel
theorem dksX3_be_1 : cX3_be.data.toList.drop 24 = dktX3_be_1 := dk_seg dksX3_be_0 24 rfl rfl
theorem dksX3_be_2 : cX3_be.data.toList.drop 48 = dktX3_be_2 := dk_seg dksX3_be_1 24 rfl rfl
theorem dksX3_be_3 : cX3_be.data.toList.drop 72 = dktX3_be_3 := dk_seg dksX3_be_2 24 rfl rfl
theorem dksX3_be_4 : cX3_be.data.toList.drop 95 = dktX3_be_4 := dk_seg dksX3_be_3 23 rfl rfl
theorem dksX3_be_5 : cX3_be.data.toList.drop 119 = dktX3_be_5 := dk_seg dksX3_be_4 24 rfl rfl
theorem dX3_be_0 : decode cX3_be 0 = .ok (.iconst 0, 1) := dk_3 (dk_at dksX3_be_0 0 rfl rfl)
theorem dX3_be_1 : decode cX3_be 1 = .ok (.istore_n 2, 1) := dk_61 (dk_at dksX3_be_0 1 rfl rfl)
theorem dX3_be_2 : decode cX3_be 2 = .ok (.iload_n 2, 1) := dk_28 (dk_at dksX3_be_0 2 rfl rfl)
theorem dX3_be_3 : decode cX3_be 3 = .ok (.bipush 9, 2) := dk_16 9 (dk_at dksX3_be_0 3 rfl rfl)
theorem dX3_be_5 : decode cX3_be 5 = .ok (.if_icmp .ge 88, 3) := dk_162 0 88 (dk_at dksX3_be_0 5 rfl rfl)
theorem dX3_be_8 : decode cX3_be 8 = .ok (.aload_n 0, 1) := dk_42 (dk_at dksX3_be_0 8 rfl rfl)
theorem dX3_be_9 : decode cX3_be 9 = .ok (.getfield 15, 3) := dk_180 0 15 (dk_at dksX3_be_0 9 rfl rfl)
theorem dX3_be_12 : decode cX3_be 12 = .ok (.iload_n 2, 1) := dk_28 (dk_at dksX3_be_0 12 rfl rfl)
theorem dX3_be_13 : decode cX3_be 13 = .ok (.aload_n 1, 1) := dk_43 (dk_at dksX3_be_0 13 rfl rfl)
theorem dX3_be_14 : decode cX3_be 14 = .ok (.getfield 15, 3) := dk_180 0 15 (dk_at dksX3_be_0 14 rfl rfl)
theorem dX3_be_17 : decode cX3_be 17 = .ok (.iload_n 2, 1) := dk_28 (dk_at dksX3_be_0 17 rfl rfl)
theorem dX3_be_18 : decode cX3_be 18 = .ok (.iaload, 1) := dk_46 (dk_at dksX3_be_0 18 rfl rfl)
theorem dX3_be_19 : decode cX3_be 19 = .ok (.iastore, 1) := dk_79 (dk_at dksX3_be_0 19 rfl rfl)
theorem dX3_be_20 : decode cX3_be 20 = .ok (.aload_n 0, 1) := dk_42 (dk_at dksX3_be_0 20 rfl rfl)
theorem dX3_be_21 : decode cX3_be 21 = .ok (.getfield 19, 3) := dk_180 0 19 (dk_at dksX3_be_0 21 rfl rfl)
theorem dX3_be_24 : decode cX3_be 24 = .ok (.iload_n 2, 1) := dk_28 (dk_at dksX3_be_1 0 rfl rfl)
theorem dX3_be_25 : decode cX3_be 25 = .ok (.aload_n 1, 1) := dk_43 (dk_at dksX3_be_1 1 rfl rfl)
theorem dX3_be_26 : decode cX3_be 26 = .ok (.getfield 19, 3) := dk_180 0 19 (dk_at dksX3_be_1 2 rfl rfl)
theorem dX3_be_29 : decode cX3_be 29 = .ok (.iload_n 2, 1) := dk_28 (dk_at dksX3_be_1 5 rfl rfl)
theorem dX3_be_30 : decode cX3_be 30 = .ok (.iaload, 1) := dk_46 (dk_at dksX3_be_1 6 rfl rfl)
theorem dX3_be_31 : decode cX3_be 31 = .ok (.iastore, 1) := dk_79 (dk_at dksX3_be_1 7 rfl rfl)
theorem dX3_be_32 : decode cX3_be 32 = .ok (.aload_n 0, 1) := dk_42 (dk_at dksX3_be_1 8 rfl rfl)
theorem dX3_be_33 : decode cX3_be 33 = .ok (.getfield 22, 3) := dk_180 0 22 (dk_at dksX3_be_1 9 rfl rfl)
theorem dX3_be_36 : decode cX3_be 36 = .ok (.iload_n 2, 1) := dk_28 (dk_at dksX3_be_1 12 rfl rfl)
theorem dX3_be_37 : decode cX3_be 37 = .ok (.aload_n 1, 1) := dk_43 (dk_at dksX3_be_1 13 rfl rfl)
theorem dX3_be_38 : decode cX3_be 38 = .ok (.getfield 22, 3) := dk_180 0 22 (dk_at dksX3_be_1 14 rfl rfl)
theorem dX3_be_41 : decode cX3_be 41 = .ok (.iload_n 2, 1) := dk_28 (dk_at dksX3_be_1 17 rfl rfl)
theorem dX3_be_42 : decode cX3_be 42 = .ok (.iaload, 1) := dk_46 (dk_at dksX3_be_1 18 rfl rfl)
theorem dX3_be_43 : decode cX3_be 43 = .ok (.iastore, 1) := dk_79 (dk_at dksX3_be_1 19 rfl rfl)
theorem dX3_be_44 : decode cX3_be 44 = .ok (.aload_n 0, 1) := dk_42 (dk_at dksX3_be_1 20 rfl rfl)
theorem dX3_be_45 : decode cX3_be 45 = .ok (.getfield 25, 3) := dk_180 0 25 (dk_at dksX3_be_1 21 rfl rfl)
theorem dX3_be_48 : decode cX3_be 48 = .ok (.iload_n 2, 1) := dk_28 (dk_at dksX3_be_2 0 rfl rfl)
theorem dX3_be_49 : decode cX3_be 49 = .ok (.aload_n 1, 1) := dk_43 (dk_at dksX3_be_2 1 rfl rfl)
theorem dX3_be_50 : decode cX3_be 50 = .ok (.getfield 25, 3) := dk_180 0 25 (dk_at dksX3_be_2 2 rfl rfl)
theorem dX3_be_53 : decode cX3_be 53 = .ok (.iload_n 2, 1) := dk_28 (dk_at dksX3_be_2 5 rfl rfl)
theorem dX3_be_54 : decode cX3_be 54 = .ok (.iaload, 1) := dk_46 (dk_at dksX3_be_2 6 rfl rfl)
theorem dX3_be_55 : decode cX3_be 55 = .ok (.iastore, 1) := dk_79 (dk_at dksX3_be_2 7 rfl rfl)
theorem dX3_be_56 : decode cX3_be 56 = .ok (.aload_n 0, 1) := dk_42 (dk_at dksX3_be_2 8 rfl rfl)
theorem dX3_be_57 : decode cX3_be 57 = .ok (.getfield 28, 3) := dk_180 0 28 (dk_at dksX3_be_2 9 rfl rfl)
theorem dX3_be_60 : decode cX3_be 60 = .ok (.iload_n 2, 1) := dk_28 (dk_at dksX3_be_2 12 rfl rfl)
theorem dX3_be_61 : decode cX3_be 61 = .ok (.aload_n 1, 1) := dk_43 (dk_at dksX3_be_2 13 rfl rfl)
theorem dX3_be_62 : decode cX3_be 62 = .ok (.getfield 28, 3) := dk_180 0 28 (dk_at dksX3_be_2 14 rfl rfl)
theorem dX3_be_65 : decode cX3_be 65 = .ok (.iload_n 2, 1) := dk_28 (dk_at dksX3_be_2 17 rfl rfl)
theorem dX3_be_66 : decode cX3_be 66 = .ok (.iaload, 1) := dk_46 (dk_at dksX3_be_2 18 rfl rfl)
theorem dX3_be_67 : decode cX3_be 67 = .ok (.iastore, 1) := dk_79 (dk_at dksX3_be_2 19 rfl rfl)
theorem dX3_be_68 : decode cX3_be 68 = .ok (.aload_n 0, 1) := dk_42 (dk_at dksX3_be_2 20 rfl rfl)
theorem dX3_be_69 : decode cX3_be 69 = .ok (.getfield 31, 3) := dk_180 0 31 (dk_at dksX3_be_2 21 rfl rfl)
theorem dX3_be_72 : decode cX3_be 72 = .ok (.iload_n 2, 1) := dk_28 (dk_at dksX3_be_3 0 rfl rfl)
theorem dX3_be_73 : decode cX3_be 73 = .ok (.aload_n 1, 1) := dk_43 (dk_at dksX3_be_3 1 rfl rfl)
theorem dX3_be_74 : decode cX3_be 74 = .ok (.getfield 31, 3) := dk_180 0 31 (dk_at dksX3_be_3 2 rfl rfl)
theorem dX3_be_77 : decode cX3_be 77 = .ok (.iload_n 2, 1) := dk_28 (dk_at dksX3_be_3 5 rfl rfl)
theorem dX3_be_78 : decode cX3_be 78 = .ok (.iaload, 1) := dk_46 (dk_at dksX3_be_3 6 rfl rfl)
theorem dX3_be_79 : decode cX3_be 79 = .ok (.iastore, 1) := dk_79 (dk_at dksX3_be_3 7 rfl rfl)
theorem dX3_be_80 : decode cX3_be 80 = .ok (.aload_n 0, 1) := dk_42 (dk_at dksX3_be_3 8 rfl rfl)
theorem dX3_be_81 : decode cX3_be 81 = .ok (.getfield 34, 3) := dk_180 0 34 (dk_at dksX3_be_3 9 rfl rfl)
theorem dX3_be_84 : decode cX3_be 84 = .ok (.iload_n 2, 1) := dk_28 (dk_at dksX3_be_3 12 rfl rfl)
theorem dX3_be_85 : decode cX3_be 85 = .ok (.iconst 0, 1) := dk_3 (dk_at dksX3_be_3 13 rfl rfl)
theorem dX3_be_86 : decode cX3_be 86 = .ok (.iastore, 1) := dk_79 (dk_at dksX3_be_3 14 rfl rfl)
theorem dX3_be_87 : decode cX3_be 87 = .ok (.iinc 2 1, 3) := dk_132 2 1 (dk_at dksX3_be_3 15 rfl rfl)
theorem dX3_be_90 : decode cX3_be 90 = .ok (.goto (-88), 3) := dk_167 255 168 (dk_at dksX3_be_3 18 rfl rfl)
theorem dX3_be_93 : decode cX3_be 93 = .ok (.aload_n 0, 1) := dk_42 (dk_at dksX3_be_3 21 rfl rfl)
theorem dX3_be_94 : decode cX3_be 94 = .ok (.aload_n 1, 1) := dk_43 (dk_at dksX3_be_3 22 rfl rfl)
theorem dX3_be_95 : decode cX3_be 95 = .ok (.getfield 47, 3) := dk_180 0 47 (dk_at dksX3_be_4 0 rfl rfl)
theorem dX3_be_98 : decode cX3_be 98 = .ok (.putfield 47, 3) := dk_181 0 47 (dk_at dksX3_be_4 3 rfl rfl)
theorem dX3_be_101 : decode cX3_be 101 = .ok (.aload_n 0, 1) := dk_42 (dk_at dksX3_be_4 6 rfl rfl)
theorem dX3_be_102 : decode cX3_be 102 = .ok (.aload_n 1, 1) := dk_43 (dk_at dksX3_be_4 7 rfl rfl)
theorem dX3_be_103 : decode cX3_be 103 = .ok (.getfield 51, 3) := dk_180 0 51 (dk_at dksX3_be_4 8 rfl rfl)
theorem dX3_be_106 : decode cX3_be 106 = .ok (.putfield 51, 3) := dk_181 0 51 (dk_at dksX3_be_4 11 rfl rfl)
theorem dX3_be_109 : decode cX3_be 109 = .ok (.aload_n 0, 1) := dk_42 (dk_at dksX3_be_4 14 rfl rfl)
theorem dX3_be_110 : decode cX3_be 110 = .ok (.iconst 0, 1) := dk_3 (dk_at dksX3_be_4 15 rfl rfl)
theorem dX3_be_111 : decode cX3_be 111 = .ok (.putfield 54, 3) := dk_181 0 54 (dk_at dksX3_be_4 16 rfl rfl)
theorem dX3_be_114 : decode cX3_be 114 = .ok (.aload_n 0, 1) := dk_42 (dk_at dksX3_be_4 19 rfl rfl)
theorem dX3_be_115 : decode cX3_be 115 = .ok (.iconst 0, 1) := dk_3 (dk_at dksX3_be_4 20 rfl rfl)
theorem dX3_be_116 : decode cX3_be 116 = .ok (.putfield 58, 3) := dk_181 0 58 (dk_at dksX3_be_4 21 rfl rfl)
theorem dX3_be_119 : decode cX3_be 119 = .ok (.aload_n 0, 1) := dk_42 (dk_at dksX3_be_5 0 rfl rfl)
theorem dX3_be_120 : decode cX3_be 120 = .ok (.iconst 0, 1) := dk_3 (dk_at dksX3_be_5 1 rfl rfl)
theorem dX3_be_121 : decode cX3_be 121 = .ok (.putfield 61, 3) := dk_181 0 61 (dk_at dksX3_be_5 2 rfl rfl)
theorem dX3_be_124 : decode cX3_be 124 = .ok (.aload_n 0, 1) := dk_42 (dk_at dksX3_be_5 5 rfl rfl)
theorem dX3_be_125 : decode cX3_be 125 = .ok (.iconst 0, 1) := dk_3 (dk_at dksX3_be_5 6 rfl rfl)
theorem dX3_be_126 : decode cX3_be 126 = .ok (.putfield 64, 3) := dk_181 0 64 (dk_at dksX3_be_5 7 rfl rfl)
theorem dX3_be_129 : decode cX3_be 129 = .ok (.aload_n 0, 1) := dk_42 (dk_at dksX3_be_5 10 rfl rfl)
theorem dX3_be_130 : decode cX3_be 130 = .ok (.areturn, 1) := dk_176 (dk_at dksX3_be_5 11 rfl rfl)
abbrev cX3_after : ByteArray := prog_5_method_13_code
def yX3_after : MethodName := ⟨RX3, "after", "(I)LDripCups$Night;"⟩
def dkwX3_after_0 : List UInt8 := [3, 61, 28, 27, 162, 0, 14, 42, 182, 0, 149, 87, 132, 2, 1, 167, 255, 243, 42, 176]
abbrev dktX3_after_0 : List UInt8 := dkwX3_after_0 ++ []
theorem dksX3_after_0 : cX3_after.data.toList.drop 0 = dktX3_after_0 := by decide +kernel
theorem dX3_after_0 : decode cX3_after 0 = .ok (.iconst 0, 1) := dk_3 (dk_at dksX3_after_0 0 rfl rfl)
theorem dX3_after_1 : decode cX3_after 1 = .ok (.istore_n 2, 1) := dk_61 (dk_at dksX3_after_0 1 rfl rfl)
theorem dX3_after_2 : decode cX3_after 2 = .ok (.iload_n 2, 1) := dk_28 (dk_at dksX3_after_0 2 rfl rfl)
theorem dX3_after_3 : decode cX3_after 3 = .ok (.iload_n 1, 1) := dk_27 (dk_at dksX3_after_0 3 rfl rfl)
theorem dX3_after_4 : decode cX3_after 4 = .ok (.if_icmp .ge 14, 3) := dk_162 0 14 (dk_at dksX3_after_0 4 rfl rfl)
theorem dX3_after_7 : decode cX3_after 7 = .ok (.aload_n 0, 1) := dk_42 (dk_at dksX3_after_0 7 rfl rfl)
theorem dX3_after_8 : decode cX3_after 8 = .ok (.invokevirtual 149, 3) := dk_182 0 149 (dk_at dksX3_after_0 8 rfl rfl)
theorem dX3_after_11 : decode cX3_after 11 = .ok (.pop, 1) := dk_87 (dk_at dksX3_after_0 11 rfl rfl)
theorem dX3_after_12 : decode cX3_after 12 = .ok (.iinc 2 1, 3) := dk_132 2 1 (dk_at dksX3_after_0 12 rfl rfl)
theorem dX3_after_15 : decode cX3_after 15 = .ok (.goto (-13), 3) := dk_167 255 243 (dk_at dksX3_after_0 15 rfl rfl)
theorem dX3_after_18 : decode cX3_after 18 = .ok (.aload_n 0, 1) := dk_42 (dk_at dksX3_after_0 18 rfl rfl)
theorem dX3_after_19 : decode cX3_after 19 = .ok (.areturn, 1) := dk_176 (dk_at dksX3_after_0 19 rfl rfl)
abbrev cX3_pass : ByteArray := prog_5_method_12_code
def yX3_pass : MethodName := ⟨RX3, "pass", "()LDripCups$Night;"⟩
def dkwX3_pass_6 : List UInt8 := [167, 255, 193, 42, 89, 180, 0, 47, 4, 96, 181, 0, 47, 42, 176]
abbrev dktX3_pass_6 : List UInt8 := dkwX3_pass_6 ++ []
def dkwX3_pass_5 : List UInt8 := [180, 0, 19, 27, 92, 46, 28, 100, 79, 42, 89, 180, 0, 64, 28, 96, 181, 0, 64, 132, 1, 1]
abbrev dktX3_pass_5 : List UInt8 := dkwX3_pass_5 ++ dktX3_pass_6
def dkwX3_pass_4 : List UInt8 := [180, 0, 74, 180, 0, 128, 198, 0, 42, 42, 180, 0, 54, 154, 0, 35, 42, 27, 182, 0, 147, 61, 42]
abbrev dktX3_pass_4 : List UInt8 := dkwX3_pass_4 ++ dktX3_pass_5
def dkwX3_pass_3 : List UInt8 := [167, 255, 193, 3, 60, 27, 42, 180, 0, 3, 180, 0, 74, 182, 0, 137, 162, 0, 55, 42, 180, 0, 3]
abbrev dktX3_pass_3 : List UInt8 := dkwX3_pass_3 ++ dktX3_pass_4
def dkwX3_pass_2 : List UInt8 := [42, 180, 0, 37, 27, 46, 158, 0, 15, 42, 89, 180, 0, 134, 4, 27, 120, 128, 181, 0, 134, 132, 1, 1]
abbrev dktX3_pass_2 : List UInt8 := dkwX3_pass_2 ++ dktX3_pass_3
def dkwX3_pass_1 : List UInt8 := [180, 0, 34, 27, 92, 46, 42, 27, 182, 0, 140, 96, 79, 42, 180, 0, 37, 27, 42, 27, 182, 0, 144, 79]
abbrev dktX3_pass_1 : List UInt8 := dkwX3_pass_1 ++ dktX3_pass_2
def dkwX3_pass_0 : List UInt8 := [42, 3, 181, 0, 134, 3, 60, 27, 42, 180, 0, 3, 180, 0, 74, 182, 0, 137, 162, 0, 55, 42]
abbrev dktX3_pass_0 : List UInt8 := dkwX3_pass_0 ++ dktX3_pass_1
theorem dksX3_pass_0 : cX3_pass.data.toList.drop 0 = dktX3_pass_0 := by decide +kernel
theorem dksX3_pass_1 : cX3_pass.data.toList.drop 22 = dktX3_pass_1 := dk_seg dksX3_pass_0 22 rfl rfl
theorem dksX3_pass_2 : cX3_pass.data.toList.drop 46 = dktX3_pass_2 := dk_seg dksX3_pass_1 24 rfl rfl
theorem dksX3_pass_3 : cX3_pass.data.toList.drop 70 = dktX3_pass_3 := dk_seg dksX3_pass_2 24 rfl rfl
theorem dksX3_pass_4 : cX3_pass.data.toList.drop 93 = dktX3_pass_4 := dk_seg dksX3_pass_3 23 rfl rfl
theorem dksX3_pass_5 : cX3_pass.data.toList.drop 116 = dktX3_pass_5 := dk_seg dksX3_pass_4 23 rfl rfl
theorem dksX3_pass_6 : cX3_pass.data.toList.drop 138 = dktX3_pass_6 := dk_seg dksX3_pass_5 22 rfl rfl
theorem dX3_pass_0 : decode cX3_pass 0 = .ok (.aload_n 0, 1) := dk_42 (dk_at dksX3_pass_0 0 rfl rfl)
theorem dX3_pass_1 : decode cX3_pass 1 = .ok (.iconst 0, 1) := dk_3 (dk_at dksX3_pass_0 1 rfl rfl)
theorem dX3_pass_2 : decode cX3_pass 2 = .ok (.putfield 134, 3) := dk_181 0 134 (dk_at dksX3_pass_0 2 rfl rfl)
theorem dX3_pass_5 : decode cX3_pass 5 = .ok (.iconst 0, 1) := dk_3 (dk_at dksX3_pass_0 5 rfl rfl)
theorem dX3_pass_6 : decode cX3_pass 6 = .ok (.istore_n 1, 1) := dk_60 (dk_at dksX3_pass_0 6 rfl rfl)
theorem dX3_pass_7 : decode cX3_pass 7 = .ok (.iload_n 1, 1) := dk_27 (dk_at dksX3_pass_0 7 rfl rfl)
theorem dX3_pass_8 : decode cX3_pass 8 = .ok (.aload_n 0, 1) := dk_42 (dk_at dksX3_pass_0 8 rfl rfl)
theorem dX3_pass_9 : decode cX3_pass 9 = .ok (.getfield 3, 3) := dk_180 0 3 (dk_at dksX3_pass_0 9 rfl rfl)
theorem dX3_pass_12 : decode cX3_pass 12 = .ok (.getfield 74, 3) := dk_180 0 74 (dk_at dksX3_pass_0 12 rfl rfl)
theorem dX3_pass_15 : decode cX3_pass 15 = .ok (.invokevirtual 137, 3) := dk_182 0 137 (dk_at dksX3_pass_0 15 rfl rfl)
theorem dX3_pass_18 : decode cX3_pass 18 = .ok (.if_icmp .ge 55, 3) := dk_162 0 55 (dk_at dksX3_pass_0 18 rfl rfl)
theorem dX3_pass_21 : decode cX3_pass 21 = .ok (.aload_n 0, 1) := dk_42 (dk_at dksX3_pass_0 21 rfl rfl)
theorem dX3_pass_22 : decode cX3_pass 22 = .ok (.getfield 34, 3) := dk_180 0 34 (dk_at dksX3_pass_1 0 rfl rfl)
theorem dX3_pass_25 : decode cX3_pass 25 = .ok (.iload_n 1, 1) := dk_27 (dk_at dksX3_pass_1 3 rfl rfl)
theorem dX3_pass_26 : decode cX3_pass 26 = .ok (.dup2, 1) := dk_92 (dk_at dksX3_pass_1 4 rfl rfl)
theorem dX3_pass_27 : decode cX3_pass 27 = .ok (.iaload, 1) := dk_46 (dk_at dksX3_pass_1 5 rfl rfl)
theorem dX3_pass_28 : decode cX3_pass 28 = .ok (.aload_n 0, 1) := dk_42 (dk_at dksX3_pass_1 6 rfl rfl)
theorem dX3_pass_29 : decode cX3_pass 29 = .ok (.iload_n 1, 1) := dk_27 (dk_at dksX3_pass_1 7 rfl rfl)
theorem dX3_pass_30 : decode cX3_pass 30 = .ok (.invokevirtual 140, 3) := dk_182 0 140 (dk_at dksX3_pass_1 8 rfl rfl)
theorem dX3_pass_33 : decode cX3_pass 33 = .ok (.iadd, 1) := dk_96 (dk_at dksX3_pass_1 11 rfl rfl)
theorem dX3_pass_34 : decode cX3_pass 34 = .ok (.iastore, 1) := dk_79 (dk_at dksX3_pass_1 12 rfl rfl)
theorem dX3_pass_35 : decode cX3_pass 35 = .ok (.aload_n 0, 1) := dk_42 (dk_at dksX3_pass_1 13 rfl rfl)
theorem dX3_pass_36 : decode cX3_pass 36 = .ok (.getfield 37, 3) := dk_180 0 37 (dk_at dksX3_pass_1 14 rfl rfl)
theorem dX3_pass_39 : decode cX3_pass 39 = .ok (.iload_n 1, 1) := dk_27 (dk_at dksX3_pass_1 17 rfl rfl)
theorem dX3_pass_40 : decode cX3_pass 40 = .ok (.aload_n 0, 1) := dk_42 (dk_at dksX3_pass_1 18 rfl rfl)
theorem dX3_pass_41 : decode cX3_pass 41 = .ok (.iload_n 1, 1) := dk_27 (dk_at dksX3_pass_1 19 rfl rfl)
theorem dX3_pass_42 : decode cX3_pass 42 = .ok (.invokevirtual 144, 3) := dk_182 0 144 (dk_at dksX3_pass_1 20 rfl rfl)
theorem dX3_pass_45 : decode cX3_pass 45 = .ok (.iastore, 1) := dk_79 (dk_at dksX3_pass_1 23 rfl rfl)
theorem dX3_pass_46 : decode cX3_pass 46 = .ok (.aload_n 0, 1) := dk_42 (dk_at dksX3_pass_2 0 rfl rfl)
theorem dX3_pass_47 : decode cX3_pass 47 = .ok (.getfield 37, 3) := dk_180 0 37 (dk_at dksX3_pass_2 1 rfl rfl)
theorem dX3_pass_50 : decode cX3_pass 50 = .ok (.iload_n 1, 1) := dk_27 (dk_at dksX3_pass_2 4 rfl rfl)
theorem dX3_pass_51 : decode cX3_pass 51 = .ok (.iaload, 1) := dk_46 (dk_at dksX3_pass_2 5 rfl rfl)
theorem dX3_pass_52 : decode cX3_pass 52 = .ok (.ifCond .le 15, 3) := dk_158 0 15 (dk_at dksX3_pass_2 6 rfl rfl)
theorem dX3_pass_55 : decode cX3_pass 55 = .ok (.aload_n 0, 1) := dk_42 (dk_at dksX3_pass_2 9 rfl rfl)
theorem dX3_pass_56 : decode cX3_pass 56 = .ok (.dup, 1) := dk_89 (dk_at dksX3_pass_2 10 rfl rfl)
theorem dX3_pass_57 : decode cX3_pass 57 = .ok (.getfield 134, 3) := dk_180 0 134 (dk_at dksX3_pass_2 11 rfl rfl)
theorem dX3_pass_60 : decode cX3_pass 60 = .ok (.iconst 1, 1) := dk_4 (dk_at dksX3_pass_2 14 rfl rfl)
theorem dX3_pass_61 : decode cX3_pass 61 = .ok (.iload_n 1, 1) := dk_27 (dk_at dksX3_pass_2 15 rfl rfl)
theorem dX3_pass_62 : decode cX3_pass 62 = .ok (.ishl, 1) := dk_120 (dk_at dksX3_pass_2 16 rfl rfl)
theorem dX3_pass_63 : decode cX3_pass 63 = .ok (.ior, 1) := dk_128 (dk_at dksX3_pass_2 17 rfl rfl)
theorem dX3_pass_64 : decode cX3_pass 64 = .ok (.putfield 134, 3) := dk_181 0 134 (dk_at dksX3_pass_2 18 rfl rfl)
theorem dX3_pass_67 : decode cX3_pass 67 = .ok (.iinc 1 1, 3) := dk_132 1 1 (dk_at dksX3_pass_2 21 rfl rfl)
theorem dX3_pass_70 : decode cX3_pass 70 = .ok (.goto (-63), 3) := dk_167 255 193 (dk_at dksX3_pass_3 0 rfl rfl)
theorem dX3_pass_73 : decode cX3_pass 73 = .ok (.iconst 0, 1) := dk_3 (dk_at dksX3_pass_3 3 rfl rfl)
theorem dX3_pass_74 : decode cX3_pass 74 = .ok (.istore_n 1, 1) := dk_60 (dk_at dksX3_pass_3 4 rfl rfl)
theorem dX3_pass_75 : decode cX3_pass 75 = .ok (.iload_n 1, 1) := dk_27 (dk_at dksX3_pass_3 5 rfl rfl)
theorem dX3_pass_76 : decode cX3_pass 76 = .ok (.aload_n 0, 1) := dk_42 (dk_at dksX3_pass_3 6 rfl rfl)
theorem dX3_pass_77 : decode cX3_pass 77 = .ok (.getfield 3, 3) := dk_180 0 3 (dk_at dksX3_pass_3 7 rfl rfl)
theorem dX3_pass_80 : decode cX3_pass 80 = .ok (.getfield 74, 3) := dk_180 0 74 (dk_at dksX3_pass_3 10 rfl rfl)
theorem dX3_pass_83 : decode cX3_pass 83 = .ok (.invokevirtual 137, 3) := dk_182 0 137 (dk_at dksX3_pass_3 13 rfl rfl)
theorem dX3_pass_86 : decode cX3_pass 86 = .ok (.if_icmp .ge 55, 3) := dk_162 0 55 (dk_at dksX3_pass_3 16 rfl rfl)
theorem dX3_pass_89 : decode cX3_pass 89 = .ok (.aload_n 0, 1) := dk_42 (dk_at dksX3_pass_3 19 rfl rfl)
theorem dX3_pass_90 : decode cX3_pass 90 = .ok (.getfield 3, 3) := dk_180 0 3 (dk_at dksX3_pass_3 20 rfl rfl)
theorem dX3_pass_93 : decode cX3_pass 93 = .ok (.getfield 74, 3) := dk_180 0 74 (dk_at dksX3_pass_4 0 rfl rfl)
theorem dX3_pass_96 : decode cX3_pass 96 = .ok (.getfield 128, 3) := dk_180 0 128 (dk_at dksX3_pass_4 3 rfl rfl)
theorem dX3_pass_99 : decode cX3_pass 99 = .ok (.ifnull 42, 3) := dk_198 0 42 (dk_at dksX3_pass_4 6 rfl rfl)
theorem dX3_pass_102 : decode cX3_pass 102 = .ok (.aload_n 0, 1) := dk_42 (dk_at dksX3_pass_4 9 rfl rfl)
theorem dX3_pass_103 : decode cX3_pass 103 = .ok (.getfield 54, 3) := dk_180 0 54 (dk_at dksX3_pass_4 10 rfl rfl)
theorem dX3_pass_106 : decode cX3_pass 106 = .ok (.ifCond .ne 35, 3) := dk_154 0 35 (dk_at dksX3_pass_4 13 rfl rfl)
theorem dX3_pass_109 : decode cX3_pass 109 = .ok (.aload_n 0, 1) := dk_42 (dk_at dksX3_pass_4 16 rfl rfl)
theorem dX3_pass_110 : decode cX3_pass 110 = .ok (.iload_n 1, 1) := dk_27 (dk_at dksX3_pass_4 17 rfl rfl)
theorem dX3_pass_111 : decode cX3_pass 111 = .ok (.invokevirtual 147, 3) := dk_182 0 147 (dk_at dksX3_pass_4 18 rfl rfl)
theorem dX3_pass_114 : decode cX3_pass 114 = .ok (.istore_n 2, 1) := dk_61 (dk_at dksX3_pass_4 21 rfl rfl)
theorem dX3_pass_115 : decode cX3_pass 115 = .ok (.aload_n 0, 1) := dk_42 (dk_at dksX3_pass_4 22 rfl rfl)
theorem dX3_pass_116 : decode cX3_pass 116 = .ok (.getfield 19, 3) := dk_180 0 19 (dk_at dksX3_pass_5 0 rfl rfl)
theorem dX3_pass_119 : decode cX3_pass 119 = .ok (.iload_n 1, 1) := dk_27 (dk_at dksX3_pass_5 3 rfl rfl)
theorem dX3_pass_120 : decode cX3_pass 120 = .ok (.dup2, 1) := dk_92 (dk_at dksX3_pass_5 4 rfl rfl)
theorem dX3_pass_121 : decode cX3_pass 121 = .ok (.iaload, 1) := dk_46 (dk_at dksX3_pass_5 5 rfl rfl)
theorem dX3_pass_122 : decode cX3_pass 122 = .ok (.iload_n 2, 1) := dk_28 (dk_at dksX3_pass_5 6 rfl rfl)
theorem dX3_pass_123 : decode cX3_pass 123 = .ok (.isub, 1) := dk_100 (dk_at dksX3_pass_5 7 rfl rfl)
theorem dX3_pass_124 : decode cX3_pass 124 = .ok (.iastore, 1) := dk_79 (dk_at dksX3_pass_5 8 rfl rfl)
theorem dX3_pass_125 : decode cX3_pass 125 = .ok (.aload_n 0, 1) := dk_42 (dk_at dksX3_pass_5 9 rfl rfl)
theorem dX3_pass_126 : decode cX3_pass 126 = .ok (.dup, 1) := dk_89 (dk_at dksX3_pass_5 10 rfl rfl)
theorem dX3_pass_127 : decode cX3_pass 127 = .ok (.getfield 64, 3) := dk_180 0 64 (dk_at dksX3_pass_5 11 rfl rfl)
theorem dX3_pass_130 : decode cX3_pass 130 = .ok (.iload_n 2, 1) := dk_28 (dk_at dksX3_pass_5 14 rfl rfl)
theorem dX3_pass_131 : decode cX3_pass 131 = .ok (.iadd, 1) := dk_96 (dk_at dksX3_pass_5 15 rfl rfl)
theorem dX3_pass_132 : decode cX3_pass 132 = .ok (.putfield 64, 3) := dk_181 0 64 (dk_at dksX3_pass_5 16 rfl rfl)
theorem dX3_pass_135 : decode cX3_pass 135 = .ok (.iinc 1 1, 3) := dk_132 1 1 (dk_at dksX3_pass_5 19 rfl rfl)
theorem dX3_pass_138 : decode cX3_pass 138 = .ok (.goto (-63), 3) := dk_167 255 193 (dk_at dksX3_pass_6 0 rfl rfl)
theorem dX3_pass_141 : decode cX3_pass 141 = .ok (.aload_n 0, 1) := dk_42 (dk_at dksX3_pass_6 3 rfl rfl)
theorem dX3_pass_142 : decode cX3_pass 142 = .ok (.dup, 1) := dk_89 (dk_at dksX3_pass_6 4 rfl rfl)
theorem dX3_pass_143 : decode cX3_pass 143 = .ok (.getfield 47, 3) := dk_180 0 47 (dk_at dksX3_pass_6 5 rfl rfl)
theorem dX3_pass_146 : decode cX3_pass 146 = .ok (.iconst 1, 1) := dk_4 (dk_at dksX3_pass_6 8 rfl rfl)
theorem dX3_pass_147 : decode cX3_pass 147 = .ok (.iadd, 1) := dk_96 (dk_at dksX3_pass_6 9 rfl rfl)
theorem dX3_pass_148 : decode cX3_pass 148 = .ok (.putfield 47, 3) := dk_181 0 47 (dk_at dksX3_pass_6 10 rfl rfl)
theorem dX3_pass_151 : decode cX3_pass 151 = .ok (.aload_n 0, 1) := dk_42 (dk_at dksX3_pass_6 13 rfl rfl)
theorem dX3_pass_152 : decode cX3_pass 152 = .ok (.areturn, 1) := dk_176 (dk_at dksX3_pass_6 14 rfl rfl)
abbrev cX3_runs : ByteArray := prog_5_method_8_code
def yX3_runs : MethodName := ⟨RX3, "runs", "(I)I"⟩
def dkwX3_runs_4 : List UInt8 := [192, 0, 90, 182, 0, 92, 172]
abbrev dktX3_runs_4 : List UInt8 := dkwX3_runs_4 ++ []
def dkwX3_runs_3 : List UInt8 := [153, 0, 7, 3, 167, 0, 25, 42, 180, 0, 3, 180, 0, 74, 180, 0, 78, 27, 185, 0, 84, 2, 0]
abbrev dktX3_runs_3 : List UInt8 := dkwX3_runs_3 ++ dktX3_runs_4
def dkwX3_runs_2 : List UInt8 := [180, 0, 3, 180, 0, 74, 180, 0, 106, 27, 182, 0, 110, 158, 0, 7, 4, 167, 0, 4, 3, 61, 28]
abbrev dktX3_runs_2 : List UInt8 := dkwX3_runs_2 ++ dktX3_runs_3
def dkwX3_runs_1 : List UInt8 := [42, 180, 0, 58, 154, 0, 38, 42, 180, 0, 3, 180, 0, 74, 180, 0, 106, 198, 0, 25, 42, 42]
abbrev dktX3_runs_1 : List UInt8 := dkwX3_runs_1 ++ dktX3_runs_2
def dkwX3_runs_0 : List UInt8 := [42, 27, 182, 0, 102, 154, 0, 10, 42, 180, 0, 61, 153, 0, 5, 3, 172, 42, 180, 0, 54, 154, 0, 45]
abbrev dktX3_runs_0 : List UInt8 := dkwX3_runs_0 ++ dktX3_runs_1
theorem dksX3_runs_0 : cX3_runs.data.toList.drop 0 = dktX3_runs_0 := by decide +kernel
theorem dksX3_runs_1 : cX3_runs.data.toList.drop 24 = dktX3_runs_1 := dk_seg dksX3_runs_0 24 rfl rfl
theorem dksX3_runs_2 : cX3_runs.data.toList.drop 46 = dktX3_runs_2 := dk_seg dksX3_runs_1 22 rfl rfl
theorem dksX3_runs_3 : cX3_runs.data.toList.drop 69 = dktX3_runs_3 := dk_seg dksX3_runs_2 23 rfl rfl
theorem dksX3_runs_4 : cX3_runs.data.toList.drop 92 = dktX3_runs_4 := dk_seg dksX3_runs_3 23 rfl rfl
theorem dX3_runs_0 : decode cX3_runs 0 = .ok (.aload_n 0, 1) := dk_42 (dk_at dksX3_runs_0 0 rfl rfl)
theorem dX3_runs_1 : decode cX3_runs 1 = .ok (.iload_n 1, 1) := dk_27 (dk_at dksX3_runs_0 1 rfl rfl)
theorem dX3_runs_2 : decode cX3_runs 2 = .ok (.invokevirtual 102, 3) := dk_182 0 102 (dk_at dksX3_runs_0 2 rfl rfl)
theorem dX3_runs_5 : decode cX3_runs 5 = .ok (.ifCond .ne 10, 3) := dk_154 0 10 (dk_at dksX3_runs_0 5 rfl rfl)
theorem dX3_runs_8 : decode cX3_runs 8 = .ok (.aload_n 0, 1) := dk_42 (dk_at dksX3_runs_0 8 rfl rfl)
theorem dX3_runs_9 : decode cX3_runs 9 = .ok (.getfield 61, 3) := dk_180 0 61 (dk_at dksX3_runs_0 9 rfl rfl)
theorem dX3_runs_12 : decode cX3_runs 12 = .ok (.ifCond .eq 5, 3) := dk_153 0 5 (dk_at dksX3_runs_0 12 rfl rfl)
theorem dX3_runs_15 : decode cX3_runs 15 = .ok (.iconst 0, 1) := dk_3 (dk_at dksX3_runs_0 15 rfl rfl)
theorem dX3_runs_16 : decode cX3_runs 16 = .ok (.ireturn, 1) := dk_172 (dk_at dksX3_runs_0 16 rfl rfl)
theorem dX3_runs_17 : decode cX3_runs 17 = .ok (.aload_n 0, 1) := dk_42 (dk_at dksX3_runs_0 17 rfl rfl)
theorem dX3_runs_18 : decode cX3_runs 18 = .ok (.getfield 54, 3) := dk_180 0 54 (dk_at dksX3_runs_0 18 rfl rfl)
theorem dX3_runs_21 : decode cX3_runs 21 = .ok (.ifCond .ne 45, 3) := dk_154 0 45 (dk_at dksX3_runs_0 21 rfl rfl)
theorem dX3_runs_24 : decode cX3_runs 24 = .ok (.aload_n 0, 1) := dk_42 (dk_at dksX3_runs_1 0 rfl rfl)
theorem dX3_runs_25 : decode cX3_runs 25 = .ok (.getfield 58, 3) := dk_180 0 58 (dk_at dksX3_runs_1 1 rfl rfl)
theorem dX3_runs_28 : decode cX3_runs 28 = .ok (.ifCond .ne 38, 3) := dk_154 0 38 (dk_at dksX3_runs_1 4 rfl rfl)
theorem dX3_runs_31 : decode cX3_runs 31 = .ok (.aload_n 0, 1) := dk_42 (dk_at dksX3_runs_1 7 rfl rfl)
theorem dX3_runs_32 : decode cX3_runs 32 = .ok (.getfield 3, 3) := dk_180 0 3 (dk_at dksX3_runs_1 8 rfl rfl)
theorem dX3_runs_35 : decode cX3_runs 35 = .ok (.getfield 74, 3) := dk_180 0 74 (dk_at dksX3_runs_1 11 rfl rfl)
theorem dX3_runs_38 : decode cX3_runs 38 = .ok (.getfield 106, 3) := dk_180 0 106 (dk_at dksX3_runs_1 14 rfl rfl)
theorem dX3_runs_41 : decode cX3_runs 41 = .ok (.ifnull 25, 3) := dk_198 0 25 (dk_at dksX3_runs_1 17 rfl rfl)
theorem dX3_runs_44 : decode cX3_runs 44 = .ok (.aload_n 0, 1) := dk_42 (dk_at dksX3_runs_1 20 rfl rfl)
theorem dX3_runs_45 : decode cX3_runs 45 = .ok (.aload_n 0, 1) := dk_42 (dk_at dksX3_runs_1 21 rfl rfl)
theorem dX3_runs_46 : decode cX3_runs 46 = .ok (.getfield 3, 3) := dk_180 0 3 (dk_at dksX3_runs_2 0 rfl rfl)
theorem dX3_runs_49 : decode cX3_runs 49 = .ok (.getfield 74, 3) := dk_180 0 74 (dk_at dksX3_runs_2 3 rfl rfl)
theorem dX3_runs_52 : decode cX3_runs 52 = .ok (.getfield 106, 3) := dk_180 0 106 (dk_at dksX3_runs_2 6 rfl rfl)
theorem dX3_runs_55 : decode cX3_runs 55 = .ok (.iload_n 1, 1) := dk_27 (dk_at dksX3_runs_2 9 rfl rfl)
theorem dX3_runs_56 : decode cX3_runs 56 = .ok (.invokevirtual 110, 3) := dk_182 0 110 (dk_at dksX3_runs_2 10 rfl rfl)
theorem dX3_runs_59 : decode cX3_runs 59 = .ok (.ifCond .le 7, 3) := dk_158 0 7 (dk_at dksX3_runs_2 13 rfl rfl)
theorem dX3_runs_62 : decode cX3_runs 62 = .ok (.iconst 1, 1) := dk_4 (dk_at dksX3_runs_2 16 rfl rfl)
theorem dX3_runs_63 : decode cX3_runs 63 = .ok (.goto 4, 3) := dk_167 0 4 (dk_at dksX3_runs_2 17 rfl rfl)
theorem dX3_runs_66 : decode cX3_runs 66 = .ok (.iconst 0, 1) := dk_3 (dk_at dksX3_runs_2 20 rfl rfl)
theorem dX3_runs_67 : decode cX3_runs 67 = .ok (.istore_n 2, 1) := dk_61 (dk_at dksX3_runs_2 21 rfl rfl)
theorem dX3_runs_68 : decode cX3_runs 68 = .ok (.iload_n 2, 1) := dk_28 (dk_at dksX3_runs_2 22 rfl rfl)
theorem dX3_runs_69 : decode cX3_runs 69 = .ok (.ifCond .eq 7, 3) := dk_153 0 7 (dk_at dksX3_runs_3 0 rfl rfl)
theorem dX3_runs_72 : decode cX3_runs 72 = .ok (.iconst 0, 1) := dk_3 (dk_at dksX3_runs_3 3 rfl rfl)
theorem dX3_runs_73 : decode cX3_runs 73 = .ok (.goto 25, 3) := dk_167 0 25 (dk_at dksX3_runs_3 4 rfl rfl)
theorem dX3_runs_76 : decode cX3_runs 76 = .ok (.aload_n 0, 1) := dk_42 (dk_at dksX3_runs_3 7 rfl rfl)
theorem dX3_runs_77 : decode cX3_runs 77 = .ok (.getfield 3, 3) := dk_180 0 3 (dk_at dksX3_runs_3 8 rfl rfl)
theorem dX3_runs_80 : decode cX3_runs 80 = .ok (.getfield 74, 3) := dk_180 0 74 (dk_at dksX3_runs_3 11 rfl rfl)
theorem dX3_runs_83 : decode cX3_runs 83 = .ok (.getfield 78, 3) := dk_180 0 78 (dk_at dksX3_runs_3 14 rfl rfl)
theorem dX3_runs_86 : decode cX3_runs 86 = .ok (.iload_n 1, 1) := dk_27 (dk_at dksX3_runs_3 17 rfl rfl)
theorem dX3_runs_87 : decode cX3_runs 87 = .ok (.invokeinterface 84 2, 5) := by decide +kernel
theorem dX3_runs_92 : decode cX3_runs 92 = .ok (.checkcast 90, 3) := dk_192 0 90 (dk_at dksX3_runs_4 0 rfl rfl)
theorem dX3_runs_95 : decode cX3_runs 95 = .ok (.invokevirtual 92, 3) := dk_182 0 92 (dk_at dksX3_runs_4 3 rfl rfl)
theorem dX3_runs_98 : decode cX3_runs 98 = .ok (.ireturn, 1) := dk_172 (dk_at dksX3_runs_4 6 rfl rfl)
abbrev cX3_isPlugged : ByteArray := prog_5_method_5_code
def yX3_isPlugged : MethodName := ⟨RX3, "isPlugged", "(I)Z"⟩
def dkwX3_isPlugged_0 : List UInt8 := [42, 180, 0, 51, 27, 184, 0, 67, 172]
abbrev dktX3_isPlugged_0 : List UInt8 := dkwX3_isPlugged_0 ++ []
theorem dksX3_isPlugged_0 : cX3_isPlugged.data.toList.drop 0 = dktX3_isPlugged_0 := by decide +kernel
theorem dX3_isPlugged_0 : decode cX3_isPlugged 0 = .ok (.aload_n 0, 1) := dk_42 (dk_at dksX3_isPlugged_0 0 rfl rfl)
theorem dX3_isPlugged_1 : decode cX3_isPlugged 1 = .ok (.getfield 51, 3) := dk_180 0 51 (dk_at dksX3_isPlugged_0 1 rfl rfl)
theorem dX3_isPlugged_4 : decode cX3_isPlugged 4 = .ok (.iload_n 1, 1) := dk_27 (dk_at dksX3_isPlugged_0 4 rfl rfl)
theorem dX3_isPlugged_5 : decode cX3_isPlugged 5 = .ok (.invokestatic 67, 3) := dk_184 0 67 (dk_at dksX3_isPlugged_0 5 rfl rfl)
theorem dX3_isPlugged_8 : decode cX3_isPlugged 8 = .ok (.ireturn, 1) := dk_172 (dk_at dksX3_isPlugged_0 8 rfl rfl)
abbrev cX3_asked : ByteArray := prog_5_method_7_code
def yX3_asked : MethodName := ⟨RX3, "asked", "(LDripCups$Form;I)I"⟩
def dkwX3_asked_4 : List UInt8 := [42, 180, 0, 47, 79, 43, 42, 180, 0, 3, 180, 0, 71, 185, 0, 96, 2, 0, 172]
abbrev dktX3_asked_4 : List UInt8 := dkwX3_asked_4 ++ []
def dkwX3_asked_3 : List UInt8 := [180, 0, 22, 28, 46, 79, 42, 180, 0, 3, 180, 0, 71, 7, 28, 79, 42, 180, 0, 3, 180, 0, 71, 8]
abbrev dktX3_asked_3 : List UInt8 := dkwX3_asked_3 ++ dktX3_asked_4
def dkwX3_asked_2 : List UInt8 := [28, 185, 0, 84, 2, 0, 192, 0, 90, 182, 0, 92, 79, 42, 180, 0, 3, 180, 0, 71, 6, 42]
abbrev dktX3_asked_2 : List UInt8 := dkwX3_asked_2 ++ dktX3_asked_3
def dkwX3_asked_1 : List UInt8 := [180, 0, 15, 28, 46, 79, 42, 180, 0, 3, 180, 0, 71, 5, 42, 180, 0, 3, 180, 0, 74, 180, 0, 78]
abbrev dktX3_asked_1 : List UInt8 := dkwX3_asked_1 ++ dktX3_asked_2
def dkwX3_asked_0 : List UInt8 := [42, 180, 0, 3, 180, 0, 71, 3, 42, 180, 0, 19, 28, 46, 79, 42, 180, 0, 3, 180, 0, 71, 4, 42]
abbrev dktX3_asked_0 : List UInt8 := dkwX3_asked_0 ++ dktX3_asked_1
theorem dksX3_asked_0 : cX3_asked.data.toList.drop 0 = dktX3_asked_0 := by decide +kernel
theorem dksX3_asked_1 : cX3_asked.data.toList.drop 24 = dktX3_asked_1 := dk_seg dksX3_asked_0 24 rfl rfl
theorem dksX3_asked_2 : cX3_asked.data.toList.drop 48 = dktX3_asked_2 := dk_seg dksX3_asked_1 24 rfl rfl
theorem dksX3_asked_3 : cX3_asked.data.toList.drop 70 = dktX3_asked_3 := dk_seg dksX3_asked_2 22 rfl rfl
theorem dksX3_asked_4 : cX3_asked.data.toList.drop 94 = dktX3_asked_4 := dk_seg dksX3_asked_3 24 rfl rfl
theorem dX3_asked_0 : decode cX3_asked 0 = .ok (.aload_n 0, 1) := dk_42 (dk_at dksX3_asked_0 0 rfl rfl)
theorem dX3_asked_1 : decode cX3_asked 1 = .ok (.getfield 3, 3) := dk_180 0 3 (dk_at dksX3_asked_0 1 rfl rfl)
theorem dX3_asked_4 : decode cX3_asked 4 = .ok (.getfield 71, 3) := dk_180 0 71 (dk_at dksX3_asked_0 4 rfl rfl)
theorem dX3_asked_7 : decode cX3_asked 7 = .ok (.iconst 0, 1) := dk_3 (dk_at dksX3_asked_0 7 rfl rfl)
theorem dX3_asked_8 : decode cX3_asked 8 = .ok (.aload_n 0, 1) := dk_42 (dk_at dksX3_asked_0 8 rfl rfl)
theorem dX3_asked_9 : decode cX3_asked 9 = .ok (.getfield 19, 3) := dk_180 0 19 (dk_at dksX3_asked_0 9 rfl rfl)
theorem dX3_asked_12 : decode cX3_asked 12 = .ok (.iload_n 2, 1) := dk_28 (dk_at dksX3_asked_0 12 rfl rfl)
theorem dX3_asked_13 : decode cX3_asked 13 = .ok (.iaload, 1) := dk_46 (dk_at dksX3_asked_0 13 rfl rfl)
theorem dX3_asked_14 : decode cX3_asked 14 = .ok (.iastore, 1) := dk_79 (dk_at dksX3_asked_0 14 rfl rfl)
theorem dX3_asked_15 : decode cX3_asked 15 = .ok (.aload_n 0, 1) := dk_42 (dk_at dksX3_asked_0 15 rfl rfl)
theorem dX3_asked_16 : decode cX3_asked 16 = .ok (.getfield 3, 3) := dk_180 0 3 (dk_at dksX3_asked_0 16 rfl rfl)
theorem dX3_asked_19 : decode cX3_asked 19 = .ok (.getfield 71, 3) := dk_180 0 71 (dk_at dksX3_asked_0 19 rfl rfl)
theorem dX3_asked_22 : decode cX3_asked 22 = .ok (.iconst 1, 1) := dk_4 (dk_at dksX3_asked_0 22 rfl rfl)
theorem dX3_asked_23 : decode cX3_asked 23 = .ok (.aload_n 0, 1) := dk_42 (dk_at dksX3_asked_0 23 rfl rfl)
theorem dX3_asked_24 : decode cX3_asked 24 = .ok (.getfield 15, 3) := dk_180 0 15 (dk_at dksX3_asked_1 0 rfl rfl)
theorem dX3_asked_27 : decode cX3_asked 27 = .ok (.iload_n 2, 1) := dk_28 (dk_at dksX3_asked_1 3 rfl rfl)
theorem dX3_asked_28 : decode cX3_asked 28 = .ok (.iaload, 1) := dk_46 (dk_at dksX3_asked_1 4 rfl rfl)
theorem dX3_asked_29 : decode cX3_asked 29 = .ok (.iastore, 1) := dk_79 (dk_at dksX3_asked_1 5 rfl rfl)
theorem dX3_asked_30 : decode cX3_asked 30 = .ok (.aload_n 0, 1) := dk_42 (dk_at dksX3_asked_1 6 rfl rfl)
theorem dX3_asked_31 : decode cX3_asked 31 = .ok (.getfield 3, 3) := dk_180 0 3 (dk_at dksX3_asked_1 7 rfl rfl)
theorem dX3_asked_34 : decode cX3_asked 34 = .ok (.getfield 71, 3) := dk_180 0 71 (dk_at dksX3_asked_1 10 rfl rfl)
theorem dX3_asked_37 : decode cX3_asked 37 = .ok (.iconst 2, 1) := dk_5 (dk_at dksX3_asked_1 13 rfl rfl)
theorem dX3_asked_38 : decode cX3_asked 38 = .ok (.aload_n 0, 1) := dk_42 (dk_at dksX3_asked_1 14 rfl rfl)
theorem dX3_asked_39 : decode cX3_asked 39 = .ok (.getfield 3, 3) := dk_180 0 3 (dk_at dksX3_asked_1 15 rfl rfl)
theorem dX3_asked_42 : decode cX3_asked 42 = .ok (.getfield 74, 3) := dk_180 0 74 (dk_at dksX3_asked_1 18 rfl rfl)
theorem dX3_asked_45 : decode cX3_asked 45 = .ok (.getfield 78, 3) := dk_180 0 78 (dk_at dksX3_asked_1 21 rfl rfl)
theorem dX3_asked_48 : decode cX3_asked 48 = .ok (.iload_n 2, 1) := dk_28 (dk_at dksX3_asked_2 0 rfl rfl)
theorem dX3_asked_49 : decode cX3_asked 49 = .ok (.invokeinterface 84 2, 5) := by decide +kernel
theorem dX3_asked_54 : decode cX3_asked 54 = .ok (.checkcast 90, 3) := dk_192 0 90 (dk_at dksX3_asked_2 6 rfl rfl)
theorem dX3_asked_57 : decode cX3_asked 57 = .ok (.invokevirtual 92, 3) := dk_182 0 92 (dk_at dksX3_asked_2 9 rfl rfl)
theorem dX3_asked_60 : decode cX3_asked 60 = .ok (.iastore, 1) := dk_79 (dk_at dksX3_asked_2 12 rfl rfl)
theorem dX3_asked_61 : decode cX3_asked 61 = .ok (.aload_n 0, 1) := dk_42 (dk_at dksX3_asked_2 13 rfl rfl)
theorem dX3_asked_62 : decode cX3_asked 62 = .ok (.getfield 3, 3) := dk_180 0 3 (dk_at dksX3_asked_2 14 rfl rfl)
theorem dX3_asked_65 : decode cX3_asked 65 = .ok (.getfield 71, 3) := dk_180 0 71 (dk_at dksX3_asked_2 17 rfl rfl)
theorem dX3_asked_68 : decode cX3_asked 68 = .ok (.iconst 3, 1) := dk_6 (dk_at dksX3_asked_2 20 rfl rfl)
theorem dX3_asked_69 : decode cX3_asked 69 = .ok (.aload_n 0, 1) := dk_42 (dk_at dksX3_asked_2 21 rfl rfl)
theorem dX3_asked_70 : decode cX3_asked 70 = .ok (.getfield 22, 3) := dk_180 0 22 (dk_at dksX3_asked_3 0 rfl rfl)
theorem dX3_asked_73 : decode cX3_asked 73 = .ok (.iload_n 2, 1) := dk_28 (dk_at dksX3_asked_3 3 rfl rfl)
theorem dX3_asked_74 : decode cX3_asked 74 = .ok (.iaload, 1) := dk_46 (dk_at dksX3_asked_3 4 rfl rfl)
theorem dX3_asked_75 : decode cX3_asked 75 = .ok (.iastore, 1) := dk_79 (dk_at dksX3_asked_3 5 rfl rfl)
theorem dX3_asked_76 : decode cX3_asked 76 = .ok (.aload_n 0, 1) := dk_42 (dk_at dksX3_asked_3 6 rfl rfl)
theorem dX3_asked_77 : decode cX3_asked 77 = .ok (.getfield 3, 3) := dk_180 0 3 (dk_at dksX3_asked_3 7 rfl rfl)
theorem dX3_asked_80 : decode cX3_asked 80 = .ok (.getfield 71, 3) := dk_180 0 71 (dk_at dksX3_asked_3 10 rfl rfl)
theorem dX3_asked_83 : decode cX3_asked 83 = .ok (.iconst 4, 1) := dk_7 (dk_at dksX3_asked_3 13 rfl rfl)
theorem dX3_asked_84 : decode cX3_asked 84 = .ok (.iload_n 2, 1) := dk_28 (dk_at dksX3_asked_3 14 rfl rfl)
theorem dX3_asked_85 : decode cX3_asked 85 = .ok (.iastore, 1) := dk_79 (dk_at dksX3_asked_3 15 rfl rfl)
theorem dX3_asked_86 : decode cX3_asked 86 = .ok (.aload_n 0, 1) := dk_42 (dk_at dksX3_asked_3 16 rfl rfl)
theorem dX3_asked_87 : decode cX3_asked 87 = .ok (.getfield 3, 3) := dk_180 0 3 (dk_at dksX3_asked_3 17 rfl rfl)
theorem dX3_asked_90 : decode cX3_asked 90 = .ok (.getfield 71, 3) := dk_180 0 71 (dk_at dksX3_asked_3 20 rfl rfl)
theorem dX3_asked_93 : decode cX3_asked 93 = .ok (.iconst 5, 1) := dk_8 (dk_at dksX3_asked_3 23 rfl rfl)
theorem dX3_asked_94 : decode cX3_asked 94 = .ok (.aload_n 0, 1) := dk_42 (dk_at dksX3_asked_4 0 rfl rfl)
theorem dX3_asked_95 : decode cX3_asked 95 = .ok (.getfield 47, 3) := dk_180 0 47 (dk_at dksX3_asked_4 1 rfl rfl)
theorem dX3_asked_98 : decode cX3_asked 98 = .ok (.iastore, 1) := dk_79 (dk_at dksX3_asked_4 4 rfl rfl)
theorem dX3_asked_99 : decode cX3_asked 99 = .ok (.aload_n 1, 1) := dk_43 (dk_at dksX3_asked_4 5 rfl rfl)
theorem dX3_asked_100 : decode cX3_asked 100 = .ok (.aload_n 0, 1) := dk_42 (dk_at dksX3_asked_4 6 rfl rfl)
theorem dX3_asked_101 : decode cX3_asked 101 = .ok (.getfield 3, 3) := dk_180 0 3 (dk_at dksX3_asked_4 7 rfl rfl)
theorem dX3_asked_104 : decode cX3_asked 104 = .ok (.getfield 71, 3) := dk_180 0 71 (dk_at dksX3_asked_4 10 rfl rfl)
theorem dX3_asked_107 : decode cX3_asked 107 = .ok (.invokeinterface 96 2, 5) := by decide +kernel
theorem dX3_asked_112 : decode cX3_asked 112 = .ok (.ireturn, 1) := dk_172 (dk_at dksX3_asked_4 18 rfl rfl)
abbrev cX3_settle : ByteArray := prog_5_method_10_code
def yX3_settle : MethodName := ⟨RX3, "settle", "(I)I"⟩
def dkwX3_settle_5 : List UInt8 := [108, 182, 0, 121, 42, 180, 0, 31, 27, 42, 180, 0, 31, 27, 46, 28, 96, 5, 112, 79, 28, 172]
abbrev dktX3_settle_5 : List UInt8 := dkwX3_settle_5 ++ []
def dkwX3_settle_4 : List UInt8 := [42, 42, 27, 3, 182, 0, 125, 28, 4, 96, 5, 108, 182, 0, 121, 42, 42, 27, 4, 182, 0, 125, 28, 5]
abbrev dktX3_settle_4 : List UInt8 := dkwX3_settle_4 ++ dktX3_settle_5
def dkwX3_settle_3 : List UInt8 := [180, 0, 28, 27, 46, 16, 254, 160, 0, 17, 42, 42, 180, 0, 25, 27, 46, 28, 182, 0, 121, 167, 0, 47]
abbrev dktX3_settle_3 : List UInt8 := dkwX3_settle_3 ++ dktX3_settle_4
def dkwX3_settle_2 : List UInt8 := [27, 46, 112, 79, 42, 180, 0, 22, 27, 18, 114, 42, 180, 0, 22, 27, 46, 28, 96, 184, 0, 115, 79, 42]
abbrev dktX3_settle_2 : List UInt8 := dkwX3_settle_2 ++ dktX3_settle_3
def dkwX3_settle_1 : List UInt8 := [180, 0, 19, 27, 46, 42, 180, 0, 15, 27, 46, 108, 61, 42, 180, 0, 19, 27, 92, 46, 42, 180, 0, 15]
abbrev dktX3_settle_1 : List UInt8 := dkwX3_settle_1 ++ dktX3_settle_2
def dkwX3_settle_0 : List UInt8 := [42, 180, 0, 19, 27, 92, 46, 42, 180, 0, 34, 27, 46, 96, 79, 42, 180, 0, 34, 27, 3, 79, 42]
abbrev dktX3_settle_0 : List UInt8 := dkwX3_settle_0 ++ dktX3_settle_1
theorem dksX3_settle_0 : cX3_settle.data.toList.drop 0 = dktX3_settle_0 := by decide +kernel
theorem dksX3_settle_1 : cX3_settle.data.toList.drop 23 = dktX3_settle_1 := dk_seg dksX3_settle_0 23 rfl rfl
theorem dksX3_settle_2 : cX3_settle.data.toList.drop 47 = dktX3_settle_2 := dk_seg dksX3_settle_1 24 rfl rfl
theorem dksX3_settle_3 : cX3_settle.data.toList.drop 71 = dktX3_settle_3 := dk_seg dksX3_settle_2 24 rfl rfl
theorem dksX3_settle_4 : cX3_settle.data.toList.drop 95 = dktX3_settle_4 := dk_seg dksX3_settle_3 24 rfl rfl
theorem dksX3_settle_5 : cX3_settle.data.toList.drop 119 = dktX3_settle_5 := dk_seg dksX3_settle_4 24 rfl rfl
theorem dX3_settle_0 : decode cX3_settle 0 = .ok (.aload_n 0, 1) := dk_42 (dk_at dksX3_settle_0 0 rfl rfl)
theorem dX3_settle_1 : decode cX3_settle 1 = .ok (.getfield 19, 3) := dk_180 0 19 (dk_at dksX3_settle_0 1 rfl rfl)
theorem dX3_settle_4 : decode cX3_settle 4 = .ok (.iload_n 1, 1) := dk_27 (dk_at dksX3_settle_0 4 rfl rfl)
theorem dX3_settle_5 : decode cX3_settle 5 = .ok (.dup2, 1) := dk_92 (dk_at dksX3_settle_0 5 rfl rfl)
theorem dX3_settle_6 : decode cX3_settle 6 = .ok (.iaload, 1) := dk_46 (dk_at dksX3_settle_0 6 rfl rfl)
theorem dX3_settle_7 : decode cX3_settle 7 = .ok (.aload_n 0, 1) := dk_42 (dk_at dksX3_settle_0 7 rfl rfl)
theorem dX3_settle_8 : decode cX3_settle 8 = .ok (.getfield 34, 3) := dk_180 0 34 (dk_at dksX3_settle_0 8 rfl rfl)
theorem dX3_settle_11 : decode cX3_settle 11 = .ok (.iload_n 1, 1) := dk_27 (dk_at dksX3_settle_0 11 rfl rfl)
theorem dX3_settle_12 : decode cX3_settle 12 = .ok (.iaload, 1) := dk_46 (dk_at dksX3_settle_0 12 rfl rfl)
theorem dX3_settle_13 : decode cX3_settle 13 = .ok (.iadd, 1) := dk_96 (dk_at dksX3_settle_0 13 rfl rfl)
theorem dX3_settle_14 : decode cX3_settle 14 = .ok (.iastore, 1) := dk_79 (dk_at dksX3_settle_0 14 rfl rfl)
theorem dX3_settle_15 : decode cX3_settle 15 = .ok (.aload_n 0, 1) := dk_42 (dk_at dksX3_settle_0 15 rfl rfl)
theorem dX3_settle_16 : decode cX3_settle 16 = .ok (.getfield 34, 3) := dk_180 0 34 (dk_at dksX3_settle_0 16 rfl rfl)
theorem dX3_settle_19 : decode cX3_settle 19 = .ok (.iload_n 1, 1) := dk_27 (dk_at dksX3_settle_0 19 rfl rfl)
theorem dX3_settle_20 : decode cX3_settle 20 = .ok (.iconst 0, 1) := dk_3 (dk_at dksX3_settle_0 20 rfl rfl)
theorem dX3_settle_21 : decode cX3_settle 21 = .ok (.iastore, 1) := dk_79 (dk_at dksX3_settle_0 21 rfl rfl)
theorem dX3_settle_22 : decode cX3_settle 22 = .ok (.aload_n 0, 1) := dk_42 (dk_at dksX3_settle_0 22 rfl rfl)
theorem dX3_settle_23 : decode cX3_settle 23 = .ok (.getfield 19, 3) := dk_180 0 19 (dk_at dksX3_settle_1 0 rfl rfl)
theorem dX3_settle_26 : decode cX3_settle 26 = .ok (.iload_n 1, 1) := dk_27 (dk_at dksX3_settle_1 3 rfl rfl)
theorem dX3_settle_27 : decode cX3_settle 27 = .ok (.iaload, 1) := dk_46 (dk_at dksX3_settle_1 4 rfl rfl)
theorem dX3_settle_28 : decode cX3_settle 28 = .ok (.aload_n 0, 1) := dk_42 (dk_at dksX3_settle_1 5 rfl rfl)
theorem dX3_settle_29 : decode cX3_settle 29 = .ok (.getfield 15, 3) := dk_180 0 15 (dk_at dksX3_settle_1 6 rfl rfl)
theorem dX3_settle_32 : decode cX3_settle 32 = .ok (.iload_n 1, 1) := dk_27 (dk_at dksX3_settle_1 9 rfl rfl)
theorem dX3_settle_33 : decode cX3_settle 33 = .ok (.iaload, 1) := dk_46 (dk_at dksX3_settle_1 10 rfl rfl)
theorem dX3_settle_34 : decode cX3_settle 34 = .ok (.idiv, 1) := dk_108 (dk_at dksX3_settle_1 11 rfl rfl)
theorem dX3_settle_35 : decode cX3_settle 35 = .ok (.istore_n 2, 1) := dk_61 (dk_at dksX3_settle_1 12 rfl rfl)
theorem dX3_settle_36 : decode cX3_settle 36 = .ok (.aload_n 0, 1) := dk_42 (dk_at dksX3_settle_1 13 rfl rfl)
theorem dX3_settle_37 : decode cX3_settle 37 = .ok (.getfield 19, 3) := dk_180 0 19 (dk_at dksX3_settle_1 14 rfl rfl)
theorem dX3_settle_40 : decode cX3_settle 40 = .ok (.iload_n 1, 1) := dk_27 (dk_at dksX3_settle_1 17 rfl rfl)
theorem dX3_settle_41 : decode cX3_settle 41 = .ok (.dup2, 1) := dk_92 (dk_at dksX3_settle_1 18 rfl rfl)
theorem dX3_settle_42 : decode cX3_settle 42 = .ok (.iaload, 1) := dk_46 (dk_at dksX3_settle_1 19 rfl rfl)
theorem dX3_settle_43 : decode cX3_settle 43 = .ok (.aload_n 0, 1) := dk_42 (dk_at dksX3_settle_1 20 rfl rfl)
theorem dX3_settle_44 : decode cX3_settle 44 = .ok (.getfield 15, 3) := dk_180 0 15 (dk_at dksX3_settle_1 21 rfl rfl)
theorem dX3_settle_47 : decode cX3_settle 47 = .ok (.iload_n 1, 1) := dk_27 (dk_at dksX3_settle_2 0 rfl rfl)
theorem dX3_settle_48 : decode cX3_settle 48 = .ok (.iaload, 1) := dk_46 (dk_at dksX3_settle_2 1 rfl rfl)
theorem dX3_settle_49 : decode cX3_settle 49 = .ok (.irem, 1) := dk_112 (dk_at dksX3_settle_2 2 rfl rfl)
theorem dX3_settle_50 : decode cX3_settle 50 = .ok (.iastore, 1) := dk_79 (dk_at dksX3_settle_2 3 rfl rfl)
theorem dX3_settle_51 : decode cX3_settle 51 = .ok (.aload_n 0, 1) := dk_42 (dk_at dksX3_settle_2 4 rfl rfl)
theorem dX3_settle_52 : decode cX3_settle 52 = .ok (.getfield 22, 3) := dk_180 0 22 (dk_at dksX3_settle_2 5 rfl rfl)
theorem dX3_settle_55 : decode cX3_settle 55 = .ok (.iload_n 1, 1) := dk_27 (dk_at dksX3_settle_2 8 rfl rfl)
theorem dX3_settle_56 : decode cX3_settle 56 = .ok (.ldc 114, 2) := dk_18 114 (dk_at dksX3_settle_2 9 rfl rfl)
theorem dX3_settle_58 : decode cX3_settle 58 = .ok (.aload_n 0, 1) := dk_42 (dk_at dksX3_settle_2 11 rfl rfl)
theorem dX3_settle_59 : decode cX3_settle 59 = .ok (.getfield 22, 3) := dk_180 0 22 (dk_at dksX3_settle_2 12 rfl rfl)
theorem dX3_settle_62 : decode cX3_settle 62 = .ok (.iload_n 1, 1) := dk_27 (dk_at dksX3_settle_2 15 rfl rfl)
theorem dX3_settle_63 : decode cX3_settle 63 = .ok (.iaload, 1) := dk_46 (dk_at dksX3_settle_2 16 rfl rfl)
theorem dX3_settle_64 : decode cX3_settle 64 = .ok (.iload_n 2, 1) := dk_28 (dk_at dksX3_settle_2 17 rfl rfl)
theorem dX3_settle_65 : decode cX3_settle 65 = .ok (.iadd, 1) := dk_96 (dk_at dksX3_settle_2 18 rfl rfl)
theorem dX3_settle_66 : decode cX3_settle 66 = .ok (.invokestatic 115, 3) := dk_184 0 115 (dk_at dksX3_settle_2 19 rfl rfl)
theorem dX3_settle_69 : decode cX3_settle 69 = .ok (.iastore, 1) := dk_79 (dk_at dksX3_settle_2 22 rfl rfl)
theorem dX3_settle_70 : decode cX3_settle 70 = .ok (.aload_n 0, 1) := dk_42 (dk_at dksX3_settle_2 23 rfl rfl)
theorem dX3_settle_71 : decode cX3_settle 71 = .ok (.getfield 28, 3) := dk_180 0 28 (dk_at dksX3_settle_3 0 rfl rfl)
theorem dX3_settle_74 : decode cX3_settle 74 = .ok (.iload_n 1, 1) := dk_27 (dk_at dksX3_settle_3 3 rfl rfl)
theorem dX3_settle_75 : decode cX3_settle 75 = .ok (.iaload, 1) := dk_46 (dk_at dksX3_settle_3 4 rfl rfl)
theorem dX3_settle_76 : decode cX3_settle 76 = .ok (.bipush (-2), 2) := dk_16 254 (dk_at dksX3_settle_3 5 rfl rfl)
theorem dX3_settle_78 : decode cX3_settle 78 = .ok (.if_icmp .ne 17, 3) := dk_160 0 17 (dk_at dksX3_settle_3 7 rfl rfl)
theorem dX3_settle_81 : decode cX3_settle 81 = .ok (.aload_n 0, 1) := dk_42 (dk_at dksX3_settle_3 10 rfl rfl)
theorem dX3_settle_82 : decode cX3_settle 82 = .ok (.aload_n 0, 1) := dk_42 (dk_at dksX3_settle_3 11 rfl rfl)
theorem dX3_settle_83 : decode cX3_settle 83 = .ok (.getfield 25, 3) := dk_180 0 25 (dk_at dksX3_settle_3 12 rfl rfl)
theorem dX3_settle_86 : decode cX3_settle 86 = .ok (.iload_n 1, 1) := dk_27 (dk_at dksX3_settle_3 15 rfl rfl)
theorem dX3_settle_87 : decode cX3_settle 87 = .ok (.iaload, 1) := dk_46 (dk_at dksX3_settle_3 16 rfl rfl)
theorem dX3_settle_88 : decode cX3_settle 88 = .ok (.iload_n 2, 1) := dk_28 (dk_at dksX3_settle_3 17 rfl rfl)
theorem dX3_settle_89 : decode cX3_settle 89 = .ok (.invokevirtual 121, 3) := dk_182 0 121 (dk_at dksX3_settle_3 18 rfl rfl)
theorem dX3_settle_92 : decode cX3_settle 92 = .ok (.goto 47, 3) := dk_167 0 47 (dk_at dksX3_settle_3 21 rfl rfl)
theorem dX3_settle_95 : decode cX3_settle 95 = .ok (.aload_n 0, 1) := dk_42 (dk_at dksX3_settle_4 0 rfl rfl)
theorem dX3_settle_96 : decode cX3_settle 96 = .ok (.aload_n 0, 1) := dk_42 (dk_at dksX3_settle_4 1 rfl rfl)
theorem dX3_settle_97 : decode cX3_settle 97 = .ok (.iload_n 1, 1) := dk_27 (dk_at dksX3_settle_4 2 rfl rfl)
theorem dX3_settle_98 : decode cX3_settle 98 = .ok (.iconst 0, 1) := dk_3 (dk_at dksX3_settle_4 3 rfl rfl)
theorem dX3_settle_99 : decode cX3_settle 99 = .ok (.invokevirtual 125, 3) := dk_182 0 125 (dk_at dksX3_settle_4 4 rfl rfl)
theorem dX3_settle_102 : decode cX3_settle 102 = .ok (.iload_n 2, 1) := dk_28 (dk_at dksX3_settle_4 7 rfl rfl)
theorem dX3_settle_103 : decode cX3_settle 103 = .ok (.iconst 1, 1) := dk_4 (dk_at dksX3_settle_4 8 rfl rfl)
theorem dX3_settle_104 : decode cX3_settle 104 = .ok (.iadd, 1) := dk_96 (dk_at dksX3_settle_4 9 rfl rfl)
theorem dX3_settle_105 : decode cX3_settle 105 = .ok (.iconst 2, 1) := dk_5 (dk_at dksX3_settle_4 10 rfl rfl)
theorem dX3_settle_106 : decode cX3_settle 106 = .ok (.idiv, 1) := dk_108 (dk_at dksX3_settle_4 11 rfl rfl)
theorem dX3_settle_107 : decode cX3_settle 107 = .ok (.invokevirtual 121, 3) := dk_182 0 121 (dk_at dksX3_settle_4 12 rfl rfl)
theorem dX3_settle_110 : decode cX3_settle 110 = .ok (.aload_n 0, 1) := dk_42 (dk_at dksX3_settle_4 15 rfl rfl)
theorem dX3_settle_111 : decode cX3_settle 111 = .ok (.aload_n 0, 1) := dk_42 (dk_at dksX3_settle_4 16 rfl rfl)
theorem dX3_settle_112 : decode cX3_settle 112 = .ok (.iload_n 1, 1) := dk_27 (dk_at dksX3_settle_4 17 rfl rfl)
theorem dX3_settle_113 : decode cX3_settle 113 = .ok (.iconst 1, 1) := dk_4 (dk_at dksX3_settle_4 18 rfl rfl)
theorem dX3_settle_114 : decode cX3_settle 114 = .ok (.invokevirtual 125, 3) := dk_182 0 125 (dk_at dksX3_settle_4 19 rfl rfl)
theorem dX3_settle_117 : decode cX3_settle 117 = .ok (.iload_n 2, 1) := dk_28 (dk_at dksX3_settle_4 22 rfl rfl)
theorem dX3_settle_118 : decode cX3_settle 118 = .ok (.iconst 2, 1) := dk_5 (dk_at dksX3_settle_4 23 rfl rfl)
theorem dX3_settle_119 : decode cX3_settle 119 = .ok (.idiv, 1) := dk_108 (dk_at dksX3_settle_5 0 rfl rfl)
theorem dX3_settle_120 : decode cX3_settle 120 = .ok (.invokevirtual 121, 3) := dk_182 0 121 (dk_at dksX3_settle_5 1 rfl rfl)
theorem dX3_settle_123 : decode cX3_settle 123 = .ok (.aload_n 0, 1) := dk_42 (dk_at dksX3_settle_5 4 rfl rfl)
theorem dX3_settle_124 : decode cX3_settle 124 = .ok (.getfield 31, 3) := dk_180 0 31 (dk_at dksX3_settle_5 5 rfl rfl)
theorem dX3_settle_127 : decode cX3_settle 127 = .ok (.iload_n 1, 1) := dk_27 (dk_at dksX3_settle_5 8 rfl rfl)
theorem dX3_settle_128 : decode cX3_settle 128 = .ok (.aload_n 0, 1) := dk_42 (dk_at dksX3_settle_5 9 rfl rfl)
theorem dX3_settle_129 : decode cX3_settle 129 = .ok (.getfield 31, 3) := dk_180 0 31 (dk_at dksX3_settle_5 10 rfl rfl)
theorem dX3_settle_132 : decode cX3_settle 132 = .ok (.iload_n 1, 1) := dk_27 (dk_at dksX3_settle_5 13 rfl rfl)
theorem dX3_settle_133 : decode cX3_settle 133 = .ok (.iaload, 1) := dk_46 (dk_at dksX3_settle_5 14 rfl rfl)
theorem dX3_settle_134 : decode cX3_settle 134 = .ok (.iload_n 2, 1) := dk_28 (dk_at dksX3_settle_5 15 rfl rfl)
theorem dX3_settle_135 : decode cX3_settle 135 = .ok (.iadd, 1) := dk_96 (dk_at dksX3_settle_5 16 rfl rfl)
theorem dX3_settle_136 : decode cX3_settle 136 = .ok (.iconst 2, 1) := dk_5 (dk_at dksX3_settle_5 17 rfl rfl)
theorem dX3_settle_137 : decode cX3_settle 137 = .ok (.irem, 1) := dk_112 (dk_at dksX3_settle_5 18 rfl rfl)
theorem dX3_settle_138 : decode cX3_settle 138 = .ok (.iastore, 1) := dk_79 (dk_at dksX3_settle_5 19 rfl rfl)
theorem dX3_settle_139 : decode cX3_settle 139 = .ok (.iload_n 2, 1) := dk_28 (dk_at dksX3_settle_5 20 rfl rfl)
theorem dX3_settle_140 : decode cX3_settle 140 = .ok (.ireturn, 1) := dk_172 (dk_at dksX3_settle_5 21 rfl rfl)
abbrev cX3_drop : ByteArray := prog_5_method_9_code
def yX3_drop : MethodName := ⟨RX3, "drop", "(II)V"⟩
def dkwX3_drop_1 : List UInt8 := [46, 28, 96, 79, 177]
abbrev dktX3_drop_1 : List UInt8 := dkwX3_drop_1 ++ []
def dkwX3_drop_0 : List UInt8 := [27, 2, 160, 0, 16, 42, 89, 180, 0, 64, 28, 96, 181, 0, 64, 167, 0, 13, 42, 180, 0, 34, 27, 92]
abbrev dktX3_drop_0 : List UInt8 := dkwX3_drop_0 ++ dktX3_drop_1
theorem dksX3_drop_0 : cX3_drop.data.toList.drop 0 = dktX3_drop_0 := by decide +kernel
theorem dksX3_drop_1 : cX3_drop.data.toList.drop 24 = dktX3_drop_1 := dk_seg dksX3_drop_0 24 rfl rfl
theorem dX3_drop_0 : decode cX3_drop 0 = .ok (.iload_n 1, 1) := dk_27 (dk_at dksX3_drop_0 0 rfl rfl)
theorem dX3_drop_1 : decode cX3_drop 1 = .ok (.iconst (-1), 1) := dk_2 (dk_at dksX3_drop_0 1 rfl rfl)
theorem dX3_drop_2 : decode cX3_drop 2 = .ok (.if_icmp .ne 16, 3) := dk_160 0 16 (dk_at dksX3_drop_0 2 rfl rfl)
theorem dX3_drop_5 : decode cX3_drop 5 = .ok (.aload_n 0, 1) := dk_42 (dk_at dksX3_drop_0 5 rfl rfl)
theorem dX3_drop_6 : decode cX3_drop 6 = .ok (.dup, 1) := dk_89 (dk_at dksX3_drop_0 6 rfl rfl)
theorem dX3_drop_7 : decode cX3_drop 7 = .ok (.getfield 64, 3) := dk_180 0 64 (dk_at dksX3_drop_0 7 rfl rfl)
theorem dX3_drop_10 : decode cX3_drop 10 = .ok (.iload_n 2, 1) := dk_28 (dk_at dksX3_drop_0 10 rfl rfl)
theorem dX3_drop_11 : decode cX3_drop 11 = .ok (.iadd, 1) := dk_96 (dk_at dksX3_drop_0 11 rfl rfl)
theorem dX3_drop_12 : decode cX3_drop 12 = .ok (.putfield 64, 3) := dk_181 0 64 (dk_at dksX3_drop_0 12 rfl rfl)
theorem dX3_drop_15 : decode cX3_drop 15 = .ok (.goto 13, 3) := dk_167 0 13 (dk_at dksX3_drop_0 15 rfl rfl)
theorem dX3_drop_18 : decode cX3_drop 18 = .ok (.aload_n 0, 1) := dk_42 (dk_at dksX3_drop_0 18 rfl rfl)
theorem dX3_drop_19 : decode cX3_drop 19 = .ok (.getfield 34, 3) := dk_180 0 34 (dk_at dksX3_drop_0 19 rfl rfl)
theorem dX3_drop_22 : decode cX3_drop 22 = .ok (.iload_n 1, 1) := dk_27 (dk_at dksX3_drop_0 22 rfl rfl)
theorem dX3_drop_23 : decode cX3_drop 23 = .ok (.dup2, 1) := dk_92 (dk_at dksX3_drop_0 23 rfl rfl)
theorem dX3_drop_24 : decode cX3_drop 24 = .ok (.iaload, 1) := dk_46 (dk_at dksX3_drop_1 0 rfl rfl)
theorem dX3_drop_25 : decode cX3_drop 25 = .ok (.iload_n 2, 1) := dk_28 (dk_at dksX3_drop_1 1 rfl rfl)
theorem dX3_drop_26 : decode cX3_drop 26 = .ok (.iadd, 1) := dk_96 (dk_at dksX3_drop_1 2 rfl rfl)
theorem dX3_drop_27 : decode cX3_drop 27 = .ok (.iastore, 1) := dk_79 (dk_at dksX3_drop_1 3 rfl rfl)
theorem dX3_drop_28 : decode cX3_drop 28 = .ok (.return_, 1) := dk_177 (dk_at dksX3_drop_1 4 rfl rfl)
abbrev cX3_into : ByteArray := prog_5_method_6_code
def yX3_into : MethodName := ⟨RX3, "into", "(II)I"⟩
def dkwX3_into_1 : List UInt8 := [42, 180, 0, 25, 27, 46, 167, 0, 9, 42, 180, 0, 28, 27, 46, 172]
abbrev dktX3_into_1 : List UInt8 := dkwX3_into_1 ++ []
def dkwX3_into_0 : List UInt8 := [42, 180, 0, 28, 27, 46, 16, 254, 159, 0, 16, 42, 180, 0, 31, 27, 46, 28, 96, 5, 112, 154, 0, 12]
abbrev dktX3_into_0 : List UInt8 := dkwX3_into_0 ++ dktX3_into_1
theorem dksX3_into_0 : cX3_into.data.toList.drop 0 = dktX3_into_0 := by decide +kernel
theorem dksX3_into_1 : cX3_into.data.toList.drop 24 = dktX3_into_1 := dk_seg dksX3_into_0 24 rfl rfl
theorem dX3_into_0 : decode cX3_into 0 = .ok (.aload_n 0, 1) := dk_42 (dk_at dksX3_into_0 0 rfl rfl)
theorem dX3_into_1 : decode cX3_into 1 = .ok (.getfield 28, 3) := dk_180 0 28 (dk_at dksX3_into_0 1 rfl rfl)
theorem dX3_into_4 : decode cX3_into 4 = .ok (.iload_n 1, 1) := dk_27 (dk_at dksX3_into_0 4 rfl rfl)
theorem dX3_into_5 : decode cX3_into 5 = .ok (.iaload, 1) := dk_46 (dk_at dksX3_into_0 5 rfl rfl)
theorem dX3_into_6 : decode cX3_into 6 = .ok (.bipush (-2), 2) := dk_16 254 (dk_at dksX3_into_0 6 rfl rfl)
theorem dX3_into_8 : decode cX3_into 8 = .ok (.if_icmp .eq 16, 3) := dk_159 0 16 (dk_at dksX3_into_0 8 rfl rfl)
theorem dX3_into_11 : decode cX3_into 11 = .ok (.aload_n 0, 1) := dk_42 (dk_at dksX3_into_0 11 rfl rfl)
theorem dX3_into_12 : decode cX3_into 12 = .ok (.getfield 31, 3) := dk_180 0 31 (dk_at dksX3_into_0 12 rfl rfl)
theorem dX3_into_15 : decode cX3_into 15 = .ok (.iload_n 1, 1) := dk_27 (dk_at dksX3_into_0 15 rfl rfl)
theorem dX3_into_16 : decode cX3_into 16 = .ok (.iaload, 1) := dk_46 (dk_at dksX3_into_0 16 rfl rfl)
theorem dX3_into_17 : decode cX3_into 17 = .ok (.iload_n 2, 1) := dk_28 (dk_at dksX3_into_0 17 rfl rfl)
theorem dX3_into_18 : decode cX3_into 18 = .ok (.iadd, 1) := dk_96 (dk_at dksX3_into_0 18 rfl rfl)
theorem dX3_into_19 : decode cX3_into 19 = .ok (.iconst 2, 1) := dk_5 (dk_at dksX3_into_0 19 rfl rfl)
theorem dX3_into_20 : decode cX3_into 20 = .ok (.irem, 1) := dk_112 (dk_at dksX3_into_0 20 rfl rfl)
theorem dX3_into_21 : decode cX3_into 21 = .ok (.ifCond .ne 12, 3) := dk_154 0 12 (dk_at dksX3_into_0 21 rfl rfl)
theorem dX3_into_24 : decode cX3_into 24 = .ok (.aload_n 0, 1) := dk_42 (dk_at dksX3_into_1 0 rfl rfl)
theorem dX3_into_25 : decode cX3_into 25 = .ok (.getfield 25, 3) := dk_180 0 25 (dk_at dksX3_into_1 1 rfl rfl)
theorem dX3_into_28 : decode cX3_into 28 = .ok (.iload_n 1, 1) := dk_27 (dk_at dksX3_into_1 4 rfl rfl)
theorem dX3_into_29 : decode cX3_into 29 = .ok (.iaload, 1) := dk_46 (dk_at dksX3_into_1 5 rfl rfl)
theorem dX3_into_30 : decode cX3_into 30 = .ok (.goto 9, 3) := dk_167 0 9 (dk_at dksX3_into_1 6 rfl rfl)
theorem dX3_into_33 : decode cX3_into 33 = .ok (.aload_n 0, 1) := dk_42 (dk_at dksX3_into_1 9 rfl rfl)
theorem dX3_into_34 : decode cX3_into 34 = .ok (.getfield 28, 3) := dk_180 0 28 (dk_at dksX3_into_1 10 rfl rfl)
theorem dX3_into_37 : decode cX3_into 37 = .ok (.iload_n 1, 1) := dk_27 (dk_at dksX3_into_1 13 rfl rfl)
theorem dX3_into_38 : decode cX3_into 38 = .ok (.iaload, 1) := dk_46 (dk_at dksX3_into_1 14 rfl rfl)
theorem dX3_into_39 : decode cX3_into 39 = .ok (.ireturn, 1) := dk_172 (dk_at dksX3_into_1 15 rfl rfl)
abbrev cX3_leaks : ByteArray := prog_5_method_11_code
def yX3_leaks : MethodName := ⟨RX3, "leaks", "(I)I"⟩
def dkwX3_leaks_1 : List UInt8 := [184, 0, 115, 184, 0, 131, 172]
abbrev dktX3_leaks_1 : List UInt8 := dkwX3_leaks_1 ++ []
def dkwX3_leaks_0 : List UInt8 := [3, 42, 180, 0, 19, 27, 46, 42, 42, 180, 0, 3, 180, 0, 74, 180, 0, 128, 27, 182, 0, 110]
abbrev dktX3_leaks_0 : List UInt8 := dkwX3_leaks_0 ++ dktX3_leaks_1
theorem dksX3_leaks_0 : cX3_leaks.data.toList.drop 0 = dktX3_leaks_0 := by decide +kernel
theorem dksX3_leaks_1 : cX3_leaks.data.toList.drop 22 = dktX3_leaks_1 := dk_seg dksX3_leaks_0 22 rfl rfl
theorem dX3_leaks_0 : decode cX3_leaks 0 = .ok (.iconst 0, 1) := dk_3 (dk_at dksX3_leaks_0 0 rfl rfl)
theorem dX3_leaks_1 : decode cX3_leaks 1 = .ok (.aload_n 0, 1) := dk_42 (dk_at dksX3_leaks_0 1 rfl rfl)
theorem dX3_leaks_2 : decode cX3_leaks 2 = .ok (.getfield 19, 3) := dk_180 0 19 (dk_at dksX3_leaks_0 2 rfl rfl)
theorem dX3_leaks_5 : decode cX3_leaks 5 = .ok (.iload_n 1, 1) := dk_27 (dk_at dksX3_leaks_0 5 rfl rfl)
theorem dX3_leaks_6 : decode cX3_leaks 6 = .ok (.iaload, 1) := dk_46 (dk_at dksX3_leaks_0 6 rfl rfl)
theorem dX3_leaks_7 : decode cX3_leaks 7 = .ok (.aload_n 0, 1) := dk_42 (dk_at dksX3_leaks_0 7 rfl rfl)
theorem dX3_leaks_8 : decode cX3_leaks 8 = .ok (.aload_n 0, 1) := dk_42 (dk_at dksX3_leaks_0 8 rfl rfl)
theorem dX3_leaks_9 : decode cX3_leaks 9 = .ok (.getfield 3, 3) := dk_180 0 3 (dk_at dksX3_leaks_0 9 rfl rfl)
theorem dX3_leaks_12 : decode cX3_leaks 12 = .ok (.getfield 74, 3) := dk_180 0 74 (dk_at dksX3_leaks_0 12 rfl rfl)
theorem dX3_leaks_15 : decode cX3_leaks 15 = .ok (.getfield 128, 3) := dk_180 0 128 (dk_at dksX3_leaks_0 15 rfl rfl)
theorem dX3_leaks_18 : decode cX3_leaks 18 = .ok (.iload_n 1, 1) := dk_27 (dk_at dksX3_leaks_0 18 rfl rfl)
theorem dX3_leaks_19 : decode cX3_leaks 19 = .ok (.invokevirtual 110, 3) := dk_182 0 110 (dk_at dksX3_leaks_0 19 rfl rfl)
theorem dX3_leaks_22 : decode cX3_leaks 22 = .ok (.invokestatic 115, 3) := dk_184 0 115 (dk_at dksX3_leaks_1 0 rfl rfl)
theorem dX3_leaks_25 : decode cX3_leaks 25 = .ok (.invokestatic 131, 3) := dk_184 0 131 (dk_at dksX3_leaks_1 3 rfl rfl)
theorem dX3_leaks_28 : decode cX3_leaks 28 = .ok (.ireturn, 1) := dk_172 (dk_at dksX3_leaks_1 6 rfl rfl)
abbrev cX3_isAsFull : ByteArray := prog_5_method_22_code
def yX3_isAsFull : MethodName := ⟨RX3, "isAsFull", "(LDripCups$Night;)Z"⟩
def dkwX3_isAsFull_2 : List UInt8 := [172]
abbrev dktX3_isAsFull_2 : List UInt8 := dkwX3_isAsFull_2 ++ []
def dkwX3_isAsFull_1 : List UInt8 := [46, 43, 180, 0, 19, 29, 46, 160, 0, 7, 4, 167, 0, 4, 3, 126, 61, 132, 3, 1, 167, 255, 216, 28]
abbrev dktX3_isAsFull_1 : List UInt8 := dkwX3_isAsFull_1 ++ dktX3_isAsFull_2
def dkwX3_isAsFull_0 : List UInt8 := [4, 61, 3, 62, 29, 42, 180, 0, 3, 180, 0, 74, 182, 0, 137, 162, 0, 32, 28, 42, 180, 0, 19, 29]
abbrev dktX3_isAsFull_0 : List UInt8 := dkwX3_isAsFull_0 ++ dktX3_isAsFull_1
theorem dksX3_isAsFull_0 : cX3_isAsFull.data.toList.drop 0 = dktX3_isAsFull_0 := by decide +kernel
theorem dksX3_isAsFull_1 : cX3_isAsFull.data.toList.drop 24 = dktX3_isAsFull_1 := dk_seg dksX3_isAsFull_0 24 rfl rfl
theorem dksX3_isAsFull_2 : cX3_isAsFull.data.toList.drop 48 = dktX3_isAsFull_2 := dk_seg dksX3_isAsFull_1 24 rfl rfl
theorem dX3_isAsFull_0 : decode cX3_isAsFull 0 = .ok (.iconst 1, 1) := dk_4 (dk_at dksX3_isAsFull_0 0 rfl rfl)
theorem dX3_isAsFull_1 : decode cX3_isAsFull 1 = .ok (.istore_n 2, 1) := dk_61 (dk_at dksX3_isAsFull_0 1 rfl rfl)
theorem dX3_isAsFull_2 : decode cX3_isAsFull 2 = .ok (.iconst 0, 1) := dk_3 (dk_at dksX3_isAsFull_0 2 rfl rfl)
theorem dX3_isAsFull_3 : decode cX3_isAsFull 3 = .ok (.istore_n 3, 1) := dk_62 (dk_at dksX3_isAsFull_0 3 rfl rfl)
theorem dX3_isAsFull_4 : decode cX3_isAsFull 4 = .ok (.iload_n 3, 1) := dk_29 (dk_at dksX3_isAsFull_0 4 rfl rfl)
theorem dX3_isAsFull_5 : decode cX3_isAsFull 5 = .ok (.aload_n 0, 1) := dk_42 (dk_at dksX3_isAsFull_0 5 rfl rfl)
theorem dX3_isAsFull_6 : decode cX3_isAsFull 6 = .ok (.getfield 3, 3) := dk_180 0 3 (dk_at dksX3_isAsFull_0 6 rfl rfl)
theorem dX3_isAsFull_9 : decode cX3_isAsFull 9 = .ok (.getfield 74, 3) := dk_180 0 74 (dk_at dksX3_isAsFull_0 9 rfl rfl)
theorem dX3_isAsFull_12 : decode cX3_isAsFull 12 = .ok (.invokevirtual 137, 3) := dk_182 0 137 (dk_at dksX3_isAsFull_0 12 rfl rfl)
theorem dX3_isAsFull_15 : decode cX3_isAsFull 15 = .ok (.if_icmp .ge 32, 3) := dk_162 0 32 (dk_at dksX3_isAsFull_0 15 rfl rfl)
theorem dX3_isAsFull_18 : decode cX3_isAsFull 18 = .ok (.iload_n 2, 1) := dk_28 (dk_at dksX3_isAsFull_0 18 rfl rfl)
theorem dX3_isAsFull_19 : decode cX3_isAsFull 19 = .ok (.aload_n 0, 1) := dk_42 (dk_at dksX3_isAsFull_0 19 rfl rfl)
theorem dX3_isAsFull_20 : decode cX3_isAsFull 20 = .ok (.getfield 19, 3) := dk_180 0 19 (dk_at dksX3_isAsFull_0 20 rfl rfl)
theorem dX3_isAsFull_23 : decode cX3_isAsFull 23 = .ok (.iload_n 3, 1) := dk_29 (dk_at dksX3_isAsFull_0 23 rfl rfl)
theorem dX3_isAsFull_24 : decode cX3_isAsFull 24 = .ok (.iaload, 1) := dk_46 (dk_at dksX3_isAsFull_1 0 rfl rfl)
theorem dX3_isAsFull_25 : decode cX3_isAsFull 25 = .ok (.aload_n 1, 1) := dk_43 (dk_at dksX3_isAsFull_1 1 rfl rfl)
theorem dX3_isAsFull_26 : decode cX3_isAsFull 26 = .ok (.getfield 19, 3) := dk_180 0 19 (dk_at dksX3_isAsFull_1 2 rfl rfl)
theorem dX3_isAsFull_29 : decode cX3_isAsFull 29 = .ok (.iload_n 3, 1) := dk_29 (dk_at dksX3_isAsFull_1 5 rfl rfl)
theorem dX3_isAsFull_30 : decode cX3_isAsFull 30 = .ok (.iaload, 1) := dk_46 (dk_at dksX3_isAsFull_1 6 rfl rfl)
theorem dX3_isAsFull_31 : decode cX3_isAsFull 31 = .ok (.if_icmp .ne 7, 3) := dk_160 0 7 (dk_at dksX3_isAsFull_1 7 rfl rfl)
theorem dX3_isAsFull_34 : decode cX3_isAsFull 34 = .ok (.iconst 1, 1) := dk_4 (dk_at dksX3_isAsFull_1 10 rfl rfl)
theorem dX3_isAsFull_35 : decode cX3_isAsFull 35 = .ok (.goto 4, 3) := dk_167 0 4 (dk_at dksX3_isAsFull_1 11 rfl rfl)
theorem dX3_isAsFull_38 : decode cX3_isAsFull 38 = .ok (.iconst 0, 1) := dk_3 (dk_at dksX3_isAsFull_1 14 rfl rfl)
theorem dX3_isAsFull_39 : decode cX3_isAsFull 39 = .ok (.iand, 1) := dk_126 (dk_at dksX3_isAsFull_1 15 rfl rfl)
theorem dX3_isAsFull_40 : decode cX3_isAsFull 40 = .ok (.istore_n 2, 1) := dk_61 (dk_at dksX3_isAsFull_1 16 rfl rfl)
theorem dX3_isAsFull_41 : decode cX3_isAsFull 41 = .ok (.iinc 3 1, 3) := dk_132 3 1 (dk_at dksX3_isAsFull_1 17 rfl rfl)
theorem dX3_isAsFull_44 : decode cX3_isAsFull 44 = .ok (.goto (-40), 3) := dk_167 255 216 (dk_at dksX3_isAsFull_1 20 rfl rfl)
theorem dX3_isAsFull_47 : decode cX3_isAsFull 47 = .ok (.iload_n 2, 1) := dk_28 (dk_at dksX3_isAsFull_1 23 rfl rfl)
theorem dX3_isAsFull_48 : decode cX3_isAsFull 48 = .ok (.ireturn, 1) := dk_172 (dk_at dksX3_isAsFull_2 0 rfl rfl)
abbrev cX3_allFill : ByteArray := prog_5_method_18_code
def yX3_allFill : MethodName := ⟨RX3, "allFill", "()I"⟩
def dkwX3_allFill_1 : List UInt8 := [46, 96, 60, 132, 2, 1, 167, 255, 230, 27, 172]
abbrev dktX3_allFill_1 : List UInt8 := dkwX3_allFill_1 ++ []
def dkwX3_allFill_0 : List UInt8 := [3, 60, 3, 61, 28, 42, 180, 0, 3, 180, 0, 74, 182, 0, 137, 162, 0, 18, 27, 42, 180, 0, 19, 28]
abbrev dktX3_allFill_0 : List UInt8 := dkwX3_allFill_0 ++ dktX3_allFill_1
theorem dksX3_allFill_0 : cX3_allFill.data.toList.drop 0 = dktX3_allFill_0 := by decide +kernel
theorem dksX3_allFill_1 : cX3_allFill.data.toList.drop 24 = dktX3_allFill_1 := dk_seg dksX3_allFill_0 24 rfl rfl
theorem dX3_allFill_0 : decode cX3_allFill 0 = .ok (.iconst 0, 1) := dk_3 (dk_at dksX3_allFill_0 0 rfl rfl)
theorem dX3_allFill_1 : decode cX3_allFill 1 = .ok (.istore_n 1, 1) := dk_60 (dk_at dksX3_allFill_0 1 rfl rfl)
theorem dX3_allFill_2 : decode cX3_allFill 2 = .ok (.iconst 0, 1) := dk_3 (dk_at dksX3_allFill_0 2 rfl rfl)
theorem dX3_allFill_3 : decode cX3_allFill 3 = .ok (.istore_n 2, 1) := dk_61 (dk_at dksX3_allFill_0 3 rfl rfl)
theorem dX3_allFill_4 : decode cX3_allFill 4 = .ok (.iload_n 2, 1) := dk_28 (dk_at dksX3_allFill_0 4 rfl rfl)
theorem dX3_allFill_5 : decode cX3_allFill 5 = .ok (.aload_n 0, 1) := dk_42 (dk_at dksX3_allFill_0 5 rfl rfl)
theorem dX3_allFill_6 : decode cX3_allFill 6 = .ok (.getfield 3, 3) := dk_180 0 3 (dk_at dksX3_allFill_0 6 rfl rfl)
theorem dX3_allFill_9 : decode cX3_allFill 9 = .ok (.getfield 74, 3) := dk_180 0 74 (dk_at dksX3_allFill_0 9 rfl rfl)
theorem dX3_allFill_12 : decode cX3_allFill 12 = .ok (.invokevirtual 137, 3) := dk_182 0 137 (dk_at dksX3_allFill_0 12 rfl rfl)
theorem dX3_allFill_15 : decode cX3_allFill 15 = .ok (.if_icmp .ge 18, 3) := dk_162 0 18 (dk_at dksX3_allFill_0 15 rfl rfl)
theorem dX3_allFill_18 : decode cX3_allFill 18 = .ok (.iload_n 1, 1) := dk_27 (dk_at dksX3_allFill_0 18 rfl rfl)
theorem dX3_allFill_19 : decode cX3_allFill 19 = .ok (.aload_n 0, 1) := dk_42 (dk_at dksX3_allFill_0 19 rfl rfl)
theorem dX3_allFill_20 : decode cX3_allFill 20 = .ok (.getfield 19, 3) := dk_180 0 19 (dk_at dksX3_allFill_0 20 rfl rfl)
theorem dX3_allFill_23 : decode cX3_allFill 23 = .ok (.iload_n 2, 1) := dk_28 (dk_at dksX3_allFill_0 23 rfl rfl)
theorem dX3_allFill_24 : decode cX3_allFill 24 = .ok (.iaload, 1) := dk_46 (dk_at dksX3_allFill_1 0 rfl rfl)
theorem dX3_allFill_25 : decode cX3_allFill 25 = .ok (.iadd, 1) := dk_96 (dk_at dksX3_allFill_1 1 rfl rfl)
theorem dX3_allFill_26 : decode cX3_allFill 26 = .ok (.istore_n 1, 1) := dk_60 (dk_at dksX3_allFill_1 2 rfl rfl)
theorem dX3_allFill_27 : decode cX3_allFill 27 = .ok (.iinc 2 1, 3) := dk_132 2 1 (dk_at dksX3_allFill_1 3 rfl rfl)
theorem dX3_allFill_30 : decode cX3_allFill 30 = .ok (.goto (-26), 3) := dk_167 255 230 (dk_at dksX3_allFill_1 6 rfl rfl)
theorem dX3_allFill_33 : decode cX3_allFill 33 = .ok (.iload_n 1, 1) := dk_27 (dk_at dksX3_allFill_1 9 rfl rfl)
theorem dX3_allFill_34 : decode cX3_allFill 34 = .ok (.ireturn, 1) := dk_172 (dk_at dksX3_allFill_1 10 rfl rfl)
abbrev cX3_allTips : ByteArray := prog_5_method_19_code
def yX3_allTips : MethodName := ⟨RX3, "allTips", "()I"⟩
def dkwX3_allTips_1 : List UInt8 := [46, 133, 97, 64, 132, 3, 1, 167, 255, 229, 20, 0, 153, 31, 184, 0, 155, 136, 172]
abbrev dktX3_allTips_1 : List UInt8 := dkwX3_allTips_1 ++ []
def dkwX3_allTips_0 : List UInt8 := [9, 64, 3, 62, 29, 42, 180, 0, 3, 180, 0, 74, 182, 0, 137, 162, 0, 19, 31, 42, 180, 0, 22, 29]
abbrev dktX3_allTips_0 : List UInt8 := dkwX3_allTips_0 ++ dktX3_allTips_1
theorem dksX3_allTips_0 : cX3_allTips.data.toList.drop 0 = dktX3_allTips_0 := by decide +kernel
theorem dksX3_allTips_1 : cX3_allTips.data.toList.drop 24 = dktX3_allTips_1 := dk_seg dksX3_allTips_0 24 rfl rfl
theorem dX3_allTips_0 : decode cX3_allTips 0 = .ok (.lconst 0, 1) := dk_9 (dk_at dksX3_allTips_0 0 rfl rfl)
theorem dX3_allTips_1 : decode cX3_allTips 1 = .ok (.lstore_n 1, 1) := dk_64 (dk_at dksX3_allTips_0 1 rfl rfl)
theorem dX3_allTips_2 : decode cX3_allTips 2 = .ok (.iconst 0, 1) := dk_3 (dk_at dksX3_allTips_0 2 rfl rfl)
theorem dX3_allTips_3 : decode cX3_allTips 3 = .ok (.istore_n 3, 1) := dk_62 (dk_at dksX3_allTips_0 3 rfl rfl)
theorem dX3_allTips_4 : decode cX3_allTips 4 = .ok (.iload_n 3, 1) := dk_29 (dk_at dksX3_allTips_0 4 rfl rfl)
theorem dX3_allTips_5 : decode cX3_allTips 5 = .ok (.aload_n 0, 1) := dk_42 (dk_at dksX3_allTips_0 5 rfl rfl)
theorem dX3_allTips_6 : decode cX3_allTips 6 = .ok (.getfield 3, 3) := dk_180 0 3 (dk_at dksX3_allTips_0 6 rfl rfl)
theorem dX3_allTips_9 : decode cX3_allTips 9 = .ok (.getfield 74, 3) := dk_180 0 74 (dk_at dksX3_allTips_0 9 rfl rfl)
theorem dX3_allTips_12 : decode cX3_allTips 12 = .ok (.invokevirtual 137, 3) := dk_182 0 137 (dk_at dksX3_allTips_0 12 rfl rfl)
theorem dX3_allTips_15 : decode cX3_allTips 15 = .ok (.if_icmp .ge 19, 3) := dk_162 0 19 (dk_at dksX3_allTips_0 15 rfl rfl)
theorem dX3_allTips_18 : decode cX3_allTips 18 = .ok (.lload_n 1, 1) := dk_31 (dk_at dksX3_allTips_0 18 rfl rfl)
theorem dX3_allTips_19 : decode cX3_allTips 19 = .ok (.aload_n 0, 1) := dk_42 (dk_at dksX3_allTips_0 19 rfl rfl)
theorem dX3_allTips_20 : decode cX3_allTips 20 = .ok (.getfield 22, 3) := dk_180 0 22 (dk_at dksX3_allTips_0 20 rfl rfl)
theorem dX3_allTips_23 : decode cX3_allTips 23 = .ok (.iload_n 3, 1) := dk_29 (dk_at dksX3_allTips_0 23 rfl rfl)
theorem dX3_allTips_24 : decode cX3_allTips 24 = .ok (.iaload, 1) := dk_46 (dk_at dksX3_allTips_1 0 rfl rfl)
theorem dX3_allTips_25 : decode cX3_allTips 25 = .ok (.i2l, 1) := dk_133 (dk_at dksX3_allTips_1 1 rfl rfl)
theorem dX3_allTips_26 : decode cX3_allTips 26 = .ok (.ladd, 1) := dk_97 (dk_at dksX3_allTips_1 2 rfl rfl)
theorem dX3_allTips_27 : decode cX3_allTips 27 = .ok (.lstore_n 1, 1) := dk_64 (dk_at dksX3_allTips_1 3 rfl rfl)
theorem dX3_allTips_28 : decode cX3_allTips 28 = .ok (.iinc 3 1, 3) := dk_132 3 1 (dk_at dksX3_allTips_1 4 rfl rfl)
theorem dX3_allTips_31 : decode cX3_allTips 31 = .ok (.goto (-27), 3) := dk_167 255 229 (dk_at dksX3_allTips_1 7 rfl rfl)
theorem dX3_allTips_34 : decode cX3_allTips 34 = .ok (.ldc2_w 153, 3) := dk_20 0 153 (dk_at dksX3_allTips_1 10 rfl rfl)
theorem dX3_allTips_37 : decode cX3_allTips 37 = .ok (.lload_n 1, 1) := dk_31 (dk_at dksX3_allTips_1 13 rfl rfl)
theorem dX3_allTips_38 : decode cX3_allTips 38 = .ok (.invokestatic 155, 3) := dk_184 0 155 (dk_at dksX3_allTips_1 14 rfl rfl)
theorem dX3_allTips_41 : decode cX3_allTips 41 = .ok (.l2i, 1) := dk_136 (dk_at dksX3_allTips_1 17 rfl rfl)
theorem dX3_allTips_42 : decode cX3_allTips 42 = .ok (.ireturn, 1) := dk_172 (dk_at dksX3_allTips_1 18 rfl rfl)
abbrev cX3_isLed : ByteArray := prog_5_method_17_code
def yX3_isLed : MethodName := ⟨RX3, "isLed", "(II)Z"⟩
def dkwX3_isLed_1 : List UInt8 := [167, 0, 4, 3, 172]
abbrev dktX3_isLed_1 : List UInt8 := dkwX3_isLed_1 ++ []
def dkwX3_isLed_0 : List UInt8 := [42, 180, 0, 28, 27, 46, 16, 254, 160, 0, 17, 42, 180, 0, 25, 27, 46, 28, 160, 0, 7, 4]
abbrev dktX3_isLed_0 : List UInt8 := dkwX3_isLed_0 ++ dktX3_isLed_1
theorem dksX3_isLed_0 : cX3_isLed.data.toList.drop 0 = dktX3_isLed_0 := by decide +kernel
theorem dksX3_isLed_1 : cX3_isLed.data.toList.drop 22 = dktX3_isLed_1 := dk_seg dksX3_isLed_0 22 rfl rfl
theorem dX3_isLed_0 : decode cX3_isLed 0 = .ok (.aload_n 0, 1) := dk_42 (dk_at dksX3_isLed_0 0 rfl rfl)
theorem dX3_isLed_1 : decode cX3_isLed 1 = .ok (.getfield 28, 3) := dk_180 0 28 (dk_at dksX3_isLed_0 1 rfl rfl)
theorem dX3_isLed_4 : decode cX3_isLed 4 = .ok (.iload_n 1, 1) := dk_27 (dk_at dksX3_isLed_0 4 rfl rfl)
theorem dX3_isLed_5 : decode cX3_isLed 5 = .ok (.iaload, 1) := dk_46 (dk_at dksX3_isLed_0 5 rfl rfl)
theorem dX3_isLed_6 : decode cX3_isLed 6 = .ok (.bipush (-2), 2) := dk_16 254 (dk_at dksX3_isLed_0 6 rfl rfl)
theorem dX3_isLed_8 : decode cX3_isLed 8 = .ok (.if_icmp .ne 17, 3) := dk_160 0 17 (dk_at dksX3_isLed_0 8 rfl rfl)
theorem dX3_isLed_11 : decode cX3_isLed 11 = .ok (.aload_n 0, 1) := dk_42 (dk_at dksX3_isLed_0 11 rfl rfl)
theorem dX3_isLed_12 : decode cX3_isLed 12 = .ok (.getfield 25, 3) := dk_180 0 25 (dk_at dksX3_isLed_0 12 rfl rfl)
theorem dX3_isLed_15 : decode cX3_isLed 15 = .ok (.iload_n 1, 1) := dk_27 (dk_at dksX3_isLed_0 15 rfl rfl)
theorem dX3_isLed_16 : decode cX3_isLed 16 = .ok (.iaload, 1) := dk_46 (dk_at dksX3_isLed_0 16 rfl rfl)
theorem dX3_isLed_17 : decode cX3_isLed 17 = .ok (.iload_n 2, 1) := dk_28 (dk_at dksX3_isLed_0 17 rfl rfl)
theorem dX3_isLed_18 : decode cX3_isLed 18 = .ok (.if_icmp .ne 7, 3) := dk_160 0 7 (dk_at dksX3_isLed_0 18 rfl rfl)
theorem dX3_isLed_21 : decode cX3_isLed 21 = .ok (.iconst 1, 1) := dk_4 (dk_at dksX3_isLed_0 21 rfl rfl)
theorem dX3_isLed_22 : decode cX3_isLed 22 = .ok (.goto 4, 3) := dk_167 0 4 (dk_at dksX3_isLed_1 0 rfl rfl)
theorem dX3_isLed_25 : decode cX3_isLed 25 = .ok (.iconst 0, 1) := dk_3 (dk_at dksX3_isLed_1 3 rfl rfl)
theorem dX3_isLed_26 : decode cX3_isLed 26 = .ok (.ireturn, 1) := dk_172 (dk_at dksX3_isLed_1 4 rfl rfl)
abbrev cX3_lead : ByteArray := prog_5_method_16_code
def yX3_lead : MethodName := ⟨RX3, "lead", "(II)V"⟩
def dkwX3_lead_0 : List UInt8 := [42, 180, 0, 25, 27, 28, 79, 42, 180, 0, 28, 27, 16, 254, 79, 42, 180, 0, 31, 27, 3, 79, 177]
abbrev dktX3_lead_0 : List UInt8 := dkwX3_lead_0 ++ []
theorem dksX3_lead_0 : cX3_lead.data.toList.drop 0 = dktX3_lead_0 := by decide +kernel
theorem dX3_lead_0 : decode cX3_lead 0 = .ok (.aload_n 0, 1) := dk_42 (dk_at dksX3_lead_0 0 rfl rfl)
theorem dX3_lead_1 : decode cX3_lead 1 = .ok (.getfield 25, 3) := dk_180 0 25 (dk_at dksX3_lead_0 1 rfl rfl)
theorem dX3_lead_4 : decode cX3_lead 4 = .ok (.iload_n 1, 1) := dk_27 (dk_at dksX3_lead_0 4 rfl rfl)
theorem dX3_lead_5 : decode cX3_lead 5 = .ok (.iload_n 2, 1) := dk_28 (dk_at dksX3_lead_0 5 rfl rfl)
theorem dX3_lead_6 : decode cX3_lead 6 = .ok (.iastore, 1) := dk_79 (dk_at dksX3_lead_0 6 rfl rfl)
theorem dX3_lead_7 : decode cX3_lead 7 = .ok (.aload_n 0, 1) := dk_42 (dk_at dksX3_lead_0 7 rfl rfl)
theorem dX3_lead_8 : decode cX3_lead 8 = .ok (.getfield 28, 3) := dk_180 0 28 (dk_at dksX3_lead_0 8 rfl rfl)
theorem dX3_lead_11 : decode cX3_lead 11 = .ok (.iload_n 1, 1) := dk_27 (dk_at dksX3_lead_0 11 rfl rfl)
theorem dX3_lead_12 : decode cX3_lead 12 = .ok (.bipush (-2), 2) := dk_16 254 (dk_at dksX3_lead_0 12 rfl rfl)
theorem dX3_lead_14 : decode cX3_lead 14 = .ok (.iastore, 1) := dk_79 (dk_at dksX3_lead_0 14 rfl rfl)
theorem dX3_lead_15 : decode cX3_lead 15 = .ok (.aload_n 0, 1) := dk_42 (dk_at dksX3_lead_0 15 rfl rfl)
theorem dX3_lead_16 : decode cX3_lead 16 = .ok (.getfield 31, 3) := dk_180 0 31 (dk_at dksX3_lead_0 16 rfl rfl)
theorem dX3_lead_19 : decode cX3_lead 19 = .ok (.iload_n 1, 1) := dk_27 (dk_at dksX3_lead_0 19 rfl rfl)
theorem dX3_lead_20 : decode cX3_lead 20 = .ok (.iconst 0, 1) := dk_3 (dk_at dksX3_lead_0 20 rfl rfl)
theorem dX3_lead_21 : decode cX3_lead 21 = .ok (.iastore, 1) := dk_79 (dk_at dksX3_lead_0 21 rfl rfl)
theorem dX3_lead_22 : decode cX3_lead 22 = .ok (.return_, 1) := dk_177 (dk_at dksX3_lead_0 22 rfl rfl)
abbrev cX3_pour : ByteArray := prog_5_method_14_code
def yX3_pour : MethodName := ⟨RX3, "pour", "(II)I"⟩
def dkwX3_pour_2 : List UInt8 := [132, 4, 1, 167, 255, 221, 29, 172]
abbrev dktX3_pour_2 : List UInt8 := dkwX3_pour_2 ++ []
def dkwX3_pour_1 : List UInt8 := [182, 0, 137, 162, 0, 26, 42, 21, 4, 182, 0, 144, 54, 5, 21, 4, 27, 160, 0, 6, 21, 5, 62]
abbrev dktX3_pour_1 : List UInt8 := dkwX3_pour_1 ++ dktX3_pour_2
def dkwX3_pour_0 : List UInt8 := [3, 62, 42, 180, 0, 34, 27, 92, 46, 28, 96, 79, 27, 54, 4, 21, 4, 42, 180, 0, 3, 180, 0, 74]
abbrev dktX3_pour_0 : List UInt8 := dkwX3_pour_0 ++ dktX3_pour_1
theorem dksX3_pour_0 : cX3_pour.data.toList.drop 0 = dktX3_pour_0 := by decide +kernel
theorem dksX3_pour_1 : cX3_pour.data.toList.drop 24 = dktX3_pour_1 := dk_seg dksX3_pour_0 24 rfl rfl
theorem dksX3_pour_2 : cX3_pour.data.toList.drop 47 = dktX3_pour_2 := dk_seg dksX3_pour_1 23 rfl rfl
theorem dX3_pour_0 : decode cX3_pour 0 = .ok (.iconst 0, 1) := dk_3 (dk_at dksX3_pour_0 0 rfl rfl)
theorem dX3_pour_1 : decode cX3_pour 1 = .ok (.istore_n 3, 1) := dk_62 (dk_at dksX3_pour_0 1 rfl rfl)
theorem dX3_pour_2 : decode cX3_pour 2 = .ok (.aload_n 0, 1) := dk_42 (dk_at dksX3_pour_0 2 rfl rfl)
theorem dX3_pour_3 : decode cX3_pour 3 = .ok (.getfield 34, 3) := dk_180 0 34 (dk_at dksX3_pour_0 3 rfl rfl)
theorem dX3_pour_6 : decode cX3_pour 6 = .ok (.iload_n 1, 1) := dk_27 (dk_at dksX3_pour_0 6 rfl rfl)
theorem dX3_pour_7 : decode cX3_pour 7 = .ok (.dup2, 1) := dk_92 (dk_at dksX3_pour_0 7 rfl rfl)
theorem dX3_pour_8 : decode cX3_pour 8 = .ok (.iaload, 1) := dk_46 (dk_at dksX3_pour_0 8 rfl rfl)
theorem dX3_pour_9 : decode cX3_pour 9 = .ok (.iload_n 2, 1) := dk_28 (dk_at dksX3_pour_0 9 rfl rfl)
theorem dX3_pour_10 : decode cX3_pour 10 = .ok (.iadd, 1) := dk_96 (dk_at dksX3_pour_0 10 rfl rfl)
theorem dX3_pour_11 : decode cX3_pour 11 = .ok (.iastore, 1) := dk_79 (dk_at dksX3_pour_0 11 rfl rfl)
theorem dX3_pour_12 : decode cX3_pour 12 = .ok (.iload_n 1, 1) := dk_27 (dk_at dksX3_pour_0 12 rfl rfl)
theorem dX3_pour_13 : decode cX3_pour 13 = .ok (.istore 4, 2) := dk_54 4 (dk_at dksX3_pour_0 13 rfl rfl)
theorem dX3_pour_15 : decode cX3_pour 15 = .ok (.iload 4, 2) := dk_21 4 (dk_at dksX3_pour_0 15 rfl rfl)
theorem dX3_pour_17 : decode cX3_pour 17 = .ok (.aload_n 0, 1) := dk_42 (dk_at dksX3_pour_0 17 rfl rfl)
theorem dX3_pour_18 : decode cX3_pour 18 = .ok (.getfield 3, 3) := dk_180 0 3 (dk_at dksX3_pour_0 18 rfl rfl)
theorem dX3_pour_21 : decode cX3_pour 21 = .ok (.getfield 74, 3) := dk_180 0 74 (dk_at dksX3_pour_0 21 rfl rfl)
theorem dX3_pour_24 : decode cX3_pour 24 = .ok (.invokevirtual 137, 3) := dk_182 0 137 (dk_at dksX3_pour_1 0 rfl rfl)
theorem dX3_pour_27 : decode cX3_pour 27 = .ok (.if_icmp .ge 26, 3) := dk_162 0 26 (dk_at dksX3_pour_1 3 rfl rfl)
theorem dX3_pour_30 : decode cX3_pour 30 = .ok (.aload_n 0, 1) := dk_42 (dk_at dksX3_pour_1 6 rfl rfl)
theorem dX3_pour_31 : decode cX3_pour 31 = .ok (.iload 4, 2) := dk_21 4 (dk_at dksX3_pour_1 7 rfl rfl)
theorem dX3_pour_33 : decode cX3_pour 33 = .ok (.invokevirtual 144, 3) := dk_182 0 144 (dk_at dksX3_pour_1 9 rfl rfl)
theorem dX3_pour_36 : decode cX3_pour 36 = .ok (.istore 5, 2) := dk_54 5 (dk_at dksX3_pour_1 12 rfl rfl)
theorem dX3_pour_38 : decode cX3_pour 38 = .ok (.iload 4, 2) := dk_21 4 (dk_at dksX3_pour_1 14 rfl rfl)
theorem dX3_pour_40 : decode cX3_pour 40 = .ok (.iload_n 1, 1) := dk_27 (dk_at dksX3_pour_1 16 rfl rfl)
theorem dX3_pour_41 : decode cX3_pour 41 = .ok (.if_icmp .ne 6, 3) := dk_160 0 6 (dk_at dksX3_pour_1 17 rfl rfl)
theorem dX3_pour_44 : decode cX3_pour 44 = .ok (.iload 5, 2) := dk_21 5 (dk_at dksX3_pour_1 20 rfl rfl)
theorem dX3_pour_46 : decode cX3_pour 46 = .ok (.istore_n 3, 1) := dk_62 (dk_at dksX3_pour_1 22 rfl rfl)
theorem dX3_pour_47 : decode cX3_pour 47 = .ok (.iinc 4 1, 3) := dk_132 4 1 (dk_at dksX3_pour_2 0 rfl rfl)
theorem dX3_pour_50 : decode cX3_pour 50 = .ok (.goto (-35), 3) := dk_167 255 221 (dk_at dksX3_pour_2 3 rfl rfl)
theorem dX3_pour_53 : decode cX3_pour 53 = .ok (.iload_n 3, 1) := dk_29 (dk_at dksX3_pour_2 6 rfl rfl)
theorem dX3_pour_54 : decode cX3_pour 54 = .ok (.ireturn, 1) := dk_172 (dk_at dksX3_pour_2 7 rfl rfl)
abbrev cX3_crack : ByteArray := prog_5_method_15_code
def yX3_crack : MethodName := ⟨RX3, "crack", "(II)V"⟩
def dkwX3_crack_1 : List UInt8 := [79, 177]
abbrev dktX3_crack_1 : List UInt8 := dkwX3_crack_1 ++ []
def dkwX3_crack_0 : List UInt8 := [42, 180, 0, 15, 27, 28, 79, 42, 180, 0, 19, 27, 42, 180, 0, 19, 27, 46, 28, 4, 100, 184, 0, 115]
abbrev dktX3_crack_0 : List UInt8 := dkwX3_crack_0 ++ dktX3_crack_1
theorem dksX3_crack_0 : cX3_crack.data.toList.drop 0 = dktX3_crack_0 := by decide +kernel
theorem dksX3_crack_1 : cX3_crack.data.toList.drop 24 = dktX3_crack_1 := dk_seg dksX3_crack_0 24 rfl rfl
theorem dX3_crack_0 : decode cX3_crack 0 = .ok (.aload_n 0, 1) := dk_42 (dk_at dksX3_crack_0 0 rfl rfl)
theorem dX3_crack_1 : decode cX3_crack 1 = .ok (.getfield 15, 3) := dk_180 0 15 (dk_at dksX3_crack_0 1 rfl rfl)
theorem dX3_crack_4 : decode cX3_crack 4 = .ok (.iload_n 1, 1) := dk_27 (dk_at dksX3_crack_0 4 rfl rfl)
theorem dX3_crack_5 : decode cX3_crack 5 = .ok (.iload_n 2, 1) := dk_28 (dk_at dksX3_crack_0 5 rfl rfl)
theorem dX3_crack_6 : decode cX3_crack 6 = .ok (.iastore, 1) := dk_79 (dk_at dksX3_crack_0 6 rfl rfl)
theorem dX3_crack_7 : decode cX3_crack 7 = .ok (.aload_n 0, 1) := dk_42 (dk_at dksX3_crack_0 7 rfl rfl)
theorem dX3_crack_8 : decode cX3_crack 8 = .ok (.getfield 19, 3) := dk_180 0 19 (dk_at dksX3_crack_0 8 rfl rfl)
theorem dX3_crack_11 : decode cX3_crack 11 = .ok (.iload_n 1, 1) := dk_27 (dk_at dksX3_crack_0 11 rfl rfl)
theorem dX3_crack_12 : decode cX3_crack 12 = .ok (.aload_n 0, 1) := dk_42 (dk_at dksX3_crack_0 12 rfl rfl)
theorem dX3_crack_13 : decode cX3_crack 13 = .ok (.getfield 19, 3) := dk_180 0 19 (dk_at dksX3_crack_0 13 rfl rfl)
theorem dX3_crack_16 : decode cX3_crack 16 = .ok (.iload_n 1, 1) := dk_27 (dk_at dksX3_crack_0 16 rfl rfl)
theorem dX3_crack_17 : decode cX3_crack 17 = .ok (.iaload, 1) := dk_46 (dk_at dksX3_crack_0 17 rfl rfl)
theorem dX3_crack_18 : decode cX3_crack 18 = .ok (.iload_n 2, 1) := dk_28 (dk_at dksX3_crack_0 18 rfl rfl)
theorem dX3_crack_19 : decode cX3_crack 19 = .ok (.iconst 1, 1) := dk_4 (dk_at dksX3_crack_0 19 rfl rfl)
theorem dX3_crack_20 : decode cX3_crack 20 = .ok (.isub, 1) := dk_100 (dk_at dksX3_crack_0 20 rfl rfl)
theorem dX3_crack_21 : decode cX3_crack 21 = .ok (.invokestatic 115, 3) := dk_184 0 115 (dk_at dksX3_crack_0 21 rfl rfl)
theorem dX3_crack_24 : decode cX3_crack 24 = .ok (.iastore, 1) := dk_79 (dk_at dksX3_crack_1 0 rfl rfl)
theorem dX3_crack_25 : decode cX3_crack 25 = .ok (.return_, 1) := dk_177 (dk_at dksX3_crack_1 1 rfl rfl)
abbrev cX3_flows : ByteArray := prog_5_method_23_code
def yX3_flows : MethodName := ⟨RX3, "flows", "(I)[J"⟩
def dkwX3_flows_7 : List UInt8 := [92, 47, 22, 4, 20, 0, 158, 109, 97, 80, 132, 3, 1, 167, 255, 87, 44, 176]
abbrev dktX3_flows_7 : List UInt8 := dkwX3_flows_7 ++ []
def dkwX3_flows_6 : List UInt8 := [29, 46, 16, 254, 159, 0, 30, 42, 29, 4, 182, 0, 125, 2, 159, 0, 20, 44, 42, 29, 4, 182, 0, 125]
abbrev dktX3_flows_6 : List UInt8 := dkwX3_flows_6 ++ dktX3_flows_7
def dkwX3_flows_5 : List UInt8 := [16, 254, 160, 0, 8, 22, 4, 167, 0, 11, 22, 4, 10, 97, 20, 0, 158, 109, 97, 80, 42, 180, 0, 28]
abbrev dktX3_flows_5 : List UInt8 := dkwX3_flows_5 ++ dktX3_flows_6
def dkwX3_flows_4 : List UInt8 := [3, 182, 0, 125, 2, 159, 0, 38, 44, 42, 29, 3, 182, 0, 125, 92, 47, 42, 180, 0, 28, 29, 46]
abbrev dktX3_flows_4 : List UInt8 := dkwX3_flows_4 ++ dktX3_flows_5
def dkwX3_flows_3 : List UInt8 := [44, 29, 47, 97, 42, 180, 0, 15, 29, 46, 133, 109, 55, 4, 44, 16, 9, 29, 96, 22, 4, 80, 42, 29]
abbrev dktX3_flows_3 : List UInt8 := dkwX3_flows_3 ++ dktX3_flows_4
def dkwX3_flows_2 : List UInt8 := [185, 0, 84, 2, 0, 192, 0, 90, 182, 0, 92, 133, 27, 133, 105, 97, 80, 42, 180, 0, 19, 29, 46, 133]
abbrev dktX3_flows_2 : List UInt8 := dkwX3_flows_2 ++ dktX3_flows_3
def dkwX3_flows_1 : List UInt8 := [182, 0, 102, 154, 0, 35, 44, 29, 92, 47, 42, 180, 0, 3, 180, 0, 74, 180, 0, 78, 29]
abbrev dktX3_flows_1 : List UInt8 := dkwX3_flows_1 ++ dktX3_flows_2
def dkwX3_flows_0 : List UInt8 := [16, 18, 188, 11, 77, 3, 62, 29, 42, 180, 0, 3, 180, 0, 74, 182, 0, 137, 162, 0, 161, 42, 29]
abbrev dktX3_flows_0 : List UInt8 := dkwX3_flows_0 ++ dktX3_flows_1
theorem dksX3_flows_0 : cX3_flows.data.toList.drop 0 = dktX3_flows_0 := by decide +kernel
theorem dksX3_flows_1 : cX3_flows.data.toList.drop 23 = dktX3_flows_1 := dk_seg dksX3_flows_0 23 rfl rfl
theorem dksX3_flows_2 : cX3_flows.data.toList.drop 44 = dktX3_flows_2 := dk_seg dksX3_flows_1 21 rfl rfl
theorem dksX3_flows_3 : cX3_flows.data.toList.drop 68 = dktX3_flows_3 := dk_seg dksX3_flows_2 24 rfl rfl
theorem dksX3_flows_4 : cX3_flows.data.toList.drop 92 = dktX3_flows_4 := dk_seg dksX3_flows_3 24 rfl rfl
theorem dksX3_flows_5 : cX3_flows.data.toList.drop 115 = dktX3_flows_5 := dk_seg dksX3_flows_4 23 rfl rfl
theorem dksX3_flows_6 : cX3_flows.data.toList.drop 139 = dktX3_flows_6 := dk_seg dksX3_flows_5 24 rfl rfl
theorem dksX3_flows_7 : cX3_flows.data.toList.drop 163 = dktX3_flows_7 := dk_seg dksX3_flows_6 24 rfl rfl
theorem dX3_flows_0 : decode cX3_flows 0 = .ok (.bipush 18, 2) := dk_16 18 (dk_at dksX3_flows_0 0 rfl rfl)
theorem dX3_flows_2 : decode cX3_flows 2 = .ok (.newarray .long, 2) := dk_188_11 (dk_at dksX3_flows_0 2 rfl rfl)
theorem dX3_flows_4 : decode cX3_flows 4 = .ok (.astore_n 2, 1) := dk_77 (dk_at dksX3_flows_0 4 rfl rfl)
theorem dX3_flows_5 : decode cX3_flows 5 = .ok (.iconst 0, 1) := dk_3 (dk_at dksX3_flows_0 5 rfl rfl)
theorem dX3_flows_6 : decode cX3_flows 6 = .ok (.istore_n 3, 1) := dk_62 (dk_at dksX3_flows_0 6 rfl rfl)
theorem dX3_flows_7 : decode cX3_flows 7 = .ok (.iload_n 3, 1) := dk_29 (dk_at dksX3_flows_0 7 rfl rfl)
theorem dX3_flows_8 : decode cX3_flows 8 = .ok (.aload_n 0, 1) := dk_42 (dk_at dksX3_flows_0 8 rfl rfl)
theorem dX3_flows_9 : decode cX3_flows 9 = .ok (.getfield 3, 3) := dk_180 0 3 (dk_at dksX3_flows_0 9 rfl rfl)
theorem dX3_flows_12 : decode cX3_flows 12 = .ok (.getfield 74, 3) := dk_180 0 74 (dk_at dksX3_flows_0 12 rfl rfl)
theorem dX3_flows_15 : decode cX3_flows 15 = .ok (.invokevirtual 137, 3) := dk_182 0 137 (dk_at dksX3_flows_0 15 rfl rfl)
theorem dX3_flows_18 : decode cX3_flows 18 = .ok (.if_icmp .ge 161, 3) := dk_162 0 161 (dk_at dksX3_flows_0 18 rfl rfl)
theorem dX3_flows_21 : decode cX3_flows 21 = .ok (.aload_n 0, 1) := dk_42 (dk_at dksX3_flows_0 21 rfl rfl)
theorem dX3_flows_22 : decode cX3_flows 22 = .ok (.iload_n 3, 1) := dk_29 (dk_at dksX3_flows_0 22 rfl rfl)
theorem dX3_flows_23 : decode cX3_flows 23 = .ok (.invokevirtual 102, 3) := dk_182 0 102 (dk_at dksX3_flows_1 0 rfl rfl)
theorem dX3_flows_26 : decode cX3_flows 26 = .ok (.ifCond .ne 35, 3) := dk_154 0 35 (dk_at dksX3_flows_1 3 rfl rfl)
theorem dX3_flows_29 : decode cX3_flows 29 = .ok (.aload_n 2, 1) := dk_44 (dk_at dksX3_flows_1 6 rfl rfl)
theorem dX3_flows_30 : decode cX3_flows 30 = .ok (.iload_n 3, 1) := dk_29 (dk_at dksX3_flows_1 7 rfl rfl)
theorem dX3_flows_31 : decode cX3_flows 31 = .ok (.dup2, 1) := dk_92 (dk_at dksX3_flows_1 8 rfl rfl)
theorem dX3_flows_32 : decode cX3_flows 32 = .ok (.laload, 1) := dk_47 (dk_at dksX3_flows_1 9 rfl rfl)
theorem dX3_flows_33 : decode cX3_flows 33 = .ok (.aload_n 0, 1) := dk_42 (dk_at dksX3_flows_1 10 rfl rfl)
theorem dX3_flows_34 : decode cX3_flows 34 = .ok (.getfield 3, 3) := dk_180 0 3 (dk_at dksX3_flows_1 11 rfl rfl)
theorem dX3_flows_37 : decode cX3_flows 37 = .ok (.getfield 74, 3) := dk_180 0 74 (dk_at dksX3_flows_1 14 rfl rfl)
theorem dX3_flows_40 : decode cX3_flows 40 = .ok (.getfield 78, 3) := dk_180 0 78 (dk_at dksX3_flows_1 17 rfl rfl)
theorem dX3_flows_43 : decode cX3_flows 43 = .ok (.iload_n 3, 1) := dk_29 (dk_at dksX3_flows_1 20 rfl rfl)
theorem dX3_flows_44 : decode cX3_flows 44 = .ok (.invokeinterface 84 2, 5) := by decide +kernel
theorem dX3_flows_49 : decode cX3_flows 49 = .ok (.checkcast 90, 3) := dk_192 0 90 (dk_at dksX3_flows_2 5 rfl rfl)
theorem dX3_flows_52 : decode cX3_flows 52 = .ok (.invokevirtual 92, 3) := dk_182 0 92 (dk_at dksX3_flows_2 8 rfl rfl)
theorem dX3_flows_55 : decode cX3_flows 55 = .ok (.i2l, 1) := dk_133 (dk_at dksX3_flows_2 11 rfl rfl)
theorem dX3_flows_56 : decode cX3_flows 56 = .ok (.iload_n 1, 1) := dk_27 (dk_at dksX3_flows_2 12 rfl rfl)
theorem dX3_flows_57 : decode cX3_flows 57 = .ok (.i2l, 1) := dk_133 (dk_at dksX3_flows_2 13 rfl rfl)
theorem dX3_flows_58 : decode cX3_flows 58 = .ok (.lmul, 1) := dk_105 (dk_at dksX3_flows_2 14 rfl rfl)
theorem dX3_flows_59 : decode cX3_flows 59 = .ok (.ladd, 1) := dk_97 (dk_at dksX3_flows_2 15 rfl rfl)
theorem dX3_flows_60 : decode cX3_flows 60 = .ok (.lastore, 1) := dk_80 (dk_at dksX3_flows_2 16 rfl rfl)
theorem dX3_flows_61 : decode cX3_flows 61 = .ok (.aload_n 0, 1) := dk_42 (dk_at dksX3_flows_2 17 rfl rfl)
theorem dX3_flows_62 : decode cX3_flows 62 = .ok (.getfield 19, 3) := dk_180 0 19 (dk_at dksX3_flows_2 18 rfl rfl)
theorem dX3_flows_65 : decode cX3_flows 65 = .ok (.iload_n 3, 1) := dk_29 (dk_at dksX3_flows_2 21 rfl rfl)
theorem dX3_flows_66 : decode cX3_flows 66 = .ok (.iaload, 1) := dk_46 (dk_at dksX3_flows_2 22 rfl rfl)
theorem dX3_flows_67 : decode cX3_flows 67 = .ok (.i2l, 1) := dk_133 (dk_at dksX3_flows_2 23 rfl rfl)
theorem dX3_flows_68 : decode cX3_flows 68 = .ok (.aload_n 2, 1) := dk_44 (dk_at dksX3_flows_3 0 rfl rfl)
theorem dX3_flows_69 : decode cX3_flows 69 = .ok (.iload_n 3, 1) := dk_29 (dk_at dksX3_flows_3 1 rfl rfl)
theorem dX3_flows_70 : decode cX3_flows 70 = .ok (.laload, 1) := dk_47 (dk_at dksX3_flows_3 2 rfl rfl)
theorem dX3_flows_71 : decode cX3_flows 71 = .ok (.ladd, 1) := dk_97 (dk_at dksX3_flows_3 3 rfl rfl)
theorem dX3_flows_72 : decode cX3_flows 72 = .ok (.aload_n 0, 1) := dk_42 (dk_at dksX3_flows_3 4 rfl rfl)
theorem dX3_flows_73 : decode cX3_flows 73 = .ok (.getfield 15, 3) := dk_180 0 15 (dk_at dksX3_flows_3 5 rfl rfl)
theorem dX3_flows_76 : decode cX3_flows 76 = .ok (.iload_n 3, 1) := dk_29 (dk_at dksX3_flows_3 8 rfl rfl)
theorem dX3_flows_77 : decode cX3_flows 77 = .ok (.iaload, 1) := dk_46 (dk_at dksX3_flows_3 9 rfl rfl)
theorem dX3_flows_78 : decode cX3_flows 78 = .ok (.i2l, 1) := dk_133 (dk_at dksX3_flows_3 10 rfl rfl)
theorem dX3_flows_79 : decode cX3_flows 79 = .ok (.ldiv, 1) := dk_109 (dk_at dksX3_flows_3 11 rfl rfl)
theorem dX3_flows_80 : decode cX3_flows 80 = .ok (.lstore 4, 2) := dk_55 4 (dk_at dksX3_flows_3 12 rfl rfl)
theorem dX3_flows_82 : decode cX3_flows 82 = .ok (.aload_n 2, 1) := dk_44 (dk_at dksX3_flows_3 14 rfl rfl)
theorem dX3_flows_83 : decode cX3_flows 83 = .ok (.bipush 9, 2) := dk_16 9 (dk_at dksX3_flows_3 15 rfl rfl)
theorem dX3_flows_85 : decode cX3_flows 85 = .ok (.iload_n 3, 1) := dk_29 (dk_at dksX3_flows_3 17 rfl rfl)
theorem dX3_flows_86 : decode cX3_flows 86 = .ok (.iadd, 1) := dk_96 (dk_at dksX3_flows_3 18 rfl rfl)
theorem dX3_flows_87 : decode cX3_flows 87 = .ok (.lload 4, 2) := dk_22 4 (dk_at dksX3_flows_3 19 rfl rfl)
theorem dX3_flows_89 : decode cX3_flows 89 = .ok (.lastore, 1) := dk_80 (dk_at dksX3_flows_3 21 rfl rfl)
theorem dX3_flows_90 : decode cX3_flows 90 = .ok (.aload_n 0, 1) := dk_42 (dk_at dksX3_flows_3 22 rfl rfl)
theorem dX3_flows_91 : decode cX3_flows 91 = .ok (.iload_n 3, 1) := dk_29 (dk_at dksX3_flows_3 23 rfl rfl)
theorem dX3_flows_92 : decode cX3_flows 92 = .ok (.iconst 0, 1) := dk_3 (dk_at dksX3_flows_4 0 rfl rfl)
theorem dX3_flows_93 : decode cX3_flows 93 = .ok (.invokevirtual 125, 3) := dk_182 0 125 (dk_at dksX3_flows_4 1 rfl rfl)
theorem dX3_flows_96 : decode cX3_flows 96 = .ok (.iconst (-1), 1) := dk_2 (dk_at dksX3_flows_4 4 rfl rfl)
theorem dX3_flows_97 : decode cX3_flows 97 = .ok (.if_icmp .eq 38, 3) := dk_159 0 38 (dk_at dksX3_flows_4 5 rfl rfl)
theorem dX3_flows_100 : decode cX3_flows 100 = .ok (.aload_n 2, 1) := dk_44 (dk_at dksX3_flows_4 8 rfl rfl)
theorem dX3_flows_101 : decode cX3_flows 101 = .ok (.aload_n 0, 1) := dk_42 (dk_at dksX3_flows_4 9 rfl rfl)
theorem dX3_flows_102 : decode cX3_flows 102 = .ok (.iload_n 3, 1) := dk_29 (dk_at dksX3_flows_4 10 rfl rfl)
theorem dX3_flows_103 : decode cX3_flows 103 = .ok (.iconst 0, 1) := dk_3 (dk_at dksX3_flows_4 11 rfl rfl)
theorem dX3_flows_104 : decode cX3_flows 104 = .ok (.invokevirtual 125, 3) := dk_182 0 125 (dk_at dksX3_flows_4 12 rfl rfl)
theorem dX3_flows_107 : decode cX3_flows 107 = .ok (.dup2, 1) := dk_92 (dk_at dksX3_flows_4 15 rfl rfl)
theorem dX3_flows_108 : decode cX3_flows 108 = .ok (.laload, 1) := dk_47 (dk_at dksX3_flows_4 16 rfl rfl)
theorem dX3_flows_109 : decode cX3_flows 109 = .ok (.aload_n 0, 1) := dk_42 (dk_at dksX3_flows_4 17 rfl rfl)
theorem dX3_flows_110 : decode cX3_flows 110 = .ok (.getfield 28, 3) := dk_180 0 28 (dk_at dksX3_flows_4 18 rfl rfl)
theorem dX3_flows_113 : decode cX3_flows 113 = .ok (.iload_n 3, 1) := dk_29 (dk_at dksX3_flows_4 21 rfl rfl)
theorem dX3_flows_114 : decode cX3_flows 114 = .ok (.iaload, 1) := dk_46 (dk_at dksX3_flows_4 22 rfl rfl)
theorem dX3_flows_115 : decode cX3_flows 115 = .ok (.bipush (-2), 2) := dk_16 254 (dk_at dksX3_flows_5 0 rfl rfl)
theorem dX3_flows_117 : decode cX3_flows 117 = .ok (.if_icmp .ne 8, 3) := dk_160 0 8 (dk_at dksX3_flows_5 2 rfl rfl)
theorem dX3_flows_120 : decode cX3_flows 120 = .ok (.lload 4, 2) := dk_22 4 (dk_at dksX3_flows_5 5 rfl rfl)
theorem dX3_flows_122 : decode cX3_flows 122 = .ok (.goto 11, 3) := dk_167 0 11 (dk_at dksX3_flows_5 7 rfl rfl)
theorem dX3_flows_125 : decode cX3_flows 125 = .ok (.lload 4, 2) := dk_22 4 (dk_at dksX3_flows_5 10 rfl rfl)
theorem dX3_flows_127 : decode cX3_flows 127 = .ok (.lconst 1, 1) := dk_10 (dk_at dksX3_flows_5 12 rfl rfl)
theorem dX3_flows_128 : decode cX3_flows 128 = .ok (.ladd, 1) := dk_97 (dk_at dksX3_flows_5 13 rfl rfl)
theorem dX3_flows_129 : decode cX3_flows 129 = .ok (.ldc2_w 158, 3) := dk_20 0 158 (dk_at dksX3_flows_5 14 rfl rfl)
theorem dX3_flows_132 : decode cX3_flows 132 = .ok (.ldiv, 1) := dk_109 (dk_at dksX3_flows_5 17 rfl rfl)
theorem dX3_flows_133 : decode cX3_flows 133 = .ok (.ladd, 1) := dk_97 (dk_at dksX3_flows_5 18 rfl rfl)
theorem dX3_flows_134 : decode cX3_flows 134 = .ok (.lastore, 1) := dk_80 (dk_at dksX3_flows_5 19 rfl rfl)
theorem dX3_flows_135 : decode cX3_flows 135 = .ok (.aload_n 0, 1) := dk_42 (dk_at dksX3_flows_5 20 rfl rfl)
theorem dX3_flows_136 : decode cX3_flows 136 = .ok (.getfield 28, 3) := dk_180 0 28 (dk_at dksX3_flows_5 21 rfl rfl)
theorem dX3_flows_139 : decode cX3_flows 139 = .ok (.iload_n 3, 1) := dk_29 (dk_at dksX3_flows_6 0 rfl rfl)
theorem dX3_flows_140 : decode cX3_flows 140 = .ok (.iaload, 1) := dk_46 (dk_at dksX3_flows_6 1 rfl rfl)
theorem dX3_flows_141 : decode cX3_flows 141 = .ok (.bipush (-2), 2) := dk_16 254 (dk_at dksX3_flows_6 2 rfl rfl)
theorem dX3_flows_143 : decode cX3_flows 143 = .ok (.if_icmp .eq 30, 3) := dk_159 0 30 (dk_at dksX3_flows_6 4 rfl rfl)
theorem dX3_flows_146 : decode cX3_flows 146 = .ok (.aload_n 0, 1) := dk_42 (dk_at dksX3_flows_6 7 rfl rfl)
theorem dX3_flows_147 : decode cX3_flows 147 = .ok (.iload_n 3, 1) := dk_29 (dk_at dksX3_flows_6 8 rfl rfl)
theorem dX3_flows_148 : decode cX3_flows 148 = .ok (.iconst 1, 1) := dk_4 (dk_at dksX3_flows_6 9 rfl rfl)
theorem dX3_flows_149 : decode cX3_flows 149 = .ok (.invokevirtual 125, 3) := dk_182 0 125 (dk_at dksX3_flows_6 10 rfl rfl)
theorem dX3_flows_152 : decode cX3_flows 152 = .ok (.iconst (-1), 1) := dk_2 (dk_at dksX3_flows_6 13 rfl rfl)
theorem dX3_flows_153 : decode cX3_flows 153 = .ok (.if_icmp .eq 20, 3) := dk_159 0 20 (dk_at dksX3_flows_6 14 rfl rfl)
theorem dX3_flows_156 : decode cX3_flows 156 = .ok (.aload_n 2, 1) := dk_44 (dk_at dksX3_flows_6 17 rfl rfl)
theorem dX3_flows_157 : decode cX3_flows 157 = .ok (.aload_n 0, 1) := dk_42 (dk_at dksX3_flows_6 18 rfl rfl)
theorem dX3_flows_158 : decode cX3_flows 158 = .ok (.iload_n 3, 1) := dk_29 (dk_at dksX3_flows_6 19 rfl rfl)
theorem dX3_flows_159 : decode cX3_flows 159 = .ok (.iconst 1, 1) := dk_4 (dk_at dksX3_flows_6 20 rfl rfl)
theorem dX3_flows_160 : decode cX3_flows 160 = .ok (.invokevirtual 125, 3) := dk_182 0 125 (dk_at dksX3_flows_6 21 rfl rfl)
theorem dX3_flows_163 : decode cX3_flows 163 = .ok (.dup2, 1) := dk_92 (dk_at dksX3_flows_7 0 rfl rfl)
theorem dX3_flows_164 : decode cX3_flows 164 = .ok (.laload, 1) := dk_47 (dk_at dksX3_flows_7 1 rfl rfl)
theorem dX3_flows_165 : decode cX3_flows 165 = .ok (.lload 4, 2) := dk_22 4 (dk_at dksX3_flows_7 2 rfl rfl)
theorem dX3_flows_167 : decode cX3_flows 167 = .ok (.ldc2_w 158, 3) := dk_20 0 158 (dk_at dksX3_flows_7 4 rfl rfl)
theorem dX3_flows_170 : decode cX3_flows 170 = .ok (.ldiv, 1) := dk_109 (dk_at dksX3_flows_7 7 rfl rfl)
theorem dX3_flows_171 : decode cX3_flows 171 = .ok (.ladd, 1) := dk_97 (dk_at dksX3_flows_7 8 rfl rfl)
theorem dX3_flows_172 : decode cX3_flows 172 = .ok (.lastore, 1) := dk_80 (dk_at dksX3_flows_7 9 rfl rfl)
theorem dX3_flows_173 : decode cX3_flows 173 = .ok (.iinc 3 1, 3) := dk_132 3 1 (dk_at dksX3_flows_7 10 rfl rfl)
theorem dX3_flows_176 : decode cX3_flows 176 = .ok (.goto (-169), 3) := dk_167 255 87 (dk_at dksX3_flows_7 13 rfl rfl)
theorem dX3_flows_179 : decode cX3_flows 179 = .ok (.aload_n 2, 1) := dk_44 (dk_at dksX3_flows_7 16 rfl rfl)
theorem dX3_flows_180 : decode cX3_flows 180 = .ok (.areturn, 1) := dk_176 (dk_at dksX3_flows_7 17 rfl rfl)
abbrev cX3_bare : ByteArray := prog_5_method_4_code
def yX3_bare : MethodName := ⟨RX3, "bare", "()LDripCups$Night;"⟩
def dkwX3_bare_0 : List UInt8 := [42, 4, 181, 0, 54, 42, 176]
abbrev dktX3_bare_0 : List UInt8 := dkwX3_bare_0 ++ []
theorem dksX3_bare_0 : cX3_bare.data.toList.drop 0 = dktX3_bare_0 := by decide +kernel
theorem dX3_bare_0 : decode cX3_bare 0 = .ok (.aload_n 0, 1) := dk_42 (dk_at dksX3_bare_0 0 rfl rfl)
theorem dX3_bare_1 : decode cX3_bare 1 = .ok (.iconst 1, 1) := dk_4 (dk_at dksX3_bare_0 1 rfl rfl)
theorem dX3_bare_2 : decode cX3_bare 2 = .ok (.putfield 54, 3) := dk_181 0 54 (dk_at dksX3_bare_0 2 rfl rfl)
theorem dX3_bare_5 : decode cX3_bare 5 = .ok (.aload_n 0, 1) := dk_42 (dk_at dksX3_bare_0 5 rfl rfl)
theorem dX3_bare_6 : decode cX3_bare 6 = .ok (.areturn, 1) := dk_176 (dk_at dksX3_bare_0 6 rfl rfl)
abbrev cX3_fullest : ByteArray := prog_5_method_20_code
def yX3_fullest : MethodName := ⟨RX3, "fullest", "()I"⟩
def dkwX3_fullest_1 : List UInt8 := [180, 0, 19, 28, 46, 42, 180, 0, 19, 27, 46, 164, 0, 5, 28, 60, 132, 2, 1, 167, 255, 217, 27, 172]
abbrev dktX3_fullest_1 : List UInt8 := dkwX3_fullest_1 ++ []
def dkwX3_fullest_0 : List UInt8 := [2, 60, 3, 61, 28, 42, 180, 0, 3, 180, 0, 74, 182, 0, 137, 162, 0, 31, 27, 2, 159, 0, 18, 42]
abbrev dktX3_fullest_0 : List UInt8 := dkwX3_fullest_0 ++ dktX3_fullest_1
theorem dksX3_fullest_0 : cX3_fullest.data.toList.drop 0 = dktX3_fullest_0 := by decide +kernel
theorem dksX3_fullest_1 : cX3_fullest.data.toList.drop 24 = dktX3_fullest_1 := dk_seg dksX3_fullest_0 24 rfl rfl
theorem dX3_fullest_0 : decode cX3_fullest 0 = .ok (.iconst (-1), 1) := dk_2 (dk_at dksX3_fullest_0 0 rfl rfl)
theorem dX3_fullest_1 : decode cX3_fullest 1 = .ok (.istore_n 1, 1) := dk_60 (dk_at dksX3_fullest_0 1 rfl rfl)
theorem dX3_fullest_2 : decode cX3_fullest 2 = .ok (.iconst 0, 1) := dk_3 (dk_at dksX3_fullest_0 2 rfl rfl)
theorem dX3_fullest_3 : decode cX3_fullest 3 = .ok (.istore_n 2, 1) := dk_61 (dk_at dksX3_fullest_0 3 rfl rfl)
theorem dX3_fullest_4 : decode cX3_fullest 4 = .ok (.iload_n 2, 1) := dk_28 (dk_at dksX3_fullest_0 4 rfl rfl)
theorem dX3_fullest_5 : decode cX3_fullest 5 = .ok (.aload_n 0, 1) := dk_42 (dk_at dksX3_fullest_0 5 rfl rfl)
theorem dX3_fullest_6 : decode cX3_fullest 6 = .ok (.getfield 3, 3) := dk_180 0 3 (dk_at dksX3_fullest_0 6 rfl rfl)
theorem dX3_fullest_9 : decode cX3_fullest 9 = .ok (.getfield 74, 3) := dk_180 0 74 (dk_at dksX3_fullest_0 9 rfl rfl)
theorem dX3_fullest_12 : decode cX3_fullest 12 = .ok (.invokevirtual 137, 3) := dk_182 0 137 (dk_at dksX3_fullest_0 12 rfl rfl)
theorem dX3_fullest_15 : decode cX3_fullest 15 = .ok (.if_icmp .ge 31, 3) := dk_162 0 31 (dk_at dksX3_fullest_0 15 rfl rfl)
theorem dX3_fullest_18 : decode cX3_fullest 18 = .ok (.iload_n 1, 1) := dk_27 (dk_at dksX3_fullest_0 18 rfl rfl)
theorem dX3_fullest_19 : decode cX3_fullest 19 = .ok (.iconst (-1), 1) := dk_2 (dk_at dksX3_fullest_0 19 rfl rfl)
theorem dX3_fullest_20 : decode cX3_fullest 20 = .ok (.if_icmp .eq 18, 3) := dk_159 0 18 (dk_at dksX3_fullest_0 20 rfl rfl)
theorem dX3_fullest_23 : decode cX3_fullest 23 = .ok (.aload_n 0, 1) := dk_42 (dk_at dksX3_fullest_0 23 rfl rfl)
theorem dX3_fullest_24 : decode cX3_fullest 24 = .ok (.getfield 19, 3) := dk_180 0 19 (dk_at dksX3_fullest_1 0 rfl rfl)
theorem dX3_fullest_27 : decode cX3_fullest 27 = .ok (.iload_n 2, 1) := dk_28 (dk_at dksX3_fullest_1 3 rfl rfl)
theorem dX3_fullest_28 : decode cX3_fullest 28 = .ok (.iaload, 1) := dk_46 (dk_at dksX3_fullest_1 4 rfl rfl)
theorem dX3_fullest_29 : decode cX3_fullest 29 = .ok (.aload_n 0, 1) := dk_42 (dk_at dksX3_fullest_1 5 rfl rfl)
theorem dX3_fullest_30 : decode cX3_fullest 30 = .ok (.getfield 19, 3) := dk_180 0 19 (dk_at dksX3_fullest_1 6 rfl rfl)
theorem dX3_fullest_33 : decode cX3_fullest 33 = .ok (.iload_n 1, 1) := dk_27 (dk_at dksX3_fullest_1 9 rfl rfl)
theorem dX3_fullest_34 : decode cX3_fullest 34 = .ok (.iaload, 1) := dk_46 (dk_at dksX3_fullest_1 10 rfl rfl)
theorem dX3_fullest_35 : decode cX3_fullest 35 = .ok (.if_icmp .le 5, 3) := dk_164 0 5 (dk_at dksX3_fullest_1 11 rfl rfl)
theorem dX3_fullest_38 : decode cX3_fullest 38 = .ok (.iload_n 2, 1) := dk_28 (dk_at dksX3_fullest_1 14 rfl rfl)
theorem dX3_fullest_39 : decode cX3_fullest 39 = .ok (.istore_n 1, 1) := dk_60 (dk_at dksX3_fullest_1 15 rfl rfl)
theorem dX3_fullest_40 : decode cX3_fullest 40 = .ok (.iinc 2 1, 3) := dk_132 2 1 (dk_at dksX3_fullest_1 16 rfl rfl)
theorem dX3_fullest_43 : decode cX3_fullest 43 = .ok (.goto (-39), 3) := dk_167 255 217 (dk_at dksX3_fullest_1 19 rfl rfl)
theorem dX3_fullest_46 : decode cX3_fullest 46 = .ok (.iload_n 1, 1) := dk_27 (dk_at dksX3_fullest_1 22 rfl rfl)
theorem dX3_fullest_47 : decode cX3_fullest 47 = .ok (.ireturn, 1) := dk_172 (dk_at dksX3_fullest_1 23 rfl rfl)
abbrev cX3_dry : ByteArray := prog_5_method_21_code
def yX3_dry : MethodName := ⟨RX3, "dry", "()I"⟩
def dkwX3_dry_1 : List UInt8 := [154, 0, 9, 27, 4, 28, 120, 128, 60, 132, 2, 1, 167, 255, 224, 27, 172]
abbrev dktX3_dry_1 : List UInt8 := dkwX3_dry_1 ++ []
def dkwX3_dry_0 : List UInt8 := [3, 60, 3, 61, 28, 42, 180, 0, 3, 180, 0, 74, 182, 0, 137, 162, 0, 24, 42, 180, 0, 19, 28, 46]
abbrev dktX3_dry_0 : List UInt8 := dkwX3_dry_0 ++ dktX3_dry_1
theorem dksX3_dry_0 : cX3_dry.data.toList.drop 0 = dktX3_dry_0 := by decide +kernel
theorem dksX3_dry_1 : cX3_dry.data.toList.drop 24 = dktX3_dry_1 := dk_seg dksX3_dry_0 24 rfl rfl
theorem dX3_dry_0 : decode cX3_dry 0 = .ok (.iconst 0, 1) := dk_3 (dk_at dksX3_dry_0 0 rfl rfl)
theorem dX3_dry_1 : decode cX3_dry 1 = .ok (.istore_n 1, 1) := dk_60 (dk_at dksX3_dry_0 1 rfl rfl)
theorem dX3_dry_2 : decode cX3_dry 2 = .ok (.iconst 0, 1) := dk_3 (dk_at dksX3_dry_0 2 rfl rfl)
theorem dX3_dry_3 : decode cX3_dry 3 = .ok (.istore_n 2, 1) := dk_61 (dk_at dksX3_dry_0 3 rfl rfl)
theorem dX3_dry_4 : decode cX3_dry 4 = .ok (.iload_n 2, 1) := dk_28 (dk_at dksX3_dry_0 4 rfl rfl)
theorem dX3_dry_5 : decode cX3_dry 5 = .ok (.aload_n 0, 1) := dk_42 (dk_at dksX3_dry_0 5 rfl rfl)
theorem dX3_dry_6 : decode cX3_dry 6 = .ok (.getfield 3, 3) := dk_180 0 3 (dk_at dksX3_dry_0 6 rfl rfl)
theorem dX3_dry_9 : decode cX3_dry 9 = .ok (.getfield 74, 3) := dk_180 0 74 (dk_at dksX3_dry_0 9 rfl rfl)
theorem dX3_dry_12 : decode cX3_dry 12 = .ok (.invokevirtual 137, 3) := dk_182 0 137 (dk_at dksX3_dry_0 12 rfl rfl)
theorem dX3_dry_15 : decode cX3_dry 15 = .ok (.if_icmp .ge 24, 3) := dk_162 0 24 (dk_at dksX3_dry_0 15 rfl rfl)
theorem dX3_dry_18 : decode cX3_dry 18 = .ok (.aload_n 0, 1) := dk_42 (dk_at dksX3_dry_0 18 rfl rfl)
theorem dX3_dry_19 : decode cX3_dry 19 = .ok (.getfield 19, 3) := dk_180 0 19 (dk_at dksX3_dry_0 19 rfl rfl)
theorem dX3_dry_22 : decode cX3_dry 22 = .ok (.iload_n 2, 1) := dk_28 (dk_at dksX3_dry_0 22 rfl rfl)
theorem dX3_dry_23 : decode cX3_dry 23 = .ok (.iaload, 1) := dk_46 (dk_at dksX3_dry_0 23 rfl rfl)
theorem dX3_dry_24 : decode cX3_dry 24 = .ok (.ifCond .ne 9, 3) := dk_154 0 9 (dk_at dksX3_dry_1 0 rfl rfl)
theorem dX3_dry_27 : decode cX3_dry 27 = .ok (.iload_n 1, 1) := dk_27 (dk_at dksX3_dry_1 3 rfl rfl)
theorem dX3_dry_28 : decode cX3_dry 28 = .ok (.iconst 1, 1) := dk_4 (dk_at dksX3_dry_1 4 rfl rfl)
theorem dX3_dry_29 : decode cX3_dry 29 = .ok (.iload_n 2, 1) := dk_28 (dk_at dksX3_dry_1 5 rfl rfl)
theorem dX3_dry_30 : decode cX3_dry 30 = .ok (.ishl, 1) := dk_120 (dk_at dksX3_dry_1 6 rfl rfl)
theorem dX3_dry_31 : decode cX3_dry 31 = .ok (.ior, 1) := dk_128 (dk_at dksX3_dry_1 7 rfl rfl)
theorem dX3_dry_32 : decode cX3_dry 32 = .ok (.istore_n 1, 1) := dk_60 (dk_at dksX3_dry_1 8 rfl rfl)
theorem dX3_dry_33 : decode cX3_dry 33 = .ok (.iinc 2 1, 3) := dk_132 2 1 (dk_at dksX3_dry_1 9 rfl rfl)
theorem dX3_dry_36 : decode cX3_dry 36 = .ok (.goto (-32), 3) := dk_167 255 224 (dk_at dksX3_dry_1 12 rfl rfl)
theorem dX3_dry_39 : decode cX3_dry 39 = .ok (.iload_n 1, 1) := dk_27 (dk_at dksX3_dry_1 15 rfl rfl)
theorem dX3_dry_40 : decode cX3_dry 40 = .ok (.ireturn, 1) := dk_172 (dk_at dksX3_dry_1 16 rfl rfl)
theorem q120 : (Jvm.Cond.initialized "DripCups$Night") ∈ lw_all := lw_g (lw_at lw_m1 6 rfl) rfl
theorem q190 : (Jvm.Cond.fieldLinkNest "DripCups$Night" (78 : Nat) "DripCups$Cave" "springs" "Ljava/util/List;" "DripCups") ∈ lw_tbl := lw_at lw_m1 76 rfl
theorem q193 : (Jvm.Cond.fieldLinkNest "DripCups$Night" (128 : Nat) "DripCups$Cave" "leaks" "LDripCups$Form;" "DripCups") ∈ lw_tbl := lw_at lw_m1 79 rfl
theorem q195 : (Jvm.Cond.fieldLinkNest "DripCups$Night" (106 : Nat) "DripCups$Cave" "frost" "LDripCups$Form;" "DripCups") ∈ lw_tbl := lw_at lw_m1 81 rfl
theorem q205 : (Jvm.Cond.instantiable "DripCups$Night" (16 : Nat)) ∈ lw_all := lw_g (lw_at lw_m1 91 rfl) rfl
theorem q207 : (Jvm.Cond.instanceMethod ({ cls := "DripCups$Night", name := "<init>", desc := "(LDripCups;)V" } : Jvm.MethodName)) ∈ lw_all := lw_g (lw_at lw_m1 93 rfl) rfl
theorem q208 : (Jvm.Cond.code ({ cls := "DripCups$Night", name := "<init>", desc := "(LDripCups;)V" } : Jvm.MethodName) prog_5_method_1_code (3 : Nat) (Option.none : Option Jvm.ClassFile.FieldType)) ∈ lw_all := lw_g (lw_at lw_m1 94 rfl) rfl
theorem q209 : (Jvm.Cond.methodLink "DripCups$Night" (9 : Nat) ({ cls := "java/lang/Object", name := "<init>", desc := "()V" } : Jvm.MethodName)) ∈ lw_all := lw_g (lw_at lw_m1 95 rfl) rfl
theorem q210 : (Jvm.Cond.fieldLink "DripCups$Night" (15 : Nat) "DripCups$Night" "holds" "[I") ∈ lw_all := lw_g (lw_at lw_m1 96 rfl) rfl
theorem q213 : (Jvm.Cond.fieldLink "DripCups$Night" (19 : Nat) "DripCups$Night" "fill" "[I") ∈ lw_all := lw_g (lw_at lw_m1 99 rfl) rfl
theorem q216 : (Jvm.Cond.fieldLink "DripCups$Night" (22 : Nat) "DripCups$Night" "tips" "[I") ∈ lw_all := lw_g (lw_at lw_m1 102 rfl) rfl
theorem q218 : (Jvm.Cond.fieldLink "DripCups$Night" (25 : Nat) "DripCups$Night" "one" "[I") ∈ lw_all := lw_g (lw_at lw_m1 104 rfl) rfl
theorem q221 : (Jvm.Cond.fieldLink "DripCups$Night" (28 : Nat) "DripCups$Night" "two" "[I") ∈ lw_all := lw_g (lw_at lw_m1 107 rfl) rfl
theorem q224 : (Jvm.Cond.fieldLink "DripCups$Night" (31 : Nat) "DripCups$Night" "turn" "[I") ∈ lw_all := lw_g (lw_at lw_m1 110 rfl) rfl
theorem q225 : (Jvm.Cond.fieldLink "DripCups$Night" (47 : Nat) "DripCups$Night" "hour" "I") ∈ lw_all := lw_g (lw_at lw_m1 111 rfl) rfl
theorem q227 : (Jvm.Cond.fieldLink "DripCups$Night" (51 : Nat) "DripCups$Night" "plugged" "I") ∈ lw_all := lw_g (lw_at lw_m1 113 rfl) rfl
theorem q229 : (Jvm.Cond.fieldLink "DripCups$Night" (54 : Nat) "DripCups$Night" "bare" "Z") ∈ lw_all := lw_g (lw_at lw_m1 115 rfl) rfl
theorem q230 : (Jvm.Cond.fieldLink "DripCups$Night" (58 : Nat) "DripCups$Night" "warm" "Z") ∈ lw_all := lw_g (lw_at lw_m1 116 rfl) rfl
theorem q232 : (Jvm.Cond.fieldLink "DripCups$Night" (61 : Nat) "DripCups$Night" "rests" "Z") ∈ lw_all := lw_g (lw_at lw_m1 118 rfl) rfl
theorem q234 : (Jvm.Cond.fieldLink "DripCups$Night" (34 : Nat) "DripCups$Night" "coming" "[I") ∈ lw_all := lw_g (lw_at lw_m1 120 rfl) rfl
theorem q235 : (Jvm.Cond.fieldLink "DripCups$Night" (37 : Nat) "DripCups$Night" "often" "[I") ∈ lw_all := lw_g (lw_at lw_m1 121 rfl) rfl
theorem q237 : (Jvm.Cond.fieldLink "DripCups$Night" (134 : Nat) "DripCups$Night" "tipped" "I") ∈ lw_all := lw_g (lw_at lw_m1 123 rfl) rfl
theorem q239 : (Jvm.Cond.fieldLink "DripCups$Night" (64 : Nat) "DripCups$Night" "lost" "I") ∈ lw_all := lw_g (lw_at lw_m1 125 rfl) rfl
theorem q241 : (Jvm.Cond.fieldLink "DripCups$Night" (3 : Nat) "DripCups$Night" "this$0" "LDripCups;") ∈ lw_all := lw_g (lw_at lw_m1 127 rfl) rfl
theorem q242 : (Jvm.Cond.laysFinal "DripCups$Night" "DripCups$Night" "holds" "[I") ∈ lw_all := lw_g (lw_at lw_m1 128 rfl) rfl
theorem q243 : (Jvm.Cond.soleField "DripCups$Night" "holds") ∈ lw_all := lw_g (lw_at lw_m1 129 rfl) rfl
theorem q244 : (Jvm.Cond.laysFinal "DripCups$Night" "DripCups$Night" "fill" "[I") ∈ lw_all := lw_g (lw_at lw_m1 130 rfl) rfl
theorem q245 : (Jvm.Cond.soleField "DripCups$Night" "fill") ∈ lw_all := lw_g (lw_at lw_m1 131 rfl) rfl
theorem q246 : (Jvm.Cond.laysFinal "DripCups$Night" "DripCups$Night" "tips" "[I") ∈ lw_all := lw_g (lw_at lw_m1 132 rfl) rfl
theorem q247 : (Jvm.Cond.soleField "DripCups$Night" "tips") ∈ lw_all := lw_g (lw_at lw_m1 133 rfl) rfl
theorem q248 : (Jvm.Cond.laysFinal "DripCups$Night" "DripCups$Night" "one" "[I") ∈ lw_all := lw_g (lw_at lw_m1 134 rfl) rfl
theorem q249 : (Jvm.Cond.soleField "DripCups$Night" "one") ∈ lw_all := lw_g (lw_at lw_m1 135 rfl) rfl
theorem q250 : (Jvm.Cond.laysFinal "DripCups$Night" "DripCups$Night" "two" "[I") ∈ lw_all := lw_g (lw_at lw_m1 136 rfl) rfl
theorem q251 : (Jvm.Cond.soleField "DripCups$Night" "two") ∈ lw_all := lw_g (lw_at lw_m1 137 rfl) rfl
theorem q252 : (Jvm.Cond.laysFinal "DripCups$Night" "DripCups$Night" "turn" "[I") ∈ lw_all := lw_g (lw_at lw_m1 138 rfl) rfl
theorem q253 : (Jvm.Cond.soleField "DripCups$Night" "turn") ∈ lw_all := lw_g (lw_at lw_m1 139 rfl) rfl
theorem q254 : (Jvm.Cond.lays "DripCups$Night" "DripCups$Night" "hour" "I") ∈ lw_all := lw_g (lw_at lw_m1 140 rfl) rfl
theorem q255 : (Jvm.Cond.soleField "DripCups$Night" "hour") ∈ lw_all := lw_g (lw_at lw_m1 141 rfl) rfl
theorem q256 : (Jvm.Cond.lays "DripCups$Night" "DripCups$Night" "plugged" "I") ∈ lw_all := lw_g (lw_at lw_m1 142 rfl) rfl
theorem q257 : (Jvm.Cond.soleField "DripCups$Night" "plugged") ∈ lw_all := lw_g (lw_at lw_m1 143 rfl) rfl
theorem q258 : (Jvm.Cond.lays "DripCups$Night" "DripCups$Night" "bare" "Z") ∈ lw_all := lw_g (lw_at lw_m1 144 rfl) rfl
theorem q259 : (Jvm.Cond.soleField "DripCups$Night" "bare") ∈ lw_all := lw_g (lw_at lw_m1 145 rfl) rfl
theorem q260 : (Jvm.Cond.lays "DripCups$Night" "DripCups$Night" "warm" "Z") ∈ lw_all := lw_g (lw_at lw_m1 146 rfl) rfl
theorem q261 : (Jvm.Cond.soleField "DripCups$Night" "warm") ∈ lw_all := lw_g (lw_at lw_m1 147 rfl) rfl
theorem q262 : (Jvm.Cond.lays "DripCups$Night" "DripCups$Night" "rests" "Z") ∈ lw_all := lw_g (lw_at lw_m1 148 rfl) rfl
theorem q263 : (Jvm.Cond.soleField "DripCups$Night" "rests") ∈ lw_all := lw_g (lw_at lw_m1 149 rfl) rfl
theorem q264 : (Jvm.Cond.laysFinal "DripCups$Night" "DripCups$Night" "coming" "[I") ∈ lw_all := lw_g (lw_at lw_m1 150 rfl) rfl
theorem q265 : (Jvm.Cond.soleField "DripCups$Night" "coming") ∈ lw_all := lw_g (lw_at lw_m1 151 rfl) rfl
theorem q266 : (Jvm.Cond.laysFinal "DripCups$Night" "DripCups$Night" "often" "[I") ∈ lw_all := lw_g (lw_at lw_m1 152 rfl) rfl
theorem q267 : (Jvm.Cond.soleField "DripCups$Night" "often") ∈ lw_all := lw_g (lw_at lw_m1 153 rfl) rfl
theorem q268 : (Jvm.Cond.lays "DripCups$Night" "DripCups$Night" "tipped" "I") ∈ lw_all := lw_g (lw_at lw_m1 154 rfl) rfl
theorem q269 : (Jvm.Cond.soleField "DripCups$Night" "tipped") ∈ lw_all := lw_g (lw_at lw_m1 155 rfl) rfl
theorem q270 : (Jvm.Cond.lays "DripCups$Night" "DripCups$Night" "lost" "I") ∈ lw_all := lw_g (lw_at lw_m1 156 rfl) rfl
theorem q271 : (Jvm.Cond.soleField "DripCups$Night" "lost") ∈ lw_all := lw_g (lw_at lw_m1 157 rfl) rfl
theorem q272 : (Jvm.Cond.laysFinal "DripCups$Night" "DripCups$Night" "this$0" "LDripCups;") ∈ lw_all := lw_g (lw_at lw_m1 158 rfl) rfl
theorem q273 : (Jvm.Cond.soleField "DripCups$Night" "this$0") ∈ lw_all := lw_g (lw_at lw_m1 159 rfl) rfl
theorem q274 : (Jvm.Cond.superclass "DripCups$Night" "java/lang/Object") ∈ lw_all := lw_g (lw_at lw_m1 160 rfl) rfl
theorem q278 : (Jvm.Cond.fieldLinkNest "DripCups$Night" (71 : Nat) "DripCups" "values" "[I" "DripCups") ∈ lw_tbl := lw_at lw_m1 164 rfl
theorem q280 : (Jvm.Cond.fieldLinkNest "DripCups$Night" (74 : Nat) "DripCups" "cavern" "LDripCups$Cave;" "DripCups") ∈ lw_tbl := lw_at lw_m1 166 rfl
theorem q348 : (Jvm.Cond.instanceMethod ({ cls := "DripCups$Night", name := "copy", desc := "()LDripCups$Night;" } : Jvm.MethodName)) ∈ lw_all := lw_g (lw_at lw_m1 234 rfl) rfl
theorem q349 : (Jvm.Cond.selects "DripCups$Night" ({ cls := "DripCups$Night", name := "copy", desc := "()LDripCups$Night;" } : Jvm.MethodName) ({ cls := "DripCups$Night", name := "copy", desc := "()LDripCups$Night;" } : Jvm.MethodName)) ∈ lw_all := lw_g (lw_at lw_m1 235 rfl) rfl
theorem q350 : (Jvm.Cond.code ({ cls := "DripCups$Night", name := "copy", desc := "()LDripCups$Night;" } : Jvm.MethodName) prog_5_method_2_code (1 : Nat) (Option.some (Jvm.ClassFile.FieldType.object "DripCups$Night"))) ∈ lw_all := lw_g (lw_at lw_m1 236 rfl) rfl
theorem q351 : (Jvm.Cond.classLink "DripCups$Night" (4 : Nat) "DripCups$Night") ∈ lw_all := lw_g (lw_at lw_m1 237 rfl) rfl
theorem q352 : (Jvm.Cond.methodLink "DripCups$Night" (40 : Nat) ({ cls := "DripCups$Night", name := "<init>", desc := "(LDripCups;)V" } : Jvm.MethodName)) ∈ lw_all := lw_g (lw_at lw_m1 238 rfl) rfl
theorem q353 : (Jvm.Cond.methodLink "DripCups$Night" (43 : Nat) ({ cls := "DripCups$Night", name := "be", desc := "(LDripCups$Night;)LDripCups$Night;" } : Jvm.MethodName)) ∈ lw_all := lw_g (lw_at lw_m1 239 rfl) rfl
theorem q354 : (Jvm.Cond.instanceMethod ({ cls := "DripCups$Night", name := "be", desc := "(LDripCups$Night;)LDripCups$Night;" } : Jvm.MethodName)) ∈ lw_all := lw_g (lw_at lw_m2 0 rfl) rfl
theorem q355 : (Jvm.Cond.selects "DripCups$Night" ({ cls := "DripCups$Night", name := "be", desc := "(LDripCups$Night;)LDripCups$Night;" } : Jvm.MethodName) ({ cls := "DripCups$Night", name := "be", desc := "(LDripCups$Night;)LDripCups$Night;" } : Jvm.MethodName)) ∈ lw_all := lw_g (lw_at lw_m2 1 rfl) rfl
theorem q356 : (Jvm.Cond.code ({ cls := "DripCups$Night", name := "be", desc := "(LDripCups$Night;)LDripCups$Night;" } : Jvm.MethodName) prog_5_method_3_code (3 : Nat) (Option.some (Jvm.ClassFile.FieldType.object "DripCups$Night"))) ∈ lw_all := lw_g (lw_at lw_m2 2 rfl) rfl
theorem q398 : (Jvm.Cond.selects "DripCups$Night" ({ cls := "java/lang/Object", name := "getClass", desc := "()Ljava/lang/Class;" } : Jvm.MethodName) ({ cls := "java/lang/Object", name := "getClass", desc := "()Ljava/lang/Class;" } : Jvm.MethodName)) ∈ lw_all := lw_g (lw_at lw_m2 44 rfl) rfl
theorem q455 : (Jvm.Cond.instanceMethod ({ cls := "DripCups$Night", name := "after", desc := "(I)LDripCups$Night;" } : Jvm.MethodName)) ∈ lw_all := lw_g (lw_at lw_m2 101 rfl) rfl
theorem q456 : (Jvm.Cond.selects "DripCups$Night" ({ cls := "DripCups$Night", name := "after", desc := "(I)LDripCups$Night;" } : Jvm.MethodName) ({ cls := "DripCups$Night", name := "after", desc := "(I)LDripCups$Night;" } : Jvm.MethodName)) ∈ lw_all := lw_g (lw_at lw_m2 102 rfl) rfl
theorem q457 : (Jvm.Cond.code ({ cls := "DripCups$Night", name := "after", desc := "(I)LDripCups$Night;" } : Jvm.MethodName) prog_5_method_13_code (3 : Nat) (Option.some (Jvm.ClassFile.FieldType.object "DripCups$Night"))) ∈ lw_all := lw_g (lw_at lw_m2 103 rfl) rfl
theorem q458 : (Jvm.Cond.methodLink "DripCups$Night" (149 : Nat) ({ cls := "DripCups$Night", name := "pass", desc := "()LDripCups$Night;" } : Jvm.MethodName)) ∈ lw_all := lw_g (lw_at lw_m2 104 rfl) rfl
theorem q459 : (Jvm.Cond.instanceMethod ({ cls := "DripCups$Night", name := "pass", desc := "()LDripCups$Night;" } : Jvm.MethodName)) ∈ lw_all := lw_g (lw_at lw_m2 105 rfl) rfl
theorem q460 : (Jvm.Cond.selects "DripCups$Night" ({ cls := "DripCups$Night", name := "pass", desc := "()LDripCups$Night;" } : Jvm.MethodName) ({ cls := "DripCups$Night", name := "pass", desc := "()LDripCups$Night;" } : Jvm.MethodName)) ∈ lw_all := lw_g (lw_at lw_m2 106 rfl) rfl
theorem q461 : (Jvm.Cond.code ({ cls := "DripCups$Night", name := "pass", desc := "()LDripCups$Night;" } : Jvm.MethodName) prog_5_method_12_code (3 : Nat) (Option.some (Jvm.ClassFile.FieldType.object "DripCups$Night"))) ∈ lw_all := lw_g (lw_at lw_m2 107 rfl) rfl
theorem q462 : (Jvm.Cond.methodLink "DripCups$Night" (137 : Nat) ({ cls := "DripCups$Cave", name := "cups", desc := "()I" } : Jvm.MethodName)) ∈ lw_all := lw_g (lw_at lw_m2 108 rfl) rfl
theorem q468 : (Jvm.Cond.methodLink "DripCups$Night" (140 : Nat) ({ cls := "DripCups$Night", name := "runs", desc := "(I)I" } : Jvm.MethodName)) ∈ lw_all := lw_g (lw_at lw_m2 114 rfl) rfl
theorem q469 : (Jvm.Cond.privateMethod ({ cls := "DripCups$Night", name := "runs", desc := "(I)I" } : Jvm.MethodName)) ∈ lw_tbl := lw_at lw_m2 115 rfl
theorem q470 : (Jvm.Cond.instanceMethod ({ cls := "DripCups$Night", name := "runs", desc := "(I)I" } : Jvm.MethodName)) ∈ lw_all := lw_g (lw_at lw_m2 116 rfl) rfl
theorem q471 : (Jvm.Cond.code ({ cls := "DripCups$Night", name := "runs", desc := "(I)I" } : Jvm.MethodName) prog_5_method_8_code (3 : Nat) (Option.some Jvm.ClassFile.FieldType.int)) ∈ lw_all := lw_g (lw_at lw_m2 117 rfl) rfl
theorem q472 : (Jvm.Cond.methodLink "DripCups$Night" (102 : Nat) ({ cls := "DripCups$Night", name := "isPlugged", desc := "(I)Z" } : Jvm.MethodName)) ∈ lw_all := lw_g (lw_at lw_m2 118 rfl) rfl
theorem q473 : (Jvm.Cond.instanceMethod ({ cls := "DripCups$Night", name := "isPlugged", desc := "(I)Z" } : Jvm.MethodName)) ∈ lw_all := lw_g (lw_at lw_m2 119 rfl) rfl
theorem q474 : (Jvm.Cond.selects "DripCups$Night" ({ cls := "DripCups$Night", name := "isPlugged", desc := "(I)Z" } : Jvm.MethodName) ({ cls := "DripCups$Night", name := "isPlugged", desc := "(I)Z" } : Jvm.MethodName)) ∈ lw_all := lw_g (lw_at lw_m2 120 rfl) rfl
theorem q475 : (Jvm.Cond.code ({ cls := "DripCups$Night", name := "isPlugged", desc := "(I)Z" } : Jvm.MethodName) prog_5_method_5_code (2 : Nat) (Option.some Jvm.ClassFile.FieldType.boolean)) ∈ lw_all := lw_g (lw_at lw_m2 121 rfl) rfl
theorem q476 : (Jvm.Cond.methodLinkNest "DripCups$Night" (67 : Nat) ({ cls := "DripCups", name := "isOf", desc := "(II)Z" } : Jvm.MethodName) "DripCups") ∈ lw_tbl := lw_at lw_m2 122 rfl
theorem q479 : (Jvm.Cond.methodLink "DripCups$Night" (110 : Nat) ({ cls := "DripCups$Night", name := "asked", desc := "(LDripCups$Form;I)I" } : Jvm.MethodName)) ∈ lw_all := lw_g (lw_at lw_m2 125 rfl) rfl
theorem q480 : (Jvm.Cond.privateMethod ({ cls := "DripCups$Night", name := "asked", desc := "(LDripCups$Form;I)I" } : Jvm.MethodName)) ∈ lw_tbl := lw_at lw_m2 126 rfl
theorem q481 : (Jvm.Cond.instanceMethod ({ cls := "DripCups$Night", name := "asked", desc := "(LDripCups$Form;I)I" } : Jvm.MethodName)) ∈ lw_all := lw_g (lw_at lw_m2 127 rfl) rfl
theorem q482 : (Jvm.Cond.code ({ cls := "DripCups$Night", name := "asked", desc := "(LDripCups$Form;I)I" } : Jvm.MethodName) prog_5_method_7_code (3 : Nat) (Option.some Jvm.ClassFile.FieldType.int)) ∈ lw_all := lw_g (lw_at lw_m2 128 rfl) rfl
theorem q483 : (Jvm.Cond.interfaceEntry "DripCups$Night" (84 : Nat)) ∈ lw_tbl := lw_at lw_m2 129 rfl
theorem q484 : (Jvm.Cond.methodLink "DripCups$Night" (84 : Nat) ({ cls := "java/util/List", name := "get", desc := "(I)Ljava/lang/Object;" } : Jvm.MethodName)) ∈ lw_all := lw_g (lw_at lw_m2 130 rfl) rfl
theorem q496 : (Jvm.Cond.classLink "DripCups$Night" (90 : Nat) "java/lang/Integer") ∈ lw_all := lw_g (lw_at lw_m2 142 rfl) rfl
theorem q497 : (Jvm.Cond.methodLink "DripCups$Night" (92 : Nat) ({ cls := "java/lang/Integer", name := "intValue", desc := "()I" } : Jvm.MethodName)) ∈ lw_all := lw_g (lw_at lw_m2 143 rfl) rfl
theorem q501 : (Jvm.Cond.interfaceEntry "DripCups$Night" (96 : Nat)) ∈ lw_tbl := lw_at lw_m2 147 rfl
theorem q502 : (Jvm.Cond.methodLink "DripCups$Night" (96 : Nat) ({ cls := "DripCups$Form", name := "of", desc := "([I)I" } : Jvm.MethodName)) ∈ lw_all := lw_g (lw_at lw_m2 148 rfl) rfl
theorem q568 : (Jvm.Cond.methodLink "DripCups$Night" (144 : Nat) ({ cls := "DripCups$Night", name := "settle", desc := "(I)I" } : Jvm.MethodName)) ∈ lw_all := lw_g (lw_at lw_m2 214 rfl) rfl
theorem q569 : (Jvm.Cond.privateMethod ({ cls := "DripCups$Night", name := "settle", desc := "(I)I" } : Jvm.MethodName)) ∈ lw_tbl := lw_at lw_m2 215 rfl
theorem q570 : (Jvm.Cond.instanceMethod ({ cls := "DripCups$Night", name := "settle", desc := "(I)I" } : Jvm.MethodName)) ∈ lw_all := lw_g (lw_at lw_m2 216 rfl) rfl
theorem q571 : (Jvm.Cond.code ({ cls := "DripCups$Night", name := "settle", desc := "(I)I" } : Jvm.MethodName) prog_5_method_10_code (3 : Nat) (Option.some Jvm.ClassFile.FieldType.int)) ∈ lw_all := lw_g (lw_at lw_m2 217 rfl) rfl
theorem q572 : (Jvm.Cond.constant "DripCups$Night" (114 : Nat) (1000000000 : Int32)) ∈ lw_all := lw_g (lw_at lw_m2 218 rfl) rfl
theorem q573 : (Jvm.Cond.methodLink "DripCups$Night" (115 : Nat) ({ cls := "java/lang/Math", name := "min", desc := "(II)I" } : Jvm.MethodName)) ∈ lw_all := lw_g (lw_at lw_m2 219 rfl) rfl
theorem q574 : (Jvm.Cond.methodLink "DripCups$Night" (121 : Nat) ({ cls := "DripCups$Night", name := "drop", desc := "(II)V" } : Jvm.MethodName)) ∈ lw_all := lw_g (lw_at lw_m2 220 rfl) rfl
theorem q575 : (Jvm.Cond.privateMethod ({ cls := "DripCups$Night", name := "drop", desc := "(II)V" } : Jvm.MethodName)) ∈ lw_tbl := lw_at lw_m2 221 rfl
theorem q576 : (Jvm.Cond.instanceMethod ({ cls := "DripCups$Night", name := "drop", desc := "(II)V" } : Jvm.MethodName)) ∈ lw_all := lw_g (lw_at lw_m2 222 rfl) rfl
theorem q577 : (Jvm.Cond.code ({ cls := "DripCups$Night", name := "drop", desc := "(II)V" } : Jvm.MethodName) prog_5_method_9_code (3 : Nat) (Option.none : Option Jvm.ClassFile.FieldType)) ∈ lw_all := lw_g (lw_at lw_m2 223 rfl) rfl
theorem q578 : (Jvm.Cond.methodLink "DripCups$Night" (125 : Nat) ({ cls := "DripCups$Night", name := "into", desc := "(II)I" } : Jvm.MethodName)) ∈ lw_all := lw_g (lw_at lw_m2 224 rfl) rfl
theorem q579 : (Jvm.Cond.instanceMethod ({ cls := "DripCups$Night", name := "into", desc := "(II)I" } : Jvm.MethodName)) ∈ lw_all := lw_g (lw_at lw_m2 225 rfl) rfl
theorem q580 : (Jvm.Cond.selects "DripCups$Night" ({ cls := "DripCups$Night", name := "into", desc := "(II)I" } : Jvm.MethodName) ({ cls := "DripCups$Night", name := "into", desc := "(II)I" } : Jvm.MethodName)) ∈ lw_all := lw_g (lw_at lw_m2 226 rfl) rfl
theorem q581 : (Jvm.Cond.code ({ cls := "DripCups$Night", name := "into", desc := "(II)I" } : Jvm.MethodName) prog_5_method_6_code (3 : Nat) (Option.some Jvm.ClassFile.FieldType.int)) ∈ lw_all := lw_g (lw_at lw_m2 227 rfl) rfl
theorem q582 : (Jvm.Cond.methodLink "DripCups$Night" (147 : Nat) ({ cls := "DripCups$Night", name := "leaks", desc := "(I)I" } : Jvm.MethodName)) ∈ lw_all := lw_g (lw_at lw_m2 228 rfl) rfl
theorem q583 : (Jvm.Cond.privateMethod ({ cls := "DripCups$Night", name := "leaks", desc := "(I)I" } : Jvm.MethodName)) ∈ lw_tbl := lw_at lw_m2 229 rfl
theorem q584 : (Jvm.Cond.instanceMethod ({ cls := "DripCups$Night", name := "leaks", desc := "(I)I" } : Jvm.MethodName)) ∈ lw_all := lw_g (lw_at lw_m2 230 rfl) rfl
theorem q585 : (Jvm.Cond.code ({ cls := "DripCups$Night", name := "leaks", desc := "(I)I" } : Jvm.MethodName) prog_5_method_11_code (2 : Nat) (Option.some Jvm.ClassFile.FieldType.int)) ∈ lw_all := lw_g (lw_at lw_m2 231 rfl) rfl
theorem q586 : (Jvm.Cond.methodLink "DripCups$Night" (131 : Nat) ({ cls := "java/lang/Math", name := "max", desc := "(II)I" } : Jvm.MethodName)) ∈ lw_all := lw_g (lw_at lw_m2 232 rfl) rfl
theorem q611 : (Jvm.Cond.instanceMethod ({ cls := "DripCups$Night", name := "isAsFull", desc := "(LDripCups$Night;)Z" } : Jvm.MethodName)) ∈ lw_all := lw_g (lw_at lw_m3 17 rfl) rfl
theorem q612 : (Jvm.Cond.selects "DripCups$Night" ({ cls := "DripCups$Night", name := "isAsFull", desc := "(LDripCups$Night;)Z" } : Jvm.MethodName) ({ cls := "DripCups$Night", name := "isAsFull", desc := "(LDripCups$Night;)Z" } : Jvm.MethodName)) ∈ lw_all := lw_g (lw_at lw_m3 18 rfl) rfl
theorem q613 : (Jvm.Cond.code ({ cls := "DripCups$Night", name := "isAsFull", desc := "(LDripCups$Night;)Z" } : Jvm.MethodName) prog_5_method_22_code (4 : Nat) (Option.some Jvm.ClassFile.FieldType.boolean)) ∈ lw_all := lw_g (lw_at lw_m3 19 rfl) rfl
theorem q1174 : (Jvm.Cond.instanceMethod ({ cls := "DripCups$Night", name := "allFill", desc := "()I" } : Jvm.MethodName)) ∈ lw_all := lw_g (lw_at lw_m5 100 rfl) rfl
theorem q1175 : (Jvm.Cond.selects "DripCups$Night" ({ cls := "DripCups$Night", name := "allFill", desc := "()I" } : Jvm.MethodName) ({ cls := "DripCups$Night", name := "allFill", desc := "()I" } : Jvm.MethodName)) ∈ lw_all := lw_g (lw_at lw_m5 101 rfl) rfl
theorem q1176 : (Jvm.Cond.code ({ cls := "DripCups$Night", name := "allFill", desc := "()I" } : Jvm.MethodName) prog_5_method_18_code (3 : Nat) (Option.some Jvm.ClassFile.FieldType.int)) ∈ lw_all := lw_g (lw_at lw_m5 102 rfl) rfl
theorem q1178 : (Jvm.Cond.instanceMethod ({ cls := "DripCups$Night", name := "allTips", desc := "()I" } : Jvm.MethodName)) ∈ lw_all := lw_g (lw_at lw_m5 104 rfl) rfl
theorem q1179 : (Jvm.Cond.selects "DripCups$Night" ({ cls := "DripCups$Night", name := "allTips", desc := "()I" } : Jvm.MethodName) ({ cls := "DripCups$Night", name := "allTips", desc := "()I" } : Jvm.MethodName)) ∈ lw_all := lw_g (lw_at lw_m5 105 rfl) rfl
theorem q1180 : (Jvm.Cond.code ({ cls := "DripCups$Night", name := "allTips", desc := "()I" } : Jvm.MethodName) prog_5_method_19_code (4 : Nat) (Option.some Jvm.ClassFile.FieldType.int)) ∈ lw_all := lw_g (lw_at lw_m5 106 rfl) rfl
theorem q1181 : (Jvm.Cond.constantLong "DripCups$Night" (153 : Nat) (1000000000 : Int64)) ∈ lw_all := lw_g (lw_at lw_m5 107 rfl) rfl
theorem q1182 : (Jvm.Cond.methodLink "DripCups$Night" (155 : Nat) ({ cls := "java/lang/Math", name := "min", desc := "(JJ)J" } : Jvm.MethodName)) ∈ lw_all := lw_g (lw_at lw_m5 108 rfl) rfl
theorem q1259 : (Jvm.Cond.instanceMethod ({ cls := "DripCups$Night", name := "isLed", desc := "(II)Z" } : Jvm.MethodName)) ∈ lw_all := lw_g (lw_at lw_m5 185 rfl) rfl
theorem q1260 : (Jvm.Cond.selects "DripCups$Night" ({ cls := "DripCups$Night", name := "isLed", desc := "(II)Z" } : Jvm.MethodName) ({ cls := "DripCups$Night", name := "isLed", desc := "(II)Z" } : Jvm.MethodName)) ∈ lw_all := lw_g (lw_at lw_m5 186 rfl) rfl
theorem q1261 : (Jvm.Cond.code ({ cls := "DripCups$Night", name := "isLed", desc := "(II)Z" } : Jvm.MethodName) prog_5_method_17_code (3 : Nat) (Option.some Jvm.ClassFile.FieldType.boolean)) ∈ lw_all := lw_g (lw_at lw_m5 187 rfl) rfl
theorem q1267 : (Jvm.Cond.instanceMethod ({ cls := "DripCups$Night", name := "lead", desc := "(II)V" } : Jvm.MethodName)) ∈ lw_all := lw_g (lw_at lw_m5 193 rfl) rfl
theorem q1268 : (Jvm.Cond.selects "DripCups$Night" ({ cls := "DripCups$Night", name := "lead", desc := "(II)V" } : Jvm.MethodName) ({ cls := "DripCups$Night", name := "lead", desc := "(II)V" } : Jvm.MethodName)) ∈ lw_all := lw_g (lw_at lw_m5 194 rfl) rfl
theorem q1269 : (Jvm.Cond.code ({ cls := "DripCups$Night", name := "lead", desc := "(II)V" } : Jvm.MethodName) prog_5_method_16_code (3 : Nat) (Option.none : Option Jvm.ClassFile.FieldType)) ∈ lw_all := lw_g (lw_at lw_m5 195 rfl) rfl
theorem q1285 : (Jvm.Cond.instanceMethod ({ cls := "DripCups$Night", name := "pour", desc := "(II)I" } : Jvm.MethodName)) ∈ lw_all := lw_g (lw_at lw_m5 211 rfl) rfl
theorem q1286 : (Jvm.Cond.selects "DripCups$Night" ({ cls := "DripCups$Night", name := "pour", desc := "(II)I" } : Jvm.MethodName) ({ cls := "DripCups$Night", name := "pour", desc := "(II)I" } : Jvm.MethodName)) ∈ lw_all := lw_g (lw_at lw_m5 212 rfl) rfl
theorem q1287 : (Jvm.Cond.code ({ cls := "DripCups$Night", name := "pour", desc := "(II)I" } : Jvm.MethodName) prog_5_method_14_code (6 : Nat) (Option.some Jvm.ClassFile.FieldType.int)) ∈ lw_all := lw_g (lw_at lw_m5 213 rfl) rfl
theorem q1296 : (Jvm.Cond.instanceMethod ({ cls := "DripCups$Night", name := "crack", desc := "(II)V" } : Jvm.MethodName)) ∈ lw_all := lw_g (lw_at lw_m5 222 rfl) rfl
theorem q1297 : (Jvm.Cond.selects "DripCups$Night" ({ cls := "DripCups$Night", name := "crack", desc := "(II)V" } : Jvm.MethodName) ({ cls := "DripCups$Night", name := "crack", desc := "(II)V" } : Jvm.MethodName)) ∈ lw_all := lw_g (lw_at lw_m5 223 rfl) rfl
theorem q1298 : (Jvm.Cond.code ({ cls := "DripCups$Night", name := "crack", desc := "(II)V" } : Jvm.MethodName) prog_5_method_15_code (3 : Nat) (Option.none : Option Jvm.ClassFile.FieldType)) ∈ lw_all := lw_g (lw_at lw_m5 224 rfl) rfl
theorem q1368 : (Jvm.Cond.instanceMethod ({ cls := "DripCups$Night", name := "flows", desc := "(I)[J" } : Jvm.MethodName)) ∈ lw_all := lw_g (lw_at lw_m6 54 rfl) rfl
theorem q1369 : (Jvm.Cond.selects "DripCups$Night" ({ cls := "DripCups$Night", name := "flows", desc := "(I)[J" } : Jvm.MethodName) ({ cls := "DripCups$Night", name := "flows", desc := "(I)[J" } : Jvm.MethodName)) ∈ lw_all := lw_g (lw_at lw_m6 55 rfl) rfl
theorem q1370 : (Jvm.Cond.code ({ cls := "DripCups$Night", name := "flows", desc := "(I)[J" } : Jvm.MethodName) prog_5_method_23_code (6 : Nat) (Option.some (Jvm.ClassFile.FieldType.array Jvm.ClassFile.FieldType.long))) ∈ lw_all := lw_g (lw_at lw_m6 56 rfl) rfl
theorem q1371 : (Jvm.Cond.constantLong "DripCups$Night" (158 : Nat) (2 : Int64)) ∈ lw_all := lw_g (lw_at lw_m6 57 rfl) rfl
theorem q1390 : (Jvm.Cond.instanceMethod ({ cls := "DripCups$Night", name := "bare", desc := "()LDripCups$Night;" } : Jvm.MethodName)) ∈ lw_all := lw_g (lw_at lw_m6 76 rfl) rfl
theorem q1391 : (Jvm.Cond.selects "DripCups$Night" ({ cls := "DripCups$Night", name := "bare", desc := "()LDripCups$Night;" } : Jvm.MethodName) ({ cls := "DripCups$Night", name := "bare", desc := "()LDripCups$Night;" } : Jvm.MethodName)) ∈ lw_all := lw_g (lw_at lw_m6 77 rfl) rfl
theorem q1392 : (Jvm.Cond.code ({ cls := "DripCups$Night", name := "bare", desc := "()LDripCups$Night;" } : Jvm.MethodName) prog_5_method_4_code (1 : Nat) (Option.some (Jvm.ClassFile.FieldType.object "DripCups$Night"))) ∈ lw_all := lw_g (lw_at lw_m6 78 rfl) rfl
theorem q1508 : (Jvm.Cond.instanceMethod ({ cls := "DripCups$Night", name := "fullest", desc := "()I" } : Jvm.MethodName)) ∈ lw_all := lw_g (lw_at lw_m6 194 rfl) rfl
theorem q1509 : (Jvm.Cond.selects "DripCups$Night" ({ cls := "DripCups$Night", name := "fullest", desc := "()I" } : Jvm.MethodName) ({ cls := "DripCups$Night", name := "fullest", desc := "()I" } : Jvm.MethodName)) ∈ lw_all := lw_g (lw_at lw_m6 195 rfl) rfl
theorem q1510 : (Jvm.Cond.code ({ cls := "DripCups$Night", name := "fullest", desc := "()I" } : Jvm.MethodName) prog_5_method_20_code (3 : Nat) (Option.some Jvm.ClassFile.FieldType.int)) ∈ lw_all := lw_g (lw_at lw_m6 196 rfl) rfl
theorem q1512 : (Jvm.Cond.instanceMethod ({ cls := "DripCups$Night", name := "dry", desc := "()I" } : Jvm.MethodName)) ∈ lw_all := lw_g (lw_at lw_m6 198 rfl) rfl
theorem q1513 : (Jvm.Cond.selects "DripCups$Night" ({ cls := "DripCups$Night", name := "dry", desc := "()I" } : Jvm.MethodName) ({ cls := "DripCups$Night", name := "dry", desc := "()I" } : Jvm.MethodName)) ∈ lw_all := lw_g (lw_at lw_m6 199 rfl) rfl
theorem q1514 : (Jvm.Cond.code ({ cls := "DripCups$Night", name := "dry", desc := "()I" } : Jvm.MethodName) prog_5_method_21_code (3 : Nat) (Option.some Jvm.ClassFile.FieldType.int)) ∈ lw_all := lw_g (lw_at lw_m6 200 rfl) rfl
theorem q2233 : (Jvm.Cond.castable "DripCups$Night" "java/lang/Object") ∈ lw_tbl := lw_at lw_m9 199 rfl
theorem in_X3 : ∀ w ∈ wsX30, w ∈ lw_all := lw_in wsX30 [242, 244, 246, 248, 250, 252, 254, 256, 258, 260, 262, 264, 266, 268, 270, 272] (by decide +kernel) (by decide +kernel)
/-! DripCups$Reader -/
set_option maxRecDepth 100000
def RX5 : String := "DripCups$Reader"
def TX5 : u_T := fun k => match k with
  | 0 => ("DripCups$Reader", "size", "I", true)
  | 1 => ("DripCups$Reader", "made", "LDripCups$Cave;", true)
  | 2 => ("DripCups$Reader", "begun", "LDripCups$Night;", true)
  | 3 => ("DripCups$Reader", "once", "[Ljava/lang/String;", true)
  | 4 => ("DripCups$Reader", "names", "[Ljava/lang/String;", true)
  | 5 => ("DripCups$Reader", "at", "I", false)
  | 6 => ("DripCups$Reader", "token", "I", false)
  | 7 => ("DripCups$Reader", "begins", "I", false)
  | 8 => ("DripCups$Reader", "ends", "I", false)
  | 9 => ("DripCups$Reader", "number", "I", false)
  | 10 => ("DripCups$Reader", "done", "I", false)
  | 11 => ("DripCups$Reader", "piped", "I", false)
  | _ => ("DripCups$Reader", "this$0", "LDripCups;", true)
def tyX5 : Nat → FieldType := fun k => match k with
  | 0 => .int
  | 1 => .object "DripCups$Cave"
  | 2 => .object "DripCups$Night"
  | 3 => .array (.object "java/lang/String")
  | 4 => .array (.object "java/lang/String")
  | 5 => .int
  | 6 => .int
  | 7 => .int
  | 8 => .int
  | 9 => .int
  | 10 => .int
  | 11 => .int
  | _ => .object "DripCups"
abbrev wsX50 : List Cond := u_ws RX5 TX5 13
set_option maxRecDepth 100000 in
theorem nmX5 : ∀ a, a < 13 → ∀ b, b < 13 → a ≠ b → (TX5 a).2.1 ≠ (TX5 b).2.1 := by decide +kernel
set_option maxRecDepth 100000 in
theorem tyX5_ok : ∀ k, k < 13 → parseFieldDescriptor (TX5 k).2.2.1 = some (tyX5 k) := by decide +kernel
abbrev cX5_init : ByteArray := prog_8_method_1_code
def yX5_init : MethodName := ⟨RX5, "<init>", "(LDripCups;I)V"⟩
def dkwX5_init_4 : List UInt8 := [181, 0, 56, 177]
abbrev dktX5_init_4 : List UInt8 := dkwX5_init_4 ++ []
def dkwX5_init_3 : List UInt8 := [18, 45, 83, 89, 6, 18, 47, 83, 89, 7, 18, 49, 83, 89, 8, 18, 51, 83, 181, 0, 53, 42, 28]
abbrev dktX5_init_3 : List UInt8 := dkwX5_init_3 ++ dktX5_init_4
def dkwX5_init_2 : List UInt8 := [18, 35, 83, 181, 0, 37, 42, 16, 6, 189, 0, 31, 89, 3, 18, 41, 83, 89, 4, 18, 43, 83, 89, 5]
abbrev dktX5_init_2 : List UInt8 := dkwX5_init_2 ++ dktX5_init_3
def dkwX5_init_1 : List UInt8 := [89, 42, 180, 0, 3, 183, 0, 24, 181, 0, 27, 42, 5, 189, 0, 31, 89, 3, 18, 33, 83, 89, 4]
abbrev dktX5_init_1 : List UInt8 := dkwX5_init_1 ++ dktX5_init_2
def dkwX5_init_0 : List UInt8 := [42, 43, 181, 0, 3, 42, 183, 0, 9, 42, 187, 0, 15, 89, 183, 0, 17, 181, 0, 18, 42, 187, 0, 22]
abbrev dktX5_init_0 : List UInt8 := dkwX5_init_0 ++ dktX5_init_1
theorem dksX5_init_0 : cX5_init.data.toList.drop 0 = dktX5_init_0 := by decide +kernel
theorem dksX5_init_1 : cX5_init.data.toList.drop 24 = dktX5_init_1 := dk_seg dksX5_init_0 24 rfl rfl
theorem dksX5_init_2 : cX5_init.data.toList.drop 47 = dktX5_init_2 := dk_seg dksX5_init_1 23 rfl rfl
theorem dksX5_init_3 : cX5_init.data.toList.drop 71 = dktX5_init_3 := dk_seg dksX5_init_2 24 rfl rfl
theorem dksX5_init_4 : cX5_init.data.toList.drop 94 = dktX5_init_4 := dk_seg dksX5_init_3 23 rfl rfl
theorem dX5_init_0 : decode cX5_init 0 = .ok (.aload_n 0, 1) := dk_42 (dk_at dksX5_init_0 0 rfl rfl)
theorem dX5_init_1 : decode cX5_init 1 = .ok (.aload_n 1, 1) := dk_43 (dk_at dksX5_init_0 1 rfl rfl)
theorem dX5_init_2 : decode cX5_init 2 = .ok (.putfield 3, 3) := dk_181 0 3 (dk_at dksX5_init_0 2 rfl rfl)
theorem dX5_init_5 : decode cX5_init 5 = .ok (.aload_n 0, 1) := dk_42 (dk_at dksX5_init_0 5 rfl rfl)
theorem dX5_init_6 : decode cX5_init 6 = .ok (.invokespecial 9, 3) := dk_183 0 9 (dk_at dksX5_init_0 6 rfl rfl)
theorem dX5_init_9 : decode cX5_init 9 = .ok (.aload_n 0, 1) := dk_42 (dk_at dksX5_init_0 9 rfl rfl)
theorem dX5_init_10 : decode cX5_init 10 = .ok (.new 15, 3) := dk_187 0 15 (dk_at dksX5_init_0 10 rfl rfl)
theorem dX5_init_13 : decode cX5_init 13 = .ok (.dup, 1) := dk_89 (dk_at dksX5_init_0 13 rfl rfl)
theorem dX5_init_14 : decode cX5_init 14 = .ok (.invokespecial 17, 3) := dk_183 0 17 (dk_at dksX5_init_0 14 rfl rfl)
theorem dX5_init_17 : decode cX5_init 17 = .ok (.putfield 18, 3) := dk_181 0 18 (dk_at dksX5_init_0 17 rfl rfl)
theorem dX5_init_20 : decode cX5_init 20 = .ok (.aload_n 0, 1) := dk_42 (dk_at dksX5_init_0 20 rfl rfl)
theorem dX5_init_21 : decode cX5_init 21 = .ok (.new 22, 3) := dk_187 0 22 (dk_at dksX5_init_0 21 rfl rfl)
theorem dX5_init_24 : decode cX5_init 24 = .ok (.dup, 1) := dk_89 (dk_at dksX5_init_1 0 rfl rfl)
theorem dX5_init_25 : decode cX5_init 25 = .ok (.aload_n 0, 1) := dk_42 (dk_at dksX5_init_1 1 rfl rfl)
theorem dX5_init_26 : decode cX5_init 26 = .ok (.getfield 3, 3) := dk_180 0 3 (dk_at dksX5_init_1 2 rfl rfl)
theorem dX5_init_29 : decode cX5_init 29 = .ok (.invokespecial 24, 3) := dk_183 0 24 (dk_at dksX5_init_1 5 rfl rfl)
theorem dX5_init_32 : decode cX5_init 32 = .ok (.putfield 27, 3) := dk_181 0 27 (dk_at dksX5_init_1 8 rfl rfl)
theorem dX5_init_35 : decode cX5_init 35 = .ok (.aload_n 0, 1) := dk_42 (dk_at dksX5_init_1 11 rfl rfl)
theorem dX5_init_36 : decode cX5_init 36 = .ok (.iconst 2, 1) := dk_5 (dk_at dksX5_init_1 12 rfl rfl)
theorem dX5_init_37 : decode cX5_init 37 = .ok (.anewarray 31, 3) := dk_189 0 31 (dk_at dksX5_init_1 13 rfl rfl)
theorem dX5_init_40 : decode cX5_init 40 = .ok (.dup, 1) := dk_89 (dk_at dksX5_init_1 16 rfl rfl)
theorem dX5_init_41 : decode cX5_init 41 = .ok (.iconst 0, 1) := dk_3 (dk_at dksX5_init_1 17 rfl rfl)
theorem dX5_init_42 : decode cX5_init 42 = .ok (.ldc 33, 2) := dk_18 33 (dk_at dksX5_init_1 18 rfl rfl)
theorem dX5_init_44 : decode cX5_init 44 = .ok (.aastore, 1) := dk_83 (dk_at dksX5_init_1 20 rfl rfl)
theorem dX5_init_45 : decode cX5_init 45 = .ok (.dup, 1) := dk_89 (dk_at dksX5_init_1 21 rfl rfl)
theorem dX5_init_46 : decode cX5_init 46 = .ok (.iconst 1, 1) := dk_4 (dk_at dksX5_init_1 22 rfl rfl)
theorem dX5_init_47 : decode cX5_init 47 = .ok (.ldc 35, 2) := dk_18 35 (dk_at dksX5_init_2 0 rfl rfl)
theorem dX5_init_49 : decode cX5_init 49 = .ok (.aastore, 1) := dk_83 (dk_at dksX5_init_2 2 rfl rfl)
theorem dX5_init_50 : decode cX5_init 50 = .ok (.putfield 37, 3) := dk_181 0 37 (dk_at dksX5_init_2 3 rfl rfl)
theorem dX5_init_53 : decode cX5_init 53 = .ok (.aload_n 0, 1) := dk_42 (dk_at dksX5_init_2 6 rfl rfl)
theorem dX5_init_54 : decode cX5_init 54 = .ok (.bipush 6, 2) := dk_16 6 (dk_at dksX5_init_2 7 rfl rfl)
theorem dX5_init_56 : decode cX5_init 56 = .ok (.anewarray 31, 3) := dk_189 0 31 (dk_at dksX5_init_2 9 rfl rfl)
theorem dX5_init_59 : decode cX5_init 59 = .ok (.dup, 1) := dk_89 (dk_at dksX5_init_2 12 rfl rfl)
theorem dX5_init_60 : decode cX5_init 60 = .ok (.iconst 0, 1) := dk_3 (dk_at dksX5_init_2 13 rfl rfl)
theorem dX5_init_61 : decode cX5_init 61 = .ok (.ldc 41, 2) := dk_18 41 (dk_at dksX5_init_2 14 rfl rfl)
theorem dX5_init_63 : decode cX5_init 63 = .ok (.aastore, 1) := dk_83 (dk_at dksX5_init_2 16 rfl rfl)
theorem dX5_init_64 : decode cX5_init 64 = .ok (.dup, 1) := dk_89 (dk_at dksX5_init_2 17 rfl rfl)
theorem dX5_init_65 : decode cX5_init 65 = .ok (.iconst 1, 1) := dk_4 (dk_at dksX5_init_2 18 rfl rfl)
theorem dX5_init_66 : decode cX5_init 66 = .ok (.ldc 43, 2) := dk_18 43 (dk_at dksX5_init_2 19 rfl rfl)
theorem dX5_init_68 : decode cX5_init 68 = .ok (.aastore, 1) := dk_83 (dk_at dksX5_init_2 21 rfl rfl)
theorem dX5_init_69 : decode cX5_init 69 = .ok (.dup, 1) := dk_89 (dk_at dksX5_init_2 22 rfl rfl)
theorem dX5_init_70 : decode cX5_init 70 = .ok (.iconst 2, 1) := dk_5 (dk_at dksX5_init_2 23 rfl rfl)
theorem dX5_init_71 : decode cX5_init 71 = .ok (.ldc 45, 2) := dk_18 45 (dk_at dksX5_init_3 0 rfl rfl)
theorem dX5_init_73 : decode cX5_init 73 = .ok (.aastore, 1) := dk_83 (dk_at dksX5_init_3 2 rfl rfl)
theorem dX5_init_74 : decode cX5_init 74 = .ok (.dup, 1) := dk_89 (dk_at dksX5_init_3 3 rfl rfl)
theorem dX5_init_75 : decode cX5_init 75 = .ok (.iconst 3, 1) := dk_6 (dk_at dksX5_init_3 4 rfl rfl)
theorem dX5_init_76 : decode cX5_init 76 = .ok (.ldc 47, 2) := dk_18 47 (dk_at dksX5_init_3 5 rfl rfl)
theorem dX5_init_78 : decode cX5_init 78 = .ok (.aastore, 1) := dk_83 (dk_at dksX5_init_3 7 rfl rfl)
theorem dX5_init_79 : decode cX5_init 79 = .ok (.dup, 1) := dk_89 (dk_at dksX5_init_3 8 rfl rfl)
theorem dX5_init_80 : decode cX5_init 80 = .ok (.iconst 4, 1) := dk_7 (dk_at dksX5_init_3 9 rfl rfl)
theorem dX5_init_81 : decode cX5_init 81 = .ok (.ldc 49, 2) := dk_18 49 (dk_at dksX5_init_3 10 rfl rfl)
theorem dX5_init_83 : decode cX5_init 83 = .ok (.aastore, 1) := dk_83 (dk_at dksX5_init_3 12 rfl rfl)
theorem dX5_init_84 : decode cX5_init 84 = .ok (.dup, 1) := dk_89 (dk_at dksX5_init_3 13 rfl rfl)
theorem dX5_init_85 : decode cX5_init 85 = .ok (.iconst 5, 1) := dk_8 (dk_at dksX5_init_3 14 rfl rfl)
theorem dX5_init_86 : decode cX5_init 86 = .ok (.ldc 51, 2) := dk_18 51 (dk_at dksX5_init_3 15 rfl rfl)
theorem dX5_init_88 : decode cX5_init 88 = .ok (.aastore, 1) := dk_83 (dk_at dksX5_init_3 17 rfl rfl)
theorem dX5_init_89 : decode cX5_init 89 = .ok (.putfield 53, 3) := dk_181 0 53 (dk_at dksX5_init_3 18 rfl rfl)
theorem dX5_init_92 : decode cX5_init 92 = .ok (.aload_n 0, 1) := dk_42 (dk_at dksX5_init_3 21 rfl rfl)
theorem dX5_init_93 : decode cX5_init 93 = .ok (.iload_n 2, 1) := dk_28 (dk_at dksX5_init_3 22 rfl rfl)
theorem dX5_init_94 : decode cX5_init 94 = .ok (.putfield 56, 3) := dk_181 0 56 (dk_at dksX5_init_4 0 rfl rfl)
theorem dX5_init_97 : decode cX5_init 97 = .ok (.return_, 1) := dk_177 (dk_at dksX5_init_4 3 rfl rfl)
abbrev cX5_read : ByteArray := prog_8_method_25_code
def yX5_read : MethodName := ⟨RX5, "read", "()LDripCups$Cave;"⟩
def dkwX5_read_0 : List UInt8 := [42, 182, 0, 118, 42, 180, 0, 78, 153, 0, 10, 42, 182, 0, 251, 167, 255, 245, 42, 180, 0, 18, 176]
abbrev dktX5_read_0 : List UInt8 := dkwX5_read_0 ++ []
theorem dksX5_read_0 : cX5_read.data.toList.drop 0 = dktX5_read_0 := by decide +kernel
theorem dX5_read_0 : decode cX5_read 0 = .ok (.aload_n 0, 1) := dk_42 (dk_at dksX5_read_0 0 rfl rfl)
theorem dX5_read_1 : decode cX5_read 1 = .ok (.invokevirtual 118, 3) := dk_182 0 118 (dk_at dksX5_read_0 1 rfl rfl)
theorem dX5_read_4 : decode cX5_read 4 = .ok (.aload_n 0, 1) := dk_42 (dk_at dksX5_read_0 4 rfl rfl)
theorem dX5_read_5 : decode cX5_read 5 = .ok (.getfield 78, 3) := dk_180 0 78 (dk_at dksX5_read_0 5 rfl rfl)
theorem dX5_read_8 : decode cX5_read 8 = .ok (.ifCond .eq 10, 3) := dk_153 0 10 (dk_at dksX5_read_0 8 rfl rfl)
theorem dX5_read_11 : decode cX5_read 11 = .ok (.aload_n 0, 1) := dk_42 (dk_at dksX5_read_0 11 rfl rfl)
theorem dX5_read_12 : decode cX5_read 12 = .ok (.invokevirtual 251, 3) := dk_182 0 251 (dk_at dksX5_read_0 12 rfl rfl)
theorem dX5_read_15 : decode cX5_read 15 = .ok (.goto (-11), 3) := dk_167 255 245 (dk_at dksX5_read_0 15 rfl rfl)
theorem dX5_read_18 : decode cX5_read 18 = .ok (.aload_n 0, 1) := dk_42 (dk_at dksX5_read_0 18 rfl rfl)
theorem dX5_read_19 : decode cX5_read 19 = .ok (.getfield 18, 3) := dk_180 0 18 (dk_at dksX5_read_0 19 rfl rfl)
theorem dX5_read_22 : decode cX5_read 22 = .ok (.areturn, 1) := dk_176 (dk_at dksX5_read_0 22 rfl rfl)
abbrev cX5_next : ByteArray := prog_8_method_5_code
def yX5_next : MethodName := ⟨RX5, "next", "()V"⟩
def dkwX5_next_8 : List UInt8 := [180, 0, 60, 181, 0, 104, 177]
abbrev dktX5_next_8 : List UInt8 := dkwX5_next_8 ++ []
def dkwX5_next_7 : List UInt8 := [155, 0, 7, 6, 167, 0, 4, 7, 181, 0, 78, 42, 89, 180, 0, 60, 4, 96, 181, 0, 60, 42, 42]
abbrev dktX5_next_7 : List UInt8 := dkwX5_next_7 ++ dktX5_next_8
def dkwX5_next_6 : List UInt8 := [181, 0, 60, 167, 255, 215, 42, 5, 181, 0, 78, 167, 0, 34, 42, 18, 98, 42, 182, 0, 67, 182, 0, 100]
abbrev dktX5_next_6 : List UInt8 := dkwX5_next_6 ++ dktX5_next_7
def dkwX5_next_5 : List UInt8 := [104, 42, 182, 0, 67, 96, 16, 48, 100, 184, 0, 92, 181, 0, 88, 42, 89, 180, 0, 60, 4, 96]
abbrev dktX5_next_5 : List UInt8 := dkwX5_next_5 ++ dktX5_next_6
def dkwX5_next_4 : List UInt8 := [153, 0, 60, 42, 3, 181, 0, 88, 42, 182, 0, 85, 153, 0, 40, 42, 18, 91, 16, 10, 42, 180, 0, 88]
abbrev dktX5_next_4 : List UInt8 := dkwX5_next_4 ++ dktX5_next_5
def dkwX5_next_3 : List UInt8 := [180, 0, 60, 4, 96, 181, 0, 60, 167, 255, 239, 42, 4, 181, 0, 78, 167, 0, 98, 42, 182, 0, 85]
abbrev dktX5_next_3 : List UInt8 := dkwX5_next_3 ++ dktX5_next_4
def dkwX5_next_2 : List UInt8 := [3, 181, 0, 78, 167, 0, 133, 42, 182, 0, 81, 153, 0, 31, 42, 182, 0, 81, 153, 0, 16, 42, 89]
abbrev dktX5_next_2 : List UInt8 := dkwX5_next_2 ++ dktX5_next_3
def dkwX5_next_1 : List UInt8 := [96, 181, 0, 60, 167, 255, 228, 42, 42, 180, 0, 60, 181, 0, 75, 42, 182, 0, 67, 2, 160, 0, 11, 42]
abbrev dktX5_next_1 : List UInt8 := dkwX5_next_1 ++ dktX5_next_2
def dkwX5_next_0 : List UInt8 := [42, 182, 0, 67, 16, 32, 159, 0, 12, 42, 182, 0, 67, 16, 10, 160, 0, 16, 42, 89, 180, 0, 60, 4]
abbrev dktX5_next_0 : List UInt8 := dkwX5_next_0 ++ dktX5_next_1
theorem dksX5_next_0 : cX5_next.data.toList.drop 0 = dktX5_next_0 := by decide +kernel
theorem dksX5_next_1 : cX5_next.data.toList.drop 24 = dktX5_next_1 := dk_seg dksX5_next_0 24 rfl rfl
theorem dksX5_next_2 : cX5_next.data.toList.drop 48 = dktX5_next_2 := dk_seg dksX5_next_1 24 rfl rfl
theorem dksX5_next_3 : cX5_next.data.toList.drop 71 = dktX5_next_3 := dk_seg dksX5_next_2 23 rfl rfl
theorem dksX5_next_4 : cX5_next.data.toList.drop 94 = dktX5_next_4 := dk_seg dksX5_next_3 23 rfl rfl
theorem dksX5_next_5 : cX5_next.data.toList.drop 118 = dktX5_next_5 := dk_seg dksX5_next_4 24 rfl rfl
theorem dksX5_next_6 : cX5_next.data.toList.drop 140 = dktX5_next_6 := dk_seg dksX5_next_5 22 rfl rfl
theorem dksX5_next_7 : cX5_next.data.toList.drop 164 = dktX5_next_7 := dk_seg dksX5_next_6 24 rfl rfl
theorem dksX5_next_8 : cX5_next.data.toList.drop 187 = dktX5_next_8 := dk_seg dksX5_next_7 23 rfl rfl
theorem dX5_next_0 : decode cX5_next 0 = .ok (.aload_n 0, 1) := dk_42 (dk_at dksX5_next_0 0 rfl rfl)
theorem dX5_next_1 : decode cX5_next 1 = .ok (.invokevirtual 67, 3) := dk_182 0 67 (dk_at dksX5_next_0 1 rfl rfl)
theorem dX5_next_4 : decode cX5_next 4 = .ok (.bipush 32, 2) := dk_16 32 (dk_at dksX5_next_0 4 rfl rfl)
theorem dX5_next_6 : decode cX5_next 6 = .ok (.if_icmp .eq 12, 3) := dk_159 0 12 (dk_at dksX5_next_0 6 rfl rfl)
theorem dX5_next_9 : decode cX5_next 9 = .ok (.aload_n 0, 1) := dk_42 (dk_at dksX5_next_0 9 rfl rfl)
theorem dX5_next_10 : decode cX5_next 10 = .ok (.invokevirtual 67, 3) := dk_182 0 67 (dk_at dksX5_next_0 10 rfl rfl)
theorem dX5_next_13 : decode cX5_next 13 = .ok (.bipush 10, 2) := dk_16 10 (dk_at dksX5_next_0 13 rfl rfl)
theorem dX5_next_15 : decode cX5_next 15 = .ok (.if_icmp .ne 16, 3) := dk_160 0 16 (dk_at dksX5_next_0 15 rfl rfl)
theorem dX5_next_18 : decode cX5_next 18 = .ok (.aload_n 0, 1) := dk_42 (dk_at dksX5_next_0 18 rfl rfl)
theorem dX5_next_19 : decode cX5_next 19 = .ok (.dup, 1) := dk_89 (dk_at dksX5_next_0 19 rfl rfl)
theorem dX5_next_20 : decode cX5_next 20 = .ok (.getfield 60, 3) := dk_180 0 60 (dk_at dksX5_next_0 20 rfl rfl)
theorem dX5_next_23 : decode cX5_next 23 = .ok (.iconst 1, 1) := dk_4 (dk_at dksX5_next_0 23 rfl rfl)
theorem dX5_next_24 : decode cX5_next 24 = .ok (.iadd, 1) := dk_96 (dk_at dksX5_next_1 0 rfl rfl)
theorem dX5_next_25 : decode cX5_next 25 = .ok (.putfield 60, 3) := dk_181 0 60 (dk_at dksX5_next_1 1 rfl rfl)
theorem dX5_next_28 : decode cX5_next 28 = .ok (.goto (-28), 3) := dk_167 255 228 (dk_at dksX5_next_1 4 rfl rfl)
theorem dX5_next_31 : decode cX5_next 31 = .ok (.aload_n 0, 1) := dk_42 (dk_at dksX5_next_1 7 rfl rfl)
theorem dX5_next_32 : decode cX5_next 32 = .ok (.aload_n 0, 1) := dk_42 (dk_at dksX5_next_1 8 rfl rfl)
theorem dX5_next_33 : decode cX5_next 33 = .ok (.getfield 60, 3) := dk_180 0 60 (dk_at dksX5_next_1 9 rfl rfl)
theorem dX5_next_36 : decode cX5_next 36 = .ok (.putfield 75, 3) := dk_181 0 75 (dk_at dksX5_next_1 12 rfl rfl)
theorem dX5_next_39 : decode cX5_next 39 = .ok (.aload_n 0, 1) := dk_42 (dk_at dksX5_next_1 15 rfl rfl)
theorem dX5_next_40 : decode cX5_next 40 = .ok (.invokevirtual 67, 3) := dk_182 0 67 (dk_at dksX5_next_1 16 rfl rfl)
theorem dX5_next_43 : decode cX5_next 43 = .ok (.iconst (-1), 1) := dk_2 (dk_at dksX5_next_1 19 rfl rfl)
theorem dX5_next_44 : decode cX5_next 44 = .ok (.if_icmp .ne 11, 3) := dk_160 0 11 (dk_at dksX5_next_1 20 rfl rfl)
theorem dX5_next_47 : decode cX5_next 47 = .ok (.aload_n 0, 1) := dk_42 (dk_at dksX5_next_1 23 rfl rfl)
theorem dX5_next_48 : decode cX5_next 48 = .ok (.iconst 0, 1) := dk_3 (dk_at dksX5_next_2 0 rfl rfl)
theorem dX5_next_49 : decode cX5_next 49 = .ok (.putfield 78, 3) := dk_181 0 78 (dk_at dksX5_next_2 1 rfl rfl)
theorem dX5_next_52 : decode cX5_next 52 = .ok (.goto 133, 3) := dk_167 0 133 (dk_at dksX5_next_2 4 rfl rfl)
theorem dX5_next_55 : decode cX5_next 55 = .ok (.aload_n 0, 1) := dk_42 (dk_at dksX5_next_2 7 rfl rfl)
theorem dX5_next_56 : decode cX5_next 56 = .ok (.invokevirtual 81, 3) := dk_182 0 81 (dk_at dksX5_next_2 8 rfl rfl)
theorem dX5_next_59 : decode cX5_next 59 = .ok (.ifCond .eq 31, 3) := dk_153 0 31 (dk_at dksX5_next_2 11 rfl rfl)
theorem dX5_next_62 : decode cX5_next 62 = .ok (.aload_n 0, 1) := dk_42 (dk_at dksX5_next_2 14 rfl rfl)
theorem dX5_next_63 : decode cX5_next 63 = .ok (.invokevirtual 81, 3) := dk_182 0 81 (dk_at dksX5_next_2 15 rfl rfl)
theorem dX5_next_66 : decode cX5_next 66 = .ok (.ifCond .eq 16, 3) := dk_153 0 16 (dk_at dksX5_next_2 18 rfl rfl)
theorem dX5_next_69 : decode cX5_next 69 = .ok (.aload_n 0, 1) := dk_42 (dk_at dksX5_next_2 21 rfl rfl)
theorem dX5_next_70 : decode cX5_next 70 = .ok (.dup, 1) := dk_89 (dk_at dksX5_next_2 22 rfl rfl)
theorem dX5_next_71 : decode cX5_next 71 = .ok (.getfield 60, 3) := dk_180 0 60 (dk_at dksX5_next_3 0 rfl rfl)
theorem dX5_next_74 : decode cX5_next 74 = .ok (.iconst 1, 1) := dk_4 (dk_at dksX5_next_3 3 rfl rfl)
theorem dX5_next_75 : decode cX5_next 75 = .ok (.iadd, 1) := dk_96 (dk_at dksX5_next_3 4 rfl rfl)
theorem dX5_next_76 : decode cX5_next 76 = .ok (.putfield 60, 3) := dk_181 0 60 (dk_at dksX5_next_3 5 rfl rfl)
theorem dX5_next_79 : decode cX5_next 79 = .ok (.goto (-17), 3) := dk_167 255 239 (dk_at dksX5_next_3 8 rfl rfl)
theorem dX5_next_82 : decode cX5_next 82 = .ok (.aload_n 0, 1) := dk_42 (dk_at dksX5_next_3 11 rfl rfl)
theorem dX5_next_83 : decode cX5_next 83 = .ok (.iconst 1, 1) := dk_4 (dk_at dksX5_next_3 12 rfl rfl)
theorem dX5_next_84 : decode cX5_next 84 = .ok (.putfield 78, 3) := dk_181 0 78 (dk_at dksX5_next_3 13 rfl rfl)
theorem dX5_next_87 : decode cX5_next 87 = .ok (.goto 98, 3) := dk_167 0 98 (dk_at dksX5_next_3 16 rfl rfl)
theorem dX5_next_90 : decode cX5_next 90 = .ok (.aload_n 0, 1) := dk_42 (dk_at dksX5_next_3 19 rfl rfl)
theorem dX5_next_91 : decode cX5_next 91 = .ok (.invokevirtual 85, 3) := dk_182 0 85 (dk_at dksX5_next_3 20 rfl rfl)
theorem dX5_next_94 : decode cX5_next 94 = .ok (.ifCond .eq 60, 3) := dk_153 0 60 (dk_at dksX5_next_4 0 rfl rfl)
theorem dX5_next_97 : decode cX5_next 97 = .ok (.aload_n 0, 1) := dk_42 (dk_at dksX5_next_4 3 rfl rfl)
theorem dX5_next_98 : decode cX5_next 98 = .ok (.iconst 0, 1) := dk_3 (dk_at dksX5_next_4 4 rfl rfl)
theorem dX5_next_99 : decode cX5_next 99 = .ok (.putfield 88, 3) := dk_181 0 88 (dk_at dksX5_next_4 5 rfl rfl)
theorem dX5_next_102 : decode cX5_next 102 = .ok (.aload_n 0, 1) := dk_42 (dk_at dksX5_next_4 8 rfl rfl)
theorem dX5_next_103 : decode cX5_next 103 = .ok (.invokevirtual 85, 3) := dk_182 0 85 (dk_at dksX5_next_4 9 rfl rfl)
theorem dX5_next_106 : decode cX5_next 106 = .ok (.ifCond .eq 40, 3) := dk_153 0 40 (dk_at dksX5_next_4 12 rfl rfl)
theorem dX5_next_109 : decode cX5_next 109 = .ok (.aload_n 0, 1) := dk_42 (dk_at dksX5_next_4 15 rfl rfl)
theorem dX5_next_110 : decode cX5_next 110 = .ok (.ldc 91, 2) := dk_18 91 (dk_at dksX5_next_4 16 rfl rfl)
theorem dX5_next_112 : decode cX5_next 112 = .ok (.bipush 10, 2) := dk_16 10 (dk_at dksX5_next_4 18 rfl rfl)
theorem dX5_next_114 : decode cX5_next 114 = .ok (.aload_n 0, 1) := dk_42 (dk_at dksX5_next_4 20 rfl rfl)
theorem dX5_next_115 : decode cX5_next 115 = .ok (.getfield 88, 3) := dk_180 0 88 (dk_at dksX5_next_4 21 rfl rfl)
theorem dX5_next_118 : decode cX5_next 118 = .ok (.imul, 1) := dk_104 (dk_at dksX5_next_5 0 rfl rfl)
theorem dX5_next_119 : decode cX5_next 119 = .ok (.aload_n 0, 1) := dk_42 (dk_at dksX5_next_5 1 rfl rfl)
theorem dX5_next_120 : decode cX5_next 120 = .ok (.invokevirtual 67, 3) := dk_182 0 67 (dk_at dksX5_next_5 2 rfl rfl)
theorem dX5_next_123 : decode cX5_next 123 = .ok (.iadd, 1) := dk_96 (dk_at dksX5_next_5 5 rfl rfl)
theorem dX5_next_124 : decode cX5_next 124 = .ok (.bipush 48, 2) := dk_16 48 (dk_at dksX5_next_5 6 rfl rfl)
theorem dX5_next_126 : decode cX5_next 126 = .ok (.isub, 1) := dk_100 (dk_at dksX5_next_5 8 rfl rfl)
theorem dX5_next_127 : decode cX5_next 127 = .ok (.invokestatic 92, 3) := dk_184 0 92 (dk_at dksX5_next_5 9 rfl rfl)
theorem dX5_next_130 : decode cX5_next 130 = .ok (.putfield 88, 3) := dk_181 0 88 (dk_at dksX5_next_5 12 rfl rfl)
theorem dX5_next_133 : decode cX5_next 133 = .ok (.aload_n 0, 1) := dk_42 (dk_at dksX5_next_5 15 rfl rfl)
theorem dX5_next_134 : decode cX5_next 134 = .ok (.dup, 1) := dk_89 (dk_at dksX5_next_5 16 rfl rfl)
theorem dX5_next_135 : decode cX5_next 135 = .ok (.getfield 60, 3) := dk_180 0 60 (dk_at dksX5_next_5 17 rfl rfl)
theorem dX5_next_138 : decode cX5_next 138 = .ok (.iconst 1, 1) := dk_4 (dk_at dksX5_next_5 20 rfl rfl)
theorem dX5_next_139 : decode cX5_next 139 = .ok (.iadd, 1) := dk_96 (dk_at dksX5_next_5 21 rfl rfl)
theorem dX5_next_140 : decode cX5_next 140 = .ok (.putfield 60, 3) := dk_181 0 60 (dk_at dksX5_next_6 0 rfl rfl)
theorem dX5_next_143 : decode cX5_next 143 = .ok (.goto (-41), 3) := dk_167 255 215 (dk_at dksX5_next_6 3 rfl rfl)
theorem dX5_next_146 : decode cX5_next 146 = .ok (.aload_n 0, 1) := dk_42 (dk_at dksX5_next_6 6 rfl rfl)
theorem dX5_next_147 : decode cX5_next 147 = .ok (.iconst 2, 1) := dk_5 (dk_at dksX5_next_6 7 rfl rfl)
theorem dX5_next_148 : decode cX5_next 148 = .ok (.putfield 78, 3) := dk_181 0 78 (dk_at dksX5_next_6 8 rfl rfl)
theorem dX5_next_151 : decode cX5_next 151 = .ok (.goto 34, 3) := dk_167 0 34 (dk_at dksX5_next_6 11 rfl rfl)
theorem dX5_next_154 : decode cX5_next 154 = .ok (.aload_n 0, 1) := dk_42 (dk_at dksX5_next_6 14 rfl rfl)
theorem dX5_next_155 : decode cX5_next 155 = .ok (.ldc 98, 2) := dk_18 98 (dk_at dksX5_next_6 15 rfl rfl)
theorem dX5_next_157 : decode cX5_next 157 = .ok (.aload_n 0, 1) := dk_42 (dk_at dksX5_next_6 17 rfl rfl)
theorem dX5_next_158 : decode cX5_next 158 = .ok (.invokevirtual 67, 3) := dk_182 0 67 (dk_at dksX5_next_6 18 rfl rfl)
theorem dX5_next_161 : decode cX5_next 161 = .ok (.invokevirtual 100, 3) := dk_182 0 100 (dk_at dksX5_next_6 21 rfl rfl)
theorem dX5_next_164 : decode cX5_next 164 = .ok (.ifCond .lt 7, 3) := dk_155 0 7 (dk_at dksX5_next_7 0 rfl rfl)
theorem dX5_next_167 : decode cX5_next 167 = .ok (.iconst 3, 1) := dk_6 (dk_at dksX5_next_7 3 rfl rfl)
theorem dX5_next_168 : decode cX5_next 168 = .ok (.goto 4, 3) := dk_167 0 4 (dk_at dksX5_next_7 4 rfl rfl)
theorem dX5_next_171 : decode cX5_next 171 = .ok (.iconst 4, 1) := dk_7 (dk_at dksX5_next_7 7 rfl rfl)
theorem dX5_next_172 : decode cX5_next 172 = .ok (.putfield 78, 3) := dk_181 0 78 (dk_at dksX5_next_7 8 rfl rfl)
theorem dX5_next_175 : decode cX5_next 175 = .ok (.aload_n 0, 1) := dk_42 (dk_at dksX5_next_7 11 rfl rfl)
theorem dX5_next_176 : decode cX5_next 176 = .ok (.dup, 1) := dk_89 (dk_at dksX5_next_7 12 rfl rfl)
theorem dX5_next_177 : decode cX5_next 177 = .ok (.getfield 60, 3) := dk_180 0 60 (dk_at dksX5_next_7 13 rfl rfl)
theorem dX5_next_180 : decode cX5_next 180 = .ok (.iconst 1, 1) := dk_4 (dk_at dksX5_next_7 16 rfl rfl)
theorem dX5_next_181 : decode cX5_next 181 = .ok (.iadd, 1) := dk_96 (dk_at dksX5_next_7 17 rfl rfl)
theorem dX5_next_182 : decode cX5_next 182 = .ok (.putfield 60, 3) := dk_181 0 60 (dk_at dksX5_next_7 18 rfl rfl)
theorem dX5_next_185 : decode cX5_next 185 = .ok (.aload_n 0, 1) := dk_42 (dk_at dksX5_next_7 21 rfl rfl)
theorem dX5_next_186 : decode cX5_next 186 = .ok (.aload_n 0, 1) := dk_42 (dk_at dksX5_next_7 22 rfl rfl)
theorem dX5_next_187 : decode cX5_next 187 = .ok (.getfield 60, 3) := dk_180 0 60 (dk_at dksX5_next_8 0 rfl rfl)
theorem dX5_next_190 : decode cX5_next 190 = .ok (.putfield 104, 3) := dk_181 0 104 (dk_at dksX5_next_8 3 rfl rfl)
theorem dX5_next_193 : decode cX5_next 193 = .ok (.return_, 1) := dk_177 (dk_at dksX5_next_8 6 rfl rfl)
abbrev cX5_here : ByteArray := prog_8_method_2_code
def yX5_here : MethodName := ⟨RX5, "here", "()I"⟩
def dkwX5_here_1 : List UInt8 := [17, 0, 255, 126, 167, 0, 4, 2, 172]
abbrev dktX5_here_1 : List UInt8 := dkwX5_here_1 ++ []
def dkwX5_here_0 : List UInt8 := [42, 180, 0, 60, 42, 180, 0, 56, 162, 0, 22, 42, 180, 0, 3, 180, 0, 63, 42, 180, 0, 60, 51]
abbrev dktX5_here_0 : List UInt8 := dkwX5_here_0 ++ dktX5_here_1
theorem dksX5_here_0 : cX5_here.data.toList.drop 0 = dktX5_here_0 := by decide +kernel
theorem dksX5_here_1 : cX5_here.data.toList.drop 23 = dktX5_here_1 := dk_seg dksX5_here_0 23 rfl rfl
theorem dX5_here_0 : decode cX5_here 0 = .ok (.aload_n 0, 1) := dk_42 (dk_at dksX5_here_0 0 rfl rfl)
theorem dX5_here_1 : decode cX5_here 1 = .ok (.getfield 60, 3) := dk_180 0 60 (dk_at dksX5_here_0 1 rfl rfl)
theorem dX5_here_4 : decode cX5_here 4 = .ok (.aload_n 0, 1) := dk_42 (dk_at dksX5_here_0 4 rfl rfl)
theorem dX5_here_5 : decode cX5_here 5 = .ok (.getfield 56, 3) := dk_180 0 56 (dk_at dksX5_here_0 5 rfl rfl)
theorem dX5_here_8 : decode cX5_here 8 = .ok (.if_icmp .ge 22, 3) := dk_162 0 22 (dk_at dksX5_here_0 8 rfl rfl)
theorem dX5_here_11 : decode cX5_here 11 = .ok (.aload_n 0, 1) := dk_42 (dk_at dksX5_here_0 11 rfl rfl)
theorem dX5_here_12 : decode cX5_here 12 = .ok (.getfield 3, 3) := dk_180 0 3 (dk_at dksX5_here_0 12 rfl rfl)
theorem dX5_here_15 : decode cX5_here 15 = .ok (.getfield 63, 3) := dk_180 0 63 (dk_at dksX5_here_0 15 rfl rfl)
theorem dX5_here_18 : decode cX5_here 18 = .ok (.aload_n 0, 1) := dk_42 (dk_at dksX5_here_0 18 rfl rfl)
theorem dX5_here_19 : decode cX5_here 19 = .ok (.getfield 60, 3) := dk_180 0 60 (dk_at dksX5_here_0 19 rfl rfl)
theorem dX5_here_22 : decode cX5_here 22 = .ok (.baload, 1) := dk_51 (dk_at dksX5_here_0 22 rfl rfl)
theorem dX5_here_23 : decode cX5_here 23 = .ok (.sipush 255, 3) := dk_17 0 255 (dk_at dksX5_here_1 0 rfl rfl)
theorem dX5_here_26 : decode cX5_here 26 = .ok (.iand, 1) := dk_126 (dk_at dksX5_here_1 3 rfl rfl)
theorem dX5_here_27 : decode cX5_here 27 = .ok (.goto 4, 3) := dk_167 0 4 (dk_at dksX5_here_1 4 rfl rfl)
theorem dX5_here_30 : decode cX5_here 30 = .ok (.iconst (-1), 1) := dk_2 (dk_at dksX5_here_1 7 rfl rfl)
theorem dX5_here_31 : decode cX5_here 31 = .ok (.ireturn, 1) := dk_172 (dk_at dksX5_here_1 8 rfl rfl)
abbrev cX5_isLetter : ByteArray := prog_8_method_3_code
def yX5_isLetter : MethodName := ⟨RX5, "isLetter", "()Z"⟩
def dkwX5_isLetter_0 : List UInt8 := [42, 182, 0, 67, 16, 97, 16, 122, 184, 0, 71, 172]
abbrev dktX5_isLetter_0 : List UInt8 := dkwX5_isLetter_0 ++ []
theorem dksX5_isLetter_0 : cX5_isLetter.data.toList.drop 0 = dktX5_isLetter_0 := by decide +kernel
theorem dX5_isLetter_0 : decode cX5_isLetter 0 = .ok (.aload_n 0, 1) := dk_42 (dk_at dksX5_isLetter_0 0 rfl rfl)
theorem dX5_isLetter_1 : decode cX5_isLetter 1 = .ok (.invokevirtual 67, 3) := dk_182 0 67 (dk_at dksX5_isLetter_0 1 rfl rfl)
theorem dX5_isLetter_4 : decode cX5_isLetter 4 = .ok (.bipush 97, 2) := dk_16 97 (dk_at dksX5_isLetter_0 4 rfl rfl)
theorem dX5_isLetter_6 : decode cX5_isLetter 6 = .ok (.bipush 122, 2) := dk_16 122 (dk_at dksX5_isLetter_0 6 rfl rfl)
theorem dX5_isLetter_8 : decode cX5_isLetter 8 = .ok (.invokestatic 71, 3) := dk_184 0 71 (dk_at dksX5_isLetter_0 8 rfl rfl)
theorem dX5_isLetter_11 : decode cX5_isLetter 11 = .ok (.ireturn, 1) := dk_172 (dk_at dksX5_isLetter_0 11 rfl rfl)
abbrev cX5_isDigit : ByteArray := prog_8_method_4_code
def yX5_isDigit : MethodName := ⟨RX5, "isDigit", "()Z"⟩
def dkwX5_isDigit_0 : List UInt8 := [42, 182, 0, 67, 16, 48, 16, 57, 184, 0, 71, 172]
abbrev dktX5_isDigit_0 : List UInt8 := dkwX5_isDigit_0 ++ []
theorem dksX5_isDigit_0 : cX5_isDigit.data.toList.drop 0 = dktX5_isDigit_0 := by decide +kernel
theorem dX5_isDigit_0 : decode cX5_isDigit 0 = .ok (.aload_n 0, 1) := dk_42 (dk_at dksX5_isDigit_0 0 rfl rfl)
theorem dX5_isDigit_1 : decode cX5_isDigit 1 = .ok (.invokevirtual 67, 3) := dk_182 0 67 (dk_at dksX5_isDigit_0 1 rfl rfl)
theorem dX5_isDigit_4 : decode cX5_isDigit 4 = .ok (.bipush 48, 2) := dk_16 48 (dk_at dksX5_isDigit_0 4 rfl rfl)
theorem dX5_isDigit_6 : decode cX5_isDigit 6 = .ok (.bipush 57, 2) := dk_16 57 (dk_at dksX5_isDigit_0 6 rfl rfl)
theorem dX5_isDigit_8 : decode cX5_isDigit 8 = .ok (.invokestatic 71, 3) := dk_184 0 71 (dk_at dksX5_isDigit_0 8 rfl rfl)
theorem dX5_isDigit_11 : decode cX5_isDigit 11 = .ok (.ireturn, 1) := dk_172 (dk_at dksX5_isDigit_0 11 rfl rfl)
abbrev cX5_line : ByteArray := prog_8_method_24_code
def yX5_line : MethodName := ⟨RX5, "line", "()V"⟩
def dkwX5_line_2 : List UInt8 := [182, 0, 126, 42, 182, 0, 249, 42, 42, 16, 59, 182, 0, 141, 4, 182, 0, 126, 42, 182, 0, 118, 177]
abbrev dktX5_line_2 : List UInt8 := dkwX5_line_2 ++ []
def dkwX5_line_1 : List UInt8 := [18, 49, 182, 0, 114, 153, 0, 10, 42, 182, 0, 245, 167, 0, 18, 42, 42, 18, 247, 182, 0, 114, 4]
abbrev dktX5_line_1 : List UInt8 := dkwX5_line_1 ++ dktX5_line_2
def dkwX5_line_0 : List UInt8 := [42, 42, 180, 0, 37, 182, 0, 149, 60, 27, 2, 159, 0, 11, 42, 27, 182, 0, 242, 167, 0, 34, 42]
abbrev dktX5_line_0 : List UInt8 := dkwX5_line_0 ++ dktX5_line_1
theorem dksX5_line_0 : cX5_line.data.toList.drop 0 = dktX5_line_0 := by decide +kernel
theorem dksX5_line_1 : cX5_line.data.toList.drop 23 = dktX5_line_1 := dk_seg dksX5_line_0 23 rfl rfl
theorem dksX5_line_2 : cX5_line.data.toList.drop 46 = dktX5_line_2 := dk_seg dksX5_line_1 23 rfl rfl
theorem dX5_line_0 : decode cX5_line 0 = .ok (.aload_n 0, 1) := dk_42 (dk_at dksX5_line_0 0 rfl rfl)
theorem dX5_line_1 : decode cX5_line 1 = .ok (.aload_n 0, 1) := dk_42 (dk_at dksX5_line_0 1 rfl rfl)
theorem dX5_line_2 : decode cX5_line 2 = .ok (.getfield 37, 3) := dk_180 0 37 (dk_at dksX5_line_0 2 rfl rfl)
theorem dX5_line_5 : decode cX5_line 5 = .ok (.invokevirtual 149, 3) := dk_182 0 149 (dk_at dksX5_line_0 5 rfl rfl)
theorem dX5_line_8 : decode cX5_line 8 = .ok (.istore_n 1, 1) := dk_60 (dk_at dksX5_line_0 8 rfl rfl)
theorem dX5_line_9 : decode cX5_line 9 = .ok (.iload_n 1, 1) := dk_27 (dk_at dksX5_line_0 9 rfl rfl)
theorem dX5_line_10 : decode cX5_line 10 = .ok (.iconst (-1), 1) := dk_2 (dk_at dksX5_line_0 10 rfl rfl)
theorem dX5_line_11 : decode cX5_line 11 = .ok (.if_icmp .eq 11, 3) := dk_159 0 11 (dk_at dksX5_line_0 11 rfl rfl)
theorem dX5_line_14 : decode cX5_line 14 = .ok (.aload_n 0, 1) := dk_42 (dk_at dksX5_line_0 14 rfl rfl)
theorem dX5_line_15 : decode cX5_line 15 = .ok (.iload_n 1, 1) := dk_27 (dk_at dksX5_line_0 15 rfl rfl)
theorem dX5_line_16 : decode cX5_line 16 = .ok (.invokevirtual 242, 3) := dk_182 0 242 (dk_at dksX5_line_0 16 rfl rfl)
theorem dX5_line_19 : decode cX5_line 19 = .ok (.goto 34, 3) := dk_167 0 34 (dk_at dksX5_line_0 19 rfl rfl)
theorem dX5_line_22 : decode cX5_line 22 = .ok (.aload_n 0, 1) := dk_42 (dk_at dksX5_line_0 22 rfl rfl)
theorem dX5_line_23 : decode cX5_line 23 = .ok (.ldc 49, 2) := dk_18 49 (dk_at dksX5_line_1 0 rfl rfl)
theorem dX5_line_25 : decode cX5_line 25 = .ok (.invokevirtual 114, 3) := dk_182 0 114 (dk_at dksX5_line_1 2 rfl rfl)
theorem dX5_line_28 : decode cX5_line 28 = .ok (.ifCond .eq 10, 3) := dk_153 0 10 (dk_at dksX5_line_1 5 rfl rfl)
theorem dX5_line_31 : decode cX5_line 31 = .ok (.aload_n 0, 1) := dk_42 (dk_at dksX5_line_1 8 rfl rfl)
theorem dX5_line_32 : decode cX5_line 32 = .ok (.invokevirtual 245, 3) := dk_182 0 245 (dk_at dksX5_line_1 9 rfl rfl)
theorem dX5_line_35 : decode cX5_line 35 = .ok (.goto 18, 3) := dk_167 0 18 (dk_at dksX5_line_1 12 rfl rfl)
theorem dX5_line_38 : decode cX5_line 38 = .ok (.aload_n 0, 1) := dk_42 (dk_at dksX5_line_1 15 rfl rfl)
theorem dX5_line_39 : decode cX5_line 39 = .ok (.aload_n 0, 1) := dk_42 (dk_at dksX5_line_1 16 rfl rfl)
theorem dX5_line_40 : decode cX5_line 40 = .ok (.ldc 247, 2) := dk_18 247 (dk_at dksX5_line_1 17 rfl rfl)
theorem dX5_line_42 : decode cX5_line 42 = .ok (.invokevirtual 114, 3) := dk_182 0 114 (dk_at dksX5_line_1 19 rfl rfl)
theorem dX5_line_45 : decode cX5_line 45 = .ok (.iconst 1, 1) := dk_4 (dk_at dksX5_line_1 22 rfl rfl)
theorem dX5_line_46 : decode cX5_line 46 = .ok (.invokevirtual 126, 3) := dk_182 0 126 (dk_at dksX5_line_2 0 rfl rfl)
theorem dX5_line_49 : decode cX5_line 49 = .ok (.aload_n 0, 1) := dk_42 (dk_at dksX5_line_2 3 rfl rfl)
theorem dX5_line_50 : decode cX5_line 50 = .ok (.invokevirtual 249, 3) := dk_182 0 249 (dk_at dksX5_line_2 4 rfl rfl)
theorem dX5_line_53 : decode cX5_line 53 = .ok (.aload_n 0, 1) := dk_42 (dk_at dksX5_line_2 7 rfl rfl)
theorem dX5_line_54 : decode cX5_line 54 = .ok (.aload_n 0, 1) := dk_42 (dk_at dksX5_line_2 8 rfl rfl)
theorem dX5_line_55 : decode cX5_line 55 = .ok (.bipush 59, 2) := dk_16 59 (dk_at dksX5_line_2 9 rfl rfl)
theorem dX5_line_57 : decode cX5_line 57 = .ok (.invokevirtual 141, 3) := dk_182 0 141 (dk_at dksX5_line_2 11 rfl rfl)
theorem dX5_line_60 : decode cX5_line 60 = .ok (.iconst 1, 1) := dk_4 (dk_at dksX5_line_2 14 rfl rfl)
theorem dX5_line_61 : decode cX5_line 61 = .ok (.invokevirtual 126, 3) := dk_182 0 126 (dk_at dksX5_line_2 15 rfl rfl)
theorem dX5_line_64 : decode cX5_line 64 = .ok (.aload_n 0, 1) := dk_42 (dk_at dksX5_line_2 18 rfl rfl)
theorem dX5_line_65 : decode cX5_line 65 = .ok (.invokevirtual 118, 3) := dk_182 0 118 (dk_at dksX5_line_2 19 rfl rfl)
theorem dX5_line_68 : decode cX5_line 68 = .ok (.return_, 1) := dk_177 (dk_at dksX5_line_2 22 rfl rfl)
abbrev cX5_which : ByteArray := prog_8_method_7_code
def yX5_which : MethodName := ⟨RX5, "which", "([Ljava/lang/String;)I"⟩
def dkwX5_which_1 : List UInt8 := [167, 255, 235, 2, 172]
abbrev dktX5_which_1 : List UInt8 := dkwX5_which_1 ++ []
def dkwX5_which_0 : List UInt8 := [3, 61, 28, 43, 190, 162, 0, 21, 42, 43, 28, 50, 182, 0, 114, 153, 0, 5, 28, 172, 132, 2, 1]
abbrev dktX5_which_0 : List UInt8 := dkwX5_which_0 ++ dktX5_which_1
theorem dksX5_which_0 : cX5_which.data.toList.drop 0 = dktX5_which_0 := by decide +kernel
theorem dksX5_which_1 : cX5_which.data.toList.drop 23 = dktX5_which_1 := dk_seg dksX5_which_0 23 rfl rfl
theorem dX5_which_0 : decode cX5_which 0 = .ok (.iconst 0, 1) := dk_3 (dk_at dksX5_which_0 0 rfl rfl)
theorem dX5_which_1 : decode cX5_which 1 = .ok (.istore_n 2, 1) := dk_61 (dk_at dksX5_which_0 1 rfl rfl)
theorem dX5_which_2 : decode cX5_which 2 = .ok (.iload_n 2, 1) := dk_28 (dk_at dksX5_which_0 2 rfl rfl)
theorem dX5_which_3 : decode cX5_which 3 = .ok (.aload_n 1, 1) := dk_43 (dk_at dksX5_which_0 3 rfl rfl)
theorem dX5_which_4 : decode cX5_which 4 = .ok (.arraylength, 1) := dk_190 (dk_at dksX5_which_0 4 rfl rfl)
theorem dX5_which_5 : decode cX5_which 5 = .ok (.if_icmp .ge 21, 3) := dk_162 0 21 (dk_at dksX5_which_0 5 rfl rfl)
theorem dX5_which_8 : decode cX5_which 8 = .ok (.aload_n 0, 1) := dk_42 (dk_at dksX5_which_0 8 rfl rfl)
theorem dX5_which_9 : decode cX5_which 9 = .ok (.aload_n 1, 1) := dk_43 (dk_at dksX5_which_0 9 rfl rfl)
theorem dX5_which_10 : decode cX5_which 10 = .ok (.iload_n 2, 1) := dk_28 (dk_at dksX5_which_0 10 rfl rfl)
theorem dX5_which_11 : decode cX5_which 11 = .ok (.aaload, 1) := dk_50 (dk_at dksX5_which_0 11 rfl rfl)
theorem dX5_which_12 : decode cX5_which 12 = .ok (.invokevirtual 114, 3) := dk_182 0 114 (dk_at dksX5_which_0 12 rfl rfl)
theorem dX5_which_15 : decode cX5_which 15 = .ok (.ifCond .eq 5, 3) := dk_153 0 5 (dk_at dksX5_which_0 15 rfl rfl)
theorem dX5_which_18 : decode cX5_which 18 = .ok (.iload_n 2, 1) := dk_28 (dk_at dksX5_which_0 18 rfl rfl)
theorem dX5_which_19 : decode cX5_which 19 = .ok (.ireturn, 1) := dk_172 (dk_at dksX5_which_0 19 rfl rfl)
theorem dX5_which_20 : decode cX5_which 20 = .ok (.iinc 2 1, 3) := dk_132 2 1 (dk_at dksX5_which_0 20 rfl rfl)
theorem dX5_which_23 : decode cX5_which 23 = .ok (.goto (-21), 3) := dk_167 255 235 (dk_at dksX5_which_1 0 rfl rfl)
theorem dX5_which_26 : decode cX5_which 26 = .ok (.iconst (-1), 1) := dk_2 (dk_at dksX5_which_1 3 rfl rfl)
theorem dX5_which_27 : decode cX5_which 27 = .ok (.ireturn, 1) := dk_172 (dk_at dksX5_which_1 4 rfl rfl)
abbrev cX5_is : ByteArray := prog_8_method_6_code
def yX5_is : MethodName := ⟨RX5, "is", "(Ljava/lang/String;)Z"⟩
def dkwX5_is_2 : List UInt8 := [42, 180, 0, 75, 28, 96, 51, 17, 0, 255, 126, 159, 0, 5, 3, 172, 132, 2, 1, 167, 255, 217, 4, 172]
abbrev dktX5_is_2 : List UInt8 := dkwX5_is_2 ++ []
def dkwX5_is_1 : List UInt8 := [3, 172, 3, 61, 28, 43, 182, 0, 107, 162, 0, 37, 43, 28, 182, 0, 110, 42, 180, 0, 3, 180, 0, 63]
abbrev dktX5_is_1 : List UInt8 := dkwX5_is_1 ++ dktX5_is_2
def dkwX5_is_0 : List UInt8 := [42, 180, 0, 78, 4, 160, 0, 19, 43, 182, 0, 107, 42, 180, 0, 104, 42, 180, 0, 75, 100, 159, 0, 5]
abbrev dktX5_is_0 : List UInt8 := dkwX5_is_0 ++ dktX5_is_1
theorem dksX5_is_0 : cX5_is.data.toList.drop 0 = dktX5_is_0 := by decide +kernel
theorem dksX5_is_1 : cX5_is.data.toList.drop 24 = dktX5_is_1 := dk_seg dksX5_is_0 24 rfl rfl
theorem dksX5_is_2 : cX5_is.data.toList.drop 48 = dktX5_is_2 := dk_seg dksX5_is_1 24 rfl rfl
theorem dX5_is_0 : decode cX5_is 0 = .ok (.aload_n 0, 1) := dk_42 (dk_at dksX5_is_0 0 rfl rfl)
theorem dX5_is_1 : decode cX5_is 1 = .ok (.getfield 78, 3) := dk_180 0 78 (dk_at dksX5_is_0 1 rfl rfl)
theorem dX5_is_4 : decode cX5_is 4 = .ok (.iconst 1, 1) := dk_4 (dk_at dksX5_is_0 4 rfl rfl)
theorem dX5_is_5 : decode cX5_is 5 = .ok (.if_icmp .ne 19, 3) := dk_160 0 19 (dk_at dksX5_is_0 5 rfl rfl)
theorem dX5_is_8 : decode cX5_is 8 = .ok (.aload_n 1, 1) := dk_43 (dk_at dksX5_is_0 8 rfl rfl)
theorem dX5_is_9 : decode cX5_is 9 = .ok (.invokevirtual 107, 3) := dk_182 0 107 (dk_at dksX5_is_0 9 rfl rfl)
theorem dX5_is_12 : decode cX5_is 12 = .ok (.aload_n 0, 1) := dk_42 (dk_at dksX5_is_0 12 rfl rfl)
theorem dX5_is_13 : decode cX5_is 13 = .ok (.getfield 104, 3) := dk_180 0 104 (dk_at dksX5_is_0 13 rfl rfl)
theorem dX5_is_16 : decode cX5_is 16 = .ok (.aload_n 0, 1) := dk_42 (dk_at dksX5_is_0 16 rfl rfl)
theorem dX5_is_17 : decode cX5_is 17 = .ok (.getfield 75, 3) := dk_180 0 75 (dk_at dksX5_is_0 17 rfl rfl)
theorem dX5_is_20 : decode cX5_is 20 = .ok (.isub, 1) := dk_100 (dk_at dksX5_is_0 20 rfl rfl)
theorem dX5_is_21 : decode cX5_is 21 = .ok (.if_icmp .eq 5, 3) := dk_159 0 5 (dk_at dksX5_is_0 21 rfl rfl)
theorem dX5_is_24 : decode cX5_is 24 = .ok (.iconst 0, 1) := dk_3 (dk_at dksX5_is_1 0 rfl rfl)
theorem dX5_is_25 : decode cX5_is 25 = .ok (.ireturn, 1) := dk_172 (dk_at dksX5_is_1 1 rfl rfl)
theorem dX5_is_26 : decode cX5_is 26 = .ok (.iconst 0, 1) := dk_3 (dk_at dksX5_is_1 2 rfl rfl)
theorem dX5_is_27 : decode cX5_is 27 = .ok (.istore_n 2, 1) := dk_61 (dk_at dksX5_is_1 3 rfl rfl)
theorem dX5_is_28 : decode cX5_is 28 = .ok (.iload_n 2, 1) := dk_28 (dk_at dksX5_is_1 4 rfl rfl)
theorem dX5_is_29 : decode cX5_is 29 = .ok (.aload_n 1, 1) := dk_43 (dk_at dksX5_is_1 5 rfl rfl)
theorem dX5_is_30 : decode cX5_is 30 = .ok (.invokevirtual 107, 3) := dk_182 0 107 (dk_at dksX5_is_1 6 rfl rfl)
theorem dX5_is_33 : decode cX5_is 33 = .ok (.if_icmp .ge 37, 3) := dk_162 0 37 (dk_at dksX5_is_1 9 rfl rfl)
theorem dX5_is_36 : decode cX5_is 36 = .ok (.aload_n 1, 1) := dk_43 (dk_at dksX5_is_1 12 rfl rfl)
theorem dX5_is_37 : decode cX5_is 37 = .ok (.iload_n 2, 1) := dk_28 (dk_at dksX5_is_1 13 rfl rfl)
theorem dX5_is_38 : decode cX5_is 38 = .ok (.invokevirtual 110, 3) := dk_182 0 110 (dk_at dksX5_is_1 14 rfl rfl)
theorem dX5_is_41 : decode cX5_is 41 = .ok (.aload_n 0, 1) := dk_42 (dk_at dksX5_is_1 17 rfl rfl)
theorem dX5_is_42 : decode cX5_is 42 = .ok (.getfield 3, 3) := dk_180 0 3 (dk_at dksX5_is_1 18 rfl rfl)
theorem dX5_is_45 : decode cX5_is 45 = .ok (.getfield 63, 3) := dk_180 0 63 (dk_at dksX5_is_1 21 rfl rfl)
theorem dX5_is_48 : decode cX5_is 48 = .ok (.aload_n 0, 1) := dk_42 (dk_at dksX5_is_2 0 rfl rfl)
theorem dX5_is_49 : decode cX5_is 49 = .ok (.getfield 75, 3) := dk_180 0 75 (dk_at dksX5_is_2 1 rfl rfl)
theorem dX5_is_52 : decode cX5_is 52 = .ok (.iload_n 2, 1) := dk_28 (dk_at dksX5_is_2 4 rfl rfl)
theorem dX5_is_53 : decode cX5_is 53 = .ok (.iadd, 1) := dk_96 (dk_at dksX5_is_2 5 rfl rfl)
theorem dX5_is_54 : decode cX5_is 54 = .ok (.baload, 1) := dk_51 (dk_at dksX5_is_2 6 rfl rfl)
theorem dX5_is_55 : decode cX5_is 55 = .ok (.sipush 255, 3) := dk_17 0 255 (dk_at dksX5_is_2 7 rfl rfl)
theorem dX5_is_58 : decode cX5_is 58 = .ok (.iand, 1) := dk_126 (dk_at dksX5_is_2 10 rfl rfl)
theorem dX5_is_59 : decode cX5_is 59 = .ok (.if_icmp .eq 5, 3) := dk_159 0 5 (dk_at dksX5_is_2 11 rfl rfl)
theorem dX5_is_62 : decode cX5_is 62 = .ok (.iconst 0, 1) := dk_3 (dk_at dksX5_is_2 14 rfl rfl)
theorem dX5_is_63 : decode cX5_is 63 = .ok (.ireturn, 1) := dk_172 (dk_at dksX5_is_2 15 rfl rfl)
theorem dX5_is_64 : decode cX5_is 64 = .ok (.iinc 2 1, 3) := dk_132 2 1 (dk_at dksX5_is_2 16 rfl rfl)
theorem dX5_is_67 : decode cX5_is 67 = .ok (.goto (-39), 3) := dk_167 255 217 (dk_at dksX5_is_2 19 rfl rfl)
theorem dX5_is_70 : decode cX5_is 70 = .ok (.iconst 1, 1) := dk_4 (dk_at dksX5_is_2 22 rfl rfl)
theorem dX5_is_71 : decode cX5_is 71 = .ok (.ireturn, 1) := dk_172 (dk_at dksX5_is_2 23 rfl rfl)
abbrev cX5_only : ByteArray := prog_8_method_23_code
def yX5_only : MethodName := ⟨RX5, "only", "(I)V"⟩
def dkwX5_only_2 : List UInt8 := [42, 180, 0, 18, 44, 181, 0, 237, 167, 0, 11, 42, 180, 0, 18, 44, 181, 0, 240, 177]
abbrev dktX5_only_2 : List UInt8 := dkwX5_only_2 ++ []
def dkwX5_only_1 : List UInt8 := [180, 0, 234, 4, 27, 120, 128, 181, 0, 234, 42, 182, 0, 118, 42, 3, 182, 0, 145, 77, 27, 154, 0, 14]
abbrev dktX5_only_1 : List UInt8 := dkwX5_only_1 ++ dktX5_only_2
def dkwX5_only_0 : List UInt8 := [42, 42, 180, 0, 234, 27, 184, 0, 224, 154, 0, 7, 4, 167, 0, 4, 3, 8, 182, 0, 126, 42, 89]
abbrev dktX5_only_0 : List UInt8 := dkwX5_only_0 ++ dktX5_only_1
theorem dksX5_only_0 : cX5_only.data.toList.drop 0 = dktX5_only_0 := by decide +kernel
theorem dksX5_only_1 : cX5_only.data.toList.drop 23 = dktX5_only_1 := dk_seg dksX5_only_0 23 rfl rfl
theorem dksX5_only_2 : cX5_only.data.toList.drop 47 = dktX5_only_2 := dk_seg dksX5_only_1 24 rfl rfl
theorem dX5_only_0 : decode cX5_only 0 = .ok (.aload_n 0, 1) := dk_42 (dk_at dksX5_only_0 0 rfl rfl)
theorem dX5_only_1 : decode cX5_only 1 = .ok (.aload_n 0, 1) := dk_42 (dk_at dksX5_only_0 1 rfl rfl)
theorem dX5_only_2 : decode cX5_only 2 = .ok (.getfield 234, 3) := dk_180 0 234 (dk_at dksX5_only_0 2 rfl rfl)
theorem dX5_only_5 : decode cX5_only 5 = .ok (.iload_n 1, 1) := dk_27 (dk_at dksX5_only_0 5 rfl rfl)
theorem dX5_only_6 : decode cX5_only 6 = .ok (.invokestatic 224, 3) := dk_184 0 224 (dk_at dksX5_only_0 6 rfl rfl)
theorem dX5_only_9 : decode cX5_only 9 = .ok (.ifCond .ne 7, 3) := dk_154 0 7 (dk_at dksX5_only_0 9 rfl rfl)
theorem dX5_only_12 : decode cX5_only 12 = .ok (.iconst 1, 1) := dk_4 (dk_at dksX5_only_0 12 rfl rfl)
theorem dX5_only_13 : decode cX5_only 13 = .ok (.goto 4, 3) := dk_167 0 4 (dk_at dksX5_only_0 13 rfl rfl)
theorem dX5_only_16 : decode cX5_only 16 = .ok (.iconst 0, 1) := dk_3 (dk_at dksX5_only_0 16 rfl rfl)
theorem dX5_only_17 : decode cX5_only 17 = .ok (.iconst 5, 1) := dk_8 (dk_at dksX5_only_0 17 rfl rfl)
theorem dX5_only_18 : decode cX5_only 18 = .ok (.invokevirtual 126, 3) := dk_182 0 126 (dk_at dksX5_only_0 18 rfl rfl)
theorem dX5_only_21 : decode cX5_only 21 = .ok (.aload_n 0, 1) := dk_42 (dk_at dksX5_only_0 21 rfl rfl)
theorem dX5_only_22 : decode cX5_only 22 = .ok (.dup, 1) := dk_89 (dk_at dksX5_only_0 22 rfl rfl)
theorem dX5_only_23 : decode cX5_only 23 = .ok (.getfield 234, 3) := dk_180 0 234 (dk_at dksX5_only_1 0 rfl rfl)
theorem dX5_only_26 : decode cX5_only 26 = .ok (.iconst 1, 1) := dk_4 (dk_at dksX5_only_1 3 rfl rfl)
theorem dX5_only_27 : decode cX5_only 27 = .ok (.iload_n 1, 1) := dk_27 (dk_at dksX5_only_1 4 rfl rfl)
theorem dX5_only_28 : decode cX5_only 28 = .ok (.ishl, 1) := dk_120 (dk_at dksX5_only_1 5 rfl rfl)
theorem dX5_only_29 : decode cX5_only 29 = .ok (.ior, 1) := dk_128 (dk_at dksX5_only_1 6 rfl rfl)
theorem dX5_only_30 : decode cX5_only 30 = .ok (.putfield 234, 3) := dk_181 0 234 (dk_at dksX5_only_1 7 rfl rfl)
theorem dX5_only_33 : decode cX5_only 33 = .ok (.aload_n 0, 1) := dk_42 (dk_at dksX5_only_1 10 rfl rfl)
theorem dX5_only_34 : decode cX5_only 34 = .ok (.invokevirtual 118, 3) := dk_182 0 118 (dk_at dksX5_only_1 11 rfl rfl)
theorem dX5_only_37 : decode cX5_only 37 = .ok (.aload_n 0, 1) := dk_42 (dk_at dksX5_only_1 14 rfl rfl)
theorem dX5_only_38 : decode cX5_only 38 = .ok (.iconst 0, 1) := dk_3 (dk_at dksX5_only_1 15 rfl rfl)
theorem dX5_only_39 : decode cX5_only 39 = .ok (.invokevirtual 145, 3) := dk_182 0 145 (dk_at dksX5_only_1 16 rfl rfl)
theorem dX5_only_42 : decode cX5_only 42 = .ok (.astore_n 2, 1) := dk_77 (dk_at dksX5_only_1 19 rfl rfl)
theorem dX5_only_43 : decode cX5_only 43 = .ok (.iload_n 1, 1) := dk_27 (dk_at dksX5_only_1 20 rfl rfl)
theorem dX5_only_44 : decode cX5_only 44 = .ok (.ifCond .ne 14, 3) := dk_154 0 14 (dk_at dksX5_only_1 21 rfl rfl)
theorem dX5_only_47 : decode cX5_only 47 = .ok (.aload_n 0, 1) := dk_42 (dk_at dksX5_only_2 0 rfl rfl)
theorem dX5_only_48 : decode cX5_only 48 = .ok (.getfield 18, 3) := dk_180 0 18 (dk_at dksX5_only_2 1 rfl rfl)
theorem dX5_only_51 : decode cX5_only 51 = .ok (.aload_n 2, 1) := dk_44 (dk_at dksX5_only_2 4 rfl rfl)
theorem dX5_only_52 : decode cX5_only 52 = .ok (.putfield 237, 3) := dk_181 0 237 (dk_at dksX5_only_2 5 rfl rfl)
theorem dX5_only_55 : decode cX5_only 55 = .ok (.goto 11, 3) := dk_167 0 11 (dk_at dksX5_only_2 8 rfl rfl)
theorem dX5_only_58 : decode cX5_only 58 = .ok (.aload_n 0, 1) := dk_42 (dk_at dksX5_only_2 11 rfl rfl)
theorem dX5_only_59 : decode cX5_only 59 = .ok (.getfield 18, 3) := dk_180 0 18 (dk_at dksX5_only_2 12 rfl rfl)
theorem dX5_only_62 : decode cX5_only 62 = .ok (.aload_n 2, 1) := dk_44 (dk_at dksX5_only_2 15 rfl rfl)
theorem dX5_only_63 : decode cX5_only 63 = .ok (.putfield 240, 3) := dk_181 0 240 (dk_at dksX5_only_2 16 rfl rfl)
theorem dX5_only_66 : decode cX5_only 66 = .ok (.return_, 1) := dk_177 (dk_at dksX5_only_2 19 rfl rfl)
abbrev cX5_want : ByteArray := prog_8_method_10_code
def yX5_want : MethodName := ⟨RX5, "want", "(ZI)V"⟩
def dkwX5_want_0 : List UInt8 := [27, 154, 0, 12, 187, 0, 121, 89, 28, 183, 0, 123, 191, 177]
abbrev dktX5_want_0 : List UInt8 := dkwX5_want_0 ++ []
theorem dksX5_want_0 : cX5_want.data.toList.drop 0 = dktX5_want_0 := by decide +kernel
theorem dX5_want_0 : decode cX5_want 0 = .ok (.iload_n 1, 1) := dk_27 (dk_at dksX5_want_0 0 rfl rfl)
theorem dX5_want_1 : decode cX5_want 1 = .ok (.ifCond .ne 12, 3) := dk_154 0 12 (dk_at dksX5_want_0 1 rfl rfl)
theorem dX5_want_4 : decode cX5_want 4 = .ok (.new 121, 3) := dk_187 0 121 (dk_at dksX5_want_0 4 rfl rfl)
theorem dX5_want_7 : decode cX5_want 7 = .ok (.dup, 1) := dk_89 (dk_at dksX5_want_0 7 rfl rfl)
theorem dX5_want_8 : decode cX5_want 8 = .ok (.iload_n 2, 1) := dk_28 (dk_at dksX5_want_0 8 rfl rfl)
theorem dX5_want_9 : decode cX5_want 9 = .ok (.invokespecial 123, 3) := dk_183 0 123 (dk_at dksX5_want_0 9 rfl rfl)
theorem dX5_want_12 : decode cX5_want 12 = .ok (.athrow, 1) := dk_191 (dk_at dksX5_want_0 12 rfl rfl)
theorem dX5_want_13 : decode cX5_want 13 = .ok (.return_, 1) := dk_177 (dk_at dksX5_want_0 13 rfl rfl)
abbrev cX5_expression : ByteArray := prog_8_method_20_code
def yX5_expression : MethodName := ⟨RX5, "expression", "(I)LDripCups$Form;"⟩
def dkwX5_expression_3 : List UInt8 := [153, 0, 17, 44, 16, 124, 42, 27, 182, 0, 194, 182, 0, 168, 167, 255, 236, 44, 182, 0, 172, 176]
abbrev dktX5_expression_3 : List UInt8 := dkwX5_expression_3 ++ []
def dkwX5_expression_2 : List UInt8 := [5, 182, 0, 126, 187, 0, 156, 89, 42, 27, 182, 0, 194, 183, 0, 161, 77, 42, 18, 196, 182, 0, 191]
abbrev dktX5_expression_2 : List UInt8 := dkwX5_expression_2 ++ dktX5_expression_3
def dkwX5_expression_1 : List UInt8 := [153, 0, 7, 4, 167, 0, 4, 3, 4, 182, 0, 126, 42, 27, 16, 6, 162, 0, 7, 4, 167, 0, 4, 3]
abbrev dktX5_expression_1 : List UInt8 := dkwX5_expression_1 ++ dktX5_expression_2
def dkwX5_expression_0 : List UInt8 := [42, 42, 180, 0, 78, 5, 159, 0, 20, 42, 180, 0, 78, 4, 159, 0, 12, 42, 16, 40, 182, 0, 141]
abbrev dktX5_expression_0 : List UInt8 := dkwX5_expression_0 ++ dktX5_expression_1
theorem dksX5_expression_0 : cX5_expression.data.toList.drop 0 = dktX5_expression_0 := by decide +kernel
theorem dksX5_expression_1 : cX5_expression.data.toList.drop 23 = dktX5_expression_1 := dk_seg dksX5_expression_0 23 rfl rfl
theorem dksX5_expression_2 : cX5_expression.data.toList.drop 47 = dktX5_expression_2 := dk_seg dksX5_expression_1 24 rfl rfl
theorem dksX5_expression_3 : cX5_expression.data.toList.drop 70 = dktX5_expression_3 := dk_seg dksX5_expression_2 23 rfl rfl
theorem dX5_expression_0 : decode cX5_expression 0 = .ok (.aload_n 0, 1) := dk_42 (dk_at dksX5_expression_0 0 rfl rfl)
theorem dX5_expression_1 : decode cX5_expression 1 = .ok (.aload_n 0, 1) := dk_42 (dk_at dksX5_expression_0 1 rfl rfl)
theorem dX5_expression_2 : decode cX5_expression 2 = .ok (.getfield 78, 3) := dk_180 0 78 (dk_at dksX5_expression_0 2 rfl rfl)
theorem dX5_expression_5 : decode cX5_expression 5 = .ok (.iconst 2, 1) := dk_5 (dk_at dksX5_expression_0 5 rfl rfl)
theorem dX5_expression_6 : decode cX5_expression 6 = .ok (.if_icmp .eq 20, 3) := dk_159 0 20 (dk_at dksX5_expression_0 6 rfl rfl)
theorem dX5_expression_9 : decode cX5_expression 9 = .ok (.aload_n 0, 1) := dk_42 (dk_at dksX5_expression_0 9 rfl rfl)
theorem dX5_expression_10 : decode cX5_expression 10 = .ok (.getfield 78, 3) := dk_180 0 78 (dk_at dksX5_expression_0 10 rfl rfl)
theorem dX5_expression_13 : decode cX5_expression 13 = .ok (.iconst 1, 1) := dk_4 (dk_at dksX5_expression_0 13 rfl rfl)
theorem dX5_expression_14 : decode cX5_expression 14 = .ok (.if_icmp .eq 12, 3) := dk_159 0 12 (dk_at dksX5_expression_0 14 rfl rfl)
theorem dX5_expression_17 : decode cX5_expression 17 = .ok (.aload_n 0, 1) := dk_42 (dk_at dksX5_expression_0 17 rfl rfl)
theorem dX5_expression_18 : decode cX5_expression 18 = .ok (.bipush 40, 2) := dk_16 40 (dk_at dksX5_expression_0 18 rfl rfl)
theorem dX5_expression_20 : decode cX5_expression 20 = .ok (.invokevirtual 141, 3) := dk_182 0 141 (dk_at dksX5_expression_0 20 rfl rfl)
theorem dX5_expression_23 : decode cX5_expression 23 = .ok (.ifCond .eq 7, 3) := dk_153 0 7 (dk_at dksX5_expression_1 0 rfl rfl)
theorem dX5_expression_26 : decode cX5_expression 26 = .ok (.iconst 1, 1) := dk_4 (dk_at dksX5_expression_1 3 rfl rfl)
theorem dX5_expression_27 : decode cX5_expression 27 = .ok (.goto 4, 3) := dk_167 0 4 (dk_at dksX5_expression_1 4 rfl rfl)
theorem dX5_expression_30 : decode cX5_expression 30 = .ok (.iconst 0, 1) := dk_3 (dk_at dksX5_expression_1 7 rfl rfl)
theorem dX5_expression_31 : decode cX5_expression 31 = .ok (.iconst 1, 1) := dk_4 (dk_at dksX5_expression_1 8 rfl rfl)
theorem dX5_expression_32 : decode cX5_expression 32 = .ok (.invokevirtual 126, 3) := dk_182 0 126 (dk_at dksX5_expression_1 9 rfl rfl)
theorem dX5_expression_35 : decode cX5_expression 35 = .ok (.aload_n 0, 1) := dk_42 (dk_at dksX5_expression_1 12 rfl rfl)
theorem dX5_expression_36 : decode cX5_expression 36 = .ok (.iload_n 1, 1) := dk_27 (dk_at dksX5_expression_1 13 rfl rfl)
theorem dX5_expression_37 : decode cX5_expression 37 = .ok (.bipush 6, 2) := dk_16 6 (dk_at dksX5_expression_1 14 rfl rfl)
theorem dX5_expression_39 : decode cX5_expression 39 = .ok (.if_icmp .ge 7, 3) := dk_162 0 7 (dk_at dksX5_expression_1 16 rfl rfl)
theorem dX5_expression_42 : decode cX5_expression 42 = .ok (.iconst 1, 1) := dk_4 (dk_at dksX5_expression_1 19 rfl rfl)
theorem dX5_expression_43 : decode cX5_expression 43 = .ok (.goto 4, 3) := dk_167 0 4 (dk_at dksX5_expression_1 20 rfl rfl)
theorem dX5_expression_46 : decode cX5_expression 46 = .ok (.iconst 0, 1) := dk_3 (dk_at dksX5_expression_1 23 rfl rfl)
theorem dX5_expression_47 : decode cX5_expression 47 = .ok (.iconst 2, 1) := dk_5 (dk_at dksX5_expression_2 0 rfl rfl)
theorem dX5_expression_48 : decode cX5_expression 48 = .ok (.invokevirtual 126, 3) := dk_182 0 126 (dk_at dksX5_expression_2 1 rfl rfl)
theorem dX5_expression_51 : decode cX5_expression 51 = .ok (.new 156, 3) := dk_187 0 156 (dk_at dksX5_expression_2 4 rfl rfl)
theorem dX5_expression_54 : decode cX5_expression 54 = .ok (.dup, 1) := dk_89 (dk_at dksX5_expression_2 7 rfl rfl)
theorem dX5_expression_55 : decode cX5_expression 55 = .ok (.aload_n 0, 1) := dk_42 (dk_at dksX5_expression_2 8 rfl rfl)
theorem dX5_expression_56 : decode cX5_expression 56 = .ok (.iload_n 1, 1) := dk_27 (dk_at dksX5_expression_2 9 rfl rfl)
theorem dX5_expression_57 : decode cX5_expression 57 = .ok (.invokevirtual 194, 3) := dk_182 0 194 (dk_at dksX5_expression_2 10 rfl rfl)
theorem dX5_expression_60 : decode cX5_expression 60 = .ok (.invokespecial 161, 3) := dk_183 0 161 (dk_at dksX5_expression_2 13 rfl rfl)
theorem dX5_expression_63 : decode cX5_expression 63 = .ok (.astore_n 2, 1) := dk_77 (dk_at dksX5_expression_2 16 rfl rfl)
theorem dX5_expression_64 : decode cX5_expression 64 = .ok (.aload_n 0, 1) := dk_42 (dk_at dksX5_expression_2 17 rfl rfl)
theorem dX5_expression_65 : decode cX5_expression 65 = .ok (.ldc 196, 2) := dk_18 196 (dk_at dksX5_expression_2 18 rfl rfl)
theorem dX5_expression_67 : decode cX5_expression 67 = .ok (.invokevirtual 191, 3) := dk_182 0 191 (dk_at dksX5_expression_2 20 rfl rfl)
theorem dX5_expression_70 : decode cX5_expression 70 = .ok (.ifCond .eq 17, 3) := dk_153 0 17 (dk_at dksX5_expression_3 0 rfl rfl)
theorem dX5_expression_73 : decode cX5_expression 73 = .ok (.aload_n 2, 1) := dk_44 (dk_at dksX5_expression_3 3 rfl rfl)
theorem dX5_expression_74 : decode cX5_expression 74 = .ok (.bipush 124, 2) := dk_16 124 (dk_at dksX5_expression_3 4 rfl rfl)
theorem dX5_expression_76 : decode cX5_expression 76 = .ok (.aload_n 0, 1) := dk_42 (dk_at dksX5_expression_3 6 rfl rfl)
theorem dX5_expression_77 : decode cX5_expression 77 = .ok (.iload_n 1, 1) := dk_27 (dk_at dksX5_expression_3 7 rfl rfl)
theorem dX5_expression_78 : decode cX5_expression 78 = .ok (.invokevirtual 194, 3) := dk_182 0 194 (dk_at dksX5_expression_3 8 rfl rfl)
theorem dX5_expression_81 : decode cX5_expression 81 = .ok (.invokevirtual 168, 3) := dk_182 0 168 (dk_at dksX5_expression_3 11 rfl rfl)
theorem dX5_expression_84 : decode cX5_expression 84 = .ok (.goto (-20), 3) := dk_167 255 236 (dk_at dksX5_expression_3 14 rfl rfl)
theorem dX5_expression_87 : decode cX5_expression 87 = .ok (.aload_n 2, 1) := dk_44 (dk_at dksX5_expression_3 17 rfl rfl)
theorem dX5_expression_88 : decode cX5_expression 88 = .ok (.invokevirtual 172, 3) := dk_182 0 172 (dk_at dksX5_expression_3 18 rfl rfl)
theorem dX5_expression_91 : decode cX5_expression 91 = .ok (.areturn, 1) := dk_176 (dk_at dksX5_expression_3 21 rfl rfl)
abbrev cX5_isSign : ByteArray := prog_8_method_8_code
def yX5_isSign : MethodName := ⟨RX5, "isSign", "(C)Z"⟩
def dkwX5_isSign_1 : List UInt8 := [4, 167, 0, 4, 3, 172]
abbrev dktX5_isSign_1 : List UInt8 := dkwX5_isSign_1 ++ []
def dkwX5_isSign_0 : List UInt8 := [42, 180, 0, 78, 6, 160, 0, 23, 42, 180, 0, 3, 180, 0, 63, 42, 180, 0, 75, 51, 27, 160, 0, 7]
abbrev dktX5_isSign_0 : List UInt8 := dkwX5_isSign_0 ++ dktX5_isSign_1
theorem dksX5_isSign_0 : cX5_isSign.data.toList.drop 0 = dktX5_isSign_0 := by decide +kernel
theorem dksX5_isSign_1 : cX5_isSign.data.toList.drop 24 = dktX5_isSign_1 := dk_seg dksX5_isSign_0 24 rfl rfl
theorem dX5_isSign_0 : decode cX5_isSign 0 = .ok (.aload_n 0, 1) := dk_42 (dk_at dksX5_isSign_0 0 rfl rfl)
theorem dX5_isSign_1 : decode cX5_isSign 1 = .ok (.getfield 78, 3) := dk_180 0 78 (dk_at dksX5_isSign_0 1 rfl rfl)
theorem dX5_isSign_4 : decode cX5_isSign 4 = .ok (.iconst 3, 1) := dk_6 (dk_at dksX5_isSign_0 4 rfl rfl)
theorem dX5_isSign_5 : decode cX5_isSign 5 = .ok (.if_icmp .ne 23, 3) := dk_160 0 23 (dk_at dksX5_isSign_0 5 rfl rfl)
theorem dX5_isSign_8 : decode cX5_isSign 8 = .ok (.aload_n 0, 1) := dk_42 (dk_at dksX5_isSign_0 8 rfl rfl)
theorem dX5_isSign_9 : decode cX5_isSign 9 = .ok (.getfield 3, 3) := dk_180 0 3 (dk_at dksX5_isSign_0 9 rfl rfl)
theorem dX5_isSign_12 : decode cX5_isSign 12 = .ok (.getfield 63, 3) := dk_180 0 63 (dk_at dksX5_isSign_0 12 rfl rfl)
theorem dX5_isSign_15 : decode cX5_isSign 15 = .ok (.aload_n 0, 1) := dk_42 (dk_at dksX5_isSign_0 15 rfl rfl)
theorem dX5_isSign_16 : decode cX5_isSign 16 = .ok (.getfield 75, 3) := dk_180 0 75 (dk_at dksX5_isSign_0 16 rfl rfl)
theorem dX5_isSign_19 : decode cX5_isSign 19 = .ok (.baload, 1) := dk_51 (dk_at dksX5_isSign_0 19 rfl rfl)
theorem dX5_isSign_20 : decode cX5_isSign 20 = .ok (.iload_n 1, 1) := dk_27 (dk_at dksX5_isSign_0 20 rfl rfl)
theorem dX5_isSign_21 : decode cX5_isSign 21 = .ok (.if_icmp .ne 7, 3) := dk_160 0 7 (dk_at dksX5_isSign_0 21 rfl rfl)
theorem dX5_isSign_24 : decode cX5_isSign 24 = .ok (.iconst 1, 1) := dk_4 (dk_at dksX5_isSign_1 0 rfl rfl)
theorem dX5_isSign_25 : decode cX5_isSign 25 = .ok (.goto 4, 3) := dk_167 0 4 (dk_at dksX5_isSign_1 1 rfl rfl)
theorem dX5_isSign_28 : decode cX5_isSign 28 = .ok (.iconst 0, 1) := dk_3 (dk_at dksX5_isSign_1 4 rfl rfl)
theorem dX5_isSign_29 : decode cX5_isSign 29 = .ok (.ireturn, 1) := dk_172 (dk_at dksX5_isSign_1 5 rfl rfl)
abbrev cX5_and : ByteArray := prog_8_method_19_code
def yX5_and : MethodName := ⟨RX5, "and", "(I)LDripCups$Form;"⟩
def dkwX5_and_1 : List UInt8 := [16, 38, 42, 27, 182, 0, 187, 182, 0, 168, 167, 255, 236, 44, 182, 0, 172, 176]
abbrev dktX5_and_1 : List UInt8 := dkwX5_and_1 ++ []
def dkwX5_and_0 : List UInt8 := [187, 0, 156, 89, 42, 27, 182, 0, 187, 183, 0, 161, 77, 42, 18, 189, 182, 0, 191, 153, 0, 17, 44]
abbrev dktX5_and_0 : List UInt8 := dkwX5_and_0 ++ dktX5_and_1
theorem dksX5_and_0 : cX5_and.data.toList.drop 0 = dktX5_and_0 := by decide +kernel
theorem dksX5_and_1 : cX5_and.data.toList.drop 23 = dktX5_and_1 := dk_seg dksX5_and_0 23 rfl rfl
theorem dX5_and_0 : decode cX5_and 0 = .ok (.new 156, 3) := dk_187 0 156 (dk_at dksX5_and_0 0 rfl rfl)
theorem dX5_and_3 : decode cX5_and 3 = .ok (.dup, 1) := dk_89 (dk_at dksX5_and_0 3 rfl rfl)
theorem dX5_and_4 : decode cX5_and 4 = .ok (.aload_n 0, 1) := dk_42 (dk_at dksX5_and_0 4 rfl rfl)
theorem dX5_and_5 : decode cX5_and 5 = .ok (.iload_n 1, 1) := dk_27 (dk_at dksX5_and_0 5 rfl rfl)
theorem dX5_and_6 : decode cX5_and 6 = .ok (.invokevirtual 187, 3) := dk_182 0 187 (dk_at dksX5_and_0 6 rfl rfl)
theorem dX5_and_9 : decode cX5_and 9 = .ok (.invokespecial 161, 3) := dk_183 0 161 (dk_at dksX5_and_0 9 rfl rfl)
theorem dX5_and_12 : decode cX5_and 12 = .ok (.astore_n 2, 1) := dk_77 (dk_at dksX5_and_0 12 rfl rfl)
theorem dX5_and_13 : decode cX5_and 13 = .ok (.aload_n 0, 1) := dk_42 (dk_at dksX5_and_0 13 rfl rfl)
theorem dX5_and_14 : decode cX5_and 14 = .ok (.ldc 189, 2) := dk_18 189 (dk_at dksX5_and_0 14 rfl rfl)
theorem dX5_and_16 : decode cX5_and 16 = .ok (.invokevirtual 191, 3) := dk_182 0 191 (dk_at dksX5_and_0 16 rfl rfl)
theorem dX5_and_19 : decode cX5_and 19 = .ok (.ifCond .eq 17, 3) := dk_153 0 17 (dk_at dksX5_and_0 19 rfl rfl)
theorem dX5_and_22 : decode cX5_and 22 = .ok (.aload_n 2, 1) := dk_44 (dk_at dksX5_and_0 22 rfl rfl)
theorem dX5_and_23 : decode cX5_and 23 = .ok (.bipush 38, 2) := dk_16 38 (dk_at dksX5_and_1 0 rfl rfl)
theorem dX5_and_25 : decode cX5_and 25 = .ok (.aload_n 0, 1) := dk_42 (dk_at dksX5_and_1 2 rfl rfl)
theorem dX5_and_26 : decode cX5_and 26 = .ok (.iload_n 1, 1) := dk_27 (dk_at dksX5_and_1 3 rfl rfl)
theorem dX5_and_27 : decode cX5_and 27 = .ok (.invokevirtual 187, 3) := dk_182 0 187 (dk_at dksX5_and_1 4 rfl rfl)
theorem dX5_and_30 : decode cX5_and 30 = .ok (.invokevirtual 168, 3) := dk_182 0 168 (dk_at dksX5_and_1 7 rfl rfl)
theorem dX5_and_33 : decode cX5_and 33 = .ok (.goto (-20), 3) := dk_167 255 236 (dk_at dksX5_and_1 10 rfl rfl)
theorem dX5_and_36 : decode cX5_and 36 = .ok (.aload_n 2, 1) := dk_44 (dk_at dksX5_and_1 13 rfl rfl)
theorem dX5_and_37 : decode cX5_and 37 = .ok (.invokevirtual 172, 3) := dk_182 0 172 (dk_at dksX5_and_1 14 rfl rfl)
theorem dX5_and_40 : decode cX5_and 40 = .ok (.areturn, 1) := dk_176 (dk_at dksX5_and_1 17 rfl rfl)
abbrev cX5_not : ByteArray := prog_8_method_18_code
def yX5_not : MethodName := ⟨RX5, "not", "(I)LDripCups$Form;"⟩
def dkwX5_not_5 : List UInt8 := [167, 255, 236, 25, 4, 176]
abbrev dktX5_not_5 : List UInt8 := dkwX5_not_5 ++ []
def dkwX5_not_4 : List UInt8 := [54, 5, 21, 5, 28, 162, 0, 20, 187, 0, 184, 89, 25, 4, 183, 0, 186, 58, 4, 132, 5, 1]
abbrev dktX5_not_4 : List UInt8 := dkwX5_not_4 ++ dktX5_not_5
def dkwX5_not_3 : List UInt8 := [182, 0, 164, 54, 4, 45, 21, 4, 42, 27, 182, 0, 181, 182, 0, 168, 45, 182, 0, 172, 58, 4, 3]
abbrev dktX5_not_3 : List UInt8 := dkwX5_not_3 ++ dktX5_not_4
def dkwX5_not_2 : List UInt8 := [183, 0, 161, 78, 42, 16, 60, 182, 0, 141, 154, 0, 12, 42, 16, 61, 182, 0, 141, 153, 0, 20, 42]
abbrev dktX5_not_2 : List UInt8 := dkwX5_not_2 ++ dktX5_not_3
def dkwX5_not_1 : List UInt8 := [182, 0, 126, 132, 2, 1, 42, 182, 0, 118, 167, 255, 224, 187, 0, 156, 89, 42, 27, 182, 0, 181]
abbrev dktX5_not_1 : List UInt8 := dkwX5_not_1 ++ dktX5_not_2
def dkwX5_not_0 : List UInt8 := [3, 61, 42, 18, 179, 182, 0, 114, 153, 0, 29, 42, 28, 16, 6, 162, 0, 7, 4, 167, 0, 4, 3, 5]
abbrev dktX5_not_0 : List UInt8 := dkwX5_not_0 ++ dktX5_not_1
theorem dksX5_not_0 : cX5_not.data.toList.drop 0 = dktX5_not_0 := by decide +kernel
theorem dksX5_not_1 : cX5_not.data.toList.drop 24 = dktX5_not_1 := dk_seg dksX5_not_0 24 rfl rfl
theorem dksX5_not_2 : cX5_not.data.toList.drop 46 = dktX5_not_2 := dk_seg dksX5_not_1 22 rfl rfl
theorem dksX5_not_3 : cX5_not.data.toList.drop 69 = dktX5_not_3 := dk_seg dksX5_not_2 23 rfl rfl
theorem dksX5_not_4 : cX5_not.data.toList.drop 92 = dktX5_not_4 := dk_seg dksX5_not_3 23 rfl rfl
theorem dksX5_not_5 : cX5_not.data.toList.drop 114 = dktX5_not_5 := dk_seg dksX5_not_4 22 rfl rfl
theorem dX5_not_0 : decode cX5_not 0 = .ok (.iconst 0, 1) := dk_3 (dk_at dksX5_not_0 0 rfl rfl)
theorem dX5_not_1 : decode cX5_not 1 = .ok (.istore_n 2, 1) := dk_61 (dk_at dksX5_not_0 1 rfl rfl)
theorem dX5_not_2 : decode cX5_not 2 = .ok (.aload_n 0, 1) := dk_42 (dk_at dksX5_not_0 2 rfl rfl)
theorem dX5_not_3 : decode cX5_not 3 = .ok (.ldc 179, 2) := dk_18 179 (dk_at dksX5_not_0 3 rfl rfl)
theorem dX5_not_5 : decode cX5_not 5 = .ok (.invokevirtual 114, 3) := dk_182 0 114 (dk_at dksX5_not_0 5 rfl rfl)
theorem dX5_not_8 : decode cX5_not 8 = .ok (.ifCond .eq 29, 3) := dk_153 0 29 (dk_at dksX5_not_0 8 rfl rfl)
theorem dX5_not_11 : decode cX5_not 11 = .ok (.aload_n 0, 1) := dk_42 (dk_at dksX5_not_0 11 rfl rfl)
theorem dX5_not_12 : decode cX5_not 12 = .ok (.iload_n 2, 1) := dk_28 (dk_at dksX5_not_0 12 rfl rfl)
theorem dX5_not_13 : decode cX5_not 13 = .ok (.bipush 6, 2) := dk_16 6 (dk_at dksX5_not_0 13 rfl rfl)
theorem dX5_not_15 : decode cX5_not 15 = .ok (.if_icmp .ge 7, 3) := dk_162 0 7 (dk_at dksX5_not_0 15 rfl rfl)
theorem dX5_not_18 : decode cX5_not 18 = .ok (.iconst 1, 1) := dk_4 (dk_at dksX5_not_0 18 rfl rfl)
theorem dX5_not_19 : decode cX5_not 19 = .ok (.goto 4, 3) := dk_167 0 4 (dk_at dksX5_not_0 19 rfl rfl)
theorem dX5_not_22 : decode cX5_not 22 = .ok (.iconst 0, 1) := dk_3 (dk_at dksX5_not_0 22 rfl rfl)
theorem dX5_not_23 : decode cX5_not 23 = .ok (.iconst 2, 1) := dk_5 (dk_at dksX5_not_0 23 rfl rfl)
theorem dX5_not_24 : decode cX5_not 24 = .ok (.invokevirtual 126, 3) := dk_182 0 126 (dk_at dksX5_not_1 0 rfl rfl)
theorem dX5_not_27 : decode cX5_not 27 = .ok (.iinc 2 1, 3) := dk_132 2 1 (dk_at dksX5_not_1 3 rfl rfl)
theorem dX5_not_30 : decode cX5_not 30 = .ok (.aload_n 0, 1) := dk_42 (dk_at dksX5_not_1 6 rfl rfl)
theorem dX5_not_31 : decode cX5_not 31 = .ok (.invokevirtual 118, 3) := dk_182 0 118 (dk_at dksX5_not_1 7 rfl rfl)
theorem dX5_not_34 : decode cX5_not 34 = .ok (.goto (-32), 3) := dk_167 255 224 (dk_at dksX5_not_1 10 rfl rfl)
theorem dX5_not_37 : decode cX5_not 37 = .ok (.new 156, 3) := dk_187 0 156 (dk_at dksX5_not_1 13 rfl rfl)
theorem dX5_not_40 : decode cX5_not 40 = .ok (.dup, 1) := dk_89 (dk_at dksX5_not_1 16 rfl rfl)
theorem dX5_not_41 : decode cX5_not 41 = .ok (.aload_n 0, 1) := dk_42 (dk_at dksX5_not_1 17 rfl rfl)
theorem dX5_not_42 : decode cX5_not 42 = .ok (.iload_n 1, 1) := dk_27 (dk_at dksX5_not_1 18 rfl rfl)
theorem dX5_not_43 : decode cX5_not 43 = .ok (.invokevirtual 181, 3) := dk_182 0 181 (dk_at dksX5_not_1 19 rfl rfl)
theorem dX5_not_46 : decode cX5_not 46 = .ok (.invokespecial 161, 3) := dk_183 0 161 (dk_at dksX5_not_2 0 rfl rfl)
theorem dX5_not_49 : decode cX5_not 49 = .ok (.astore_n 3, 1) := dk_78 (dk_at dksX5_not_2 3 rfl rfl)
theorem dX5_not_50 : decode cX5_not 50 = .ok (.aload_n 0, 1) := dk_42 (dk_at dksX5_not_2 4 rfl rfl)
theorem dX5_not_51 : decode cX5_not 51 = .ok (.bipush 60, 2) := dk_16 60 (dk_at dksX5_not_2 5 rfl rfl)
theorem dX5_not_53 : decode cX5_not 53 = .ok (.invokevirtual 141, 3) := dk_182 0 141 (dk_at dksX5_not_2 7 rfl rfl)
theorem dX5_not_56 : decode cX5_not 56 = .ok (.ifCond .ne 12, 3) := dk_154 0 12 (dk_at dksX5_not_2 10 rfl rfl)
theorem dX5_not_59 : decode cX5_not 59 = .ok (.aload_n 0, 1) := dk_42 (dk_at dksX5_not_2 13 rfl rfl)
theorem dX5_not_60 : decode cX5_not 60 = .ok (.bipush 61, 2) := dk_16 61 (dk_at dksX5_not_2 14 rfl rfl)
theorem dX5_not_62 : decode cX5_not 62 = .ok (.invokevirtual 141, 3) := dk_182 0 141 (dk_at dksX5_not_2 16 rfl rfl)
theorem dX5_not_65 : decode cX5_not 65 = .ok (.ifCond .eq 20, 3) := dk_153 0 20 (dk_at dksX5_not_2 19 rfl rfl)
theorem dX5_not_68 : decode cX5_not 68 = .ok (.aload_n 0, 1) := dk_42 (dk_at dksX5_not_2 22 rfl rfl)
theorem dX5_not_69 : decode cX5_not 69 = .ok (.invokevirtual 164, 3) := dk_182 0 164 (dk_at dksX5_not_3 0 rfl rfl)
theorem dX5_not_72 : decode cX5_not 72 = .ok (.istore 4, 2) := dk_54 4 (dk_at dksX5_not_3 3 rfl rfl)
theorem dX5_not_74 : decode cX5_not 74 = .ok (.aload_n 3, 1) := dk_45 (dk_at dksX5_not_3 5 rfl rfl)
theorem dX5_not_75 : decode cX5_not 75 = .ok (.iload 4, 2) := dk_21 4 (dk_at dksX5_not_3 6 rfl rfl)
theorem dX5_not_77 : decode cX5_not 77 = .ok (.aload_n 0, 1) := dk_42 (dk_at dksX5_not_3 8 rfl rfl)
theorem dX5_not_78 : decode cX5_not 78 = .ok (.iload_n 1, 1) := dk_27 (dk_at dksX5_not_3 9 rfl rfl)
theorem dX5_not_79 : decode cX5_not 79 = .ok (.invokevirtual 181, 3) := dk_182 0 181 (dk_at dksX5_not_3 10 rfl rfl)
theorem dX5_not_82 : decode cX5_not 82 = .ok (.invokevirtual 168, 3) := dk_182 0 168 (dk_at dksX5_not_3 13 rfl rfl)
theorem dX5_not_85 : decode cX5_not 85 = .ok (.aload_n 3, 1) := dk_45 (dk_at dksX5_not_3 16 rfl rfl)
theorem dX5_not_86 : decode cX5_not 86 = .ok (.invokevirtual 172, 3) := dk_182 0 172 (dk_at dksX5_not_3 17 rfl rfl)
theorem dX5_not_89 : decode cX5_not 89 = .ok (.astore 4, 2) := dk_58 4 (dk_at dksX5_not_3 20 rfl rfl)
theorem dX5_not_91 : decode cX5_not 91 = .ok (.iconst 0, 1) := dk_3 (dk_at dksX5_not_3 22 rfl rfl)
theorem dX5_not_92 : decode cX5_not 92 = .ok (.istore 5, 2) := dk_54 5 (dk_at dksX5_not_4 0 rfl rfl)
theorem dX5_not_94 : decode cX5_not 94 = .ok (.iload 5, 2) := dk_21 5 (dk_at dksX5_not_4 2 rfl rfl)
theorem dX5_not_96 : decode cX5_not 96 = .ok (.iload_n 2, 1) := dk_28 (dk_at dksX5_not_4 4 rfl rfl)
theorem dX5_not_97 : decode cX5_not 97 = .ok (.if_icmp .ge 20, 3) := dk_162 0 20 (dk_at dksX5_not_4 5 rfl rfl)
theorem dX5_not_100 : decode cX5_not 100 = .ok (.new 184, 3) := dk_187 0 184 (dk_at dksX5_not_4 8 rfl rfl)
theorem dX5_not_103 : decode cX5_not 103 = .ok (.dup, 1) := dk_89 (dk_at dksX5_not_4 11 rfl rfl)
theorem dX5_not_104 : decode cX5_not 104 = .ok (.aload 4, 2) := dk_25 4 (dk_at dksX5_not_4 12 rfl rfl)
theorem dX5_not_106 : decode cX5_not 106 = .ok (.invokespecial 186, 3) := dk_183 0 186 (dk_at dksX5_not_4 14 rfl rfl)
theorem dX5_not_109 : decode cX5_not 109 = .ok (.astore 4, 2) := dk_58 4 (dk_at dksX5_not_4 17 rfl rfl)
theorem dX5_not_111 : decode cX5_not 111 = .ok (.iinc 5 1, 3) := dk_132 5 1 (dk_at dksX5_not_4 19 rfl rfl)
theorem dX5_not_114 : decode cX5_not 114 = .ok (.goto (-20), 3) := dk_167 255 236 (dk_at dksX5_not_5 0 rfl rfl)
theorem dX5_not_117 : decode cX5_not 117 = .ok (.aload 4, 2) := dk_25 4 (dk_at dksX5_not_5 3 rfl rfl)
theorem dX5_not_119 : decode cX5_not 119 = .ok (.areturn, 1) := dk_176 (dk_at dksX5_not_5 5 rfl rfl)
abbrev cX5_sum : ByteArray := prog_8_method_17_code
def yX5_sum : MethodName := ⟨RX5, "sum", "(I)LDripCups$Form;"⟩
def dkwX5_sum_2 : List UInt8 := [167, 255, 223, 44, 182, 0, 172, 176]
abbrev dktX5_sum_2 : List UInt8 := dkwX5_sum_2 ++ []
def dkwX5_sum_1 : List UInt8 := [16, 45, 182, 0, 141, 153, 0, 21, 42, 182, 0, 164, 62, 44, 29, 42, 27, 182, 0, 176, 182, 0, 168]
abbrev dktX5_sum_1 : List UInt8 := dkwX5_sum_1 ++ dktX5_sum_2
def dkwX5_sum_0 : List UInt8 := [187, 0, 156, 89, 42, 27, 182, 0, 176, 183, 0, 161, 77, 42, 16, 43, 182, 0, 141, 154, 0, 12, 42]
abbrev dktX5_sum_0 : List UInt8 := dkwX5_sum_0 ++ dktX5_sum_1
theorem dksX5_sum_0 : cX5_sum.data.toList.drop 0 = dktX5_sum_0 := by decide +kernel
theorem dksX5_sum_1 : cX5_sum.data.toList.drop 23 = dktX5_sum_1 := dk_seg dksX5_sum_0 23 rfl rfl
theorem dksX5_sum_2 : cX5_sum.data.toList.drop 46 = dktX5_sum_2 := dk_seg dksX5_sum_1 23 rfl rfl
theorem dX5_sum_0 : decode cX5_sum 0 = .ok (.new 156, 3) := dk_187 0 156 (dk_at dksX5_sum_0 0 rfl rfl)
theorem dX5_sum_3 : decode cX5_sum 3 = .ok (.dup, 1) := dk_89 (dk_at dksX5_sum_0 3 rfl rfl)
theorem dX5_sum_4 : decode cX5_sum 4 = .ok (.aload_n 0, 1) := dk_42 (dk_at dksX5_sum_0 4 rfl rfl)
theorem dX5_sum_5 : decode cX5_sum 5 = .ok (.iload_n 1, 1) := dk_27 (dk_at dksX5_sum_0 5 rfl rfl)
theorem dX5_sum_6 : decode cX5_sum 6 = .ok (.invokevirtual 176, 3) := dk_182 0 176 (dk_at dksX5_sum_0 6 rfl rfl)
theorem dX5_sum_9 : decode cX5_sum 9 = .ok (.invokespecial 161, 3) := dk_183 0 161 (dk_at dksX5_sum_0 9 rfl rfl)
theorem dX5_sum_12 : decode cX5_sum 12 = .ok (.astore_n 2, 1) := dk_77 (dk_at dksX5_sum_0 12 rfl rfl)
theorem dX5_sum_13 : decode cX5_sum 13 = .ok (.aload_n 0, 1) := dk_42 (dk_at dksX5_sum_0 13 rfl rfl)
theorem dX5_sum_14 : decode cX5_sum 14 = .ok (.bipush 43, 2) := dk_16 43 (dk_at dksX5_sum_0 14 rfl rfl)
theorem dX5_sum_16 : decode cX5_sum 16 = .ok (.invokevirtual 141, 3) := dk_182 0 141 (dk_at dksX5_sum_0 16 rfl rfl)
theorem dX5_sum_19 : decode cX5_sum 19 = .ok (.ifCond .ne 12, 3) := dk_154 0 12 (dk_at dksX5_sum_0 19 rfl rfl)
theorem dX5_sum_22 : decode cX5_sum 22 = .ok (.aload_n 0, 1) := dk_42 (dk_at dksX5_sum_0 22 rfl rfl)
theorem dX5_sum_23 : decode cX5_sum 23 = .ok (.bipush 45, 2) := dk_16 45 (dk_at dksX5_sum_1 0 rfl rfl)
theorem dX5_sum_25 : decode cX5_sum 25 = .ok (.invokevirtual 141, 3) := dk_182 0 141 (dk_at dksX5_sum_1 2 rfl rfl)
theorem dX5_sum_28 : decode cX5_sum 28 = .ok (.ifCond .eq 21, 3) := dk_153 0 21 (dk_at dksX5_sum_1 5 rfl rfl)
theorem dX5_sum_31 : decode cX5_sum 31 = .ok (.aload_n 0, 1) := dk_42 (dk_at dksX5_sum_1 8 rfl rfl)
theorem dX5_sum_32 : decode cX5_sum 32 = .ok (.invokevirtual 164, 3) := dk_182 0 164 (dk_at dksX5_sum_1 9 rfl rfl)
theorem dX5_sum_35 : decode cX5_sum 35 = .ok (.istore_n 3, 1) := dk_62 (dk_at dksX5_sum_1 12 rfl rfl)
theorem dX5_sum_36 : decode cX5_sum 36 = .ok (.aload_n 2, 1) := dk_44 (dk_at dksX5_sum_1 13 rfl rfl)
theorem dX5_sum_37 : decode cX5_sum 37 = .ok (.iload_n 3, 1) := dk_29 (dk_at dksX5_sum_1 14 rfl rfl)
theorem dX5_sum_38 : decode cX5_sum 38 = .ok (.aload_n 0, 1) := dk_42 (dk_at dksX5_sum_1 15 rfl rfl)
theorem dX5_sum_39 : decode cX5_sum 39 = .ok (.iload_n 1, 1) := dk_27 (dk_at dksX5_sum_1 16 rfl rfl)
theorem dX5_sum_40 : decode cX5_sum 40 = .ok (.invokevirtual 176, 3) := dk_182 0 176 (dk_at dksX5_sum_1 17 rfl rfl)
theorem dX5_sum_43 : decode cX5_sum 43 = .ok (.invokevirtual 168, 3) := dk_182 0 168 (dk_at dksX5_sum_1 20 rfl rfl)
theorem dX5_sum_46 : decode cX5_sum 46 = .ok (.goto (-33), 3) := dk_167 255 223 (dk_at dksX5_sum_2 0 rfl rfl)
theorem dX5_sum_49 : decode cX5_sum 49 = .ok (.aload_n 2, 1) := dk_44 (dk_at dksX5_sum_2 3 rfl rfl)
theorem dX5_sum_50 : decode cX5_sum 50 = .ok (.invokevirtual 172, 3) := dk_182 0 172 (dk_at dksX5_sum_2 4 rfl rfl)
theorem dX5_sum_53 : decode cX5_sum 53 = .ok (.areturn, 1) := dk_176 (dk_at dksX5_sum_2 7 rfl rfl)
abbrev cX5_product : ByteArray := prog_8_method_16_code
def yX5_product : MethodName := ⟨RX5, "product", "(I)LDripCups$Form;"⟩
def dkwX5_product_2 : List UInt8 := [167, 255, 223, 44, 182, 0, 172, 176]
abbrev dktX5_product_2 : List UInt8 := dkwX5_product_2 ++ []
def dkwX5_product_1 : List UInt8 := [16, 47, 182, 0, 141, 153, 0, 21, 42, 182, 0, 164, 62, 44, 29, 42, 27, 182, 0, 158, 182, 0, 168]
abbrev dktX5_product_1 : List UInt8 := dkwX5_product_1 ++ dktX5_product_2
def dkwX5_product_0 : List UInt8 := [187, 0, 156, 89, 42, 27, 182, 0, 158, 183, 0, 161, 77, 42, 16, 42, 182, 0, 141, 154, 0, 12, 42]
abbrev dktX5_product_0 : List UInt8 := dkwX5_product_0 ++ dktX5_product_1
theorem dksX5_product_0 : cX5_product.data.toList.drop 0 = dktX5_product_0 := by decide +kernel
theorem dksX5_product_1 : cX5_product.data.toList.drop 23 = dktX5_product_1 := dk_seg dksX5_product_0 23 rfl rfl
theorem dksX5_product_2 : cX5_product.data.toList.drop 46 = dktX5_product_2 := dk_seg dksX5_product_1 23 rfl rfl
theorem dX5_product_0 : decode cX5_product 0 = .ok (.new 156, 3) := dk_187 0 156 (dk_at dksX5_product_0 0 rfl rfl)
theorem dX5_product_3 : decode cX5_product 3 = .ok (.dup, 1) := dk_89 (dk_at dksX5_product_0 3 rfl rfl)
theorem dX5_product_4 : decode cX5_product 4 = .ok (.aload_n 0, 1) := dk_42 (dk_at dksX5_product_0 4 rfl rfl)
theorem dX5_product_5 : decode cX5_product 5 = .ok (.iload_n 1, 1) := dk_27 (dk_at dksX5_product_0 5 rfl rfl)
theorem dX5_product_6 : decode cX5_product 6 = .ok (.invokevirtual 158, 3) := dk_182 0 158 (dk_at dksX5_product_0 6 rfl rfl)
theorem dX5_product_9 : decode cX5_product 9 = .ok (.invokespecial 161, 3) := dk_183 0 161 (dk_at dksX5_product_0 9 rfl rfl)
theorem dX5_product_12 : decode cX5_product 12 = .ok (.astore_n 2, 1) := dk_77 (dk_at dksX5_product_0 12 rfl rfl)
theorem dX5_product_13 : decode cX5_product 13 = .ok (.aload_n 0, 1) := dk_42 (dk_at dksX5_product_0 13 rfl rfl)
theorem dX5_product_14 : decode cX5_product 14 = .ok (.bipush 42, 2) := dk_16 42 (dk_at dksX5_product_0 14 rfl rfl)
theorem dX5_product_16 : decode cX5_product 16 = .ok (.invokevirtual 141, 3) := dk_182 0 141 (dk_at dksX5_product_0 16 rfl rfl)
theorem dX5_product_19 : decode cX5_product 19 = .ok (.ifCond .ne 12, 3) := dk_154 0 12 (dk_at dksX5_product_0 19 rfl rfl)
theorem dX5_product_22 : decode cX5_product 22 = .ok (.aload_n 0, 1) := dk_42 (dk_at dksX5_product_0 22 rfl rfl)
theorem dX5_product_23 : decode cX5_product 23 = .ok (.bipush 47, 2) := dk_16 47 (dk_at dksX5_product_1 0 rfl rfl)
theorem dX5_product_25 : decode cX5_product 25 = .ok (.invokevirtual 141, 3) := dk_182 0 141 (dk_at dksX5_product_1 2 rfl rfl)
theorem dX5_product_28 : decode cX5_product 28 = .ok (.ifCond .eq 21, 3) := dk_153 0 21 (dk_at dksX5_product_1 5 rfl rfl)
theorem dX5_product_31 : decode cX5_product 31 = .ok (.aload_n 0, 1) := dk_42 (dk_at dksX5_product_1 8 rfl rfl)
theorem dX5_product_32 : decode cX5_product 32 = .ok (.invokevirtual 164, 3) := dk_182 0 164 (dk_at dksX5_product_1 9 rfl rfl)
theorem dX5_product_35 : decode cX5_product 35 = .ok (.istore_n 3, 1) := dk_62 (dk_at dksX5_product_1 12 rfl rfl)
theorem dX5_product_36 : decode cX5_product 36 = .ok (.aload_n 2, 1) := dk_44 (dk_at dksX5_product_1 13 rfl rfl)
theorem dX5_product_37 : decode cX5_product 37 = .ok (.iload_n 3, 1) := dk_29 (dk_at dksX5_product_1 14 rfl rfl)
theorem dX5_product_38 : decode cX5_product 38 = .ok (.aload_n 0, 1) := dk_42 (dk_at dksX5_product_1 15 rfl rfl)
theorem dX5_product_39 : decode cX5_product 39 = .ok (.iload_n 1, 1) := dk_27 (dk_at dksX5_product_1 16 rfl rfl)
theorem dX5_product_40 : decode cX5_product 40 = .ok (.invokevirtual 158, 3) := dk_182 0 158 (dk_at dksX5_product_1 17 rfl rfl)
theorem dX5_product_43 : decode cX5_product 43 = .ok (.invokevirtual 168, 3) := dk_182 0 168 (dk_at dksX5_product_1 20 rfl rfl)
theorem dX5_product_46 : decode cX5_product 46 = .ok (.goto (-33), 3) := dk_167 255 223 (dk_at dksX5_product_2 0 rfl rfl)
theorem dX5_product_49 : decode cX5_product 49 = .ok (.aload_n 2, 1) := dk_44 (dk_at dksX5_product_2 3 rfl rfl)
theorem dX5_product_50 : decode cX5_product 50 = .ok (.invokevirtual 172, 3) := dk_182 0 172 (dk_at dksX5_product_2 4 rfl rfl)
theorem dX5_product_53 : decode cX5_product 53 = .ok (.areturn, 1) := dk_176 (dk_at dksX5_product_2 7 rfl rfl)
abbrev cX5_part : ByteArray := prog_8_method_14_code
def yX5_part : MethodName := ⟨RX5, "part", "(I)LDripCups$Form;"⟩
def dkwX5_part_4 : List UInt8 := [4, 167, 0, 4, 3, 6, 182, 0, 126, 42, 182, 0, 118, 187, 0, 153, 89, 28, 183, 0, 155, 176]
abbrev dktX5_part_4 : List UInt8 := dkwX5_part_4 ++ []
def dkwX5_part_3 : List UInt8 := [4, 167, 0, 4, 3, 4, 182, 0, 126, 42, 42, 180, 0, 53, 182, 0, 149, 61, 42, 28, 2, 159, 0, 7]
abbrev dktX5_part_3 : List UInt8 := dkwX5_part_3 ++ dktX5_part_4
def dkwX5_part_2 : List UInt8 := [16, 41, 182, 0, 141, 4, 182, 0, 126, 42, 182, 0, 118, 44, 176, 42, 42, 180, 0, 78, 4, 160, 0, 7]
abbrev dktX5_part_2 : List UInt8 := dkwX5_part_2 ++ dktX5_part_3
def dkwX5_part_1 : List UInt8 := [42, 16, 40, 182, 0, 141, 153, 0, 32, 42, 182, 0, 118, 42, 27, 4, 96, 182, 0, 145, 77, 42, 42]
abbrev dktX5_part_1 : List UInt8 := dkwX5_part_1 ++ dktX5_part_2
def dkwX5_part_0 : List UInt8 := [42, 180, 0, 78, 5, 160, 0, 19, 187, 0, 136, 89, 42, 3, 17, 39, 15, 182, 0, 138, 183, 0, 140, 176]
abbrev dktX5_part_0 : List UInt8 := dkwX5_part_0 ++ dktX5_part_1
theorem dksX5_part_0 : cX5_part.data.toList.drop 0 = dktX5_part_0 := by decide +kernel
theorem dksX5_part_1 : cX5_part.data.toList.drop 24 = dktX5_part_1 := dk_seg dksX5_part_0 24 rfl rfl
theorem dksX5_part_2 : cX5_part.data.toList.drop 47 = dktX5_part_2 := dk_seg dksX5_part_1 23 rfl rfl
theorem dksX5_part_3 : cX5_part.data.toList.drop 71 = dktX5_part_3 := dk_seg dksX5_part_2 24 rfl rfl
theorem dksX5_part_4 : cX5_part.data.toList.drop 95 = dktX5_part_4 := dk_seg dksX5_part_3 24 rfl rfl
theorem dX5_part_0 : decode cX5_part 0 = .ok (.aload_n 0, 1) := dk_42 (dk_at dksX5_part_0 0 rfl rfl)
theorem dX5_part_1 : decode cX5_part 1 = .ok (.getfield 78, 3) := dk_180 0 78 (dk_at dksX5_part_0 1 rfl rfl)
theorem dX5_part_4 : decode cX5_part 4 = .ok (.iconst 2, 1) := dk_5 (dk_at dksX5_part_0 4 rfl rfl)
theorem dX5_part_5 : decode cX5_part 5 = .ok (.if_icmp .ne 19, 3) := dk_160 0 19 (dk_at dksX5_part_0 5 rfl rfl)
theorem dX5_part_8 : decode cX5_part 8 = .ok (.new 136, 3) := dk_187 0 136 (dk_at dksX5_part_0 8 rfl rfl)
theorem dX5_part_11 : decode cX5_part 11 = .ok (.dup, 1) := dk_89 (dk_at dksX5_part_0 11 rfl rfl)
theorem dX5_part_12 : decode cX5_part 12 = .ok (.aload_n 0, 1) := dk_42 (dk_at dksX5_part_0 12 rfl rfl)
theorem dX5_part_13 : decode cX5_part 13 = .ok (.iconst 0, 1) := dk_3 (dk_at dksX5_part_0 13 rfl rfl)
theorem dX5_part_14 : decode cX5_part 14 = .ok (.sipush 9999, 3) := dk_17 39 15 (dk_at dksX5_part_0 14 rfl rfl)
theorem dX5_part_17 : decode cX5_part 17 = .ok (.invokevirtual 138, 3) := dk_182 0 138 (dk_at dksX5_part_0 17 rfl rfl)
theorem dX5_part_20 : decode cX5_part 20 = .ok (.invokespecial 140, 3) := dk_183 0 140 (dk_at dksX5_part_0 20 rfl rfl)
theorem dX5_part_23 : decode cX5_part 23 = .ok (.areturn, 1) := dk_176 (dk_at dksX5_part_0 23 rfl rfl)
theorem dX5_part_24 : decode cX5_part 24 = .ok (.aload_n 0, 1) := dk_42 (dk_at dksX5_part_1 0 rfl rfl)
theorem dX5_part_25 : decode cX5_part 25 = .ok (.bipush 40, 2) := dk_16 40 (dk_at dksX5_part_1 1 rfl rfl)
theorem dX5_part_27 : decode cX5_part 27 = .ok (.invokevirtual 141, 3) := dk_182 0 141 (dk_at dksX5_part_1 3 rfl rfl)
theorem dX5_part_30 : decode cX5_part 30 = .ok (.ifCond .eq 32, 3) := dk_153 0 32 (dk_at dksX5_part_1 6 rfl rfl)
theorem dX5_part_33 : decode cX5_part 33 = .ok (.aload_n 0, 1) := dk_42 (dk_at dksX5_part_1 9 rfl rfl)
theorem dX5_part_34 : decode cX5_part 34 = .ok (.invokevirtual 118, 3) := dk_182 0 118 (dk_at dksX5_part_1 10 rfl rfl)
theorem dX5_part_37 : decode cX5_part 37 = .ok (.aload_n 0, 1) := dk_42 (dk_at dksX5_part_1 13 rfl rfl)
theorem dX5_part_38 : decode cX5_part 38 = .ok (.iload_n 1, 1) := dk_27 (dk_at dksX5_part_1 14 rfl rfl)
theorem dX5_part_39 : decode cX5_part 39 = .ok (.iconst 1, 1) := dk_4 (dk_at dksX5_part_1 15 rfl rfl)
theorem dX5_part_40 : decode cX5_part 40 = .ok (.iadd, 1) := dk_96 (dk_at dksX5_part_1 16 rfl rfl)
theorem dX5_part_41 : decode cX5_part 41 = .ok (.invokevirtual 145, 3) := dk_182 0 145 (dk_at dksX5_part_1 17 rfl rfl)
theorem dX5_part_44 : decode cX5_part 44 = .ok (.astore_n 2, 1) := dk_77 (dk_at dksX5_part_1 20 rfl rfl)
theorem dX5_part_45 : decode cX5_part 45 = .ok (.aload_n 0, 1) := dk_42 (dk_at dksX5_part_1 21 rfl rfl)
theorem dX5_part_46 : decode cX5_part 46 = .ok (.aload_n 0, 1) := dk_42 (dk_at dksX5_part_1 22 rfl rfl)
theorem dX5_part_47 : decode cX5_part 47 = .ok (.bipush 41, 2) := dk_16 41 (dk_at dksX5_part_2 0 rfl rfl)
theorem dX5_part_49 : decode cX5_part 49 = .ok (.invokevirtual 141, 3) := dk_182 0 141 (dk_at dksX5_part_2 2 rfl rfl)
theorem dX5_part_52 : decode cX5_part 52 = .ok (.iconst 1, 1) := dk_4 (dk_at dksX5_part_2 5 rfl rfl)
theorem dX5_part_53 : decode cX5_part 53 = .ok (.invokevirtual 126, 3) := dk_182 0 126 (dk_at dksX5_part_2 6 rfl rfl)
theorem dX5_part_56 : decode cX5_part 56 = .ok (.aload_n 0, 1) := dk_42 (dk_at dksX5_part_2 9 rfl rfl)
theorem dX5_part_57 : decode cX5_part 57 = .ok (.invokevirtual 118, 3) := dk_182 0 118 (dk_at dksX5_part_2 10 rfl rfl)
theorem dX5_part_60 : decode cX5_part 60 = .ok (.aload_n 2, 1) := dk_44 (dk_at dksX5_part_2 13 rfl rfl)
theorem dX5_part_61 : decode cX5_part 61 = .ok (.areturn, 1) := dk_176 (dk_at dksX5_part_2 14 rfl rfl)
theorem dX5_part_62 : decode cX5_part 62 = .ok (.aload_n 0, 1) := dk_42 (dk_at dksX5_part_2 15 rfl rfl)
theorem dX5_part_63 : decode cX5_part 63 = .ok (.aload_n 0, 1) := dk_42 (dk_at dksX5_part_2 16 rfl rfl)
theorem dX5_part_64 : decode cX5_part 64 = .ok (.getfield 78, 3) := dk_180 0 78 (dk_at dksX5_part_2 17 rfl rfl)
theorem dX5_part_67 : decode cX5_part 67 = .ok (.iconst 1, 1) := dk_4 (dk_at dksX5_part_2 20 rfl rfl)
theorem dX5_part_68 : decode cX5_part 68 = .ok (.if_icmp .ne 7, 3) := dk_160 0 7 (dk_at dksX5_part_2 21 rfl rfl)
theorem dX5_part_71 : decode cX5_part 71 = .ok (.iconst 1, 1) := dk_4 (dk_at dksX5_part_3 0 rfl rfl)
theorem dX5_part_72 : decode cX5_part 72 = .ok (.goto 4, 3) := dk_167 0 4 (dk_at dksX5_part_3 1 rfl rfl)
theorem dX5_part_75 : decode cX5_part 75 = .ok (.iconst 0, 1) := dk_3 (dk_at dksX5_part_3 4 rfl rfl)
theorem dX5_part_76 : decode cX5_part 76 = .ok (.iconst 1, 1) := dk_4 (dk_at dksX5_part_3 5 rfl rfl)
theorem dX5_part_77 : decode cX5_part 77 = .ok (.invokevirtual 126, 3) := dk_182 0 126 (dk_at dksX5_part_3 6 rfl rfl)
theorem dX5_part_80 : decode cX5_part 80 = .ok (.aload_n 0, 1) := dk_42 (dk_at dksX5_part_3 9 rfl rfl)
theorem dX5_part_81 : decode cX5_part 81 = .ok (.aload_n 0, 1) := dk_42 (dk_at dksX5_part_3 10 rfl rfl)
theorem dX5_part_82 : decode cX5_part 82 = .ok (.getfield 53, 3) := dk_180 0 53 (dk_at dksX5_part_3 11 rfl rfl)
theorem dX5_part_85 : decode cX5_part 85 = .ok (.invokevirtual 149, 3) := dk_182 0 149 (dk_at dksX5_part_3 14 rfl rfl)
theorem dX5_part_88 : decode cX5_part 88 = .ok (.istore_n 2, 1) := dk_61 (dk_at dksX5_part_3 17 rfl rfl)
theorem dX5_part_89 : decode cX5_part 89 = .ok (.aload_n 0, 1) := dk_42 (dk_at dksX5_part_3 18 rfl rfl)
theorem dX5_part_90 : decode cX5_part 90 = .ok (.iload_n 2, 1) := dk_28 (dk_at dksX5_part_3 19 rfl rfl)
theorem dX5_part_91 : decode cX5_part 91 = .ok (.iconst (-1), 1) := dk_2 (dk_at dksX5_part_3 20 rfl rfl)
theorem dX5_part_92 : decode cX5_part 92 = .ok (.if_icmp .eq 7, 3) := dk_159 0 7 (dk_at dksX5_part_3 21 rfl rfl)
theorem dX5_part_95 : decode cX5_part 95 = .ok (.iconst 1, 1) := dk_4 (dk_at dksX5_part_4 0 rfl rfl)
theorem dX5_part_96 : decode cX5_part 96 = .ok (.goto 4, 3) := dk_167 0 4 (dk_at dksX5_part_4 1 rfl rfl)
theorem dX5_part_99 : decode cX5_part 99 = .ok (.iconst 0, 1) := dk_3 (dk_at dksX5_part_4 4 rfl rfl)
theorem dX5_part_100 : decode cX5_part 100 = .ok (.iconst 3, 1) := dk_6 (dk_at dksX5_part_4 5 rfl rfl)
theorem dX5_part_101 : decode cX5_part 101 = .ok (.invokevirtual 126, 3) := dk_182 0 126 (dk_at dksX5_part_4 6 rfl rfl)
theorem dX5_part_104 : decode cX5_part 104 = .ok (.aload_n 0, 1) := dk_42 (dk_at dksX5_part_4 9 rfl rfl)
theorem dX5_part_105 : decode cX5_part 105 = .ok (.invokevirtual 118, 3) := dk_182 0 118 (dk_at dksX5_part_4 10 rfl rfl)
theorem dX5_part_108 : decode cX5_part 108 = .ok (.new 153, 3) := dk_187 0 153 (dk_at dksX5_part_4 13 rfl rfl)
theorem dX5_part_111 : decode cX5_part 111 = .ok (.dup, 1) := dk_89 (dk_at dksX5_part_4 16 rfl rfl)
theorem dX5_part_112 : decode cX5_part 112 = .ok (.iload_n 2, 1) := dk_28 (dk_at dksX5_part_4 17 rfl rfl)
theorem dX5_part_113 : decode cX5_part 113 = .ok (.invokespecial 155, 3) := dk_183 0 155 (dk_at dksX5_part_4 18 rfl rfl)
theorem dX5_part_116 : decode cX5_part 116 = .ok (.areturn, 1) := dk_176 (dk_at dksX5_part_4 21 rfl rfl)
abbrev cX5_number : ByteArray := prog_8_method_12_code
def yX5_number : MethodName := ⟨RX5, "number", "(II)I"⟩
def dkwX5_number_0 : List UInt8 := [42, 27, 28, 182, 0, 130, 62, 42, 182, 0, 118, 29, 172]
abbrev dktX5_number_0 : List UInt8 := dkwX5_number_0 ++ []
theorem dksX5_number_0 : cX5_number.data.toList.drop 0 = dktX5_number_0 := by decide +kernel
theorem dX5_number_0 : decode cX5_number 0 = .ok (.aload_n 0, 1) := dk_42 (dk_at dksX5_number_0 0 rfl rfl)
theorem dX5_number_1 : decode cX5_number 1 = .ok (.iload_n 1, 1) := dk_27 (dk_at dksX5_number_0 1 rfl rfl)
theorem dX5_number_2 : decode cX5_number 2 = .ok (.iload_n 2, 1) := dk_28 (dk_at dksX5_number_0 2 rfl rfl)
theorem dX5_number_3 : decode cX5_number 3 = .ok (.invokevirtual 130, 3) := dk_182 0 130 (dk_at dksX5_number_0 3 rfl rfl)
theorem dX5_number_6 : decode cX5_number 6 = .ok (.istore_n 3, 1) := dk_62 (dk_at dksX5_number_0 6 rfl rfl)
theorem dX5_number_7 : decode cX5_number 7 = .ok (.aload_n 0, 1) := dk_42 (dk_at dksX5_number_0 7 rfl rfl)
theorem dX5_number_8 : decode cX5_number 8 = .ok (.invokevirtual 118, 3) := dk_182 0 118 (dk_at dksX5_number_0 8 rfl rfl)
theorem dX5_number_11 : decode cX5_number 11 = .ok (.iload_n 3, 1) := dk_29 (dk_at dksX5_number_0 11 rfl rfl)
theorem dX5_number_12 : decode cX5_number 12 = .ok (.ireturn, 1) := dk_172 (dk_at dksX5_number_0 12 rfl rfl)
abbrev cX5_numberNow : ByteArray := prog_8_method_11_code
def yX5_numberNow : MethodName := ⟨RX5, "numberNow", "(II)I"⟩
def dkwX5_numberNow_2 : List UInt8 := [4, 167, 0, 4, 3, 5, 182, 0, 126, 42, 180, 0, 88, 172]
abbrev dktX5_numberNow_2 : List UInt8 := dkwX5_numberNow_2 ++ []
def dkwX5_numberNow_1 : List UInt8 := [180, 0, 75, 100, 7, 163, 0, 23, 42, 180, 0, 88, 27, 161, 0, 15, 42, 180, 0, 88, 28, 163, 0, 7]
abbrev dktX5_numberNow_1 : List UInt8 := dkwX5_numberNow_1 ++ dktX5_numberNow_2
def dkwX5_numberNow_0 : List UInt8 := [42, 42, 180, 0, 78, 5, 160, 0, 7, 4, 167, 0, 4, 3, 4, 182, 0, 126, 42, 42, 180, 0, 104, 42]
abbrev dktX5_numberNow_0 : List UInt8 := dkwX5_numberNow_0 ++ dktX5_numberNow_1
theorem dksX5_numberNow_0 : cX5_numberNow.data.toList.drop 0 = dktX5_numberNow_0 := by decide +kernel
theorem dksX5_numberNow_1 : cX5_numberNow.data.toList.drop 24 = dktX5_numberNow_1 := dk_seg dksX5_numberNow_0 24 rfl rfl
theorem dksX5_numberNow_2 : cX5_numberNow.data.toList.drop 48 = dktX5_numberNow_2 := dk_seg dksX5_numberNow_1 24 rfl rfl
theorem dX5_numberNow_0 : decode cX5_numberNow 0 = .ok (.aload_n 0, 1) := dk_42 (dk_at dksX5_numberNow_0 0 rfl rfl)
theorem dX5_numberNow_1 : decode cX5_numberNow 1 = .ok (.aload_n 0, 1) := dk_42 (dk_at dksX5_numberNow_0 1 rfl rfl)
theorem dX5_numberNow_2 : decode cX5_numberNow 2 = .ok (.getfield 78, 3) := dk_180 0 78 (dk_at dksX5_numberNow_0 2 rfl rfl)
theorem dX5_numberNow_5 : decode cX5_numberNow 5 = .ok (.iconst 2, 1) := dk_5 (dk_at dksX5_numberNow_0 5 rfl rfl)
theorem dX5_numberNow_6 : decode cX5_numberNow 6 = .ok (.if_icmp .ne 7, 3) := dk_160 0 7 (dk_at dksX5_numberNow_0 6 rfl rfl)
theorem dX5_numberNow_9 : decode cX5_numberNow 9 = .ok (.iconst 1, 1) := dk_4 (dk_at dksX5_numberNow_0 9 rfl rfl)
theorem dX5_numberNow_10 : decode cX5_numberNow 10 = .ok (.goto 4, 3) := dk_167 0 4 (dk_at dksX5_numberNow_0 10 rfl rfl)
theorem dX5_numberNow_13 : decode cX5_numberNow 13 = .ok (.iconst 0, 1) := dk_3 (dk_at dksX5_numberNow_0 13 rfl rfl)
theorem dX5_numberNow_14 : decode cX5_numberNow 14 = .ok (.iconst 1, 1) := dk_4 (dk_at dksX5_numberNow_0 14 rfl rfl)
theorem dX5_numberNow_15 : decode cX5_numberNow 15 = .ok (.invokevirtual 126, 3) := dk_182 0 126 (dk_at dksX5_numberNow_0 15 rfl rfl)
theorem dX5_numberNow_18 : decode cX5_numberNow 18 = .ok (.aload_n 0, 1) := dk_42 (dk_at dksX5_numberNow_0 18 rfl rfl)
theorem dX5_numberNow_19 : decode cX5_numberNow 19 = .ok (.aload_n 0, 1) := dk_42 (dk_at dksX5_numberNow_0 19 rfl rfl)
theorem dX5_numberNow_20 : decode cX5_numberNow 20 = .ok (.getfield 104, 3) := dk_180 0 104 (dk_at dksX5_numberNow_0 20 rfl rfl)
theorem dX5_numberNow_23 : decode cX5_numberNow 23 = .ok (.aload_n 0, 1) := dk_42 (dk_at dksX5_numberNow_0 23 rfl rfl)
theorem dX5_numberNow_24 : decode cX5_numberNow 24 = .ok (.getfield 75, 3) := dk_180 0 75 (dk_at dksX5_numberNow_1 0 rfl rfl)
theorem dX5_numberNow_27 : decode cX5_numberNow 27 = .ok (.isub, 1) := dk_100 (dk_at dksX5_numberNow_1 3 rfl rfl)
theorem dX5_numberNow_28 : decode cX5_numberNow 28 = .ok (.iconst 4, 1) := dk_7 (dk_at dksX5_numberNow_1 4 rfl rfl)
theorem dX5_numberNow_29 : decode cX5_numberNow 29 = .ok (.if_icmp .gt 23, 3) := dk_163 0 23 (dk_at dksX5_numberNow_1 5 rfl rfl)
theorem dX5_numberNow_32 : decode cX5_numberNow 32 = .ok (.aload_n 0, 1) := dk_42 (dk_at dksX5_numberNow_1 8 rfl rfl)
theorem dX5_numberNow_33 : decode cX5_numberNow 33 = .ok (.getfield 88, 3) := dk_180 0 88 (dk_at dksX5_numberNow_1 9 rfl rfl)
theorem dX5_numberNow_36 : decode cX5_numberNow 36 = .ok (.iload_n 1, 1) := dk_27 (dk_at dksX5_numberNow_1 12 rfl rfl)
theorem dX5_numberNow_37 : decode cX5_numberNow 37 = .ok (.if_icmp .lt 15, 3) := dk_161 0 15 (dk_at dksX5_numberNow_1 13 rfl rfl)
theorem dX5_numberNow_40 : decode cX5_numberNow 40 = .ok (.aload_n 0, 1) := dk_42 (dk_at dksX5_numberNow_1 16 rfl rfl)
theorem dX5_numberNow_41 : decode cX5_numberNow 41 = .ok (.getfield 88, 3) := dk_180 0 88 (dk_at dksX5_numberNow_1 17 rfl rfl)
theorem dX5_numberNow_44 : decode cX5_numberNow 44 = .ok (.iload_n 2, 1) := dk_28 (dk_at dksX5_numberNow_1 20 rfl rfl)
theorem dX5_numberNow_45 : decode cX5_numberNow 45 = .ok (.if_icmp .gt 7, 3) := dk_163 0 7 (dk_at dksX5_numberNow_1 21 rfl rfl)
theorem dX5_numberNow_48 : decode cX5_numberNow 48 = .ok (.iconst 1, 1) := dk_4 (dk_at dksX5_numberNow_2 0 rfl rfl)
theorem dX5_numberNow_49 : decode cX5_numberNow 49 = .ok (.goto 4, 3) := dk_167 0 4 (dk_at dksX5_numberNow_2 1 rfl rfl)
theorem dX5_numberNow_52 : decode cX5_numberNow 52 = .ok (.iconst 0, 1) := dk_3 (dk_at dksX5_numberNow_2 4 rfl rfl)
theorem dX5_numberNow_53 : decode cX5_numberNow 53 = .ok (.iconst 2, 1) := dk_5 (dk_at dksX5_numberNow_2 5 rfl rfl)
theorem dX5_numberNow_54 : decode cX5_numberNow 54 = .ok (.invokevirtual 126, 3) := dk_182 0 126 (dk_at dksX5_numberNow_2 6 rfl rfl)
theorem dX5_numberNow_57 : decode cX5_numberNow 57 = .ok (.aload_n 0, 1) := dk_42 (dk_at dksX5_numberNow_2 9 rfl rfl)
theorem dX5_numberNow_58 : decode cX5_numberNow 58 = .ok (.getfield 88, 3) := dk_180 0 88 (dk_at dksX5_numberNow_2 10 rfl rfl)
theorem dX5_numberNow_61 : decode cX5_numberNow 61 = .ok (.ireturn, 1) := dk_172 (dk_at dksX5_numberNow_2 13 rfl rfl)
abbrev cX5_sign : ByteArray := prog_8_method_15_code
def yX5_sign : MethodName := ⟨RX5, "sign", "()C"⟩
def dkwX5_sign_0 : List UInt8 := [42, 180, 0, 3, 180, 0, 63, 42, 180, 0, 75, 51, 146, 60, 42, 182, 0, 118, 27, 172]
abbrev dktX5_sign_0 : List UInt8 := dkwX5_sign_0 ++ []
theorem dksX5_sign_0 : cX5_sign.data.toList.drop 0 = dktX5_sign_0 := by decide +kernel
theorem dX5_sign_0 : decode cX5_sign 0 = .ok (.aload_n 0, 1) := dk_42 (dk_at dksX5_sign_0 0 rfl rfl)
theorem dX5_sign_1 : decode cX5_sign 1 = .ok (.getfield 3, 3) := dk_180 0 3 (dk_at dksX5_sign_0 1 rfl rfl)
theorem dX5_sign_4 : decode cX5_sign 4 = .ok (.getfield 63, 3) := dk_180 0 63 (dk_at dksX5_sign_0 4 rfl rfl)
theorem dX5_sign_7 : decode cX5_sign 7 = .ok (.aload_n 0, 1) := dk_42 (dk_at dksX5_sign_0 7 rfl rfl)
theorem dX5_sign_8 : decode cX5_sign 8 = .ok (.getfield 75, 3) := dk_180 0 75 (dk_at dksX5_sign_0 8 rfl rfl)
theorem dX5_sign_11 : decode cX5_sign 11 = .ok (.baload, 1) := dk_51 (dk_at dksX5_sign_0 11 rfl rfl)
theorem dX5_sign_12 : decode cX5_sign 12 = .ok (.i2c, 1) := dk_146 (dk_at dksX5_sign_0 12 rfl rfl)
theorem dX5_sign_13 : decode cX5_sign 13 = .ok (.istore_n 1, 1) := dk_60 (dk_at dksX5_sign_0 13 rfl rfl)
theorem dX5_sign_14 : decode cX5_sign 14 = .ok (.aload_n 0, 1) := dk_42 (dk_at dksX5_sign_0 14 rfl rfl)
theorem dX5_sign_15 : decode cX5_sign 15 = .ok (.invokevirtual 118, 3) := dk_182 0 118 (dk_at dksX5_sign_0 15 rfl rfl)
theorem dX5_sign_18 : decode cX5_sign 18 = .ok (.iload_n 1, 1) := dk_27 (dk_at dksX5_sign_0 18 rfl rfl)
theorem dX5_sign_19 : decode cX5_sign 19 = .ok (.ireturn, 1) := dk_172 (dk_at dksX5_sign_0 19 rfl rfl)
abbrev cX5_passes : ByteArray := prog_8_method_9_code
def yX5_passes : MethodName := ⟨RX5, "passes", "(Ljava/lang/String;)Z"⟩
def dkwX5_passes_0 : List UInt8 := [42, 43, 182, 0, 114, 61, 28, 153, 0, 7, 42, 182, 0, 118, 28, 172]
abbrev dktX5_passes_0 : List UInt8 := dkwX5_passes_0 ++ []
theorem dksX5_passes_0 : cX5_passes.data.toList.drop 0 = dktX5_passes_0 := by decide +kernel
theorem dX5_passes_0 : decode cX5_passes 0 = .ok (.aload_n 0, 1) := dk_42 (dk_at dksX5_passes_0 0 rfl rfl)
theorem dX5_passes_1 : decode cX5_passes 1 = .ok (.aload_n 1, 1) := dk_43 (dk_at dksX5_passes_0 1 rfl rfl)
theorem dX5_passes_2 : decode cX5_passes 2 = .ok (.invokevirtual 114, 3) := dk_182 0 114 (dk_at dksX5_passes_0 2 rfl rfl)
theorem dX5_passes_5 : decode cX5_passes 5 = .ok (.istore_n 2, 1) := dk_61 (dk_at dksX5_passes_0 5 rfl rfl)
theorem dX5_passes_6 : decode cX5_passes 6 = .ok (.iload_n 2, 1) := dk_28 (dk_at dksX5_passes_0 6 rfl rfl)
theorem dX5_passes_7 : decode cX5_passes 7 = .ok (.ifCond .eq 7, 3) := dk_153 0 7 (dk_at dksX5_passes_0 7 rfl rfl)
theorem dX5_passes_10 : decode cX5_passes 10 = .ok (.aload_n 0, 1) := dk_42 (dk_at dksX5_passes_0 10 rfl rfl)
theorem dX5_passes_11 : decode cX5_passes 11 = .ok (.invokevirtual 118, 3) := dk_182 0 118 (dk_at dksX5_passes_0 11 rfl rfl)
theorem dX5_passes_14 : decode cX5_passes 14 = .ok (.iload_n 2, 1) := dk_28 (dk_at dksX5_passes_0 14 rfl rfl)
theorem dX5_passes_15 : decode cX5_passes 15 = .ok (.ireturn, 1) := dk_172 (dk_at dksX5_passes_0 15 rfl rfl)
abbrev cX5_cup : ByteArray := prog_8_method_21_code
def yX5_cup : MethodName := ⟨RX5, "cup", "()V"⟩
def dkwX5_cup_3 : List UInt8 := [180, 0, 18, 180, 0, 203, 42, 3, 16, 20, 182, 0, 138, 184, 0, 207, 185, 0, 213, 2, 0, 87, 177]
abbrev dktX5_cup_3 : List UInt8 := dkwX5_cup_3 ++ []
def dkwX5_cup_2 : List UInt8 := [180, 0, 201, 27, 42, 3, 42, 180, 0, 27, 180, 0, 198, 27, 46, 4, 100, 182, 0, 138, 79, 42]
abbrev dktX5_cup_2 : List UInt8 := dkwX5_cup_2 ++ dktX5_cup_3
def dkwX5_cup_1 : List UInt8 := [42, 182, 0, 118, 42, 180, 0, 27, 180, 0, 198, 27, 42, 4, 16, 30, 182, 0, 138, 79, 42, 180, 0, 27]
abbrev dktX5_cup_1 : List UInt8 := dkwX5_cup_1 ++ dktX5_cup_2
def dkwX5_cup_0 : List UInt8 := [42, 180, 0, 18, 182, 0, 133, 60, 42, 27, 16, 9, 162, 0, 7, 4, 167, 0, 4, 3, 5, 182, 0, 126]
abbrev dktX5_cup_0 : List UInt8 := dkwX5_cup_0 ++ dktX5_cup_1
theorem dksX5_cup_0 : cX5_cup.data.toList.drop 0 = dktX5_cup_0 := by decide +kernel
theorem dksX5_cup_1 : cX5_cup.data.toList.drop 24 = dktX5_cup_1 := dk_seg dksX5_cup_0 24 rfl rfl
theorem dksX5_cup_2 : cX5_cup.data.toList.drop 48 = dktX5_cup_2 := dk_seg dksX5_cup_1 24 rfl rfl
theorem dksX5_cup_3 : cX5_cup.data.toList.drop 70 = dktX5_cup_3 := dk_seg dksX5_cup_2 22 rfl rfl
theorem dX5_cup_0 : decode cX5_cup 0 = .ok (.aload_n 0, 1) := dk_42 (dk_at dksX5_cup_0 0 rfl rfl)
theorem dX5_cup_1 : decode cX5_cup 1 = .ok (.getfield 18, 3) := dk_180 0 18 (dk_at dksX5_cup_0 1 rfl rfl)
theorem dX5_cup_4 : decode cX5_cup 4 = .ok (.invokevirtual 133, 3) := dk_182 0 133 (dk_at dksX5_cup_0 4 rfl rfl)
theorem dX5_cup_7 : decode cX5_cup 7 = .ok (.istore_n 1, 1) := dk_60 (dk_at dksX5_cup_0 7 rfl rfl)
theorem dX5_cup_8 : decode cX5_cup 8 = .ok (.aload_n 0, 1) := dk_42 (dk_at dksX5_cup_0 8 rfl rfl)
theorem dX5_cup_9 : decode cX5_cup 9 = .ok (.iload_n 1, 1) := dk_27 (dk_at dksX5_cup_0 9 rfl rfl)
theorem dX5_cup_10 : decode cX5_cup 10 = .ok (.bipush 9, 2) := dk_16 9 (dk_at dksX5_cup_0 10 rfl rfl)
theorem dX5_cup_12 : decode cX5_cup 12 = .ok (.if_icmp .ge 7, 3) := dk_162 0 7 (dk_at dksX5_cup_0 12 rfl rfl)
theorem dX5_cup_15 : decode cX5_cup 15 = .ok (.iconst 1, 1) := dk_4 (dk_at dksX5_cup_0 15 rfl rfl)
theorem dX5_cup_16 : decode cX5_cup 16 = .ok (.goto 4, 3) := dk_167 0 4 (dk_at dksX5_cup_0 16 rfl rfl)
theorem dX5_cup_19 : decode cX5_cup 19 = .ok (.iconst 0, 1) := dk_3 (dk_at dksX5_cup_0 19 rfl rfl)
theorem dX5_cup_20 : decode cX5_cup 20 = .ok (.iconst 2, 1) := dk_5 (dk_at dksX5_cup_0 20 rfl rfl)
theorem dX5_cup_21 : decode cX5_cup 21 = .ok (.invokevirtual 126, 3) := dk_182 0 126 (dk_at dksX5_cup_0 21 rfl rfl)
theorem dX5_cup_24 : decode cX5_cup 24 = .ok (.aload_n 0, 1) := dk_42 (dk_at dksX5_cup_1 0 rfl rfl)
theorem dX5_cup_25 : decode cX5_cup 25 = .ok (.invokevirtual 118, 3) := dk_182 0 118 (dk_at dksX5_cup_1 1 rfl rfl)
theorem dX5_cup_28 : decode cX5_cup 28 = .ok (.aload_n 0, 1) := dk_42 (dk_at dksX5_cup_1 4 rfl rfl)
theorem dX5_cup_29 : decode cX5_cup 29 = .ok (.getfield 27, 3) := dk_180 0 27 (dk_at dksX5_cup_1 5 rfl rfl)
theorem dX5_cup_32 : decode cX5_cup 32 = .ok (.getfield 198, 3) := dk_180 0 198 (dk_at dksX5_cup_1 8 rfl rfl)
theorem dX5_cup_35 : decode cX5_cup 35 = .ok (.iload_n 1, 1) := dk_27 (dk_at dksX5_cup_1 11 rfl rfl)
theorem dX5_cup_36 : decode cX5_cup 36 = .ok (.aload_n 0, 1) := dk_42 (dk_at dksX5_cup_1 12 rfl rfl)
theorem dX5_cup_37 : decode cX5_cup 37 = .ok (.iconst 1, 1) := dk_4 (dk_at dksX5_cup_1 13 rfl rfl)
theorem dX5_cup_38 : decode cX5_cup 38 = .ok (.bipush 30, 2) := dk_16 30 (dk_at dksX5_cup_1 14 rfl rfl)
theorem dX5_cup_40 : decode cX5_cup 40 = .ok (.invokevirtual 138, 3) := dk_182 0 138 (dk_at dksX5_cup_1 16 rfl rfl)
theorem dX5_cup_43 : decode cX5_cup 43 = .ok (.iastore, 1) := dk_79 (dk_at dksX5_cup_1 19 rfl rfl)
theorem dX5_cup_44 : decode cX5_cup 44 = .ok (.aload_n 0, 1) := dk_42 (dk_at dksX5_cup_1 20 rfl rfl)
theorem dX5_cup_45 : decode cX5_cup 45 = .ok (.getfield 27, 3) := dk_180 0 27 (dk_at dksX5_cup_1 21 rfl rfl)
theorem dX5_cup_48 : decode cX5_cup 48 = .ok (.getfield 201, 3) := dk_180 0 201 (dk_at dksX5_cup_2 0 rfl rfl)
theorem dX5_cup_51 : decode cX5_cup 51 = .ok (.iload_n 1, 1) := dk_27 (dk_at dksX5_cup_2 3 rfl rfl)
theorem dX5_cup_52 : decode cX5_cup 52 = .ok (.aload_n 0, 1) := dk_42 (dk_at dksX5_cup_2 4 rfl rfl)
theorem dX5_cup_53 : decode cX5_cup 53 = .ok (.iconst 0, 1) := dk_3 (dk_at dksX5_cup_2 5 rfl rfl)
theorem dX5_cup_54 : decode cX5_cup 54 = .ok (.aload_n 0, 1) := dk_42 (dk_at dksX5_cup_2 6 rfl rfl)
theorem dX5_cup_55 : decode cX5_cup 55 = .ok (.getfield 27, 3) := dk_180 0 27 (dk_at dksX5_cup_2 7 rfl rfl)
theorem dX5_cup_58 : decode cX5_cup 58 = .ok (.getfield 198, 3) := dk_180 0 198 (dk_at dksX5_cup_2 10 rfl rfl)
theorem dX5_cup_61 : decode cX5_cup 61 = .ok (.iload_n 1, 1) := dk_27 (dk_at dksX5_cup_2 13 rfl rfl)
theorem dX5_cup_62 : decode cX5_cup 62 = .ok (.iaload, 1) := dk_46 (dk_at dksX5_cup_2 14 rfl rfl)
theorem dX5_cup_63 : decode cX5_cup 63 = .ok (.iconst 1, 1) := dk_4 (dk_at dksX5_cup_2 15 rfl rfl)
theorem dX5_cup_64 : decode cX5_cup 64 = .ok (.isub, 1) := dk_100 (dk_at dksX5_cup_2 16 rfl rfl)
theorem dX5_cup_65 : decode cX5_cup 65 = .ok (.invokevirtual 138, 3) := dk_182 0 138 (dk_at dksX5_cup_2 17 rfl rfl)
theorem dX5_cup_68 : decode cX5_cup 68 = .ok (.iastore, 1) := dk_79 (dk_at dksX5_cup_2 20 rfl rfl)
theorem dX5_cup_69 : decode cX5_cup 69 = .ok (.aload_n 0, 1) := dk_42 (dk_at dksX5_cup_2 21 rfl rfl)
theorem dX5_cup_70 : decode cX5_cup 70 = .ok (.getfield 18, 3) := dk_180 0 18 (dk_at dksX5_cup_3 0 rfl rfl)
theorem dX5_cup_73 : decode cX5_cup 73 = .ok (.getfield 203, 3) := dk_180 0 203 (dk_at dksX5_cup_3 3 rfl rfl)
theorem dX5_cup_76 : decode cX5_cup 76 = .ok (.aload_n 0, 1) := dk_42 (dk_at dksX5_cup_3 6 rfl rfl)
theorem dX5_cup_77 : decode cX5_cup 77 = .ok (.iconst 0, 1) := dk_3 (dk_at dksX5_cup_3 7 rfl rfl)
theorem dX5_cup_78 : decode cX5_cup 78 = .ok (.bipush 20, 2) := dk_16 20 (dk_at dksX5_cup_3 8 rfl rfl)
theorem dX5_cup_80 : decode cX5_cup 80 = .ok (.invokevirtual 138, 3) := dk_182 0 138 (dk_at dksX5_cup_3 10 rfl rfl)
theorem dX5_cup_83 : decode cX5_cup 83 = .ok (.invokestatic 207, 3) := dk_184 0 207 (dk_at dksX5_cup_3 13 rfl rfl)
theorem dX5_cup_86 : decode cX5_cup 86 = .ok (.invokeinterface 213 2, 5) := by decide +kernel
theorem dX5_cup_91 : decode cX5_cup 91 = .ok (.pop, 1) := dk_87 (dk_at dksX5_cup_3 21 rfl rfl)
theorem dX5_cup_92 : decode cX5_cup 92 = .ok (.return_, 1) := dk_177 (dk_at dksX5_cup_3 22 rfl rfl)
abbrev cX5_pipe : ByteArray := prog_8_method_22_code
def yX5_pipe : MethodName := ⟨RX5, "pipe", "()V"⟩
def dkwX5_pipe_5 : List UInt8 := [180, 0, 221, 4, 27, 120, 128, 181, 0, 221, 177]
abbrev dktX5_pipe_5 : List UInt8 := dkwX5_pipe_5 ++ []
def dkwX5_pipe_4 : List UInt8 := [167, 0, 4, 3, 7, 182, 0, 126, 42, 182, 0, 118, 42, 180, 0, 27, 180, 0, 231, 27, 29, 79, 42, 89]
abbrev dktX5_pipe_4 : List UInt8 := dkwX5_pipe_4 ++ dktX5_pipe_5
def dkwX5_pipe_3 : List UInt8 := [180, 0, 78, 5, 160, 0, 42, 42, 182, 0, 218, 62, 42, 29, 27, 164, 0, 12, 29, 28, 159, 0, 7, 4]
abbrev dktX5_pipe_3 : List UInt8 := dkwX5_pipe_3 ++ dktX5_pipe_4
def dkwX5_pipe_2 : List UInt8 := [167, 0, 4, 3, 7, 182, 0, 126, 42, 182, 0, 118, 42, 180, 0, 27, 180, 0, 228, 27, 28, 79, 42]
abbrev dktX5_pipe_2 : List UInt8 := dkwX5_pipe_2 ++ dktX5_pipe_3
def dkwX5_pipe_1 : List UInt8 := [167, 0, 4, 3, 7, 182, 0, 126, 42, 182, 0, 118, 42, 182, 0, 218, 61, 42, 28, 27, 164, 0, 7, 4]
abbrev dktX5_pipe_1 : List UInt8 := dkwX5_pipe_1 ++ dktX5_pipe_2
def dkwX5_pipe_0 : List UInt8 := [42, 182, 0, 118, 42, 182, 0, 218, 60, 42, 42, 180, 0, 221, 27, 184, 0, 224, 154, 0, 7, 4]
abbrev dktX5_pipe_0 : List UInt8 := dkwX5_pipe_0 ++ dktX5_pipe_1
theorem dksX5_pipe_0 : cX5_pipe.data.toList.drop 0 = dktX5_pipe_0 := by decide +kernel
theorem dksX5_pipe_1 : cX5_pipe.data.toList.drop 22 = dktX5_pipe_1 := dk_seg dksX5_pipe_0 22 rfl rfl
theorem dksX5_pipe_2 : cX5_pipe.data.toList.drop 46 = dktX5_pipe_2 := dk_seg dksX5_pipe_1 24 rfl rfl
theorem dksX5_pipe_3 : cX5_pipe.data.toList.drop 69 = dktX5_pipe_3 := dk_seg dksX5_pipe_2 23 rfl rfl
theorem dksX5_pipe_4 : cX5_pipe.data.toList.drop 93 = dktX5_pipe_4 := dk_seg dksX5_pipe_3 24 rfl rfl
theorem dksX5_pipe_5 : cX5_pipe.data.toList.drop 117 = dktX5_pipe_5 := dk_seg dksX5_pipe_4 24 rfl rfl
theorem dX5_pipe_0 : decode cX5_pipe 0 = .ok (.aload_n 0, 1) := dk_42 (dk_at dksX5_pipe_0 0 rfl rfl)
theorem dX5_pipe_1 : decode cX5_pipe 1 = .ok (.invokevirtual 118, 3) := dk_182 0 118 (dk_at dksX5_pipe_0 1 rfl rfl)
theorem dX5_pipe_4 : decode cX5_pipe 4 = .ok (.aload_n 0, 1) := dk_42 (dk_at dksX5_pipe_0 4 rfl rfl)
theorem dX5_pipe_5 : decode cX5_pipe 5 = .ok (.invokevirtual 218, 3) := dk_182 0 218 (dk_at dksX5_pipe_0 5 rfl rfl)
theorem dX5_pipe_8 : decode cX5_pipe 8 = .ok (.istore_n 1, 1) := dk_60 (dk_at dksX5_pipe_0 8 rfl rfl)
theorem dX5_pipe_9 : decode cX5_pipe 9 = .ok (.aload_n 0, 1) := dk_42 (dk_at dksX5_pipe_0 9 rfl rfl)
theorem dX5_pipe_10 : decode cX5_pipe 10 = .ok (.aload_n 0, 1) := dk_42 (dk_at dksX5_pipe_0 10 rfl rfl)
theorem dX5_pipe_11 : decode cX5_pipe 11 = .ok (.getfield 221, 3) := dk_180 0 221 (dk_at dksX5_pipe_0 11 rfl rfl)
theorem dX5_pipe_14 : decode cX5_pipe 14 = .ok (.iload_n 1, 1) := dk_27 (dk_at dksX5_pipe_0 14 rfl rfl)
theorem dX5_pipe_15 : decode cX5_pipe 15 = .ok (.invokestatic 224, 3) := dk_184 0 224 (dk_at dksX5_pipe_0 15 rfl rfl)
theorem dX5_pipe_18 : decode cX5_pipe 18 = .ok (.ifCond .ne 7, 3) := dk_154 0 7 (dk_at dksX5_pipe_0 18 rfl rfl)
theorem dX5_pipe_21 : decode cX5_pipe 21 = .ok (.iconst 1, 1) := dk_4 (dk_at dksX5_pipe_0 21 rfl rfl)
theorem dX5_pipe_22 : decode cX5_pipe 22 = .ok (.goto 4, 3) := dk_167 0 4 (dk_at dksX5_pipe_1 0 rfl rfl)
theorem dX5_pipe_25 : decode cX5_pipe 25 = .ok (.iconst 0, 1) := dk_3 (dk_at dksX5_pipe_1 3 rfl rfl)
theorem dX5_pipe_26 : decode cX5_pipe 26 = .ok (.iconst 4, 1) := dk_7 (dk_at dksX5_pipe_1 4 rfl rfl)
theorem dX5_pipe_27 : decode cX5_pipe 27 = .ok (.invokevirtual 126, 3) := dk_182 0 126 (dk_at dksX5_pipe_1 5 rfl rfl)
theorem dX5_pipe_30 : decode cX5_pipe 30 = .ok (.aload_n 0, 1) := dk_42 (dk_at dksX5_pipe_1 8 rfl rfl)
theorem dX5_pipe_31 : decode cX5_pipe 31 = .ok (.invokevirtual 118, 3) := dk_182 0 118 (dk_at dksX5_pipe_1 9 rfl rfl)
theorem dX5_pipe_34 : decode cX5_pipe 34 = .ok (.aload_n 0, 1) := dk_42 (dk_at dksX5_pipe_1 12 rfl rfl)
theorem dX5_pipe_35 : decode cX5_pipe 35 = .ok (.invokevirtual 218, 3) := dk_182 0 218 (dk_at dksX5_pipe_1 13 rfl rfl)
theorem dX5_pipe_38 : decode cX5_pipe 38 = .ok (.istore_n 2, 1) := dk_61 (dk_at dksX5_pipe_1 16 rfl rfl)
theorem dX5_pipe_39 : decode cX5_pipe 39 = .ok (.aload_n 0, 1) := dk_42 (dk_at dksX5_pipe_1 17 rfl rfl)
theorem dX5_pipe_40 : decode cX5_pipe 40 = .ok (.iload_n 2, 1) := dk_28 (dk_at dksX5_pipe_1 18 rfl rfl)
theorem dX5_pipe_41 : decode cX5_pipe 41 = .ok (.iload_n 1, 1) := dk_27 (dk_at dksX5_pipe_1 19 rfl rfl)
theorem dX5_pipe_42 : decode cX5_pipe 42 = .ok (.if_icmp .le 7, 3) := dk_164 0 7 (dk_at dksX5_pipe_1 20 rfl rfl)
theorem dX5_pipe_45 : decode cX5_pipe 45 = .ok (.iconst 1, 1) := dk_4 (dk_at dksX5_pipe_1 23 rfl rfl)
theorem dX5_pipe_46 : decode cX5_pipe 46 = .ok (.goto 4, 3) := dk_167 0 4 (dk_at dksX5_pipe_2 0 rfl rfl)
theorem dX5_pipe_49 : decode cX5_pipe 49 = .ok (.iconst 0, 1) := dk_3 (dk_at dksX5_pipe_2 3 rfl rfl)
theorem dX5_pipe_50 : decode cX5_pipe 50 = .ok (.iconst 4, 1) := dk_7 (dk_at dksX5_pipe_2 4 rfl rfl)
theorem dX5_pipe_51 : decode cX5_pipe 51 = .ok (.invokevirtual 126, 3) := dk_182 0 126 (dk_at dksX5_pipe_2 5 rfl rfl)
theorem dX5_pipe_54 : decode cX5_pipe 54 = .ok (.aload_n 0, 1) := dk_42 (dk_at dksX5_pipe_2 8 rfl rfl)
theorem dX5_pipe_55 : decode cX5_pipe 55 = .ok (.invokevirtual 118, 3) := dk_182 0 118 (dk_at dksX5_pipe_2 9 rfl rfl)
theorem dX5_pipe_58 : decode cX5_pipe 58 = .ok (.aload_n 0, 1) := dk_42 (dk_at dksX5_pipe_2 12 rfl rfl)
theorem dX5_pipe_59 : decode cX5_pipe 59 = .ok (.getfield 27, 3) := dk_180 0 27 (dk_at dksX5_pipe_2 13 rfl rfl)
theorem dX5_pipe_62 : decode cX5_pipe 62 = .ok (.getfield 228, 3) := dk_180 0 228 (dk_at dksX5_pipe_2 16 rfl rfl)
theorem dX5_pipe_65 : decode cX5_pipe 65 = .ok (.iload_n 1, 1) := dk_27 (dk_at dksX5_pipe_2 19 rfl rfl)
theorem dX5_pipe_66 : decode cX5_pipe 66 = .ok (.iload_n 2, 1) := dk_28 (dk_at dksX5_pipe_2 20 rfl rfl)
theorem dX5_pipe_67 : decode cX5_pipe 67 = .ok (.iastore, 1) := dk_79 (dk_at dksX5_pipe_2 21 rfl rfl)
theorem dX5_pipe_68 : decode cX5_pipe 68 = .ok (.aload_n 0, 1) := dk_42 (dk_at dksX5_pipe_2 22 rfl rfl)
theorem dX5_pipe_69 : decode cX5_pipe 69 = .ok (.getfield 78, 3) := dk_180 0 78 (dk_at dksX5_pipe_3 0 rfl rfl)
theorem dX5_pipe_72 : decode cX5_pipe 72 = .ok (.iconst 2, 1) := dk_5 (dk_at dksX5_pipe_3 3 rfl rfl)
theorem dX5_pipe_73 : decode cX5_pipe 73 = .ok (.if_icmp .ne 42, 3) := dk_160 0 42 (dk_at dksX5_pipe_3 4 rfl rfl)
theorem dX5_pipe_76 : decode cX5_pipe 76 = .ok (.aload_n 0, 1) := dk_42 (dk_at dksX5_pipe_3 7 rfl rfl)
theorem dX5_pipe_77 : decode cX5_pipe 77 = .ok (.invokevirtual 218, 3) := dk_182 0 218 (dk_at dksX5_pipe_3 8 rfl rfl)
theorem dX5_pipe_80 : decode cX5_pipe 80 = .ok (.istore_n 3, 1) := dk_62 (dk_at dksX5_pipe_3 11 rfl rfl)
theorem dX5_pipe_81 : decode cX5_pipe 81 = .ok (.aload_n 0, 1) := dk_42 (dk_at dksX5_pipe_3 12 rfl rfl)
theorem dX5_pipe_82 : decode cX5_pipe 82 = .ok (.iload_n 3, 1) := dk_29 (dk_at dksX5_pipe_3 13 rfl rfl)
theorem dX5_pipe_83 : decode cX5_pipe 83 = .ok (.iload_n 1, 1) := dk_27 (dk_at dksX5_pipe_3 14 rfl rfl)
theorem dX5_pipe_84 : decode cX5_pipe 84 = .ok (.if_icmp .le 12, 3) := dk_164 0 12 (dk_at dksX5_pipe_3 15 rfl rfl)
theorem dX5_pipe_87 : decode cX5_pipe 87 = .ok (.iload_n 3, 1) := dk_29 (dk_at dksX5_pipe_3 18 rfl rfl)
theorem dX5_pipe_88 : decode cX5_pipe 88 = .ok (.iload_n 2, 1) := dk_28 (dk_at dksX5_pipe_3 19 rfl rfl)
theorem dX5_pipe_89 : decode cX5_pipe 89 = .ok (.if_icmp .eq 7, 3) := dk_159 0 7 (dk_at dksX5_pipe_3 20 rfl rfl)
theorem dX5_pipe_92 : decode cX5_pipe 92 = .ok (.iconst 1, 1) := dk_4 (dk_at dksX5_pipe_3 23 rfl rfl)
theorem dX5_pipe_93 : decode cX5_pipe 93 = .ok (.goto 4, 3) := dk_167 0 4 (dk_at dksX5_pipe_4 0 rfl rfl)
theorem dX5_pipe_96 : decode cX5_pipe 96 = .ok (.iconst 0, 1) := dk_3 (dk_at dksX5_pipe_4 3 rfl rfl)
theorem dX5_pipe_97 : decode cX5_pipe 97 = .ok (.iconst 4, 1) := dk_7 (dk_at dksX5_pipe_4 4 rfl rfl)
theorem dX5_pipe_98 : decode cX5_pipe 98 = .ok (.invokevirtual 126, 3) := dk_182 0 126 (dk_at dksX5_pipe_4 5 rfl rfl)
theorem dX5_pipe_101 : decode cX5_pipe 101 = .ok (.aload_n 0, 1) := dk_42 (dk_at dksX5_pipe_4 8 rfl rfl)
theorem dX5_pipe_102 : decode cX5_pipe 102 = .ok (.invokevirtual 118, 3) := dk_182 0 118 (dk_at dksX5_pipe_4 9 rfl rfl)
theorem dX5_pipe_105 : decode cX5_pipe 105 = .ok (.aload_n 0, 1) := dk_42 (dk_at dksX5_pipe_4 12 rfl rfl)
theorem dX5_pipe_106 : decode cX5_pipe 106 = .ok (.getfield 27, 3) := dk_180 0 27 (dk_at dksX5_pipe_4 13 rfl rfl)
theorem dX5_pipe_109 : decode cX5_pipe 109 = .ok (.getfield 231, 3) := dk_180 0 231 (dk_at dksX5_pipe_4 16 rfl rfl)
theorem dX5_pipe_112 : decode cX5_pipe 112 = .ok (.iload_n 1, 1) := dk_27 (dk_at dksX5_pipe_4 19 rfl rfl)
theorem dX5_pipe_113 : decode cX5_pipe 113 = .ok (.iload_n 3, 1) := dk_29 (dk_at dksX5_pipe_4 20 rfl rfl)
theorem dX5_pipe_114 : decode cX5_pipe 114 = .ok (.iastore, 1) := dk_79 (dk_at dksX5_pipe_4 21 rfl rfl)
theorem dX5_pipe_115 : decode cX5_pipe 115 = .ok (.aload_n 0, 1) := dk_42 (dk_at dksX5_pipe_4 22 rfl rfl)
theorem dX5_pipe_116 : decode cX5_pipe 116 = .ok (.dup, 1) := dk_89 (dk_at dksX5_pipe_4 23 rfl rfl)
theorem dX5_pipe_117 : decode cX5_pipe 117 = .ok (.getfield 221, 3) := dk_180 0 221 (dk_at dksX5_pipe_5 0 rfl rfl)
theorem dX5_pipe_120 : decode cX5_pipe 120 = .ok (.iconst 1, 1) := dk_4 (dk_at dksX5_pipe_5 3 rfl rfl)
theorem dX5_pipe_121 : decode cX5_pipe 121 = .ok (.iload_n 1, 1) := dk_27 (dk_at dksX5_pipe_5 4 rfl rfl)
theorem dX5_pipe_122 : decode cX5_pipe 122 = .ok (.ishl, 1) := dk_120 (dk_at dksX5_pipe_5 5 rfl rfl)
theorem dX5_pipe_123 : decode cX5_pipe 123 = .ok (.ior, 1) := dk_128 (dk_at dksX5_pipe_5 6 rfl rfl)
theorem dX5_pipe_124 : decode cX5_pipe 124 = .ok (.putfield 221, 3) := dk_181 0 221 (dk_at dksX5_pipe_5 7 rfl rfl)
theorem dX5_pipe_127 : decode cX5_pipe 127 = .ok (.return_, 1) := dk_177 (dk_at dksX5_pipe_5 10 rfl rfl)
abbrev cX5_cupNow : ByteArray := prog_8_method_13_code
def yX5_cupNow : MethodName := ⟨RX5, "cupNow", "()I"⟩
def dkwX5_cupNow_1 : List UInt8 := [167, 0, 4, 3, 6, 182, 0, 126, 27, 172]
abbrev dktX5_cupNow_1 : List UInt8 := dkwX5_cupNow_1 ++ []
def dkwX5_cupNow_0 : List UInt8 := [42, 3, 17, 39, 15, 182, 0, 130, 60, 42, 27, 42, 180, 0, 18, 182, 0, 133, 162, 0, 7, 4]
abbrev dktX5_cupNow_0 : List UInt8 := dkwX5_cupNow_0 ++ dktX5_cupNow_1
theorem dksX5_cupNow_0 : cX5_cupNow.data.toList.drop 0 = dktX5_cupNow_0 := by decide +kernel
theorem dksX5_cupNow_1 : cX5_cupNow.data.toList.drop 22 = dktX5_cupNow_1 := dk_seg dksX5_cupNow_0 22 rfl rfl
theorem dX5_cupNow_0 : decode cX5_cupNow 0 = .ok (.aload_n 0, 1) := dk_42 (dk_at dksX5_cupNow_0 0 rfl rfl)
theorem dX5_cupNow_1 : decode cX5_cupNow 1 = .ok (.iconst 0, 1) := dk_3 (dk_at dksX5_cupNow_0 1 rfl rfl)
theorem dX5_cupNow_2 : decode cX5_cupNow 2 = .ok (.sipush 9999, 3) := dk_17 39 15 (dk_at dksX5_cupNow_0 2 rfl rfl)
theorem dX5_cupNow_5 : decode cX5_cupNow 5 = .ok (.invokevirtual 130, 3) := dk_182 0 130 (dk_at dksX5_cupNow_0 5 rfl rfl)
theorem dX5_cupNow_8 : decode cX5_cupNow 8 = .ok (.istore_n 1, 1) := dk_60 (dk_at dksX5_cupNow_0 8 rfl rfl)
theorem dX5_cupNow_9 : decode cX5_cupNow 9 = .ok (.aload_n 0, 1) := dk_42 (dk_at dksX5_cupNow_0 9 rfl rfl)
theorem dX5_cupNow_10 : decode cX5_cupNow 10 = .ok (.iload_n 1, 1) := dk_27 (dk_at dksX5_cupNow_0 10 rfl rfl)
theorem dX5_cupNow_11 : decode cX5_cupNow 11 = .ok (.aload_n 0, 1) := dk_42 (dk_at dksX5_cupNow_0 11 rfl rfl)
theorem dX5_cupNow_12 : decode cX5_cupNow 12 = .ok (.getfield 18, 3) := dk_180 0 18 (dk_at dksX5_cupNow_0 12 rfl rfl)
theorem dX5_cupNow_15 : decode cX5_cupNow 15 = .ok (.invokevirtual 133, 3) := dk_182 0 133 (dk_at dksX5_cupNow_0 15 rfl rfl)
theorem dX5_cupNow_18 : decode cX5_cupNow 18 = .ok (.if_icmp .ge 7, 3) := dk_162 0 7 (dk_at dksX5_cupNow_0 18 rfl rfl)
theorem dX5_cupNow_21 : decode cX5_cupNow 21 = .ok (.iconst 1, 1) := dk_4 (dk_at dksX5_cupNow_0 21 rfl rfl)
theorem dX5_cupNow_22 : decode cX5_cupNow 22 = .ok (.goto 4, 3) := dk_167 0 4 (dk_at dksX5_cupNow_1 0 rfl rfl)
theorem dX5_cupNow_25 : decode cX5_cupNow 25 = .ok (.iconst 0, 1) := dk_3 (dk_at dksX5_cupNow_1 3 rfl rfl)
theorem dX5_cupNow_26 : decode cX5_cupNow 26 = .ok (.iconst 3, 1) := dk_6 (dk_at dksX5_cupNow_1 4 rfl rfl)
theorem dX5_cupNow_27 : decode cX5_cupNow 27 = .ok (.invokevirtual 126, 3) := dk_182 0 126 (dk_at dksX5_cupNow_1 5 rfl rfl)
theorem dX5_cupNow_30 : decode cX5_cupNow 30 = .ok (.iload_n 1, 1) := dk_27 (dk_at dksX5_cupNow_1 8 rfl rfl)
theorem dX5_cupNow_31 : decode cX5_cupNow 31 = .ok (.ireturn, 1) := dk_172 (dk_at dksX5_cupNow_1 9 rfl rfl)
theorem q126 : (Jvm.Cond.initialized "DripCups$Reader") ∈ lw_all := lw_g (lw_at lw_m1 12 rfl) rfl
theorem q192 : (Jvm.Cond.fieldLinkNest "DripCups$Reader" (203 : Nat) "DripCups$Cave" "springs" "Ljava/util/List;" "DripCups") ∈ lw_tbl := lw_at lw_m1 78 rfl
theorem q194 : (Jvm.Cond.fieldLinkNest "DripCups$Reader" (237 : Nat) "DripCups$Cave" "leaks" "LDripCups$Form;" "DripCups") ∈ lw_tbl := lw_at lw_m1 80 rfl
theorem q196 : (Jvm.Cond.fieldLinkNest "DripCups$Reader" (240 : Nat) "DripCups$Cave" "frost" "LDripCups$Form;" "DripCups") ∈ lw_tbl := lw_at lw_m1 82 rfl
theorem q212 : (Jvm.Cond.fieldLinkNest "DripCups$Reader" (198 : Nat) "DripCups$Night" "holds" "[I" "DripCups") ∈ lw_tbl := lw_at lw_m1 98 rfl
theorem q215 : (Jvm.Cond.fieldLinkNest "DripCups$Reader" (201 : Nat) "DripCups$Night" "fill" "[I" "DripCups") ∈ lw_tbl := lw_at lw_m1 101 rfl
theorem q219 : (Jvm.Cond.fieldLinkNest "DripCups$Reader" (228 : Nat) "DripCups$Night" "one" "[I" "DripCups") ∈ lw_tbl := lw_at lw_m1 105 rfl
theorem q222 : (Jvm.Cond.fieldLinkNest "DripCups$Reader" (231 : Nat) "DripCups$Night" "two" "[I" "DripCups") ∈ lw_tbl := lw_at lw_m1 108 rfl
theorem q283 : (Jvm.Cond.fieldLinkNest "DripCups$Reader" (63 : Nat) "DripCups" "tape" "[B" "DripCups") ∈ lw_tbl := lw_at lw_m1 169 rfl
theorem q401 : (Jvm.Cond.selects "DripCups$Reader" ({ cls := "java/lang/Object", name := "getClass", desc := "()Ljava/lang/Class;" } : Jvm.MethodName) ({ cls := "java/lang/Object", name := "getClass", desc := "()Ljava/lang/Class;" } : Jvm.MethodName)) ∈ lw_all := lw_g (lw_at lw_m2 47 rfl) rfl
theorem q723 : (Jvm.Cond.instantiable "DripCups$Reader" (13 : Nat)) ∈ lw_all := lw_g (lw_at lw_m3 129 rfl) rfl
theorem q725 : (Jvm.Cond.instanceMethod ({ cls := "DripCups$Reader", name := "<init>", desc := "(LDripCups;I)V" } : Jvm.MethodName)) ∈ lw_all := lw_g (lw_at lw_m3 131 rfl) rfl
theorem q726 : (Jvm.Cond.code ({ cls := "DripCups$Reader", name := "<init>", desc := "(LDripCups;I)V" } : Jvm.MethodName) prog_8_method_1_code (3 : Nat) (Option.none : Option Jvm.ClassFile.FieldType)) ∈ lw_all := lw_g (lw_at lw_m3 132 rfl) rfl
theorem q727 : (Jvm.Cond.methodLink "DripCups$Reader" (9 : Nat) ({ cls := "java/lang/Object", name := "<init>", desc := "()V" } : Jvm.MethodName)) ∈ lw_all := lw_g (lw_at lw_m3 133 rfl) rfl
theorem q728 : (Jvm.Cond.classLink "DripCups$Reader" (15 : Nat) "DripCups$Cave") ∈ lw_all := lw_g (lw_at lw_m3 134 rfl) rfl
theorem q729 : (Jvm.Cond.methodLinkNest "DripCups$Reader" (17 : Nat) ({ cls := "DripCups$Cave", name := "<init>", desc := "()V" } : Jvm.MethodName) "DripCups") ∈ lw_tbl := lw_at lw_m3 135 rfl
theorem q730 : (Jvm.Cond.classLink "DripCups$Reader" (22 : Nat) "DripCups$Night") ∈ lw_all := lw_g (lw_at lw_m3 136 rfl) rfl
theorem q731 : (Jvm.Cond.methodLink "DripCups$Reader" (24 : Nat) ({ cls := "DripCups$Night", name := "<init>", desc := "(LDripCups;)V" } : Jvm.MethodName)) ∈ lw_all := lw_g (lw_at lw_m3 137 rfl) rfl
theorem q732 : (Jvm.Cond.classLink "DripCups$Reader" (31 : Nat) "java/lang/String") ∈ lw_all := lw_g (lw_at lw_m3 138 rfl) rfl
theorem q734 : (Jvm.Cond.stringRef "DripCups$Reader" (33 : Nat) "leaks") ∈ lw_tbl := lw_at lw_m3 140 rfl
theorem q735 : (Jvm.Cond.stringRef "DripCups$Reader" (35 : Nat) "frost") ∈ lw_tbl := lw_at lw_m3 141 rfl
theorem q736 : (Jvm.Cond.stringRef "DripCups$Reader" (41 : Nat) "fill") ∈ lw_tbl := lw_at lw_m3 142 rfl
theorem q737 : (Jvm.Cond.stringRef "DripCups$Reader" (43 : Nat) "holds") ∈ lw_tbl := lw_at lw_m3 143 rfl
theorem q738 : (Jvm.Cond.stringRef "DripCups$Reader" (45 : Nat) "spring") ∈ lw_tbl := lw_at lw_m3 144 rfl
theorem q739 : (Jvm.Cond.stringRef "DripCups$Reader" (47 : Nat) "tips") ∈ lw_tbl := lw_at lw_m3 145 rfl
theorem q740 : (Jvm.Cond.stringRef "DripCups$Reader" (49 : Nat) "cup") ∈ lw_tbl := lw_at lw_m3 146 rfl
theorem q741 : (Jvm.Cond.stringRef "DripCups$Reader" (51 : Nat) "hour") ∈ lw_tbl := lw_at lw_m3 147 rfl
theorem q742 : (Jvm.Cond.fieldLink "DripCups$Reader" (56 : Nat) "DripCups$Reader" "size" "I") ∈ lw_all := lw_g (lw_at lw_m3 148 rfl) rfl
theorem q743 : (Jvm.Cond.fieldLink "DripCups$Reader" (18 : Nat) "DripCups$Reader" "made" "LDripCups$Cave;") ∈ lw_all := lw_g (lw_at lw_m3 149 rfl) rfl
theorem q744 : (Jvm.Cond.fieldLink "DripCups$Reader" (27 : Nat) "DripCups$Reader" "begun" "LDripCups$Night;") ∈ lw_all := lw_g (lw_at lw_m3 150 rfl) rfl
theorem q746 : (Jvm.Cond.fieldLink "DripCups$Reader" (37 : Nat) "DripCups$Reader" "once" "[Ljava/lang/String;") ∈ lw_all := lw_g (lw_at lw_m3 152 rfl) rfl
theorem q747 : (Jvm.Cond.fieldLink "DripCups$Reader" (53 : Nat) "DripCups$Reader" "names" "[Ljava/lang/String;") ∈ lw_all := lw_g (lw_at lw_m3 153 rfl) rfl
theorem q748 : (Jvm.Cond.fieldLink "DripCups$Reader" (60 : Nat) "DripCups$Reader" "at" "I") ∈ lw_all := lw_g (lw_at lw_m3 154 rfl) rfl
theorem q749 : (Jvm.Cond.fieldLink "DripCups$Reader" (78 : Nat) "DripCups$Reader" "token" "I") ∈ lw_all := lw_g (lw_at lw_m3 155 rfl) rfl
theorem q750 : (Jvm.Cond.fieldLink "DripCups$Reader" (75 : Nat) "DripCups$Reader" "begins" "I") ∈ lw_all := lw_g (lw_at lw_m3 156 rfl) rfl
theorem q752 : (Jvm.Cond.fieldLink "DripCups$Reader" (104 : Nat) "DripCups$Reader" "ends" "I") ∈ lw_all := lw_g (lw_at lw_m3 158 rfl) rfl
theorem q753 : (Jvm.Cond.fieldLink "DripCups$Reader" (88 : Nat) "DripCups$Reader" "number" "I") ∈ lw_all := lw_g (lw_at lw_m3 159 rfl) rfl
theorem q754 : (Jvm.Cond.fieldLink "DripCups$Reader" (234 : Nat) "DripCups$Reader" "done" "I") ∈ lw_all := lw_g (lw_at lw_m3 160 rfl) rfl
theorem q755 : (Jvm.Cond.fieldLink "DripCups$Reader" (221 : Nat) "DripCups$Reader" "piped" "I") ∈ lw_all := lw_g (lw_at lw_m3 161 rfl) rfl
theorem q756 : (Jvm.Cond.fieldLink "DripCups$Reader" (3 : Nat) "DripCups$Reader" "this$0" "LDripCups;") ∈ lw_all := lw_g (lw_at lw_m3 162 rfl) rfl
theorem q757 : (Jvm.Cond.laysFinal "DripCups$Reader" "DripCups$Reader" "size" "I") ∈ lw_all := lw_g (lw_at lw_m3 163 rfl) rfl
theorem q758 : (Jvm.Cond.soleField "DripCups$Reader" "size") ∈ lw_all := lw_g (lw_at lw_m3 164 rfl) rfl
theorem q759 : (Jvm.Cond.laysFinal "DripCups$Reader" "DripCups$Reader" "made" "LDripCups$Cave;") ∈ lw_all := lw_g (lw_at lw_m3 165 rfl) rfl
theorem q760 : (Jvm.Cond.soleField "DripCups$Reader" "made") ∈ lw_all := lw_g (lw_at lw_m3 166 rfl) rfl
theorem q761 : (Jvm.Cond.laysFinal "DripCups$Reader" "DripCups$Reader" "begun" "LDripCups$Night;") ∈ lw_all := lw_g (lw_at lw_m3 167 rfl) rfl
theorem q762 : (Jvm.Cond.soleField "DripCups$Reader" "begun") ∈ lw_all := lw_g (lw_at lw_m3 168 rfl) rfl
theorem q763 : (Jvm.Cond.laysFinal "DripCups$Reader" "DripCups$Reader" "once" "[Ljava/lang/String;") ∈ lw_all := lw_g (lw_at lw_m3 169 rfl) rfl
theorem q764 : (Jvm.Cond.soleField "DripCups$Reader" "once") ∈ lw_all := lw_g (lw_at lw_m3 170 rfl) rfl
theorem q765 : (Jvm.Cond.laysFinal "DripCups$Reader" "DripCups$Reader" "names" "[Ljava/lang/String;") ∈ lw_all := lw_g (lw_at lw_m3 171 rfl) rfl
theorem q766 : (Jvm.Cond.soleField "DripCups$Reader" "names") ∈ lw_all := lw_g (lw_at lw_m3 172 rfl) rfl
theorem q767 : (Jvm.Cond.lays "DripCups$Reader" "DripCups$Reader" "at" "I") ∈ lw_all := lw_g (lw_at lw_m3 173 rfl) rfl
theorem q768 : (Jvm.Cond.soleField "DripCups$Reader" "at") ∈ lw_all := lw_g (lw_at lw_m3 174 rfl) rfl
theorem q769 : (Jvm.Cond.lays "DripCups$Reader" "DripCups$Reader" "token" "I") ∈ lw_all := lw_g (lw_at lw_m3 175 rfl) rfl
theorem q770 : (Jvm.Cond.soleField "DripCups$Reader" "token") ∈ lw_all := lw_g (lw_at lw_m3 176 rfl) rfl
theorem q771 : (Jvm.Cond.lays "DripCups$Reader" "DripCups$Reader" "begins" "I") ∈ lw_all := lw_g (lw_at lw_m3 177 rfl) rfl
theorem q772 : (Jvm.Cond.soleField "DripCups$Reader" "begins") ∈ lw_all := lw_g (lw_at lw_m3 178 rfl) rfl
theorem q773 : (Jvm.Cond.lays "DripCups$Reader" "DripCups$Reader" "ends" "I") ∈ lw_all := lw_g (lw_at lw_m3 179 rfl) rfl
theorem q774 : (Jvm.Cond.soleField "DripCups$Reader" "ends") ∈ lw_all := lw_g (lw_at lw_m3 180 rfl) rfl
theorem q775 : (Jvm.Cond.lays "DripCups$Reader" "DripCups$Reader" "number" "I") ∈ lw_all := lw_g (lw_at lw_m3 181 rfl) rfl
theorem q776 : (Jvm.Cond.soleField "DripCups$Reader" "number") ∈ lw_all := lw_g (lw_at lw_m3 182 rfl) rfl
theorem q777 : (Jvm.Cond.lays "DripCups$Reader" "DripCups$Reader" "done" "I") ∈ lw_all := lw_g (lw_at lw_m3 183 rfl) rfl
theorem q778 : (Jvm.Cond.soleField "DripCups$Reader" "done") ∈ lw_all := lw_g (lw_at lw_m3 184 rfl) rfl
theorem q779 : (Jvm.Cond.lays "DripCups$Reader" "DripCups$Reader" "piped" "I") ∈ lw_all := lw_g (lw_at lw_m3 185 rfl) rfl
theorem q780 : (Jvm.Cond.soleField "DripCups$Reader" "piped") ∈ lw_all := lw_g (lw_at lw_m3 186 rfl) rfl
theorem q781 : (Jvm.Cond.laysFinal "DripCups$Reader" "DripCups$Reader" "this$0" "LDripCups;") ∈ lw_all := lw_g (lw_at lw_m3 187 rfl) rfl
theorem q782 : (Jvm.Cond.soleField "DripCups$Reader" "this$0") ∈ lw_all := lw_g (lw_at lw_m3 188 rfl) rfl
theorem q783 : (Jvm.Cond.superclass "DripCups$Reader" "java/lang/Object") ∈ lw_all := lw_g (lw_at lw_m3 189 rfl) rfl
theorem q785 : (Jvm.Cond.instanceMethod ({ cls := "DripCups$Reader", name := "read", desc := "()LDripCups$Cave;" } : Jvm.MethodName)) ∈ lw_all := lw_g (lw_at lw_m3 191 rfl) rfl
theorem q786 : (Jvm.Cond.selects "DripCups$Reader" ({ cls := "DripCups$Reader", name := "read", desc := "()LDripCups$Cave;" } : Jvm.MethodName) ({ cls := "DripCups$Reader", name := "read", desc := "()LDripCups$Cave;" } : Jvm.MethodName)) ∈ lw_all := lw_g (lw_at lw_m3 192 rfl) rfl
theorem q787 : (Jvm.Cond.code ({ cls := "DripCups$Reader", name := "read", desc := "()LDripCups$Cave;" } : Jvm.MethodName) prog_8_method_25_code (1 : Nat) (Option.some (Jvm.ClassFile.FieldType.object "DripCups$Cave"))) ∈ lw_all := lw_g (lw_at lw_m3 193 rfl) rfl
theorem q788 : (Jvm.Cond.methodLink "DripCups$Reader" (118 : Nat) ({ cls := "DripCups$Reader", name := "next", desc := "()V" } : Jvm.MethodName)) ∈ lw_all := lw_g (lw_at lw_m3 194 rfl) rfl
theorem q789 : (Jvm.Cond.privateMethod ({ cls := "DripCups$Reader", name := "next", desc := "()V" } : Jvm.MethodName)) ∈ lw_tbl := lw_at lw_m3 195 rfl
theorem q790 : (Jvm.Cond.instanceMethod ({ cls := "DripCups$Reader", name := "next", desc := "()V" } : Jvm.MethodName)) ∈ lw_all := lw_g (lw_at lw_m3 196 rfl) rfl
theorem q791 : (Jvm.Cond.code ({ cls := "DripCups$Reader", name := "next", desc := "()V" } : Jvm.MethodName) prog_8_method_5_code (1 : Nat) (Option.none : Option Jvm.ClassFile.FieldType)) ∈ lw_all := lw_g (lw_at lw_m3 197 rfl) rfl
theorem q792 : (Jvm.Cond.methodLink "DripCups$Reader" (67 : Nat) ({ cls := "DripCups$Reader", name := "here", desc := "()I" } : Jvm.MethodName)) ∈ lw_all := lw_g (lw_at lw_m3 198 rfl) rfl
theorem q793 : (Jvm.Cond.privateMethod ({ cls := "DripCups$Reader", name := "here", desc := "()I" } : Jvm.MethodName)) ∈ lw_tbl := lw_at lw_m3 199 rfl
theorem q794 : (Jvm.Cond.instanceMethod ({ cls := "DripCups$Reader", name := "here", desc := "()I" } : Jvm.MethodName)) ∈ lw_all := lw_g (lw_at lw_m3 200 rfl) rfl
theorem q795 : (Jvm.Cond.code ({ cls := "DripCups$Reader", name := "here", desc := "()I" } : Jvm.MethodName) prog_8_method_2_code (1 : Nat) (Option.some Jvm.ClassFile.FieldType.int)) ∈ lw_all := lw_g (lw_at lw_m3 201 rfl) rfl
theorem q796 : (Jvm.Cond.methodLink "DripCups$Reader" (81 : Nat) ({ cls := "DripCups$Reader", name := "isLetter", desc := "()Z" } : Jvm.MethodName)) ∈ lw_all := lw_g (lw_at lw_m3 202 rfl) rfl
theorem q797 : (Jvm.Cond.privateMethod ({ cls := "DripCups$Reader", name := "isLetter", desc := "()Z" } : Jvm.MethodName)) ∈ lw_tbl := lw_at lw_m3 203 rfl
theorem q798 : (Jvm.Cond.instanceMethod ({ cls := "DripCups$Reader", name := "isLetter", desc := "()Z" } : Jvm.MethodName)) ∈ lw_all := lw_g (lw_at lw_m3 204 rfl) rfl
theorem q799 : (Jvm.Cond.code ({ cls := "DripCups$Reader", name := "isLetter", desc := "()Z" } : Jvm.MethodName) prog_8_method_3_code (1 : Nat) (Option.some Jvm.ClassFile.FieldType.boolean)) ∈ lw_all := lw_g (lw_at lw_m3 205 rfl) rfl
theorem q800 : (Jvm.Cond.methodLinkNest "DripCups$Reader" (71 : Nat) ({ cls := "DripCups", name := "in", desc := "(III)Z" } : Jvm.MethodName) "DripCups") ∈ lw_tbl := lw_at lw_m3 206 rfl
theorem q801 : (Jvm.Cond.methodLink "DripCups$Reader" (85 : Nat) ({ cls := "DripCups$Reader", name := "isDigit", desc := "()Z" } : Jvm.MethodName)) ∈ lw_all := lw_g (lw_at lw_m3 207 rfl) rfl
theorem q802 : (Jvm.Cond.privateMethod ({ cls := "DripCups$Reader", name := "isDigit", desc := "()Z" } : Jvm.MethodName)) ∈ lw_tbl := lw_at lw_m3 208 rfl
theorem q803 : (Jvm.Cond.instanceMethod ({ cls := "DripCups$Reader", name := "isDigit", desc := "()Z" } : Jvm.MethodName)) ∈ lw_all := lw_g (lw_at lw_m3 209 rfl) rfl
theorem q804 : (Jvm.Cond.code ({ cls := "DripCups$Reader", name := "isDigit", desc := "()Z" } : Jvm.MethodName) prog_8_method_4_code (1 : Nat) (Option.some Jvm.ClassFile.FieldType.boolean)) ∈ lw_all := lw_g (lw_at lw_m3 210 rfl) rfl
theorem q805 : (Jvm.Cond.constant "DripCups$Reader" (91 : Nat) (100000 : Int32)) ∈ lw_all := lw_g (lw_at lw_m3 211 rfl) rfl
theorem q806 : (Jvm.Cond.methodLink "DripCups$Reader" (92 : Nat) ({ cls := "java/lang/Math", name := "min", desc := "(II)I" } : Jvm.MethodName)) ∈ lw_all := lw_g (lw_at lw_m3 212 rfl) rfl
theorem q807 : (Jvm.Cond.stringRef "DripCups$Reader" (98 : Nat) ";()+-*/<=") ∈ lw_tbl := lw_at lw_m3 213 rfl
theorem q808 : (Jvm.Cond.methodLink "DripCups$Reader" (100 : Nat) ({ cls := "java/lang/String", name := "indexOf", desc := "(I)I" } : Jvm.MethodName)) ∈ lw_all := lw_g (lw_at lw_m3 214 rfl) rfl
theorem q877 : (Jvm.Cond.methodLink "DripCups$Reader" (251 : Nat) ({ cls := "DripCups$Reader", name := "line", desc := "()V" } : Jvm.MethodName)) ∈ lw_all := lw_g (lw_at lw_m4 43 rfl) rfl
theorem q878 : (Jvm.Cond.privateMethod ({ cls := "DripCups$Reader", name := "line", desc := "()V" } : Jvm.MethodName)) ∈ lw_tbl := lw_at lw_m4 44 rfl
theorem q879 : (Jvm.Cond.instanceMethod ({ cls := "DripCups$Reader", name := "line", desc := "()V" } : Jvm.MethodName)) ∈ lw_all := lw_g (lw_at lw_m4 45 rfl) rfl
theorem q880 : (Jvm.Cond.code ({ cls := "DripCups$Reader", name := "line", desc := "()V" } : Jvm.MethodName) prog_8_method_24_code (2 : Nat) (Option.none : Option Jvm.ClassFile.FieldType)) ∈ lw_all := lw_g (lw_at lw_m4 46 rfl) rfl
theorem q881 : (Jvm.Cond.methodLink "DripCups$Reader" (149 : Nat) ({ cls := "DripCups$Reader", name := "which", desc := "([Ljava/lang/String;)I" } : Jvm.MethodName)) ∈ lw_all := lw_g (lw_at lw_m4 47 rfl) rfl
theorem q882 : (Jvm.Cond.privateMethod ({ cls := "DripCups$Reader", name := "which", desc := "([Ljava/lang/String;)I" } : Jvm.MethodName)) ∈ lw_tbl := lw_at lw_m4 48 rfl
theorem q883 : (Jvm.Cond.instanceMethod ({ cls := "DripCups$Reader", name := "which", desc := "([Ljava/lang/String;)I" } : Jvm.MethodName)) ∈ lw_all := lw_g (lw_at lw_m4 49 rfl) rfl
theorem q884 : (Jvm.Cond.code ({ cls := "DripCups$Reader", name := "which", desc := "([Ljava/lang/String;)I" } : Jvm.MethodName) prog_8_method_7_code (3 : Nat) (Option.some Jvm.ClassFile.FieldType.int)) ∈ lw_all := lw_g (lw_at lw_m4 50 rfl) rfl
theorem q885 : (Jvm.Cond.methodLink "DripCups$Reader" (114 : Nat) ({ cls := "DripCups$Reader", name := "is", desc := "(Ljava/lang/String;)Z" } : Jvm.MethodName)) ∈ lw_all := lw_g (lw_at lw_m4 51 rfl) rfl
theorem q886 : (Jvm.Cond.privateMethod ({ cls := "DripCups$Reader", name := "is", desc := "(Ljava/lang/String;)Z" } : Jvm.MethodName)) ∈ lw_tbl := lw_at lw_m4 52 rfl
theorem q887 : (Jvm.Cond.instanceMethod ({ cls := "DripCups$Reader", name := "is", desc := "(Ljava/lang/String;)Z" } : Jvm.MethodName)) ∈ lw_all := lw_g (lw_at lw_m4 53 rfl) rfl
theorem q888 : (Jvm.Cond.code ({ cls := "DripCups$Reader", name := "is", desc := "(Ljava/lang/String;)Z" } : Jvm.MethodName) prog_8_method_6_code (3 : Nat) (Option.some Jvm.ClassFile.FieldType.boolean)) ∈ lw_all := lw_g (lw_at lw_m4 54 rfl) rfl
theorem q889 : (Jvm.Cond.methodLink "DripCups$Reader" (107 : Nat) ({ cls := "java/lang/String", name := "length", desc := "()I" } : Jvm.MethodName)) ∈ lw_all := lw_g (lw_at lw_m4 55 rfl) rfl
theorem q890 : (Jvm.Cond.methodLink "DripCups$Reader" (110 : Nat) ({ cls := "java/lang/String", name := "charAt", desc := "(I)C" } : Jvm.MethodName)) ∈ lw_all := lw_g (lw_at lw_m4 56 rfl) rfl
theorem q905 : (Jvm.Cond.methodLink "DripCups$Reader" (242 : Nat) ({ cls := "DripCups$Reader", name := "only", desc := "(I)V" } : Jvm.MethodName)) ∈ lw_all := lw_g (lw_at lw_m4 71 rfl) rfl
theorem q906 : (Jvm.Cond.privateMethod ({ cls := "DripCups$Reader", name := "only", desc := "(I)V" } : Jvm.MethodName)) ∈ lw_tbl := lw_at lw_m4 72 rfl
theorem q907 : (Jvm.Cond.instanceMethod ({ cls := "DripCups$Reader", name := "only", desc := "(I)V" } : Jvm.MethodName)) ∈ lw_all := lw_g (lw_at lw_m4 73 rfl) rfl
theorem q908 : (Jvm.Cond.code ({ cls := "DripCups$Reader", name := "only", desc := "(I)V" } : Jvm.MethodName) prog_8_method_23_code (3 : Nat) (Option.none : Option Jvm.ClassFile.FieldType)) ∈ lw_all := lw_g (lw_at lw_m4 74 rfl) rfl
theorem q909 : (Jvm.Cond.methodLinkNest "DripCups$Reader" (224 : Nat) ({ cls := "DripCups", name := "isOf", desc := "(II)Z" } : Jvm.MethodName) "DripCups") ∈ lw_tbl := lw_at lw_m4 75 rfl
theorem q910 : (Jvm.Cond.methodLink "DripCups$Reader" (126 : Nat) ({ cls := "DripCups$Reader", name := "want", desc := "(ZI)V" } : Jvm.MethodName)) ∈ lw_all := lw_g (lw_at lw_m4 76 rfl) rfl
theorem q911 : (Jvm.Cond.privateMethod ({ cls := "DripCups$Reader", name := "want", desc := "(ZI)V" } : Jvm.MethodName)) ∈ lw_tbl := lw_at lw_m4 77 rfl
theorem q912 : (Jvm.Cond.instanceMethod ({ cls := "DripCups$Reader", name := "want", desc := "(ZI)V" } : Jvm.MethodName)) ∈ lw_all := lw_g (lw_at lw_m4 78 rfl) rfl
theorem q913 : (Jvm.Cond.code ({ cls := "DripCups$Reader", name := "want", desc := "(ZI)V" } : Jvm.MethodName) prog_8_method_10_code (3 : Nat) (Option.none : Option Jvm.ClassFile.FieldType)) ∈ lw_all := lw_g (lw_at lw_m4 79 rfl) rfl
theorem q914 : (Jvm.Cond.classLink "DripCups$Reader" (121 : Nat) "DripCups$Wrong") ∈ lw_all := lw_g (lw_at lw_m4 80 rfl) rfl
theorem q923 : (Jvm.Cond.methodLink "DripCups$Reader" (123 : Nat) ({ cls := "DripCups$Wrong", name := "<init>", desc := "(I)V" } : Jvm.MethodName)) ∈ lw_all := lw_g (lw_at lw_m4 89 rfl) rfl
theorem q938 : (Jvm.Cond.methodLink "DripCups$Reader" (145 : Nat) ({ cls := "DripCups$Reader", name := "expression", desc := "(I)LDripCups$Form;" } : Jvm.MethodName)) ∈ lw_all := lw_g (lw_at lw_m4 104 rfl) rfl
theorem q939 : (Jvm.Cond.privateMethod ({ cls := "DripCups$Reader", name := "expression", desc := "(I)LDripCups$Form;" } : Jvm.MethodName)) ∈ lw_tbl := lw_at lw_m4 105 rfl
theorem q940 : (Jvm.Cond.instanceMethod ({ cls := "DripCups$Reader", name := "expression", desc := "(I)LDripCups$Form;" } : Jvm.MethodName)) ∈ lw_all := lw_g (lw_at lw_m4 106 rfl) rfl
theorem q941 : (Jvm.Cond.code ({ cls := "DripCups$Reader", name := "expression", desc := "(I)LDripCups$Form;" } : Jvm.MethodName) prog_8_method_20_code (3 : Nat) (Option.some (Jvm.ClassFile.FieldType.object "DripCups$Form"))) ∈ lw_all := lw_g (lw_at lw_m4 107 rfl) rfl
theorem q942 : (Jvm.Cond.methodLink "DripCups$Reader" (141 : Nat) ({ cls := "DripCups$Reader", name := "isSign", desc := "(C)Z" } : Jvm.MethodName)) ∈ lw_all := lw_g (lw_at lw_m4 108 rfl) rfl
theorem q943 : (Jvm.Cond.privateMethod ({ cls := "DripCups$Reader", name := "isSign", desc := "(C)Z" } : Jvm.MethodName)) ∈ lw_tbl := lw_at lw_m4 109 rfl
theorem q944 : (Jvm.Cond.instanceMethod ({ cls := "DripCups$Reader", name := "isSign", desc := "(C)Z" } : Jvm.MethodName)) ∈ lw_all := lw_g (lw_at lw_m4 110 rfl) rfl
theorem q945 : (Jvm.Cond.code ({ cls := "DripCups$Reader", name := "isSign", desc := "(C)Z" } : Jvm.MethodName) prog_8_method_8_code (2 : Nat) (Option.some Jvm.ClassFile.FieldType.boolean)) ∈ lw_all := lw_g (lw_at lw_m4 111 rfl) rfl
theorem q946 : (Jvm.Cond.classLink "DripCups$Reader" (156 : Nat) "DripCups$Chain") ∈ lw_all := lw_g (lw_at lw_m4 112 rfl) rfl
theorem q948 : (Jvm.Cond.methodLink "DripCups$Reader" (194 : Nat) ({ cls := "DripCups$Reader", name := "and", desc := "(I)LDripCups$Form;" } : Jvm.MethodName)) ∈ lw_all := lw_g (lw_at lw_m4 114 rfl) rfl
theorem q949 : (Jvm.Cond.privateMethod ({ cls := "DripCups$Reader", name := "and", desc := "(I)LDripCups$Form;" } : Jvm.MethodName)) ∈ lw_tbl := lw_at lw_m4 115 rfl
theorem q950 : (Jvm.Cond.instanceMethod ({ cls := "DripCups$Reader", name := "and", desc := "(I)LDripCups$Form;" } : Jvm.MethodName)) ∈ lw_all := lw_g (lw_at lw_m4 116 rfl) rfl
theorem q951 : (Jvm.Cond.code ({ cls := "DripCups$Reader", name := "and", desc := "(I)LDripCups$Form;" } : Jvm.MethodName) prog_8_method_19_code (3 : Nat) (Option.some (Jvm.ClassFile.FieldType.object "DripCups$Form"))) ∈ lw_all := lw_g (lw_at lw_m4 117 rfl) rfl
theorem q952 : (Jvm.Cond.methodLink "DripCups$Reader" (187 : Nat) ({ cls := "DripCups$Reader", name := "not", desc := "(I)LDripCups$Form;" } : Jvm.MethodName)) ∈ lw_all := lw_g (lw_at lw_m4 118 rfl) rfl
theorem q953 : (Jvm.Cond.privateMethod ({ cls := "DripCups$Reader", name := "not", desc := "(I)LDripCups$Form;" } : Jvm.MethodName)) ∈ lw_tbl := lw_at lw_m4 119 rfl
theorem q954 : (Jvm.Cond.instanceMethod ({ cls := "DripCups$Reader", name := "not", desc := "(I)LDripCups$Form;" } : Jvm.MethodName)) ∈ lw_all := lw_g (lw_at lw_m4 120 rfl) rfl
theorem q955 : (Jvm.Cond.code ({ cls := "DripCups$Reader", name := "not", desc := "(I)LDripCups$Form;" } : Jvm.MethodName) prog_8_method_18_code (6 : Nat) (Option.some (Jvm.ClassFile.FieldType.object "DripCups$Form"))) ∈ lw_all := lw_g (lw_at lw_m4 121 rfl) rfl
theorem q956 : (Jvm.Cond.stringRef "DripCups$Reader" (179 : Nat) "not") ∈ lw_tbl := lw_at lw_m4 122 rfl
theorem q957 : (Jvm.Cond.methodLink "DripCups$Reader" (181 : Nat) ({ cls := "DripCups$Reader", name := "sum", desc := "(I)LDripCups$Form;" } : Jvm.MethodName)) ∈ lw_all := lw_g (lw_at lw_m4 123 rfl) rfl
theorem q958 : (Jvm.Cond.privateMethod ({ cls := "DripCups$Reader", name := "sum", desc := "(I)LDripCups$Form;" } : Jvm.MethodName)) ∈ lw_tbl := lw_at lw_m4 124 rfl
theorem q959 : (Jvm.Cond.instanceMethod ({ cls := "DripCups$Reader", name := "sum", desc := "(I)LDripCups$Form;" } : Jvm.MethodName)) ∈ lw_all := lw_g (lw_at lw_m4 125 rfl) rfl
theorem q960 : (Jvm.Cond.code ({ cls := "DripCups$Reader", name := "sum", desc := "(I)LDripCups$Form;" } : Jvm.MethodName) prog_8_method_17_code (4 : Nat) (Option.some (Jvm.ClassFile.FieldType.object "DripCups$Form"))) ∈ lw_all := lw_g (lw_at lw_m4 126 rfl) rfl
theorem q961 : (Jvm.Cond.methodLink "DripCups$Reader" (176 : Nat) ({ cls := "DripCups$Reader", name := "product", desc := "(I)LDripCups$Form;" } : Jvm.MethodName)) ∈ lw_all := lw_g (lw_at lw_m4 127 rfl) rfl
theorem q962 : (Jvm.Cond.privateMethod ({ cls := "DripCups$Reader", name := "product", desc := "(I)LDripCups$Form;" } : Jvm.MethodName)) ∈ lw_tbl := lw_at lw_m4 128 rfl
theorem q963 : (Jvm.Cond.instanceMethod ({ cls := "DripCups$Reader", name := "product", desc := "(I)LDripCups$Form;" } : Jvm.MethodName)) ∈ lw_all := lw_g (lw_at lw_m4 129 rfl) rfl
theorem q964 : (Jvm.Cond.code ({ cls := "DripCups$Reader", name := "product", desc := "(I)LDripCups$Form;" } : Jvm.MethodName) prog_8_method_16_code (4 : Nat) (Option.some (Jvm.ClassFile.FieldType.object "DripCups$Form"))) ∈ lw_all := lw_g (lw_at lw_m4 130 rfl) rfl
theorem q965 : (Jvm.Cond.methodLink "DripCups$Reader" (158 : Nat) ({ cls := "DripCups$Reader", name := "part", desc := "(I)LDripCups$Form;" } : Jvm.MethodName)) ∈ lw_all := lw_g (lw_at lw_m4 131 rfl) rfl
theorem q966 : (Jvm.Cond.privateMethod ({ cls := "DripCups$Reader", name := "part", desc := "(I)LDripCups$Form;" } : Jvm.MethodName)) ∈ lw_tbl := lw_at lw_m4 132 rfl
theorem q967 : (Jvm.Cond.instanceMethod ({ cls := "DripCups$Reader", name := "part", desc := "(I)LDripCups$Form;" } : Jvm.MethodName)) ∈ lw_all := lw_g (lw_at lw_m4 133 rfl) rfl
theorem q968 : (Jvm.Cond.code ({ cls := "DripCups$Reader", name := "part", desc := "(I)LDripCups$Form;" } : Jvm.MethodName) prog_8_method_14_code (3 : Nat) (Option.some (Jvm.ClassFile.FieldType.object "DripCups$Form"))) ∈ lw_all := lw_g (lw_at lw_m4 134 rfl) rfl
theorem q969 : (Jvm.Cond.classLink "DripCups$Reader" (136 : Nat) "DripCups$Number") ∈ lw_all := lw_g (lw_at lw_m4 135 rfl) rfl
theorem q971 : (Jvm.Cond.methodLink "DripCups$Reader" (138 : Nat) ({ cls := "DripCups$Reader", name := "number", desc := "(II)I" } : Jvm.MethodName)) ∈ lw_all := lw_g (lw_at lw_m4 137 rfl) rfl
theorem q972 : (Jvm.Cond.privateMethod ({ cls := "DripCups$Reader", name := "number", desc := "(II)I" } : Jvm.MethodName)) ∈ lw_tbl := lw_at lw_m4 138 rfl
theorem q973 : (Jvm.Cond.instanceMethod ({ cls := "DripCups$Reader", name := "number", desc := "(II)I" } : Jvm.MethodName)) ∈ lw_all := lw_g (lw_at lw_m4 139 rfl) rfl
theorem q974 : (Jvm.Cond.code ({ cls := "DripCups$Reader", name := "number", desc := "(II)I" } : Jvm.MethodName) prog_8_method_12_code (4 : Nat) (Option.some Jvm.ClassFile.FieldType.int)) ∈ lw_all := lw_g (lw_at lw_m4 140 rfl) rfl
theorem q975 : (Jvm.Cond.methodLink "DripCups$Reader" (130 : Nat) ({ cls := "DripCups$Reader", name := "numberNow", desc := "(II)I" } : Jvm.MethodName)) ∈ lw_all := lw_g (lw_at lw_m4 141 rfl) rfl
theorem q976 : (Jvm.Cond.privateMethod ({ cls := "DripCups$Reader", name := "numberNow", desc := "(II)I" } : Jvm.MethodName)) ∈ lw_tbl := lw_at lw_m4 142 rfl
theorem q977 : (Jvm.Cond.instanceMethod ({ cls := "DripCups$Reader", name := "numberNow", desc := "(II)I" } : Jvm.MethodName)) ∈ lw_all := lw_g (lw_at lw_m4 143 rfl) rfl
theorem q978 : (Jvm.Cond.code ({ cls := "DripCups$Reader", name := "numberNow", desc := "(II)I" } : Jvm.MethodName) prog_8_method_11_code (3 : Nat) (Option.some Jvm.ClassFile.FieldType.int)) ∈ lw_all := lw_g (lw_at lw_m4 144 rfl) rfl
theorem q979 : (Jvm.Cond.methodLink "DripCups$Reader" (140 : Nat) ({ cls := "DripCups$Number", name := "<init>", desc := "(I)V" } : Jvm.MethodName)) ∈ lw_all := lw_g (lw_at lw_m4 145 rfl) rfl
theorem q987 : (Jvm.Cond.classLink "DripCups$Reader" (153 : Nat) "DripCups$Value") ∈ lw_all := lw_g (lw_at lw_m4 153 rfl) rfl
theorem q989 : (Jvm.Cond.methodLink "DripCups$Reader" (155 : Nat) ({ cls := "DripCups$Value", name := "<init>", desc := "(I)V" } : Jvm.MethodName)) ∈ lw_all := lw_g (lw_at lw_m4 155 rfl) rfl
theorem q997 : (Jvm.Cond.methodLink "DripCups$Reader" (161 : Nat) ({ cls := "DripCups$Chain", name := "<init>", desc := "(LDripCups$Form;)V" } : Jvm.MethodName)) ∈ lw_all := lw_g (lw_at lw_m4 163 rfl) rfl
theorem q1040 : (Jvm.Cond.methodLink "DripCups$Reader" (164 : Nat) ({ cls := "DripCups$Reader", name := "sign", desc := "()C" } : Jvm.MethodName)) ∈ lw_all := lw_g (lw_at lw_m4 206 rfl) rfl
theorem q1041 : (Jvm.Cond.privateMethod ({ cls := "DripCups$Reader", name := "sign", desc := "()C" } : Jvm.MethodName)) ∈ lw_tbl := lw_at lw_m4 207 rfl
theorem q1042 : (Jvm.Cond.instanceMethod ({ cls := "DripCups$Reader", name := "sign", desc := "()C" } : Jvm.MethodName)) ∈ lw_all := lw_g (lw_at lw_m4 208 rfl) rfl
theorem q1043 : (Jvm.Cond.code ({ cls := "DripCups$Reader", name := "sign", desc := "()C" } : Jvm.MethodName) prog_8_method_15_code (2 : Nat) (Option.some Jvm.ClassFile.FieldType.char)) ∈ lw_all := lw_g (lw_at lw_m4 209 rfl) rfl
theorem q1044 : (Jvm.Cond.methodLink "DripCups$Reader" (168 : Nat) ({ cls := "DripCups$Chain", name := "add", desc := "(CLDripCups$Form;)V" } : Jvm.MethodName)) ∈ lw_all := lw_g (lw_at lw_m4 210 rfl) rfl
theorem q1108 : (Jvm.Cond.methodLink "DripCups$Reader" (172 : Nat) ({ cls := "DripCups$Chain", name := "plain", desc := "()LDripCups$Form;" } : Jvm.MethodName)) ∈ lw_all := lw_g (lw_at lw_m5 34 rfl) rfl
theorem q1112 : (Jvm.Cond.classLink "DripCups$Reader" (184 : Nat) "DripCups$Not") ∈ lw_all := lw_g (lw_at lw_m5 38 rfl) rfl
theorem q1114 : (Jvm.Cond.methodLink "DripCups$Reader" (186 : Nat) ({ cls := "DripCups$Not", name := "<init>", desc := "(LDripCups$Form;)V" } : Jvm.MethodName)) ∈ lw_all := lw_g (lw_at lw_m5 40 rfl) rfl
theorem q1122 : (Jvm.Cond.stringRef "DripCups$Reader" (189 : Nat) "and") ∈ lw_tbl := lw_at lw_m5 48 rfl
theorem q1123 : (Jvm.Cond.methodLink "DripCups$Reader" (191 : Nat) ({ cls := "DripCups$Reader", name := "passes", desc := "(Ljava/lang/String;)Z" } : Jvm.MethodName)) ∈ lw_all := lw_g (lw_at lw_m5 49 rfl) rfl
theorem q1124 : (Jvm.Cond.privateMethod ({ cls := "DripCups$Reader", name := "passes", desc := "(Ljava/lang/String;)Z" } : Jvm.MethodName)) ∈ lw_tbl := lw_at lw_m5 50 rfl
theorem q1125 : (Jvm.Cond.instanceMethod ({ cls := "DripCups$Reader", name := "passes", desc := "(Ljava/lang/String;)Z" } : Jvm.MethodName)) ∈ lw_all := lw_g (lw_at lw_m5 51 rfl) rfl
theorem q1126 : (Jvm.Cond.code ({ cls := "DripCups$Reader", name := "passes", desc := "(Ljava/lang/String;)Z" } : Jvm.MethodName) prog_8_method_9_code (3 : Nat) (Option.some Jvm.ClassFile.FieldType.boolean)) ∈ lw_all := lw_g (lw_at lw_m5 52 rfl) rfl
theorem q1127 : (Jvm.Cond.stringRef "DripCups$Reader" (196 : Nat) "or") ∈ lw_tbl := lw_at lw_m5 53 rfl
theorem q1128 : (Jvm.Cond.methodLink "DripCups$Reader" (245 : Nat) ({ cls := "DripCups$Reader", name := "cup", desc := "()V" } : Jvm.MethodName)) ∈ lw_all := lw_g (lw_at lw_m5 54 rfl) rfl
theorem q1129 : (Jvm.Cond.privateMethod ({ cls := "DripCups$Reader", name := "cup", desc := "()V" } : Jvm.MethodName)) ∈ lw_tbl := lw_at lw_m5 55 rfl
theorem q1130 : (Jvm.Cond.instanceMethod ({ cls := "DripCups$Reader", name := "cup", desc := "()V" } : Jvm.MethodName)) ∈ lw_all := lw_g (lw_at lw_m5 56 rfl) rfl
theorem q1131 : (Jvm.Cond.code ({ cls := "DripCups$Reader", name := "cup", desc := "()V" } : Jvm.MethodName) prog_8_method_21_code (2 : Nat) (Option.none : Option Jvm.ClassFile.FieldType)) ∈ lw_all := lw_g (lw_at lw_m5 57 rfl) rfl
theorem q1132 : (Jvm.Cond.methodLink "DripCups$Reader" (133 : Nat) ({ cls := "DripCups$Cave", name := "cups", desc := "()I" } : Jvm.MethodName)) ∈ lw_all := lw_g (lw_at lw_m5 58 rfl) rfl
theorem q1133 : (Jvm.Cond.methodLink "DripCups$Reader" (207 : Nat) ({ cls := "java/lang/Integer", name := "valueOf", desc := "(I)Ljava/lang/Integer;" } : Jvm.MethodName)) ∈ lw_all := lw_g (lw_at lw_m5 59 rfl) rfl
theorem q1153 : (Jvm.Cond.interfaceEntry "DripCups$Reader" (213 : Nat)) ∈ lw_tbl := lw_at lw_m5 79 rfl
theorem q1154 : (Jvm.Cond.methodLink "DripCups$Reader" (213 : Nat) ({ cls := "java/util/List", name := "add", desc := "(Ljava/lang/Object;)Z" } : Jvm.MethodName)) ∈ lw_all := lw_g (lw_at lw_m5 80 rfl) rfl
theorem q1155 : (Jvm.Cond.stringRef "DripCups$Reader" (247 : Nat) "pipe") ∈ lw_tbl := lw_at lw_m5 81 rfl
theorem q1156 : (Jvm.Cond.methodLink "DripCups$Reader" (249 : Nat) ({ cls := "DripCups$Reader", name := "pipe", desc := "()V" } : Jvm.MethodName)) ∈ lw_all := lw_g (lw_at lw_m5 82 rfl) rfl
theorem q1157 : (Jvm.Cond.privateMethod ({ cls := "DripCups$Reader", name := "pipe", desc := "()V" } : Jvm.MethodName)) ∈ lw_tbl := lw_at lw_m5 83 rfl
theorem q1158 : (Jvm.Cond.instanceMethod ({ cls := "DripCups$Reader", name := "pipe", desc := "()V" } : Jvm.MethodName)) ∈ lw_all := lw_g (lw_at lw_m5 84 rfl) rfl
theorem q1159 : (Jvm.Cond.code ({ cls := "DripCups$Reader", name := "pipe", desc := "()V" } : Jvm.MethodName) prog_8_method_22_code (4 : Nat) (Option.none : Option Jvm.ClassFile.FieldType)) ∈ lw_all := lw_g (lw_at lw_m5 85 rfl) rfl
theorem q1160 : (Jvm.Cond.methodLink "DripCups$Reader" (218 : Nat) ({ cls := "DripCups$Reader", name := "cupNow", desc := "()I" } : Jvm.MethodName)) ∈ lw_all := lw_g (lw_at lw_m5 86 rfl) rfl
theorem q1161 : (Jvm.Cond.privateMethod ({ cls := "DripCups$Reader", name := "cupNow", desc := "()I" } : Jvm.MethodName)) ∈ lw_tbl := lw_at lw_m5 87 rfl
theorem q1162 : (Jvm.Cond.instanceMethod ({ cls := "DripCups$Reader", name := "cupNow", desc := "()I" } : Jvm.MethodName)) ∈ lw_all := lw_g (lw_at lw_m5 88 rfl) rfl
theorem q1163 : (Jvm.Cond.code ({ cls := "DripCups$Reader", name := "cupNow", desc := "()I" } : Jvm.MethodName) prog_8_method_13_code (2 : Nat) (Option.some Jvm.ClassFile.FieldType.int)) ∈ lw_all := lw_g (lw_at lw_m5 89 rfl) rfl
theorem q2236 : (Jvm.Cond.castable "DripCups$Reader" "java/lang/Object") ∈ lw_tbl := lw_at lw_m9 202 rfl
theorem in_X5 : ∀ w ∈ wsX50, w ∈ lw_all := lw_in wsX50 [757, 759, 761, 763, 765, 767, 769, 771, 773, 775, 777, 779, 781] (by decide +kernel) (by decide +kernel)
/-! DripCups$Wrong -/
set_option maxRecDepth 100000
def RX6 : String := "DripCups$Wrong"
def TX6 : u_T := fun k => match k with
  | 0 => ("java/lang/Throwable", "cause", "Ljava/lang/Throwable;", false)
  | 1 => ("java/lang/Throwable", "stackTrace", "[Ljava/lang/StackTraceElement;", false)
  | 2 => ("java/lang/Throwable", "suppressedExceptions", "Ljava/util/List;", false)
  | 3 => ("java/lang/Throwable", "detailMessage", "Ljava/lang/String;", false)
  | 4 => ("java/lang/Throwable", "backtrace", "Ljava/lang/Object;", false)
  | 5 => ("java/lang/Throwable", "depth", "I", false)
  | _ => ("DripCups$Wrong", "kind", "I", true)
def tyX6 : Nat → FieldType := fun k => match k with
  | 0 => .object "java/lang/Throwable"
  | 1 => .array (.object "java/lang/StackTraceElement")
  | 2 => .object "java/util/List"
  | 3 => .object "java/lang/String"
  | 4 => .object "java/lang/Object"
  | 5 => .int
  | _ => .int
abbrev wsX60 : List Cond := u_ws RX6 TX6 7
theorem nmX6 : ∀ a, a < 7 → ∀ b, b < 7 → a ≠ b → (TX6 a).2.1 ≠ (TX6 b).2.1 := by decide +kernel
theorem tyX6_ok : ∀ k, k < 7 → parseFieldDescriptor (TX6 k).2.2.1 = some (tyX6 k) := by decide +kernel
abbrev cX6_init : ByteArray := prog_10_method_1_code
def yX6_init : MethodName := ⟨RX6, "<init>", "(I)V"⟩
def dkwX6_init_0 : List UInt8 := [42, 1, 1, 3, 3, 183, 0, 1, 42, 27, 181, 0, 7, 177]
abbrev dktX6_init_0 : List UInt8 := dkwX6_init_0 ++ []
theorem dksX6_init_0 : cX6_init.data.toList.drop 0 = dktX6_init_0 := by decide +kernel
theorem dX6_init_0 : decode cX6_init 0 = .ok (.aload_n 0, 1) := dk_42 (dk_at dksX6_init_0 0 rfl rfl)
theorem dX6_init_1 : decode cX6_init 1 = .ok (.aconst_null, 1) := dk_1 (dk_at dksX6_init_0 1 rfl rfl)
theorem dX6_init_2 : decode cX6_init 2 = .ok (.aconst_null, 1) := dk_1 (dk_at dksX6_init_0 2 rfl rfl)
theorem dX6_init_3 : decode cX6_init 3 = .ok (.iconst 0, 1) := dk_3 (dk_at dksX6_init_0 3 rfl rfl)
theorem dX6_init_4 : decode cX6_init 4 = .ok (.iconst 0, 1) := dk_3 (dk_at dksX6_init_0 4 rfl rfl)
theorem dX6_init_5 : decode cX6_init 5 = .ok (.invokespecial 1, 3) := dk_183 0 1 (dk_at dksX6_init_0 5 rfl rfl)
theorem dX6_init_8 : decode cX6_init 8 = .ok (.aload_n 0, 1) := dk_42 (dk_at dksX6_init_0 8 rfl rfl)
theorem dX6_init_9 : decode cX6_init 9 = .ok (.iload_n 1, 1) := dk_27 (dk_at dksX6_init_0 9 rfl rfl)
theorem dX6_init_10 : decode cX6_init 10 = .ok (.putfield 7, 3) := dk_181 0 7 (dk_at dksX6_init_0 10 rfl rfl)
theorem dX6_init_13 : decode cX6_init 13 = .ok (.return_, 1) := dk_177 (dk_at dksX6_init_0 13 rfl rfl)
theorem q133 : (Jvm.Cond.initialized "DripCups$Wrong") ∈ lw_all := lw_g (lw_at lw_m1 19 rfl) rfl
theorem q403 : (Jvm.Cond.selects "DripCups$Wrong" ({ cls := "java/lang/Object", name := "getClass", desc := "()Ljava/lang/Class;" } : Jvm.MethodName) ({ cls := "java/lang/Object", name := "getClass", desc := "()Ljava/lang/Class;" } : Jvm.MethodName)) ∈ lw_all := lw_g (lw_at lw_m2 49 rfl) rfl
theorem q691 : (Jvm.Cond.selects "DripCups$Wrong" ({ cls := "java/lang/Throwable", name := "fillInStackTrace", desc := "()Ljava/lang/Throwable;" } : Jvm.MethodName) ({ cls := "java/lang/Throwable", name := "fillInStackTrace", desc := "()Ljava/lang/Throwable;" } : Jvm.MethodName)) ∈ lw_all := lw_g (lw_at lw_m3 97 rfl) rfl
theorem q915 : (Jvm.Cond.instantiable "DripCups$Wrong" (7 : Nat)) ∈ lw_all := lw_g (lw_at lw_m4 81 rfl) rfl
theorem q916 : (Jvm.Cond.castable "DripCups$Wrong" "DripCups$Wrong") ∈ lw_tbl := lw_at lw_m4 82 rfl
theorem q917 : (Jvm.Cond.selects "DripCups$Wrong" ({ cls := "java/lang/Throwable", name := "fillInStackTrace", desc := "(I)Ljava/lang/Throwable;" } : Jvm.MethodName) ({ cls := "java/lang/Throwable", name := "fillInStackTrace", desc := "(I)Ljava/lang/Throwable;" } : Jvm.MethodName)) ∈ lw_all := lw_g (lw_at lw_m4 83 rfl) rfl
theorem q918 : (Jvm.Cond.lays "DripCups$Wrong" "java/lang/Throwable" "cause" "Ljava/lang/Throwable;") ∈ lw_all := lw_g (lw_at lw_m4 84 rfl) rfl
theorem q919 : (Jvm.Cond.lays "DripCups$Wrong" "java/lang/Throwable" "stackTrace" "[Ljava/lang/StackTraceElement;") ∈ lw_all := lw_g (lw_at lw_m4 85 rfl) rfl
theorem q920 : (Jvm.Cond.lays "DripCups$Wrong" "java/lang/Throwable" "suppressedExceptions" "Ljava/util/List;") ∈ lw_all := lw_g (lw_at lw_m4 86 rfl) rfl
theorem q921 : (Jvm.Cond.lays "DripCups$Wrong" "java/lang/Throwable" "detailMessage" "Ljava/lang/String;") ∈ lw_all := lw_g (lw_at lw_m4 87 rfl) rfl
theorem q922 : (Jvm.Cond.lays "DripCups$Wrong" "java/lang/Throwable" "backtrace" "Ljava/lang/Object;") ∈ lw_all := lw_g (lw_at lw_m4 88 rfl) rfl
theorem q924 : (Jvm.Cond.instanceMethod ({ cls := "DripCups$Wrong", name := "<init>", desc := "(I)V" } : Jvm.MethodName)) ∈ lw_all := lw_g (lw_at lw_m4 90 rfl) rfl
theorem q925 : (Jvm.Cond.code ({ cls := "DripCups$Wrong", name := "<init>", desc := "(I)V" } : Jvm.MethodName) prog_10_method_1_code (2 : Nat) (Option.none : Option Jvm.ClassFile.FieldType)) ∈ lw_all := lw_g (lw_at lw_m4 91 rfl) rfl
theorem q926 : (Jvm.Cond.methodLink "DripCups$Wrong" (1 : Nat) ({ cls := "java/lang/Exception", name := "<init>", desc := "(Ljava/lang/String;Ljava/lang/Throwable;ZZ)V" } : Jvm.MethodName)) ∈ lw_all := lw_g (lw_at lw_m4 92 rfl) rfl
theorem q932 : (Jvm.Cond.fieldLink "DripCups$Wrong" (7 : Nat) "DripCups$Wrong" "kind" "I") ∈ lw_all := lw_g (lw_at lw_m4 98 rfl) rfl
theorem q934 : (Jvm.Cond.laysFinal "DripCups$Wrong" "DripCups$Wrong" "kind" "I") ∈ lw_all := lw_g (lw_at lw_m4 100 rfl) rfl
theorem q935 : (Jvm.Cond.soleField "DripCups$Wrong" "kind") ∈ lw_all := lw_g (lw_at lw_m4 101 rfl) rfl
theorem q936 : (Jvm.Cond.lays "DripCups$Wrong" "java/lang/Throwable" "depth" "I") ∈ lw_all := lw_g (lw_at lw_m4 102 rfl) rfl
theorem q937 : (Jvm.Cond.superclass "DripCups$Wrong" "java/lang/Exception") ∈ lw_all := lw_g (lw_at lw_m4 103 rfl) rfl
theorem q2237 : (Jvm.Cond.castable "DripCups$Wrong" "java/lang/Object") ∈ lw_tbl := lw_at lw_m9 203 rfl
theorem in_X6 : ∀ w ∈ wsX60, w ∈ lw_all := lw_in wsX60 [918, 919, 920, 921, 922, 936, 934] (by decide +kernel) (by decide +kernel)
/-! DripCups$Chain -/
set_option maxRecDepth 100000
def RX7 : String := "DripCups$Chain"
def TX7 : u_T := fun k => match k with
  | 0 => ("DripCups$Chain", "forms", "Ljava/util/List;", true)
  | _ => ("DripCups$Chain", "signs", "Ljava/lang/StringBuilder;", true)
def tyX7 : Nat → FieldType := fun k => match k with
  | 0 => .object "java/util/List"
  | _ => .object "java/lang/StringBuilder"
abbrev wsX70 : List Cond := u_ws RX7 TX7 2
theorem nmX7 : ∀ a, a < 2 → ∀ b, b < 2 → a ≠ b → (TX7 a).2.1 ≠ (TX7 b).2.1 := by decide +kernel
theorem tyX7_ok : ∀ k, k < 2 → parseFieldDescriptor (TX7 k).2.2.1 = some (tyX7 k) := by decide +kernel
abbrev cX7_of : ByteArray := prog_3_method_4_code
def yX7_of : MethodName := ⟨RX7, "of", "([I)I"⟩
def dkwX7_of_3 : List UInt8 := [132, 3, 1, 167, 255, 206, 28, 172]
abbrev dktX7_of_3 : List UInt8 := dkwX7_of_3 ++ []
def dkwX7_of_2 : List UInt8 := [180, 0, 10, 29, 185, 0, 37, 2, 0, 192, 0, 41, 43, 185, 0, 43, 2, 0, 184, 0, 51, 61]
abbrev dktX7_of_2 : List UInt8 := dkwX7_of_2 ++ dktX7_of_3
def dkwX7_of_1 : List UInt8 := [180, 0, 10, 185, 0, 33, 1, 0, 162, 0, 43, 42, 180, 0, 19, 29, 4, 100, 182, 0, 47, 28, 42]
abbrev dktX7_of_1 : List UInt8 := dkwX7_of_1 ++ dktX7_of_2
def dkwX7_of_0 : List UInt8 := [42, 180, 0, 10, 3, 185, 0, 37, 2, 0, 192, 0, 41, 43, 185, 0, 43, 2, 0, 61, 4, 62, 29, 42]
abbrev dktX7_of_0 : List UInt8 := dkwX7_of_0 ++ dktX7_of_1
theorem dksX7_of_0 : cX7_of.data.toList.drop 0 = dktX7_of_0 := by decide +kernel
theorem dksX7_of_1 : cX7_of.data.toList.drop 24 = dktX7_of_1 := dk_seg dksX7_of_0 24 rfl rfl
theorem dksX7_of_2 : cX7_of.data.toList.drop 47 = dktX7_of_2 := dk_seg dksX7_of_1 23 rfl rfl
theorem dksX7_of_3 : cX7_of.data.toList.drop 69 = dktX7_of_3 := dk_seg dksX7_of_2 22 rfl rfl
theorem dX7_of_0 : decode cX7_of 0 = .ok (.aload_n 0, 1) := dk_42 (dk_at dksX7_of_0 0 rfl rfl)
theorem dX7_of_1 : decode cX7_of 1 = .ok (.getfield 10, 3) := dk_180 0 10 (dk_at dksX7_of_0 1 rfl rfl)
theorem dX7_of_4 : decode cX7_of 4 = .ok (.iconst 0, 1) := dk_3 (dk_at dksX7_of_0 4 rfl rfl)
theorem dX7_of_5 : decode cX7_of 5 = .ok (.invokeinterface 37 2, 5) := by decide +kernel
theorem dX7_of_10 : decode cX7_of 10 = .ok (.checkcast 41, 3) := dk_192 0 41 (dk_at dksX7_of_0 10 rfl rfl)
theorem dX7_of_13 : decode cX7_of 13 = .ok (.aload_n 1, 1) := dk_43 (dk_at dksX7_of_0 13 rfl rfl)
theorem dX7_of_14 : decode cX7_of 14 = .ok (.invokeinterface 43 2, 5) := by decide +kernel
theorem dX7_of_19 : decode cX7_of 19 = .ok (.istore_n 2, 1) := dk_61 (dk_at dksX7_of_0 19 rfl rfl)
theorem dX7_of_20 : decode cX7_of 20 = .ok (.iconst 1, 1) := dk_4 (dk_at dksX7_of_0 20 rfl rfl)
theorem dX7_of_21 : decode cX7_of 21 = .ok (.istore_n 3, 1) := dk_62 (dk_at dksX7_of_0 21 rfl rfl)
theorem dX7_of_22 : decode cX7_of 22 = .ok (.iload_n 3, 1) := dk_29 (dk_at dksX7_of_0 22 rfl rfl)
theorem dX7_of_23 : decode cX7_of 23 = .ok (.aload_n 0, 1) := dk_42 (dk_at dksX7_of_0 23 rfl rfl)
theorem dX7_of_24 : decode cX7_of 24 = .ok (.getfield 10, 3) := dk_180 0 10 (dk_at dksX7_of_1 0 rfl rfl)
theorem dX7_of_27 : decode cX7_of 27 = .ok (.invokeinterface 33 1, 5) := by decide +kernel
theorem dX7_of_32 : decode cX7_of 32 = .ok (.if_icmp .ge 43, 3) := dk_162 0 43 (dk_at dksX7_of_1 8 rfl rfl)
theorem dX7_of_35 : decode cX7_of 35 = .ok (.aload_n 0, 1) := dk_42 (dk_at dksX7_of_1 11 rfl rfl)
theorem dX7_of_36 : decode cX7_of 36 = .ok (.getfield 19, 3) := dk_180 0 19 (dk_at dksX7_of_1 12 rfl rfl)
theorem dX7_of_39 : decode cX7_of 39 = .ok (.iload_n 3, 1) := dk_29 (dk_at dksX7_of_1 15 rfl rfl)
theorem dX7_of_40 : decode cX7_of 40 = .ok (.iconst 1, 1) := dk_4 (dk_at dksX7_of_1 16 rfl rfl)
theorem dX7_of_41 : decode cX7_of 41 = .ok (.isub, 1) := dk_100 (dk_at dksX7_of_1 17 rfl rfl)
theorem dX7_of_42 : decode cX7_of 42 = .ok (.invokevirtual 47, 3) := dk_182 0 47 (dk_at dksX7_of_1 18 rfl rfl)
theorem dX7_of_45 : decode cX7_of 45 = .ok (.iload_n 2, 1) := dk_28 (dk_at dksX7_of_1 21 rfl rfl)
theorem dX7_of_46 : decode cX7_of 46 = .ok (.aload_n 0, 1) := dk_42 (dk_at dksX7_of_1 22 rfl rfl)
theorem dX7_of_47 : decode cX7_of 47 = .ok (.getfield 10, 3) := dk_180 0 10 (dk_at dksX7_of_2 0 rfl rfl)
theorem dX7_of_50 : decode cX7_of 50 = .ok (.iload_n 3, 1) := dk_29 (dk_at dksX7_of_2 3 rfl rfl)
theorem dX7_of_51 : decode cX7_of 51 = .ok (.invokeinterface 37 2, 5) := by decide +kernel
theorem dX7_of_56 : decode cX7_of 56 = .ok (.checkcast 41, 3) := dk_192 0 41 (dk_at dksX7_of_2 9 rfl rfl)
theorem dX7_of_59 : decode cX7_of 59 = .ok (.aload_n 1, 1) := dk_43 (dk_at dksX7_of_2 12 rfl rfl)
theorem dX7_of_60 : decode cX7_of 60 = .ok (.invokeinterface 43 2, 5) := by decide +kernel
theorem dX7_of_65 : decode cX7_of 65 = .ok (.invokestatic 51, 3) := dk_184 0 51 (dk_at dksX7_of_2 18 rfl rfl)
theorem dX7_of_68 : decode cX7_of 68 = .ok (.istore_n 2, 1) := dk_61 (dk_at dksX7_of_2 21 rfl rfl)
theorem dX7_of_69 : decode cX7_of 69 = .ok (.iinc 3 1, 3) := dk_132 3 1 (dk_at dksX7_of_3 0 rfl rfl)
theorem dX7_of_72 : decode cX7_of 72 = .ok (.goto (-50), 3) := dk_167 255 206 (dk_at dksX7_of_3 3 rfl rfl)
theorem dX7_of_75 : decode cX7_of 75 = .ok (.iload_n 2, 1) := dk_28 (dk_at dksX7_of_3 6 rfl rfl)
theorem dX7_of_76 : decode cX7_of 76 = .ok (.ireturn, 1) := dk_172 (dk_at dksX7_of_3 7 rfl rfl)
abbrev cX7_by : ByteArray := prog_3_method_5_code
def yX7_by : MethodName := ⟨RX7, "by", "(CII)I"⟩
def dkwX7_by_5 : List UInt8 := [167, 0, 4, 3, 172]
abbrev dktX7_by_5 : List UInt8 := dkwX7_by_5 ++ []
def dkwX7_by_4 : List UInt8 := [153, 0, 11, 28, 153, 0, 7, 4, 167, 0, 4, 3, 172, 27, 154, 0, 7, 28, 153, 0, 7, 4]
abbrev dktX7_by_4 : List UInt8 := dkwX7_by_4 ++ dktX7_by_5
def dkwX7_by_3 : List UInt8 := [27, 28, 162, 0, 7, 4, 167, 0, 4, 3, 172, 27, 28, 160, 0, 7, 4, 167, 0, 4, 3, 172, 27]
abbrev dktX7_by_3 : List UInt8 := dkwX7_by_3 ++ dktX7_by_4
def dkwX7_by_2 : List UInt8 := [27, 28, 96, 172, 27, 28, 100, 172, 27, 28, 104, 172, 28, 154, 0, 7, 3, 167, 0, 6, 27, 28, 108, 172]
abbrev dktX7_by_2 : List UInt8 := dkwX7_by_2 ++ dktX7_by_3
def dkwX7_by_1 : List UInt8 := [170, 0, 0, 0, 0, 0, 171, 0, 0, 0, 38, 0, 0, 0, 61, 0, 0, 0, 157, 0, 0, 0, 171, 0, 0, 0, 171, 0, 0, 0, 171, 0, 0, 0, 119, 0, 0, 0, 111, 0, 0, 0, 171, 0, 0, 0, 115, 0, 0, 0, 171, 0, 0, 0, 123, 0, 0, 0, 171, 0, 0, 0, 171, 0, 0, 0, 171, 0, 0, 0, 171, 0, 0, 0, 171, 0, 0, 0, 171, 0, 0, 0, 171, 0, 0, 0, 171, 0, 0, 0, 171, 0, 0, 0, 171, 0, 0, 0, 171, 0, 0, 0, 171, 0, 0, 0, 135, 0, 0, 0, 146]
abbrev dktX7_by_1 : List UInt8 := dkwX7_by_1 ++ dktX7_by_2
def dkwX7_by_0 : List UInt8 := [26]
abbrev dktX7_by_0 : List UInt8 := dkwX7_by_0 ++ dktX7_by_1
theorem dksX7_by_0 : cX7_by.data.toList.drop 0 = dktX7_by_0 := by decide +kernel
theorem dksX7_by_1 : cX7_by.data.toList.drop 1 = dktX7_by_1 := dk_seg dksX7_by_0 1 rfl rfl
theorem dksX7_by_2 : cX7_by.data.toList.drop 112 = dktX7_by_2 := dk_seg dksX7_by_1 111 rfl rfl
theorem dksX7_by_3 : cX7_by.data.toList.drop 136 = dktX7_by_3 := dk_seg dksX7_by_2 24 rfl rfl
theorem dksX7_by_4 : cX7_by.data.toList.drop 159 = dktX7_by_4 := dk_seg dksX7_by_3 23 rfl rfl
theorem dksX7_by_5 : cX7_by.data.toList.drop 181 = dktX7_by_5 := dk_seg dksX7_by_4 22 rfl rfl
theorem dX7_by_0 : decode cX7_by 0 = .ok (.iload_n 0, 1) := dk_26 (dk_at dksX7_by_0 0 rfl rfl)
theorem dX7_by_1 : decode cX7_by 1 = .ok (.tableswitch 171 38 61 #[157, 171, 171, 171, 119, 111, 171, 115, 171, 123, 171, 171, 171, 171, 171, 171, 171, 171, 171, 171, 171, 171, 135, 146], 111) := by decide +kernel
theorem dX7_by_112 : decode cX7_by 112 = .ok (.iload_n 1, 1) := dk_27 (dk_at dksX7_by_2 0 rfl rfl)
theorem dX7_by_113 : decode cX7_by 113 = .ok (.iload_n 2, 1) := dk_28 (dk_at dksX7_by_2 1 rfl rfl)
theorem dX7_by_114 : decode cX7_by 114 = .ok (.iadd, 1) := dk_96 (dk_at dksX7_by_2 2 rfl rfl)
theorem dX7_by_115 : decode cX7_by 115 = .ok (.ireturn, 1) := dk_172 (dk_at dksX7_by_2 3 rfl rfl)
theorem dX7_by_116 : decode cX7_by 116 = .ok (.iload_n 1, 1) := dk_27 (dk_at dksX7_by_2 4 rfl rfl)
theorem dX7_by_117 : decode cX7_by 117 = .ok (.iload_n 2, 1) := dk_28 (dk_at dksX7_by_2 5 rfl rfl)
theorem dX7_by_118 : decode cX7_by 118 = .ok (.isub, 1) := dk_100 (dk_at dksX7_by_2 6 rfl rfl)
theorem dX7_by_119 : decode cX7_by 119 = .ok (.ireturn, 1) := dk_172 (dk_at dksX7_by_2 7 rfl rfl)
theorem dX7_by_120 : decode cX7_by 120 = .ok (.iload_n 1, 1) := dk_27 (dk_at dksX7_by_2 8 rfl rfl)
theorem dX7_by_121 : decode cX7_by 121 = .ok (.iload_n 2, 1) := dk_28 (dk_at dksX7_by_2 9 rfl rfl)
theorem dX7_by_122 : decode cX7_by 122 = .ok (.imul, 1) := dk_104 (dk_at dksX7_by_2 10 rfl rfl)
theorem dX7_by_123 : decode cX7_by 123 = .ok (.ireturn, 1) := dk_172 (dk_at dksX7_by_2 11 rfl rfl)
theorem dX7_by_124 : decode cX7_by 124 = .ok (.iload_n 2, 1) := dk_28 (dk_at dksX7_by_2 12 rfl rfl)
theorem dX7_by_125 : decode cX7_by 125 = .ok (.ifCond .ne 7, 3) := dk_154 0 7 (dk_at dksX7_by_2 13 rfl rfl)
theorem dX7_by_128 : decode cX7_by 128 = .ok (.iconst 0, 1) := dk_3 (dk_at dksX7_by_2 16 rfl rfl)
theorem dX7_by_129 : decode cX7_by 129 = .ok (.goto 6, 3) := dk_167 0 6 (dk_at dksX7_by_2 17 rfl rfl)
theorem dX7_by_132 : decode cX7_by 132 = .ok (.iload_n 1, 1) := dk_27 (dk_at dksX7_by_2 20 rfl rfl)
theorem dX7_by_133 : decode cX7_by 133 = .ok (.iload_n 2, 1) := dk_28 (dk_at dksX7_by_2 21 rfl rfl)
theorem dX7_by_134 : decode cX7_by 134 = .ok (.idiv, 1) := dk_108 (dk_at dksX7_by_2 22 rfl rfl)
theorem dX7_by_135 : decode cX7_by 135 = .ok (.ireturn, 1) := dk_172 (dk_at dksX7_by_2 23 rfl rfl)
theorem dX7_by_136 : decode cX7_by 136 = .ok (.iload_n 1, 1) := dk_27 (dk_at dksX7_by_3 0 rfl rfl)
theorem dX7_by_137 : decode cX7_by 137 = .ok (.iload_n 2, 1) := dk_28 (dk_at dksX7_by_3 1 rfl rfl)
theorem dX7_by_138 : decode cX7_by 138 = .ok (.if_icmp .ge 7, 3) := dk_162 0 7 (dk_at dksX7_by_3 2 rfl rfl)
theorem dX7_by_141 : decode cX7_by 141 = .ok (.iconst 1, 1) := dk_4 (dk_at dksX7_by_3 5 rfl rfl)
theorem dX7_by_142 : decode cX7_by 142 = .ok (.goto 4, 3) := dk_167 0 4 (dk_at dksX7_by_3 6 rfl rfl)
theorem dX7_by_145 : decode cX7_by 145 = .ok (.iconst 0, 1) := dk_3 (dk_at dksX7_by_3 9 rfl rfl)
theorem dX7_by_146 : decode cX7_by 146 = .ok (.ireturn, 1) := dk_172 (dk_at dksX7_by_3 10 rfl rfl)
theorem dX7_by_147 : decode cX7_by 147 = .ok (.iload_n 1, 1) := dk_27 (dk_at dksX7_by_3 11 rfl rfl)
theorem dX7_by_148 : decode cX7_by 148 = .ok (.iload_n 2, 1) := dk_28 (dk_at dksX7_by_3 12 rfl rfl)
theorem dX7_by_149 : decode cX7_by 149 = .ok (.if_icmp .ne 7, 3) := dk_160 0 7 (dk_at dksX7_by_3 13 rfl rfl)
theorem dX7_by_152 : decode cX7_by 152 = .ok (.iconst 1, 1) := dk_4 (dk_at dksX7_by_3 16 rfl rfl)
theorem dX7_by_153 : decode cX7_by 153 = .ok (.goto 4, 3) := dk_167 0 4 (dk_at dksX7_by_3 17 rfl rfl)
theorem dX7_by_156 : decode cX7_by 156 = .ok (.iconst 0, 1) := dk_3 (dk_at dksX7_by_3 20 rfl rfl)
theorem dX7_by_157 : decode cX7_by 157 = .ok (.ireturn, 1) := dk_172 (dk_at dksX7_by_3 21 rfl rfl)
theorem dX7_by_158 : decode cX7_by 158 = .ok (.iload_n 1, 1) := dk_27 (dk_at dksX7_by_3 22 rfl rfl)
theorem dX7_by_159 : decode cX7_by 159 = .ok (.ifCond .eq 11, 3) := dk_153 0 11 (dk_at dksX7_by_4 0 rfl rfl)
theorem dX7_by_162 : decode cX7_by 162 = .ok (.iload_n 2, 1) := dk_28 (dk_at dksX7_by_4 3 rfl rfl)
theorem dX7_by_163 : decode cX7_by 163 = .ok (.ifCond .eq 7, 3) := dk_153 0 7 (dk_at dksX7_by_4 4 rfl rfl)
theorem dX7_by_166 : decode cX7_by 166 = .ok (.iconst 1, 1) := dk_4 (dk_at dksX7_by_4 7 rfl rfl)
theorem dX7_by_167 : decode cX7_by 167 = .ok (.goto 4, 3) := dk_167 0 4 (dk_at dksX7_by_4 8 rfl rfl)
theorem dX7_by_170 : decode cX7_by 170 = .ok (.iconst 0, 1) := dk_3 (dk_at dksX7_by_4 11 rfl rfl)
theorem dX7_by_171 : decode cX7_by 171 = .ok (.ireturn, 1) := dk_172 (dk_at dksX7_by_4 12 rfl rfl)
theorem dX7_by_172 : decode cX7_by 172 = .ok (.iload_n 1, 1) := dk_27 (dk_at dksX7_by_4 13 rfl rfl)
theorem dX7_by_173 : decode cX7_by 173 = .ok (.ifCond .ne 7, 3) := dk_154 0 7 (dk_at dksX7_by_4 14 rfl rfl)
theorem dX7_by_176 : decode cX7_by 176 = .ok (.iload_n 2, 1) := dk_28 (dk_at dksX7_by_4 17 rfl rfl)
theorem dX7_by_177 : decode cX7_by 177 = .ok (.ifCond .eq 7, 3) := dk_153 0 7 (dk_at dksX7_by_4 18 rfl rfl)
theorem dX7_by_180 : decode cX7_by 180 = .ok (.iconst 1, 1) := dk_4 (dk_at dksX7_by_4 21 rfl rfl)
theorem dX7_by_181 : decode cX7_by 181 = .ok (.goto 4, 3) := dk_167 0 4 (dk_at dksX7_by_5 0 rfl rfl)
theorem dX7_by_184 : decode cX7_by 184 = .ok (.iconst 0, 1) := dk_3 (dk_at dksX7_by_5 3 rfl rfl)
theorem dX7_by_185 : decode cX7_by 185 = .ok (.ireturn, 1) := dk_172 (dk_at dksX7_by_5 4 rfl rfl)
abbrev cX7_init : ByteArray := prog_3_method_1_code
def yX7_init : MethodName := ⟨RX7, "<init>", "(LDripCups$Form;)V"⟩
def dkwX7_init_1 : List UInt8 := [181, 0, 19, 42, 180, 0, 10, 43, 185, 0, 23, 2, 0, 87, 177]
abbrev dktX7_init_1 : List UInt8 := dkwX7_init_1 ++ []
def dkwX7_init_0 : List UInt8 := [42, 183, 0, 1, 42, 187, 0, 7, 89, 183, 0, 9, 181, 0, 10, 42, 187, 0, 16, 89, 183, 0, 18]
abbrev dktX7_init_0 : List UInt8 := dkwX7_init_0 ++ dktX7_init_1
theorem dksX7_init_0 : cX7_init.data.toList.drop 0 = dktX7_init_0 := by decide +kernel
theorem dksX7_init_1 : cX7_init.data.toList.drop 23 = dktX7_init_1 := dk_seg dksX7_init_0 23 rfl rfl
theorem dX7_init_0 : decode cX7_init 0 = .ok (.aload_n 0, 1) := dk_42 (dk_at dksX7_init_0 0 rfl rfl)
theorem dX7_init_1 : decode cX7_init 1 = .ok (.invokespecial 1, 3) := dk_183 0 1 (dk_at dksX7_init_0 1 rfl rfl)
theorem dX7_init_4 : decode cX7_init 4 = .ok (.aload_n 0, 1) := dk_42 (dk_at dksX7_init_0 4 rfl rfl)
theorem dX7_init_5 : decode cX7_init 5 = .ok (.new 7, 3) := dk_187 0 7 (dk_at dksX7_init_0 5 rfl rfl)
theorem dX7_init_8 : decode cX7_init 8 = .ok (.dup, 1) := dk_89 (dk_at dksX7_init_0 8 rfl rfl)
theorem dX7_init_9 : decode cX7_init 9 = .ok (.invokespecial 9, 3) := dk_183 0 9 (dk_at dksX7_init_0 9 rfl rfl)
theorem dX7_init_12 : decode cX7_init 12 = .ok (.putfield 10, 3) := dk_181 0 10 (dk_at dksX7_init_0 12 rfl rfl)
theorem dX7_init_15 : decode cX7_init 15 = .ok (.aload_n 0, 1) := dk_42 (dk_at dksX7_init_0 15 rfl rfl)
theorem dX7_init_16 : decode cX7_init 16 = .ok (.new 16, 3) := dk_187 0 16 (dk_at dksX7_init_0 16 rfl rfl)
theorem dX7_init_19 : decode cX7_init 19 = .ok (.dup, 1) := dk_89 (dk_at dksX7_init_0 19 rfl rfl)
theorem dX7_init_20 : decode cX7_init 20 = .ok (.invokespecial 18, 3) := dk_183 0 18 (dk_at dksX7_init_0 20 rfl rfl)
theorem dX7_init_23 : decode cX7_init 23 = .ok (.putfield 19, 3) := dk_181 0 19 (dk_at dksX7_init_1 0 rfl rfl)
theorem dX7_init_26 : decode cX7_init 26 = .ok (.aload_n 0, 1) := dk_42 (dk_at dksX7_init_1 3 rfl rfl)
theorem dX7_init_27 : decode cX7_init 27 = .ok (.getfield 10, 3) := dk_180 0 10 (dk_at dksX7_init_1 4 rfl rfl)
theorem dX7_init_30 : decode cX7_init 30 = .ok (.aload_n 1, 1) := dk_43 (dk_at dksX7_init_1 7 rfl rfl)
theorem dX7_init_31 : decode cX7_init 31 = .ok (.invokeinterface 23 2, 5) := by decide +kernel
theorem dX7_init_36 : decode cX7_init 36 = .ok (.pop, 1) := dk_87 (dk_at dksX7_init_1 13 rfl rfl)
theorem dX7_init_37 : decode cX7_init 37 = .ok (.return_, 1) := dk_177 (dk_at dksX7_init_1 14 rfl rfl)
abbrev cX7_add : ByteArray := prog_3_method_2_code
def yX7_add : MethodName := ⟨RX7, "add", "(CLDripCups$Form;)V"⟩
def dkwX7_add_0 : List UInt8 := [42, 180, 0, 19, 27, 182, 0, 29, 87, 42, 180, 0, 10, 44, 185, 0, 23, 2, 0, 87, 177]
abbrev dktX7_add_0 : List UInt8 := dkwX7_add_0 ++ []
theorem dksX7_add_0 : cX7_add.data.toList.drop 0 = dktX7_add_0 := by decide +kernel
theorem dX7_add_0 : decode cX7_add 0 = .ok (.aload_n 0, 1) := dk_42 (dk_at dksX7_add_0 0 rfl rfl)
theorem dX7_add_1 : decode cX7_add 1 = .ok (.getfield 19, 3) := dk_180 0 19 (dk_at dksX7_add_0 1 rfl rfl)
theorem dX7_add_4 : decode cX7_add 4 = .ok (.iload_n 1, 1) := dk_27 (dk_at dksX7_add_0 4 rfl rfl)
theorem dX7_add_5 : decode cX7_add 5 = .ok (.invokevirtual 29, 3) := dk_182 0 29 (dk_at dksX7_add_0 5 rfl rfl)
theorem dX7_add_8 : decode cX7_add 8 = .ok (.pop, 1) := dk_87 (dk_at dksX7_add_0 8 rfl rfl)
theorem dX7_add_9 : decode cX7_add 9 = .ok (.aload_n 0, 1) := dk_42 (dk_at dksX7_add_0 9 rfl rfl)
theorem dX7_add_10 : decode cX7_add 10 = .ok (.getfield 10, 3) := dk_180 0 10 (dk_at dksX7_add_0 10 rfl rfl)
theorem dX7_add_13 : decode cX7_add 13 = .ok (.aload_n 2, 1) := dk_44 (dk_at dksX7_add_0 13 rfl rfl)
theorem dX7_add_14 : decode cX7_add 14 = .ok (.invokeinterface 23 2, 5) := by decide +kernel
theorem dX7_add_19 : decode cX7_add 19 = .ok (.pop, 1) := dk_87 (dk_at dksX7_add_0 19 rfl rfl)
theorem dX7_add_20 : decode cX7_add 20 = .ok (.return_, 1) := dk_177 (dk_at dksX7_add_0 20 rfl rfl)
abbrev cX7_plain : ByteArray := prog_3_method_3_code
def yX7_plain : MethodName := ⟨RX7, "plain", "()LDripCups$Form;"⟩
def dkwX7_plain_1 : List UInt8 := [192, 0, 41, 167, 0, 4, 42, 176]
abbrev dktX7_plain_1 : List UInt8 := dkwX7_plain_1 ++ []
def dkwX7_plain_0 : List UInt8 := [42, 180, 0, 10, 185, 0, 33, 1, 0, 4, 160, 0, 19, 42, 180, 0, 10, 3, 185, 0, 37, 2, 0]
abbrev dktX7_plain_0 : List UInt8 := dkwX7_plain_0 ++ dktX7_plain_1
theorem dksX7_plain_0 : cX7_plain.data.toList.drop 0 = dktX7_plain_0 := by decide +kernel
theorem dksX7_plain_1 : cX7_plain.data.toList.drop 23 = dktX7_plain_1 := dk_seg dksX7_plain_0 23 rfl rfl
theorem dX7_plain_0 : decode cX7_plain 0 = .ok (.aload_n 0, 1) := dk_42 (dk_at dksX7_plain_0 0 rfl rfl)
theorem dX7_plain_1 : decode cX7_plain 1 = .ok (.getfield 10, 3) := dk_180 0 10 (dk_at dksX7_plain_0 1 rfl rfl)
theorem dX7_plain_4 : decode cX7_plain 4 = .ok (.invokeinterface 33 1, 5) := by decide +kernel
theorem dX7_plain_9 : decode cX7_plain 9 = .ok (.iconst 1, 1) := dk_4 (dk_at dksX7_plain_0 9 rfl rfl)
theorem dX7_plain_10 : decode cX7_plain 10 = .ok (.if_icmp .ne 19, 3) := dk_160 0 19 (dk_at dksX7_plain_0 10 rfl rfl)
theorem dX7_plain_13 : decode cX7_plain 13 = .ok (.aload_n 0, 1) := dk_42 (dk_at dksX7_plain_0 13 rfl rfl)
theorem dX7_plain_14 : decode cX7_plain 14 = .ok (.getfield 10, 3) := dk_180 0 10 (dk_at dksX7_plain_0 14 rfl rfl)
theorem dX7_plain_17 : decode cX7_plain 17 = .ok (.iconst 0, 1) := dk_3 (dk_at dksX7_plain_0 17 rfl rfl)
theorem dX7_plain_18 : decode cX7_plain 18 = .ok (.invokeinterface 37 2, 5) := by decide +kernel
theorem dX7_plain_23 : decode cX7_plain 23 = .ok (.checkcast 41, 3) := dk_192 0 41 (dk_at dksX7_plain_1 0 rfl rfl)
theorem dX7_plain_26 : decode cX7_plain 26 = .ok (.goto 4, 3) := dk_167 0 4 (dk_at dksX7_plain_1 3 rfl rfl)
theorem dX7_plain_29 : decode cX7_plain 29 = .ok (.aload_n 0, 1) := dk_42 (dk_at dksX7_plain_1 6 rfl rfl)
theorem dX7_plain_30 : decode cX7_plain 30 = .ok (.areturn, 1) := dk_176 (dk_at dksX7_plain_1 7 rfl rfl)
theorem q134 : (Jvm.Cond.initialized "DripCups$Chain") ∈ lw_all := lw_g (lw_at lw_m1 20 rfl) rfl
theorem q397 : (Jvm.Cond.selects "DripCups$Chain" ({ cls := "java/lang/Object", name := "getClass", desc := "()Ljava/lang/Class;" } : Jvm.MethodName) ({ cls := "java/lang/Object", name := "getClass", desc := "()Ljava/lang/Class;" } : Jvm.MethodName)) ∈ lw_all := lw_g (lw_at lw_m2 43 rfl) rfl
theorem q505 : (Jvm.Cond.castable "DripCups$Chain" "DripCups$Form") ∈ lw_tbl := lw_at lw_m2 151 rfl
theorem q506 : (Jvm.Cond.selects "DripCups$Chain" ({ cls := "DripCups$Form", name := "of", desc := "([I)I" } : Jvm.MethodName) ({ cls := "DripCups$Chain", name := "of", desc := "([I)I" } : Jvm.MethodName)) ∈ lw_all := lw_g (lw_at lw_m2 152 rfl) rfl
theorem q507 : (Jvm.Cond.unhidden "DripCups$Chain" "of" "([I)I") ∈ lw_tbl := lw_at lw_m2 153 rfl
theorem q508 : (Jvm.Cond.instanceMethod ({ cls := "DripCups$Chain", name := "of", desc := "([I)I" } : Jvm.MethodName)) ∈ lw_all := lw_g (lw_at lw_m2 154 rfl) rfl
theorem q509 : (Jvm.Cond.publicMethod ({ cls := "DripCups$Chain", name := "of", desc := "([I)I" } : Jvm.MethodName)) ∈ lw_tbl := lw_at lw_m2 155 rfl
theorem q510 : (Jvm.Cond.code ({ cls := "DripCups$Chain", name := "of", desc := "([I)I" } : Jvm.MethodName) prog_3_method_4_code (4 : Nat) (Option.some Jvm.ClassFile.FieldType.int)) ∈ lw_all := lw_g (lw_at lw_m2 156 rfl) rfl
theorem q511 : (Jvm.Cond.interfaceEntry "DripCups$Chain" (37 : Nat)) ∈ lw_tbl := lw_at lw_m2 157 rfl
theorem q512 : (Jvm.Cond.methodLink "DripCups$Chain" (37 : Nat) ({ cls := "java/util/List", name := "get", desc := "(I)Ljava/lang/Object;" } : Jvm.MethodName)) ∈ lw_all := lw_g (lw_at lw_m2 158 rfl) rfl
theorem q513 : (Jvm.Cond.classLink "DripCups$Chain" (41 : Nat) "DripCups$Form") ∈ lw_all := lw_g (lw_at lw_m2 159 rfl) rfl
theorem q514 : (Jvm.Cond.interfaceEntry "DripCups$Chain" (43 : Nat)) ∈ lw_tbl := lw_at lw_m2 160 rfl
theorem q515 : (Jvm.Cond.methodLink "DripCups$Chain" (43 : Nat) ({ cls := "DripCups$Form", name := "of", desc := "([I)I" } : Jvm.MethodName)) ∈ lw_all := lw_g (lw_at lw_m2 161 rfl) rfl
theorem q536 : (Jvm.Cond.interfaceEntry "DripCups$Chain" (33 : Nat)) ∈ lw_tbl := lw_at lw_m2 182 rfl
theorem q537 : (Jvm.Cond.methodLink "DripCups$Chain" (33 : Nat) ({ cls := "java/util/List", name := "size", desc := "()I" } : Jvm.MethodName)) ∈ lw_all := lw_g (lw_at lw_m2 183 rfl) rfl
theorem q538 : (Jvm.Cond.methodLink "DripCups$Chain" (47 : Nat) ({ cls := "java/lang/StringBuilder", name := "charAt", desc := "(I)C" } : Jvm.MethodName)) ∈ lw_all := lw_g (lw_at lw_m2 184 rfl) rfl
theorem q565 : (Jvm.Cond.methodLink "DripCups$Chain" (51 : Nat) ({ cls := "DripCups$Chain", name := "by", desc := "(CII)I" } : Jvm.MethodName)) ∈ lw_all := lw_g (lw_at lw_m2 211 rfl) rfl
theorem q566 : (Jvm.Cond.static ({ cls := "DripCups$Chain", name := "by", desc := "(CII)I" } : Jvm.MethodName)) ∈ lw_all := lw_g (lw_at lw_m2 212 rfl) rfl
theorem q567 : (Jvm.Cond.code ({ cls := "DripCups$Chain", name := "by", desc := "(CII)I" } : Jvm.MethodName) prog_3_method_5_code (3 : Nat) (Option.some Jvm.ClassFile.FieldType.int)) ∈ lw_all := lw_g (lw_at lw_m2 213 rfl) rfl
theorem q947 : (Jvm.Cond.instantiable "DripCups$Chain" (2 : Nat)) ∈ lw_all := lw_g (lw_at lw_m4 113 rfl) rfl
theorem q998 : (Jvm.Cond.instanceMethod ({ cls := "DripCups$Chain", name := "<init>", desc := "(LDripCups$Form;)V" } : Jvm.MethodName)) ∈ lw_all := lw_g (lw_at lw_m4 164 rfl) rfl
theorem q999 : (Jvm.Cond.code ({ cls := "DripCups$Chain", name := "<init>", desc := "(LDripCups$Form;)V" } : Jvm.MethodName) prog_3_method_1_code (2 : Nat) (Option.none : Option Jvm.ClassFile.FieldType)) ∈ lw_all := lw_g (lw_at lw_m4 165 rfl) rfl
theorem q1000 : (Jvm.Cond.methodLink "DripCups$Chain" (1 : Nat) ({ cls := "java/lang/Object", name := "<init>", desc := "()V" } : Jvm.MethodName)) ∈ lw_all := lw_g (lw_at lw_m4 166 rfl) rfl
theorem q1001 : (Jvm.Cond.classLink "DripCups$Chain" (7 : Nat) "java/util/ArrayList") ∈ lw_all := lw_g (lw_at lw_m4 167 rfl) rfl
theorem q1002 : (Jvm.Cond.methodLink "DripCups$Chain" (9 : Nat) ({ cls := "java/util/ArrayList", name := "<init>", desc := "()V" } : Jvm.MethodName)) ∈ lw_all := lw_g (lw_at lw_m4 168 rfl) rfl
theorem q1003 : (Jvm.Cond.classLink "DripCups$Chain" (16 : Nat) "java/lang/StringBuilder") ∈ lw_all := lw_g (lw_at lw_m4 169 rfl) rfl
theorem q1005 : (Jvm.Cond.methodLink "DripCups$Chain" (18 : Nat) ({ cls := "java/lang/StringBuilder", name := "<init>", desc := "()V" } : Jvm.MethodName)) ∈ lw_all := lw_g (lw_at lw_m4 171 rfl) rfl
theorem q1031 : (Jvm.Cond.interfaceEntry "DripCups$Chain" (23 : Nat)) ∈ lw_tbl := lw_at lw_m4 197 rfl
theorem q1032 : (Jvm.Cond.methodLink "DripCups$Chain" (23 : Nat) ({ cls := "java/util/List", name := "add", desc := "(Ljava/lang/Object;)Z" } : Jvm.MethodName)) ∈ lw_all := lw_g (lw_at lw_m4 198 rfl) rfl
theorem q1033 : (Jvm.Cond.fieldLink "DripCups$Chain" (10 : Nat) "DripCups$Chain" "forms" "Ljava/util/List;") ∈ lw_all := lw_g (lw_at lw_m4 199 rfl) rfl
theorem q1034 : (Jvm.Cond.fieldLink "DripCups$Chain" (19 : Nat) "DripCups$Chain" "signs" "Ljava/lang/StringBuilder;") ∈ lw_all := lw_g (lw_at lw_m4 200 rfl) rfl
theorem q1035 : (Jvm.Cond.laysFinal "DripCups$Chain" "DripCups$Chain" "forms" "Ljava/util/List;") ∈ lw_all := lw_g (lw_at lw_m4 201 rfl) rfl
theorem q1036 : (Jvm.Cond.soleField "DripCups$Chain" "forms") ∈ lw_all := lw_g (lw_at lw_m4 202 rfl) rfl
theorem q1037 : (Jvm.Cond.laysFinal "DripCups$Chain" "DripCups$Chain" "signs" "Ljava/lang/StringBuilder;") ∈ lw_all := lw_g (lw_at lw_m4 203 rfl) rfl
theorem q1038 : (Jvm.Cond.soleField "DripCups$Chain" "signs") ∈ lw_all := lw_g (lw_at lw_m4 204 rfl) rfl
theorem q1039 : (Jvm.Cond.superclass "DripCups$Chain" "java/lang/Object") ∈ lw_all := lw_g (lw_at lw_m4 205 rfl) rfl
theorem q1045 : (Jvm.Cond.instanceMethod ({ cls := "DripCups$Chain", name := "add", desc := "(CLDripCups$Form;)V" } : Jvm.MethodName)) ∈ lw_all := lw_g (lw_at lw_m4 211 rfl) rfl
theorem q1046 : (Jvm.Cond.selects "DripCups$Chain" ({ cls := "DripCups$Chain", name := "add", desc := "(CLDripCups$Form;)V" } : Jvm.MethodName) ({ cls := "DripCups$Chain", name := "add", desc := "(CLDripCups$Form;)V" } : Jvm.MethodName)) ∈ lw_all := lw_g (lw_at lw_m4 212 rfl) rfl
theorem q1047 : (Jvm.Cond.code ({ cls := "DripCups$Chain", name := "add", desc := "(CLDripCups$Form;)V" } : Jvm.MethodName) prog_3_method_2_code (3 : Nat) (Option.none : Option Jvm.ClassFile.FieldType)) ∈ lw_all := lw_g (lw_at lw_m4 213 rfl) rfl
theorem q1048 : (Jvm.Cond.methodLink "DripCups$Chain" (29 : Nat) ({ cls := "java/lang/StringBuilder", name := "append", desc := "(C)Ljava/lang/StringBuilder;" } : Jvm.MethodName)) ∈ lw_all := lw_g (lw_at lw_m4 214 rfl) rfl
theorem q1109 : (Jvm.Cond.instanceMethod ({ cls := "DripCups$Chain", name := "plain", desc := "()LDripCups$Form;" } : Jvm.MethodName)) ∈ lw_all := lw_g (lw_at lw_m5 35 rfl) rfl
theorem q1110 : (Jvm.Cond.selects "DripCups$Chain" ({ cls := "DripCups$Chain", name := "plain", desc := "()LDripCups$Form;" } : Jvm.MethodName) ({ cls := "DripCups$Chain", name := "plain", desc := "()LDripCups$Form;" } : Jvm.MethodName)) ∈ lw_all := lw_g (lw_at lw_m5 36 rfl) rfl
theorem q1111 : (Jvm.Cond.code ({ cls := "DripCups$Chain", name := "plain", desc := "()LDripCups$Form;" } : Jvm.MethodName) prog_3_method_3_code (1 : Nat) (Option.some (Jvm.ClassFile.FieldType.object "DripCups$Form"))) ∈ lw_all := lw_g (lw_at lw_m5 37 rfl) rfl
theorem q2238 : (Jvm.Cond.castable "DripCups$Chain" "java/lang/Object") ∈ lw_tbl := lw_at lw_m9 204 rfl
theorem in_X7 : ∀ w ∈ wsX70, w ∈ lw_all := lw_in wsX70 [1035, 1037] (by decide +kernel) (by decide +kernel)
/-! DripCups$Number -/
set_option maxRecDepth 100000
def RX8 : String := "DripCups$Number"
def TX8 : u_T := fun k => match k with
  | _ => ("DripCups$Number", "value", "I", true)
def tyX8 : Nat → FieldType := fun k => match k with
  | _ => .int
abbrev wsX80 : List Cond := u_ws RX8 TX8 1
theorem nmX8 : ∀ a, a < 1 → ∀ b, b < 1 → a ≠ b → (TX8 a).2.1 ≠ (TX8 b).2.1 := by decide +kernel
theorem tyX8_ok : ∀ k, k < 1 → parseFieldDescriptor (TX8 k).2.2.1 = some (tyX8 k) := by decide +kernel
abbrev cX8_of : ByteArray := prog_7_method_2_code
def yX8_of : MethodName := ⟨RX8, "of", "([I)I"⟩
theorem dX8_of_0 : decode cX8_of 0 = .ok (.aload_n 0, 1) := by decide +kernel
theorem dX8_of_1 : decode cX8_of 1 = .ok (.getfield 7, 3) := by decide +kernel
theorem dX8_of_4 : decode cX8_of 4 = .ok (.ireturn, 1) := by decide +kernel
abbrev cX8_init : ByteArray := prog_7_method_1_code
def yX8_init : MethodName := ⟨RX8, "<init>", "(I)V"⟩
def dkwX8_init_0 : List UInt8 := [42, 183, 0, 1, 42, 27, 181, 0, 7, 177]
abbrev dktX8_init_0 : List UInt8 := dkwX8_init_0 ++ []
theorem dksX8_init_0 : cX8_init.data.toList.drop 0 = dktX8_init_0 := by decide +kernel
theorem dX8_init_0 : decode cX8_init 0 = .ok (.aload_n 0, 1) := dk_42 (dk_at dksX8_init_0 0 rfl rfl)
theorem dX8_init_1 : decode cX8_init 1 = .ok (.invokespecial 1, 3) := dk_183 0 1 (dk_at dksX8_init_0 1 rfl rfl)
theorem dX8_init_4 : decode cX8_init 4 = .ok (.aload_n 0, 1) := dk_42 (dk_at dksX8_init_0 4 rfl rfl)
theorem dX8_init_5 : decode cX8_init 5 = .ok (.iload_n 1, 1) := dk_27 (dk_at dksX8_init_0 5 rfl rfl)
theorem dX8_init_6 : decode cX8_init 6 = .ok (.putfield 7, 3) := dk_181 0 7 (dk_at dksX8_init_0 6 rfl rfl)
theorem dX8_init_9 : decode cX8_init 9 = .ok (.return_, 1) := dk_177 (dk_at dksX8_init_0 9 rfl rfl)
theorem q135 : (Jvm.Cond.initialized "DripCups$Number") ∈ lw_all := lw_g (lw_at lw_m1 21 rfl) rfl
theorem q400 : (Jvm.Cond.selects "DripCups$Number" ({ cls := "java/lang/Object", name := "getClass", desc := "()Ljava/lang/Class;" } : Jvm.MethodName) ({ cls := "java/lang/Object", name := "getClass", desc := "()Ljava/lang/Class;" } : Jvm.MethodName)) ∈ lw_all := lw_g (lw_at lw_m2 46 rfl) rfl
theorem q524 : (Jvm.Cond.castable "DripCups$Number" "DripCups$Form") ∈ lw_tbl := lw_at lw_m2 170 rfl
theorem q525 : (Jvm.Cond.selects "DripCups$Number" ({ cls := "DripCups$Form", name := "of", desc := "([I)I" } : Jvm.MethodName) ({ cls := "DripCups$Number", name := "of", desc := "([I)I" } : Jvm.MethodName)) ∈ lw_all := lw_g (lw_at lw_m2 171 rfl) rfl
theorem q526 : (Jvm.Cond.unhidden "DripCups$Number" "of" "([I)I") ∈ lw_tbl := lw_at lw_m2 172 rfl
theorem q527 : (Jvm.Cond.instanceMethod ({ cls := "DripCups$Number", name := "of", desc := "([I)I" } : Jvm.MethodName)) ∈ lw_all := lw_g (lw_at lw_m2 173 rfl) rfl
theorem q528 : (Jvm.Cond.publicMethod ({ cls := "DripCups$Number", name := "of", desc := "([I)I" } : Jvm.MethodName)) ∈ lw_tbl := lw_at lw_m2 174 rfl
theorem q529 : (Jvm.Cond.code ({ cls := "DripCups$Number", name := "of", desc := "([I)I" } : Jvm.MethodName) prog_7_method_2_code (2 : Nat) (Option.some Jvm.ClassFile.FieldType.int)) ∈ lw_all := lw_g (lw_at lw_m2 175 rfl) rfl
theorem q970 : (Jvm.Cond.instantiable "DripCups$Number" (1 : Nat)) ∈ lw_all := lw_g (lw_at lw_m4 136 rfl) rfl
theorem q980 : (Jvm.Cond.instanceMethod ({ cls := "DripCups$Number", name := "<init>", desc := "(I)V" } : Jvm.MethodName)) ∈ lw_all := lw_g (lw_at lw_m4 146 rfl) rfl
theorem q981 : (Jvm.Cond.code ({ cls := "DripCups$Number", name := "<init>", desc := "(I)V" } : Jvm.MethodName) prog_7_method_1_code (2 : Nat) (Option.none : Option Jvm.ClassFile.FieldType)) ∈ lw_all := lw_g (lw_at lw_m4 147 rfl) rfl
theorem q982 : (Jvm.Cond.methodLink "DripCups$Number" (1 : Nat) ({ cls := "java/lang/Object", name := "<init>", desc := "()V" } : Jvm.MethodName)) ∈ lw_all := lw_g (lw_at lw_m4 148 rfl) rfl
theorem q983 : (Jvm.Cond.fieldLink "DripCups$Number" (7 : Nat) "DripCups$Number" "value" "I") ∈ lw_all := lw_g (lw_at lw_m4 149 rfl) rfl
theorem q984 : (Jvm.Cond.laysFinal "DripCups$Number" "DripCups$Number" "value" "I") ∈ lw_all := lw_g (lw_at lw_m4 150 rfl) rfl
theorem q985 : (Jvm.Cond.soleField "DripCups$Number" "value") ∈ lw_all := lw_g (lw_at lw_m4 151 rfl) rfl
theorem q986 : (Jvm.Cond.superclass "DripCups$Number" "java/lang/Object") ∈ lw_all := lw_g (lw_at lw_m4 152 rfl) rfl
theorem q2239 : (Jvm.Cond.castable "DripCups$Number" "java/lang/Object") ∈ lw_tbl := lw_at lw_m9 205 rfl
theorem in_X8 : ∀ w ∈ wsX80, w ∈ lw_all := lw_in wsX80 [984] (by decide +kernel) (by decide +kernel)
/-! DripCups$Value -/
set_option maxRecDepth 100000
def RX9 : String := "DripCups$Value"
def TX9 : u_T := fun k => match k with
  | _ => ("DripCups$Value", "which", "I", true)
def tyX9 : Nat → FieldType := fun k => match k with
  | _ => .int
abbrev wsX90 : List Cond := u_ws RX9 TX9 1
theorem nmX9 : ∀ a, a < 1 → ∀ b, b < 1 → a ≠ b → (TX9 a).2.1 ≠ (TX9 b).2.1 := by decide +kernel
theorem tyX9_ok : ∀ k, k < 1 → parseFieldDescriptor (TX9 k).2.2.1 = some (tyX9 k) := by decide +kernel
abbrev cX9_of : ByteArray := prog_9_method_2_code
def yX9_of : MethodName := ⟨RX9, "of", "([I)I"⟩
def dkwX9_of_0 : List UInt8 := [43, 42, 180, 0, 7, 46, 172]
abbrev dktX9_of_0 : List UInt8 := dkwX9_of_0 ++ []
theorem dksX9_of_0 : cX9_of.data.toList.drop 0 = dktX9_of_0 := by decide +kernel
theorem dX9_of_0 : decode cX9_of 0 = .ok (.aload_n 1, 1) := dk_43 (dk_at dksX9_of_0 0 rfl rfl)
theorem dX9_of_1 : decode cX9_of 1 = .ok (.aload_n 0, 1) := dk_42 (dk_at dksX9_of_0 1 rfl rfl)
theorem dX9_of_2 : decode cX9_of 2 = .ok (.getfield 7, 3) := dk_180 0 7 (dk_at dksX9_of_0 2 rfl rfl)
theorem dX9_of_5 : decode cX9_of 5 = .ok (.iaload, 1) := dk_46 (dk_at dksX9_of_0 5 rfl rfl)
theorem dX9_of_6 : decode cX9_of 6 = .ok (.ireturn, 1) := dk_172 (dk_at dksX9_of_0 6 rfl rfl)
abbrev cX9_init : ByteArray := prog_9_method_1_code
def yX9_init : MethodName := ⟨RX9, "<init>", "(I)V"⟩
def dkwX9_init_0 : List UInt8 := [42, 183, 0, 1, 42, 27, 181, 0, 7, 177]
abbrev dktX9_init_0 : List UInt8 := dkwX9_init_0 ++ []
theorem dksX9_init_0 : cX9_init.data.toList.drop 0 = dktX9_init_0 := by decide +kernel
theorem dX9_init_0 : decode cX9_init 0 = .ok (.aload_n 0, 1) := dk_42 (dk_at dksX9_init_0 0 rfl rfl)
theorem dX9_init_1 : decode cX9_init 1 = .ok (.invokespecial 1, 3) := dk_183 0 1 (dk_at dksX9_init_0 1 rfl rfl)
theorem dX9_init_4 : decode cX9_init 4 = .ok (.aload_n 0, 1) := dk_42 (dk_at dksX9_init_0 4 rfl rfl)
theorem dX9_init_5 : decode cX9_init 5 = .ok (.iload_n 1, 1) := dk_27 (dk_at dksX9_init_0 5 rfl rfl)
theorem dX9_init_6 : decode cX9_init 6 = .ok (.putfield 7, 3) := dk_181 0 7 (dk_at dksX9_init_0 6 rfl rfl)
theorem dX9_init_9 : decode cX9_init 9 = .ok (.return_, 1) := dk_177 (dk_at dksX9_init_0 9 rfl rfl)
theorem q136 : (Jvm.Cond.initialized "DripCups$Value") ∈ lw_all := lw_g (lw_at lw_m1 22 rfl) rfl
theorem q402 : (Jvm.Cond.selects "DripCups$Value" ({ cls := "java/lang/Object", name := "getClass", desc := "()Ljava/lang/Class;" } : Jvm.MethodName) ({ cls := "java/lang/Object", name := "getClass", desc := "()Ljava/lang/Class;" } : Jvm.MethodName)) ∈ lw_all := lw_g (lw_at lw_m2 48 rfl) rfl
theorem q530 : (Jvm.Cond.castable "DripCups$Value" "DripCups$Form") ∈ lw_tbl := lw_at lw_m2 176 rfl
theorem q531 : (Jvm.Cond.selects "DripCups$Value" ({ cls := "DripCups$Form", name := "of", desc := "([I)I" } : Jvm.MethodName) ({ cls := "DripCups$Value", name := "of", desc := "([I)I" } : Jvm.MethodName)) ∈ lw_all := lw_g (lw_at lw_m2 177 rfl) rfl
theorem q532 : (Jvm.Cond.unhidden "DripCups$Value" "of" "([I)I") ∈ lw_tbl := lw_at lw_m2 178 rfl
theorem q533 : (Jvm.Cond.instanceMethod ({ cls := "DripCups$Value", name := "of", desc := "([I)I" } : Jvm.MethodName)) ∈ lw_all := lw_g (lw_at lw_m2 179 rfl) rfl
theorem q534 : (Jvm.Cond.publicMethod ({ cls := "DripCups$Value", name := "of", desc := "([I)I" } : Jvm.MethodName)) ∈ lw_tbl := lw_at lw_m2 180 rfl
theorem q535 : (Jvm.Cond.code ({ cls := "DripCups$Value", name := "of", desc := "([I)I" } : Jvm.MethodName) prog_9_method_2_code (2 : Nat) (Option.some Jvm.ClassFile.FieldType.int)) ∈ lw_all := lw_g (lw_at lw_m2 181 rfl) rfl
theorem q988 : (Jvm.Cond.instantiable "DripCups$Value" (1 : Nat)) ∈ lw_all := lw_g (lw_at lw_m4 154 rfl) rfl
theorem q990 : (Jvm.Cond.instanceMethod ({ cls := "DripCups$Value", name := "<init>", desc := "(I)V" } : Jvm.MethodName)) ∈ lw_all := lw_g (lw_at lw_m4 156 rfl) rfl
theorem q991 : (Jvm.Cond.code ({ cls := "DripCups$Value", name := "<init>", desc := "(I)V" } : Jvm.MethodName) prog_9_method_1_code (2 : Nat) (Option.none : Option Jvm.ClassFile.FieldType)) ∈ lw_all := lw_g (lw_at lw_m4 157 rfl) rfl
theorem q992 : (Jvm.Cond.methodLink "DripCups$Value" (1 : Nat) ({ cls := "java/lang/Object", name := "<init>", desc := "()V" } : Jvm.MethodName)) ∈ lw_all := lw_g (lw_at lw_m4 158 rfl) rfl
theorem q993 : (Jvm.Cond.fieldLink "DripCups$Value" (7 : Nat) "DripCups$Value" "which" "I") ∈ lw_all := lw_g (lw_at lw_m4 159 rfl) rfl
theorem q994 : (Jvm.Cond.laysFinal "DripCups$Value" "DripCups$Value" "which" "I") ∈ lw_all := lw_g (lw_at lw_m4 160 rfl) rfl
theorem q995 : (Jvm.Cond.soleField "DripCups$Value" "which") ∈ lw_all := lw_g (lw_at lw_m4 161 rfl) rfl
theorem q996 : (Jvm.Cond.superclass "DripCups$Value" "java/lang/Object") ∈ lw_all := lw_g (lw_at lw_m4 162 rfl) rfl
theorem q2240 : (Jvm.Cond.castable "DripCups$Value" "java/lang/Object") ∈ lw_tbl := lw_at lw_m9 206 rfl
theorem in_X9 : ∀ w ∈ wsX90, w ∈ lw_all := lw_in wsX90 [994] (by decide +kernel) (by decide +kernel)
/-! DripCups$Not -/
set_option maxRecDepth 100000
def RX10 : String := "DripCups$Not"
def TX10 : u_T := fun k => match k with
  | _ => ("DripCups$Not", "form", "LDripCups$Form;", true)
def tyX10 : Nat → FieldType := fun k => match k with
  | _ => .object "DripCups$Form"
abbrev wsX100 : List Cond := u_ws RX10 TX10 1
theorem nmX10 : ∀ a, a < 1 → ∀ b, b < 1 → a ≠ b → (TX10 a).2.1 ≠ (TX10 b).2.1 := by decide +kernel
theorem tyX10_ok : ∀ k, k < 1 → parseFieldDescriptor (TX10 k).2.2.1 = some (tyX10 k) := by decide +kernel
abbrev cX10_of : ByteArray := prog_6_method_2_code
def yX10_of : MethodName := ⟨RX10, "of", "([I)I"⟩
def dkwX10_of_0 : List UInt8 := [42, 180, 0, 7, 43, 185, 0, 13, 2, 0, 154, 0, 7, 4, 167, 0, 4, 3, 172]
abbrev dktX10_of_0 : List UInt8 := dkwX10_of_0 ++ []
theorem dksX10_of_0 : cX10_of.data.toList.drop 0 = dktX10_of_0 := by decide +kernel
theorem dX10_of_0 : decode cX10_of 0 = .ok (.aload_n 0, 1) := dk_42 (dk_at dksX10_of_0 0 rfl rfl)
theorem dX10_of_1 : decode cX10_of 1 = .ok (.getfield 7, 3) := dk_180 0 7 (dk_at dksX10_of_0 1 rfl rfl)
theorem dX10_of_4 : decode cX10_of 4 = .ok (.aload_n 1, 1) := dk_43 (dk_at dksX10_of_0 4 rfl rfl)
theorem dX10_of_5 : decode cX10_of 5 = .ok (.invokeinterface 13 2, 5) := by decide +kernel
theorem dX10_of_10 : decode cX10_of 10 = .ok (.ifCond .ne 7, 3) := dk_154 0 7 (dk_at dksX10_of_0 10 rfl rfl)
theorem dX10_of_13 : decode cX10_of 13 = .ok (.iconst 1, 1) := dk_4 (dk_at dksX10_of_0 13 rfl rfl)
theorem dX10_of_14 : decode cX10_of 14 = .ok (.goto 4, 3) := dk_167 0 4 (dk_at dksX10_of_0 14 rfl rfl)
theorem dX10_of_17 : decode cX10_of 17 = .ok (.iconst 0, 1) := dk_3 (dk_at dksX10_of_0 17 rfl rfl)
theorem dX10_of_18 : decode cX10_of 18 = .ok (.ireturn, 1) := dk_172 (dk_at dksX10_of_0 18 rfl rfl)
abbrev cX10_init : ByteArray := prog_6_method_1_code
def yX10_init : MethodName := ⟨RX10, "<init>", "(LDripCups$Form;)V"⟩
def dkwX10_init_0 : List UInt8 := [42, 183, 0, 1, 42, 43, 181, 0, 7, 177]
abbrev dktX10_init_0 : List UInt8 := dkwX10_init_0 ++ []
theorem dksX10_init_0 : cX10_init.data.toList.drop 0 = dktX10_init_0 := by decide +kernel
theorem dX10_init_0 : decode cX10_init 0 = .ok (.aload_n 0, 1) := dk_42 (dk_at dksX10_init_0 0 rfl rfl)
theorem dX10_init_1 : decode cX10_init 1 = .ok (.invokespecial 1, 3) := dk_183 0 1 (dk_at dksX10_init_0 1 rfl rfl)
theorem dX10_init_4 : decode cX10_init 4 = .ok (.aload_n 0, 1) := dk_42 (dk_at dksX10_init_0 4 rfl rfl)
theorem dX10_init_5 : decode cX10_init 5 = .ok (.aload_n 1, 1) := dk_43 (dk_at dksX10_init_0 5 rfl rfl)
theorem dX10_init_6 : decode cX10_init 6 = .ok (.putfield 7, 3) := dk_181 0 7 (dk_at dksX10_init_0 6 rfl rfl)
theorem dX10_init_9 : decode cX10_init 9 = .ok (.return_, 1) := dk_177 (dk_at dksX10_init_0 9 rfl rfl)
theorem q143 : (Jvm.Cond.initialized "DripCups$Not") ∈ lw_all := lw_g (lw_at lw_m1 29 rfl) rfl
theorem q399 : (Jvm.Cond.selects "DripCups$Not" ({ cls := "java/lang/Object", name := "getClass", desc := "()Ljava/lang/Class;" } : Jvm.MethodName) ({ cls := "java/lang/Object", name := "getClass", desc := "()Ljava/lang/Class;" } : Jvm.MethodName)) ∈ lw_all := lw_g (lw_at lw_m2 45 rfl) rfl
theorem q516 : (Jvm.Cond.castable "DripCups$Not" "DripCups$Form") ∈ lw_tbl := lw_at lw_m2 162 rfl
theorem q517 : (Jvm.Cond.selects "DripCups$Not" ({ cls := "DripCups$Form", name := "of", desc := "([I)I" } : Jvm.MethodName) ({ cls := "DripCups$Not", name := "of", desc := "([I)I" } : Jvm.MethodName)) ∈ lw_all := lw_g (lw_at lw_m2 163 rfl) rfl
theorem q518 : (Jvm.Cond.unhidden "DripCups$Not" "of" "([I)I") ∈ lw_tbl := lw_at lw_m2 164 rfl
theorem q519 : (Jvm.Cond.instanceMethod ({ cls := "DripCups$Not", name := "of", desc := "([I)I" } : Jvm.MethodName)) ∈ lw_all := lw_g (lw_at lw_m2 165 rfl) rfl
theorem q520 : (Jvm.Cond.publicMethod ({ cls := "DripCups$Not", name := "of", desc := "([I)I" } : Jvm.MethodName)) ∈ lw_tbl := lw_at lw_m2 166 rfl
theorem q521 : (Jvm.Cond.code ({ cls := "DripCups$Not", name := "of", desc := "([I)I" } : Jvm.MethodName) prog_6_method_2_code (2 : Nat) (Option.some Jvm.ClassFile.FieldType.int)) ∈ lw_all := lw_g (lw_at lw_m2 167 rfl) rfl
theorem q522 : (Jvm.Cond.interfaceEntry "DripCups$Not" (13 : Nat)) ∈ lw_tbl := lw_at lw_m2 168 rfl
theorem q523 : (Jvm.Cond.methodLink "DripCups$Not" (13 : Nat) ({ cls := "DripCups$Form", name := "of", desc := "([I)I" } : Jvm.MethodName)) ∈ lw_all := lw_g (lw_at lw_m2 169 rfl) rfl
theorem q1113 : (Jvm.Cond.instantiable "DripCups$Not" (1 : Nat)) ∈ lw_all := lw_g (lw_at lw_m5 39 rfl) rfl
theorem q1115 : (Jvm.Cond.instanceMethod ({ cls := "DripCups$Not", name := "<init>", desc := "(LDripCups$Form;)V" } : Jvm.MethodName)) ∈ lw_all := lw_g (lw_at lw_m5 41 rfl) rfl
theorem q1116 : (Jvm.Cond.code ({ cls := "DripCups$Not", name := "<init>", desc := "(LDripCups$Form;)V" } : Jvm.MethodName) prog_6_method_1_code (2 : Nat) (Option.none : Option Jvm.ClassFile.FieldType)) ∈ lw_all := lw_g (lw_at lw_m5 42 rfl) rfl
theorem q1117 : (Jvm.Cond.methodLink "DripCups$Not" (1 : Nat) ({ cls := "java/lang/Object", name := "<init>", desc := "()V" } : Jvm.MethodName)) ∈ lw_all := lw_g (lw_at lw_m5 43 rfl) rfl
theorem q1118 : (Jvm.Cond.fieldLink "DripCups$Not" (7 : Nat) "DripCups$Not" "form" "LDripCups$Form;") ∈ lw_all := lw_g (lw_at lw_m5 44 rfl) rfl
theorem q1119 : (Jvm.Cond.laysFinal "DripCups$Not" "DripCups$Not" "form" "LDripCups$Form;") ∈ lw_all := lw_g (lw_at lw_m5 45 rfl) rfl
theorem q1120 : (Jvm.Cond.soleField "DripCups$Not" "form") ∈ lw_all := lw_g (lw_at lw_m5 46 rfl) rfl
theorem q1121 : (Jvm.Cond.superclass "DripCups$Not" "java/lang/Object") ∈ lw_all := lw_g (lw_at lw_m5 47 rfl) rfl
theorem q2242 : (Jvm.Cond.castable "DripCups$Not" "java/lang/Object") ∈ lw_tbl := lw_at lw_m9 208 rfl
theorem in_X10 : ∀ w ∈ wsX100, w ∈ lw_all := lw_in wsX100 [1119] (by decide +kernel) (by decide +kernel)
