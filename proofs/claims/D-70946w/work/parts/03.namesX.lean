/-! CapCouncil -/
set_option maxRecDepth 100000
def RX0 : String := "CapCouncil"
def TX0 : u_T := fun k => match k with
  | 0 => ("CapCouncil", "finding", "I", false)
  | 1 => ("CapCouncil", "findings", "[I", true)
  | 2 => ("CapCouncil", "asked", "I", false)
  | 3 => ("CapCouncil", "upper", "J", false)
  | 4 => ("CapCouncil", "lower", "J", false)
  | 5 => ("CapCouncil", "rows", "[[I", true)
  | 6 => ("CapCouncil", "texts", "[[B", true)
  | 7 => ("CapCouncil", "likes", "[LCapCouncil$Ring;", true)
  | 8 => ("CapCouncil", "ringMany", "I", false)
  | 9 => ("CapCouncil", "bedMany", "I", false)
  | 10 => ("CapCouncil", "rings", "[LCapCouncil$Ring;", true)
  | 11 => ("CapCouncil", "middleOf", "[I", true)
  | 12 => ("CapCouncil", "wideOf", "[I", true)
  | 13 => ("CapCouncil", "reading", "[B", false)
  | 14 => ("CapCouncil", "readAt", "I", false)
  | 15 => ("CapCouncil", "readRings", "I", false)
  | 16 => ("CapCouncil", "readBeds", "I", false)
  | 17 => ("CapCouncil", "readRing", "[I", true)
  | 18 => ("CapCouncil", "readBed", "[I", true)
  | 19 => ("CapCouncil", "yearNow", "I", false)
  | 20 => ("CapCouncil", "up", "I", false)
  | 21 => ("CapCouncil", "places", "[I", true)
  | 22 => ("CapCouncil", "thoughts", "[I", true)
  | 23 => ("CapCouncil", "deedMany", "I", false)
  | 24 => ("CapCouncil", "ahead", "[I", true)
  | 25 => ("CapCouncil", "kept", "[LCapCouncil$Kept;", true)
  | _ => ("CapCouncil", "h0", "J", false)
def tyX0 : Nat → FieldType := fun k => match k with
  | 0 => .int
  | 1 => .array .int
  | 2 => .int
  | 3 => .long
  | 4 => .long
  | 5 => .array (.array .int)
  | 6 => .array (.array .byte)
  | 7 => .array (.object "CapCouncil$Ring")
  | 8 => .int
  | 9 => .int
  | 10 => .array (.object "CapCouncil$Ring")
  | 11 => .array .int
  | 12 => .array .int
  | 13 => .array .byte
  | 14 => .int
  | 15 => .int
  | 16 => .int
  | 17 => .array .int
  | 18 => .array .int
  | 19 => .int
  | 20 => .int
  | 21 => .array .int
  | 22 => .array .int
  | 23 => .int
  | 24 => .array .int
  | 25 => .array (.object "CapCouncil$Kept")
  | _ => .long
abbrev wsX00 : List Cond := u_ws RX0 TX0 27
set_option maxRecDepth 100000 in
theorem nmX0 : ∀ a, a < 27 → ∀ b, b < 27 → a ≠ b → (TX0 a).2.1 ≠ (TX0 b).2.1 := by decide +kernel
set_option maxRecDepth 100000 in
theorem tyX0_ok : ∀ k, k < 27 → parseFieldDescriptor (TX0 k).2.2.1 = some (tyX0 k) := by decide +kernel
abbrev cX0_init : ByteArray := prog_1_method_6_code
def yX0_init : MethodName := ⟨RX0, "<init>", "()V"⟩
def dkwX0_init_5 : List UInt8 := [181, 0, 74, 177]
abbrev dktX0_init_5 : List UInt8 := dkwX0_init_5 ++ []
def dkwX0_init_4 : List UInt8 := [188, 10, 181, 0, 62, 42, 17, 2, 48, 188, 10, 181, 0, 65, 42, 6, 189, 0, 68, 181, 0, 70, 42, 3]
abbrev dktX0_init_4 : List UInt8 := dkwX0_init_4 ++ dktX0_init_5
def dkwX0_init_3 : List UInt8 := [188, 10, 181, 0, 53, 42, 16, 12, 188, 10, 181, 0, 56, 42, 16, 6, 188, 10, 181, 0, 59, 42, 16, 6]
abbrev dktX0_init_3 : List UInt8 := dkwX0_init_3 ++ dktX0_init_4
def dkwX0_init_2 : List UInt8 := [189, 0, 38, 181, 0, 44, 42, 8, 188, 10, 181, 0, 47, 42, 8, 188, 10, 181, 0, 50, 42, 16, 15]
abbrev dktX0_init_2 : List UInt8 := dkwX0_init_2 ++ dktX0_init_3
def dkwX0_init_1 : List UInt8 := [181, 0, 28, 42, 7, 189, 0, 32, 181, 0, 34, 42, 16, 6, 189, 0, 38, 181, 0, 40, 42, 8]
abbrev dktX0_init_1 : List UInt8 := dkwX0_init_1 ++ dktX0_init_2
def dkwX0_init_0 : List UInt8 := [42, 183, 0, 21, 42, 16, 6, 188, 10, 181, 0, 7, 42, 10, 181, 0, 18, 42, 16, 6, 189, 0, 27]
abbrev dktX0_init_0 : List UInt8 := dkwX0_init_0 ++ dktX0_init_1
theorem dksX0_init_0 : cX0_init.data.toList.drop 0 = dktX0_init_0 := by decide +kernel
theorem dksX0_init_1 : cX0_init.data.toList.drop 23 = dktX0_init_1 := dk_seg dksX0_init_0 23 rfl rfl
theorem dksX0_init_2 : cX0_init.data.toList.drop 45 = dktX0_init_2 := dk_seg dksX0_init_1 22 rfl rfl
theorem dksX0_init_3 : cX0_init.data.toList.drop 68 = dktX0_init_3 := dk_seg dksX0_init_2 23 rfl rfl
theorem dksX0_init_4 : cX0_init.data.toList.drop 92 = dktX0_init_4 := dk_seg dksX0_init_3 24 rfl rfl
theorem dksX0_init_5 : cX0_init.data.toList.drop 116 = dktX0_init_5 := dk_seg dksX0_init_4 24 rfl rfl
theorem dX0_init_0 : decode cX0_init 0 = .ok (.aload_n 0, 1) := dk_42 (dk_at dksX0_init_0 0 rfl rfl)
theorem dX0_init_1 : decode cX0_init 1 = .ok (.invokespecial 21, 3) := dk_183 0 21 (dk_at dksX0_init_0 1 rfl rfl)
theorem dX0_init_4 : decode cX0_init 4 = .ok (.aload_n 0, 1) := dk_42 (dk_at dksX0_init_0 4 rfl rfl)
theorem dX0_init_5 : decode cX0_init 5 = .ok (.bipush 6, 2) := dk_16 6 (dk_at dksX0_init_0 5 rfl rfl)
theorem dX0_init_7 : decode cX0_init 7 = .ok (.newarray .int, 2) := dk_188_10 (dk_at dksX0_init_0 7 rfl rfl)
theorem dX0_init_9 : decode cX0_init 9 = .ok (.putfield 7, 3) := dk_181 0 7 (dk_at dksX0_init_0 9 rfl rfl)
theorem dX0_init_12 : decode cX0_init 12 = .ok (.aload_n 0, 1) := dk_42 (dk_at dksX0_init_0 12 rfl rfl)
theorem dX0_init_13 : decode cX0_init 13 = .ok (.lconst 1, 1) := dk_10 (dk_at dksX0_init_0 13 rfl rfl)
theorem dX0_init_14 : decode cX0_init 14 = .ok (.putfield 18, 3) := dk_181 0 18 (dk_at dksX0_init_0 14 rfl rfl)
theorem dX0_init_17 : decode cX0_init 17 = .ok (.aload_n 0, 1) := dk_42 (dk_at dksX0_init_0 17 rfl rfl)
theorem dX0_init_18 : decode cX0_init 18 = .ok (.bipush 6, 2) := dk_16 6 (dk_at dksX0_init_0 18 rfl rfl)
theorem dX0_init_20 : decode cX0_init 20 = .ok (.anewarray 27, 3) := dk_189 0 27 (dk_at dksX0_init_0 20 rfl rfl)
theorem dX0_init_23 : decode cX0_init 23 = .ok (.putfield 28, 3) := dk_181 0 28 (dk_at dksX0_init_1 0 rfl rfl)
theorem dX0_init_26 : decode cX0_init 26 = .ok (.aload_n 0, 1) := dk_42 (dk_at dksX0_init_1 3 rfl rfl)
theorem dX0_init_27 : decode cX0_init 27 = .ok (.iconst 4, 1) := dk_7 (dk_at dksX0_init_1 4 rfl rfl)
theorem dX0_init_28 : decode cX0_init 28 = .ok (.anewarray 32, 3) := dk_189 0 32 (dk_at dksX0_init_1 5 rfl rfl)
theorem dX0_init_31 : decode cX0_init 31 = .ok (.putfield 34, 3) := dk_181 0 34 (dk_at dksX0_init_1 8 rfl rfl)
theorem dX0_init_34 : decode cX0_init 34 = .ok (.aload_n 0, 1) := dk_42 (dk_at dksX0_init_1 11 rfl rfl)
theorem dX0_init_35 : decode cX0_init 35 = .ok (.bipush 6, 2) := dk_16 6 (dk_at dksX0_init_1 12 rfl rfl)
theorem dX0_init_37 : decode cX0_init 37 = .ok (.anewarray 38, 3) := dk_189 0 38 (dk_at dksX0_init_1 14 rfl rfl)
theorem dX0_init_40 : decode cX0_init 40 = .ok (.putfield 40, 3) := dk_181 0 40 (dk_at dksX0_init_1 17 rfl rfl)
theorem dX0_init_43 : decode cX0_init 43 = .ok (.aload_n 0, 1) := dk_42 (dk_at dksX0_init_1 20 rfl rfl)
theorem dX0_init_44 : decode cX0_init 44 = .ok (.iconst 5, 1) := dk_8 (dk_at dksX0_init_1 21 rfl rfl)
theorem dX0_init_45 : decode cX0_init 45 = .ok (.anewarray 38, 3) := dk_189 0 38 (dk_at dksX0_init_2 0 rfl rfl)
theorem dX0_init_48 : decode cX0_init 48 = .ok (.putfield 44, 3) := dk_181 0 44 (dk_at dksX0_init_2 3 rfl rfl)
theorem dX0_init_51 : decode cX0_init 51 = .ok (.aload_n 0, 1) := dk_42 (dk_at dksX0_init_2 6 rfl rfl)
theorem dX0_init_52 : decode cX0_init 52 = .ok (.iconst 5, 1) := dk_8 (dk_at dksX0_init_2 7 rfl rfl)
theorem dX0_init_53 : decode cX0_init 53 = .ok (.newarray .int, 2) := dk_188_10 (dk_at dksX0_init_2 8 rfl rfl)
theorem dX0_init_55 : decode cX0_init 55 = .ok (.putfield 47, 3) := dk_181 0 47 (dk_at dksX0_init_2 10 rfl rfl)
theorem dX0_init_58 : decode cX0_init 58 = .ok (.aload_n 0, 1) := dk_42 (dk_at dksX0_init_2 13 rfl rfl)
theorem dX0_init_59 : decode cX0_init 59 = .ok (.iconst 5, 1) := dk_8 (dk_at dksX0_init_2 14 rfl rfl)
theorem dX0_init_60 : decode cX0_init 60 = .ok (.newarray .int, 2) := dk_188_10 (dk_at dksX0_init_2 15 rfl rfl)
theorem dX0_init_62 : decode cX0_init 62 = .ok (.putfield 50, 3) := dk_181 0 50 (dk_at dksX0_init_2 17 rfl rfl)
theorem dX0_init_65 : decode cX0_init 65 = .ok (.aload_n 0, 1) := dk_42 (dk_at dksX0_init_2 20 rfl rfl)
theorem dX0_init_66 : decode cX0_init 66 = .ok (.bipush 15, 2) := dk_16 15 (dk_at dksX0_init_2 21 rfl rfl)
theorem dX0_init_68 : decode cX0_init 68 = .ok (.newarray .int, 2) := dk_188_10 (dk_at dksX0_init_3 0 rfl rfl)
theorem dX0_init_70 : decode cX0_init 70 = .ok (.putfield 53, 3) := dk_181 0 53 (dk_at dksX0_init_3 2 rfl rfl)
theorem dX0_init_73 : decode cX0_init 73 = .ok (.aload_n 0, 1) := dk_42 (dk_at dksX0_init_3 5 rfl rfl)
theorem dX0_init_74 : decode cX0_init 74 = .ok (.bipush 12, 2) := dk_16 12 (dk_at dksX0_init_3 6 rfl rfl)
theorem dX0_init_76 : decode cX0_init 76 = .ok (.newarray .int, 2) := dk_188_10 (dk_at dksX0_init_3 8 rfl rfl)
theorem dX0_init_78 : decode cX0_init 78 = .ok (.putfield 56, 3) := dk_181 0 56 (dk_at dksX0_init_3 10 rfl rfl)
theorem dX0_init_81 : decode cX0_init 81 = .ok (.aload_n 0, 1) := dk_42 (dk_at dksX0_init_3 13 rfl rfl)
theorem dX0_init_82 : decode cX0_init 82 = .ok (.bipush 6, 2) := dk_16 6 (dk_at dksX0_init_3 14 rfl rfl)
theorem dX0_init_84 : decode cX0_init 84 = .ok (.newarray .int, 2) := dk_188_10 (dk_at dksX0_init_3 16 rfl rfl)
theorem dX0_init_86 : decode cX0_init 86 = .ok (.putfield 59, 3) := dk_181 0 59 (dk_at dksX0_init_3 18 rfl rfl)
theorem dX0_init_89 : decode cX0_init 89 = .ok (.aload_n 0, 1) := dk_42 (dk_at dksX0_init_3 21 rfl rfl)
theorem dX0_init_90 : decode cX0_init 90 = .ok (.bipush 6, 2) := dk_16 6 (dk_at dksX0_init_3 22 rfl rfl)
theorem dX0_init_92 : decode cX0_init 92 = .ok (.newarray .int, 2) := dk_188_10 (dk_at dksX0_init_4 0 rfl rfl)
theorem dX0_init_94 : decode cX0_init 94 = .ok (.putfield 62, 3) := dk_181 0 62 (dk_at dksX0_init_4 2 rfl rfl)
theorem dX0_init_97 : decode cX0_init 97 = .ok (.aload_n 0, 1) := dk_42 (dk_at dksX0_init_4 5 rfl rfl)
theorem dX0_init_98 : decode cX0_init 98 = .ok (.sipush 560, 3) := dk_17 2 48 (dk_at dksX0_init_4 6 rfl rfl)
theorem dX0_init_101 : decode cX0_init 101 = .ok (.newarray .int, 2) := dk_188_10 (dk_at dksX0_init_4 9 rfl rfl)
theorem dX0_init_103 : decode cX0_init 103 = .ok (.putfield 65, 3) := dk_181 0 65 (dk_at dksX0_init_4 11 rfl rfl)
theorem dX0_init_106 : decode cX0_init 106 = .ok (.aload_n 0, 1) := dk_42 (dk_at dksX0_init_4 14 rfl rfl)
theorem dX0_init_107 : decode cX0_init 107 = .ok (.iconst 3, 1) := dk_6 (dk_at dksX0_init_4 15 rfl rfl)
theorem dX0_init_108 : decode cX0_init 108 = .ok (.anewarray 68, 3) := dk_189 0 68 (dk_at dksX0_init_4 16 rfl rfl)
theorem dX0_init_111 : decode cX0_init 111 = .ok (.putfield 70, 3) := dk_181 0 70 (dk_at dksX0_init_4 19 rfl rfl)
theorem dX0_init_114 : decode cX0_init 114 = .ok (.aload_n 0, 1) := dk_42 (dk_at dksX0_init_4 22 rfl rfl)
theorem dX0_init_115 : decode cX0_init 115 = .ok (.iconst 0, 1) := dk_3 (dk_at dksX0_init_4 23 rfl rfl)
theorem dX0_init_116 : decode cX0_init 116 = .ok (.putfield 74, 3) := dk_181 0 74 (dk_at dksX0_init_5 0 rfl rfl)
theorem dX0_init_119 : decode cX0_init 119 = .ok (.return_, 1) := dk_177 (dk_at dksX0_init_5 3 rfl rfl)
abbrev cX0_row : ByteArray := prog_1_method_9_code
def yX0_row : MethodName := ⟨RX0, "row", "(II)I"⟩
def dkwX0_row_1 : List UInt8 := [28, 172, 78, 42, 8, 182, 0, 87, 172]
abbrev dktX0_row_1 : List UInt8 := dkwX0_row_1 ++ []
def dkwX0_row_0 : List UInt8 := [27, 184, 0, 81, 153, 0, 9, 28, 16, 40, 164, 0, 5, 2, 172, 42, 180, 0, 28, 27, 28, 188, 10, 83]
abbrev dktX0_row_0 : List UInt8 := dkwX0_row_0 ++ dktX0_row_1
theorem dksX0_row_0 : cX0_row.data.toList.drop 0 = dktX0_row_0 := by decide +kernel
theorem dksX0_row_1 : cX0_row.data.toList.drop 24 = dktX0_row_1 := dk_seg dksX0_row_0 24 rfl rfl
theorem dX0_row_0 : decode cX0_row 0 = .ok (.iload_n 1, 1) := dk_27 (dk_at dksX0_row_0 0 rfl rfl)
theorem dX0_row_1 : decode cX0_row 1 = .ok (.invokestatic 81, 3) := dk_184 0 81 (dk_at dksX0_row_0 1 rfl rfl)
theorem dX0_row_4 : decode cX0_row 4 = .ok (.ifCond .eq 9, 3) := dk_153 0 9 (dk_at dksX0_row_0 4 rfl rfl)
theorem dX0_row_7 : decode cX0_row 7 = .ok (.iload_n 2, 1) := dk_28 (dk_at dksX0_row_0 7 rfl rfl)
theorem dX0_row_8 : decode cX0_row 8 = .ok (.bipush 40, 2) := dk_16 40 (dk_at dksX0_row_0 8 rfl rfl)
theorem dX0_row_10 : decode cX0_row 10 = .ok (.if_icmp .le 5, 3) := dk_164 0 5 (dk_at dksX0_row_0 10 rfl rfl)
theorem dX0_row_13 : decode cX0_row 13 = .ok (.iconst (-1), 1) := dk_2 (dk_at dksX0_row_0 13 rfl rfl)
theorem dX0_row_14 : decode cX0_row 14 = .ok (.ireturn, 1) := dk_172 (dk_at dksX0_row_0 14 rfl rfl)
theorem dX0_row_15 : decode cX0_row 15 = .ok (.aload_n 0, 1) := dk_42 (dk_at dksX0_row_0 15 rfl rfl)
theorem dX0_row_16 : decode cX0_row 16 = .ok (.getfield 28, 3) := dk_180 0 28 (dk_at dksX0_row_0 16 rfl rfl)
theorem dX0_row_19 : decode cX0_row 19 = .ok (.iload_n 1, 1) := dk_27 (dk_at dksX0_row_0 19 rfl rfl)
theorem dX0_row_20 : decode cX0_row 20 = .ok (.iload_n 2, 1) := dk_28 (dk_at dksX0_row_0 20 rfl rfl)
theorem dX0_row_21 : decode cX0_row 21 = .ok (.newarray .int, 2) := dk_188_10 (dk_at dksX0_row_0 21 rfl rfl)
theorem dX0_row_23 : decode cX0_row 23 = .ok (.aastore, 1) := dk_83 (dk_at dksX0_row_0 23 rfl rfl)
theorem dX0_row_24 : decode cX0_row 24 = .ok (.iload_n 2, 1) := dk_28 (dk_at dksX0_row_1 0 rfl rfl)
theorem dX0_row_25 : decode cX0_row 25 = .ok (.ireturn, 1) := dk_172 (dk_at dksX0_row_1 1 rfl rfl)
theorem dX0_row_26 : decode cX0_row 26 = .ok (.astore_n 3, 1) := dk_78 (dk_at dksX0_row_1 2 rfl rfl)
theorem dX0_row_27 : decode cX0_row 27 = .ok (.aload_n 0, 1) := dk_42 (dk_at dksX0_row_1 3 rfl rfl)
theorem dX0_row_28 : decode cX0_row 28 = .ok (.iconst 5, 1) := dk_8 (dk_at dksX0_row_1 4 rfl rfl)
theorem dX0_row_29 : decode cX0_row 29 = .ok (.invokevirtual 87, 3) := dk_182 0 87 (dk_at dksX0_row_1 5 rfl rfl)
theorem dX0_row_32 : decode cX0_row 32 = .ok (.ireturn, 1) := dk_172 (dk_at dksX0_row_1 8 rfl rfl)
abbrev cX0_isRow : ByteArray := prog_1_method_7_code
def yX0_isRow : MethodName := ⟨RX0, "isRow", "(I)Z"⟩
def dkwX0_isRow_0 : List UInt8 := [26, 3, 8, 184, 0, 77, 172]
abbrev dktX0_isRow_0 : List UInt8 := dkwX0_isRow_0 ++ []
theorem dksX0_isRow_0 : cX0_isRow.data.toList.drop 0 = dktX0_isRow_0 := by decide +kernel
theorem dX0_isRow_0 : decode cX0_isRow 0 = .ok (.iload_n 0, 1) := dk_26 (dk_at dksX0_isRow_0 0 rfl rfl)
theorem dX0_isRow_1 : decode cX0_isRow 1 = .ok (.iconst 0, 1) := dk_3 (dk_at dksX0_isRow_0 1 rfl rfl)
theorem dX0_isRow_2 : decode cX0_isRow 2 = .ok (.iconst 5, 1) := dk_8 (dk_at dksX0_isRow_0 2 rfl rfl)
theorem dX0_isRow_3 : decode cX0_isRow 3 = .ok (.invokestatic 77, 3) := dk_184 0 77 (dk_at dksX0_isRow_0 3 rfl rfl)
theorem dX0_isRow_6 : decode cX0_isRow 6 = .ok (.ireturn, 1) := dk_172 (dk_at dksX0_isRow_0 6 rfl rfl)
abbrev cX0_isIn : ByteArray := prog_1_method_1_code
def yX0_isIn : MethodName := ⟨RX0, "isIn", "(III)Z"⟩
def dkwX0_isIn_0 : List UInt8 := [26, 27, 161, 0, 12, 26, 28, 163, 0, 7, 4, 167, 0, 4, 3, 172]
abbrev dktX0_isIn_0 : List UInt8 := dkwX0_isIn_0 ++ []
theorem dksX0_isIn_0 : cX0_isIn.data.toList.drop 0 = dktX0_isIn_0 := by decide +kernel
theorem dX0_isIn_0 : decode cX0_isIn 0 = .ok (.iload_n 0, 1) := dk_26 (dk_at dksX0_isIn_0 0 rfl rfl)
theorem dX0_isIn_1 : decode cX0_isIn 1 = .ok (.iload_n 1, 1) := dk_27 (dk_at dksX0_isIn_0 1 rfl rfl)
theorem dX0_isIn_2 : decode cX0_isIn 2 = .ok (.if_icmp .lt 12, 3) := dk_161 0 12 (dk_at dksX0_isIn_0 2 rfl rfl)
theorem dX0_isIn_5 : decode cX0_isIn 5 = .ok (.iload_n 0, 1) := dk_26 (dk_at dksX0_isIn_0 5 rfl rfl)
theorem dX0_isIn_6 : decode cX0_isIn 6 = .ok (.iload_n 2, 1) := dk_28 (dk_at dksX0_isIn_0 6 rfl rfl)
theorem dX0_isIn_7 : decode cX0_isIn 7 = .ok (.if_icmp .gt 7, 3) := dk_163 0 7 (dk_at dksX0_isIn_0 7 rfl rfl)
theorem dX0_isIn_10 : decode cX0_isIn 10 = .ok (.iconst 1, 1) := dk_4 (dk_at dksX0_isIn_0 10 rfl rfl)
theorem dX0_isIn_11 : decode cX0_isIn 11 = .ok (.goto 4, 3) := dk_167 0 4 (dk_at dksX0_isIn_0 11 rfl rfl)
theorem dX0_isIn_14 : decode cX0_isIn 14 = .ok (.iconst 0, 1) := dk_3 (dk_at dksX0_isIn_0 14 rfl rfl)
theorem dX0_isIn_15 : decode cX0_isIn 15 = .ok (.ireturn, 1) := dk_172 (dk_at dksX0_isIn_0 15 rfl rfl)
abbrev cX0_found : ByteArray := prog_1_method_3_code
def yX0_found : MethodName := ⟨RX0, "found", "(I)I"⟩
def dkwX0_found_0 : List UInt8 := [42, 27, 181, 0, 1, 42, 180, 0, 7, 27, 92, 46, 4, 96, 79, 16, 253, 172]
abbrev dktX0_found_0 : List UInt8 := dkwX0_found_0 ++ []
theorem dksX0_found_0 : cX0_found.data.toList.drop 0 = dktX0_found_0 := by decide +kernel
theorem dX0_found_0 : decode cX0_found 0 = .ok (.aload_n 0, 1) := dk_42 (dk_at dksX0_found_0 0 rfl rfl)
theorem dX0_found_1 : decode cX0_found 1 = .ok (.iload_n 1, 1) := dk_27 (dk_at dksX0_found_0 1 rfl rfl)
theorem dX0_found_2 : decode cX0_found 2 = .ok (.putfield 1, 3) := dk_181 0 1 (dk_at dksX0_found_0 2 rfl rfl)
theorem dX0_found_5 : decode cX0_found 5 = .ok (.aload_n 0, 1) := dk_42 (dk_at dksX0_found_0 5 rfl rfl)
theorem dX0_found_6 : decode cX0_found 6 = .ok (.getfield 7, 3) := dk_180 0 7 (dk_at dksX0_found_0 6 rfl rfl)
theorem dX0_found_9 : decode cX0_found 9 = .ok (.iload_n 1, 1) := dk_27 (dk_at dksX0_found_0 9 rfl rfl)
theorem dX0_found_10 : decode cX0_found 10 = .ok (.dup2, 1) := dk_92 (dk_at dksX0_found_0 10 rfl rfl)
theorem dX0_found_11 : decode cX0_found 11 = .ok (.iaload, 1) := dk_46 (dk_at dksX0_found_0 11 rfl rfl)
theorem dX0_found_12 : decode cX0_found 12 = .ok (.iconst 1, 1) := dk_4 (dk_at dksX0_found_0 12 rfl rfl)
theorem dX0_found_13 : decode cX0_found 13 = .ok (.iadd, 1) := dk_96 (dk_at dksX0_found_0 13 rfl rfl)
theorem dX0_found_14 : decode cX0_found 14 = .ok (.iastore, 1) := dk_79 (dk_at dksX0_found_0 14 rfl rfl)
theorem dX0_found_15 : decode cX0_found 15 = .ok (.bipush (-3), 2) := dk_16 253 (dk_at dksX0_found_0 15 rfl rfl)
theorem dX0_found_17 : decode cX0_found 17 = .ok (.ireturn, 1) := dk_172 (dk_at dksX0_found_0 17 rfl rfl)
abbrev cX0_lay : ByteArray := prog_1_method_10_code
def yX0_lay : MethodName := ⟨RX0, "lay", "(III)I"⟩
def dkwX0_lay_1 : List UInt8 := [21, 4, 172]
abbrev dktX0_lay_1 : List UInt8 := dkwX0_lay_1 ++ []
def dkwX0_lay_0 : List UInt8 := [42, 27, 28, 182, 0, 91, 54, 4, 21, 4, 4, 160, 0, 12, 42, 180, 0, 28, 27, 50, 28, 29, 79]
abbrev dktX0_lay_0 : List UInt8 := dkwX0_lay_0 ++ dktX0_lay_1
theorem dksX0_lay_0 : cX0_lay.data.toList.drop 0 = dktX0_lay_0 := by decide +kernel
theorem dksX0_lay_1 : cX0_lay.data.toList.drop 23 = dktX0_lay_1 := dk_seg dksX0_lay_0 23 rfl rfl
theorem dX0_lay_0 : decode cX0_lay 0 = .ok (.aload_n 0, 1) := dk_42 (dk_at dksX0_lay_0 0 rfl rfl)
theorem dX0_lay_1 : decode cX0_lay 1 = .ok (.iload_n 1, 1) := dk_27 (dk_at dksX0_lay_0 1 rfl rfl)
theorem dX0_lay_2 : decode cX0_lay 2 = .ok (.iload_n 2, 1) := dk_28 (dk_at dksX0_lay_0 2 rfl rfl)
theorem dX0_lay_3 : decode cX0_lay 3 = .ok (.invokevirtual 91, 3) := dk_182 0 91 (dk_at dksX0_lay_0 3 rfl rfl)
theorem dX0_lay_6 : decode cX0_lay 6 = .ok (.istore 4, 2) := dk_54 4 (dk_at dksX0_lay_0 6 rfl rfl)
theorem dX0_lay_8 : decode cX0_lay 8 = .ok (.iload 4, 2) := dk_21 4 (dk_at dksX0_lay_0 8 rfl rfl)
theorem dX0_lay_10 : decode cX0_lay 10 = .ok (.iconst 1, 1) := dk_4 (dk_at dksX0_lay_0 10 rfl rfl)
theorem dX0_lay_11 : decode cX0_lay 11 = .ok (.if_icmp .ne 12, 3) := dk_160 0 12 (dk_at dksX0_lay_0 11 rfl rfl)
theorem dX0_lay_14 : decode cX0_lay 14 = .ok (.aload_n 0, 1) := dk_42 (dk_at dksX0_lay_0 14 rfl rfl)
theorem dX0_lay_15 : decode cX0_lay 15 = .ok (.getfield 28, 3) := dk_180 0 28 (dk_at dksX0_lay_0 15 rfl rfl)
theorem dX0_lay_18 : decode cX0_lay 18 = .ok (.iload_n 1, 1) := dk_27 (dk_at dksX0_lay_0 18 rfl rfl)
theorem dX0_lay_19 : decode cX0_lay 19 = .ok (.aaload, 1) := dk_50 (dk_at dksX0_lay_0 19 rfl rfl)
theorem dX0_lay_20 : decode cX0_lay 20 = .ok (.iload_n 2, 1) := dk_28 (dk_at dksX0_lay_0 20 rfl rfl)
theorem dX0_lay_21 : decode cX0_lay 21 = .ok (.iload_n 3, 1) := dk_29 (dk_at dksX0_lay_0 21 rfl rfl)
theorem dX0_lay_22 : decode cX0_lay 22 = .ok (.iastore, 1) := dk_79 (dk_at dksX0_lay_0 22 rfl rfl)
theorem dX0_lay_23 : decode cX0_lay 23 = .ok (.iload 4, 2) := dk_21 4 (dk_at dksX0_lay_1 0 rfl rfl)
theorem dX0_lay_25 : decode cX0_lay 25 = .ok (.ireturn, 1) := dk_172 (dk_at dksX0_lay_1 2 rfl rfl)
abbrev cX0_at : ByteArray := prog_1_method_11_code
def yX0_at : MethodName := ⟨RX0, "at", "(II)I"⟩
def dkwX0_at_1 : List UInt8 := [42, 4, 182, 0, 87, 172, 78, 42, 5, 182, 0, 87, 172]
abbrev dktX0_at_1 : List UInt8 := dkwX0_at_1 ++ []
def dkwX0_at_0 : List UInt8 := [27, 184, 0, 81, 154, 0, 5, 2, 172, 42, 42, 180, 0, 28, 27, 50, 28, 46, 4, 182, 0, 95, 172, 78]
abbrev dktX0_at_0 : List UInt8 := dkwX0_at_0 ++ dktX0_at_1
theorem dksX0_at_0 : cX0_at.data.toList.drop 0 = dktX0_at_0 := by decide +kernel
theorem dksX0_at_1 : cX0_at.data.toList.drop 24 = dktX0_at_1 := dk_seg dksX0_at_0 24 rfl rfl
theorem dX0_at_0 : decode cX0_at 0 = .ok (.iload_n 1, 1) := dk_27 (dk_at dksX0_at_0 0 rfl rfl)
theorem dX0_at_1 : decode cX0_at 1 = .ok (.invokestatic 81, 3) := dk_184 0 81 (dk_at dksX0_at_0 1 rfl rfl)
theorem dX0_at_4 : decode cX0_at 4 = .ok (.ifCond .ne 5, 3) := dk_154 0 5 (dk_at dksX0_at_0 4 rfl rfl)
theorem dX0_at_7 : decode cX0_at 7 = .ok (.iconst (-1), 1) := dk_2 (dk_at dksX0_at_0 7 rfl rfl)
theorem dX0_at_8 : decode cX0_at 8 = .ok (.ireturn, 1) := dk_172 (dk_at dksX0_at_0 8 rfl rfl)
theorem dX0_at_9 : decode cX0_at 9 = .ok (.aload_n 0, 1) := dk_42 (dk_at dksX0_at_0 9 rfl rfl)
theorem dX0_at_10 : decode cX0_at 10 = .ok (.aload_n 0, 1) := dk_42 (dk_at dksX0_at_0 10 rfl rfl)
theorem dX0_at_11 : decode cX0_at 11 = .ok (.getfield 28, 3) := dk_180 0 28 (dk_at dksX0_at_0 11 rfl rfl)
theorem dX0_at_14 : decode cX0_at 14 = .ok (.iload_n 1, 1) := dk_27 (dk_at dksX0_at_0 14 rfl rfl)
theorem dX0_at_15 : decode cX0_at 15 = .ok (.aaload, 1) := dk_50 (dk_at dksX0_at_0 15 rfl rfl)
theorem dX0_at_16 : decode cX0_at 16 = .ok (.iload_n 2, 1) := dk_28 (dk_at dksX0_at_0 16 rfl rfl)
theorem dX0_at_17 : decode cX0_at 17 = .ok (.iaload, 1) := dk_46 (dk_at dksX0_at_0 17 rfl rfl)
theorem dX0_at_18 : decode cX0_at 18 = .ok (.iconst 1, 1) := dk_4 (dk_at dksX0_at_0 18 rfl rfl)
theorem dX0_at_19 : decode cX0_at 19 = .ok (.invokevirtual 95, 3) := dk_182 0 95 (dk_at dksX0_at_0 19 rfl rfl)
theorem dX0_at_22 : decode cX0_at 22 = .ok (.ireturn, 1) := dk_172 (dk_at dksX0_at_0 22 rfl rfl)
theorem dX0_at_23 : decode cX0_at 23 = .ok (.astore_n 3, 1) := dk_78 (dk_at dksX0_at_0 23 rfl rfl)
theorem dX0_at_24 : decode cX0_at 24 = .ok (.aload_n 0, 1) := dk_42 (dk_at dksX0_at_1 0 rfl rfl)
theorem dX0_at_25 : decode cX0_at 25 = .ok (.iconst 1, 1) := dk_4 (dk_at dksX0_at_1 1 rfl rfl)
theorem dX0_at_26 : decode cX0_at 26 = .ok (.invokevirtual 87, 3) := dk_182 0 87 (dk_at dksX0_at_1 2 rfl rfl)
theorem dX0_at_29 : decode cX0_at 29 = .ok (.ireturn, 1) := dk_172 (dk_at dksX0_at_1 5 rfl rfl)
theorem dX0_at_30 : decode cX0_at 30 = .ok (.astore_n 3, 1) := dk_78 (dk_at dksX0_at_1 6 rfl rfl)
theorem dX0_at_31 : decode cX0_at 31 = .ok (.aload_n 0, 1) := dk_42 (dk_at dksX0_at_1 7 rfl rfl)
theorem dX0_at_32 : decode cX0_at 32 = .ok (.iconst 2, 1) := dk_5 (dk_at dksX0_at_1 8 rfl rfl)
theorem dX0_at_33 : decode cX0_at 33 = .ok (.invokevirtual 87, 3) := dk_182 0 87 (dk_at dksX0_at_1 9 rfl rfl)
theorem dX0_at_36 : decode cX0_at 36 = .ok (.ireturn, 1) := dk_172 (dk_at dksX0_at_1 12 rfl rfl)
abbrev cX0_ask : ByteArray := prog_1_method_4_code
def yX0_ask : MethodName := ⟨RX0, "ask", "(II)I"⟩
def dkwX0_ask_0 : List UInt8 := [42, 27, 181, 0, 11, 28, 172]
abbrev dktX0_ask_0 : List UInt8 := dkwX0_ask_0 ++ []
theorem dksX0_ask_0 : cX0_ask.data.toList.drop 0 = dktX0_ask_0 := by decide +kernel
theorem dX0_ask_0 : decode cX0_ask 0 = .ok (.aload_n 0, 1) := dk_42 (dk_at dksX0_ask_0 0 rfl rfl)
theorem dX0_ask_1 : decode cX0_ask 1 = .ok (.iload_n 1, 1) := dk_27 (dk_at dksX0_ask_0 1 rfl rfl)
theorem dX0_ask_2 : decode cX0_ask 2 = .ok (.putfield 11, 3) := dk_181 0 11 (dk_at dksX0_ask_0 2 rfl rfl)
theorem dX0_ask_5 : decode cX0_ask 5 = .ok (.iload_n 2, 1) := dk_28 (dk_at dksX0_ask_0 5 rfl rfl)
theorem dX0_ask_6 : decode cX0_ask 6 = .ok (.ireturn, 1) := dk_172 (dk_at dksX0_ask_0 6 rfl rfl)
abbrev cX0_tear : ByteArray := prog_1_method_12_code
def yX0_tear : MethodName := ⟨RX0, "tear", "(I)I"⟩
def dkwX0_tear_1 : List UInt8 := [42, 180, 0, 28, 27, 1, 83, 4, 172]
abbrev dktX0_tear_1 : List UInt8 := dkwX0_tear_1 ++ []
def dkwX0_tear_0 : List UInt8 := [27, 184, 0, 81, 154, 0, 5, 2, 172, 42, 180, 0, 28, 27, 50, 199, 0, 9, 42, 4, 182, 0, 87, 172]
abbrev dktX0_tear_0 : List UInt8 := dkwX0_tear_0 ++ dktX0_tear_1
theorem dksX0_tear_0 : cX0_tear.data.toList.drop 0 = dktX0_tear_0 := by decide +kernel
theorem dksX0_tear_1 : cX0_tear.data.toList.drop 24 = dktX0_tear_1 := dk_seg dksX0_tear_0 24 rfl rfl
theorem dX0_tear_0 : decode cX0_tear 0 = .ok (.iload_n 1, 1) := dk_27 (dk_at dksX0_tear_0 0 rfl rfl)
theorem dX0_tear_1 : decode cX0_tear 1 = .ok (.invokestatic 81, 3) := dk_184 0 81 (dk_at dksX0_tear_0 1 rfl rfl)
theorem dX0_tear_4 : decode cX0_tear 4 = .ok (.ifCond .ne 5, 3) := dk_154 0 5 (dk_at dksX0_tear_0 4 rfl rfl)
theorem dX0_tear_7 : decode cX0_tear 7 = .ok (.iconst (-1), 1) := dk_2 (dk_at dksX0_tear_0 7 rfl rfl)
theorem dX0_tear_8 : decode cX0_tear 8 = .ok (.ireturn, 1) := dk_172 (dk_at dksX0_tear_0 8 rfl rfl)
theorem dX0_tear_9 : decode cX0_tear 9 = .ok (.aload_n 0, 1) := dk_42 (dk_at dksX0_tear_0 9 rfl rfl)
theorem dX0_tear_10 : decode cX0_tear 10 = .ok (.getfield 28, 3) := dk_180 0 28 (dk_at dksX0_tear_0 10 rfl rfl)
theorem dX0_tear_13 : decode cX0_tear 13 = .ok (.iload_n 1, 1) := dk_27 (dk_at dksX0_tear_0 13 rfl rfl)
theorem dX0_tear_14 : decode cX0_tear 14 = .ok (.aaload, 1) := dk_50 (dk_at dksX0_tear_0 14 rfl rfl)
theorem dX0_tear_15 : decode cX0_tear 15 = .ok (.ifnonnull 9, 3) := dk_199 0 9 (dk_at dksX0_tear_0 15 rfl rfl)
theorem dX0_tear_18 : decode cX0_tear 18 = .ok (.aload_n 0, 1) := dk_42 (dk_at dksX0_tear_0 18 rfl rfl)
theorem dX0_tear_19 : decode cX0_tear 19 = .ok (.iconst 1, 1) := dk_4 (dk_at dksX0_tear_0 19 rfl rfl)
theorem dX0_tear_20 : decode cX0_tear 20 = .ok (.invokevirtual 87, 3) := dk_182 0 87 (dk_at dksX0_tear_0 20 rfl rfl)
theorem dX0_tear_23 : decode cX0_tear 23 = .ok (.ireturn, 1) := dk_172 (dk_at dksX0_tear_0 23 rfl rfl)
theorem dX0_tear_24 : decode cX0_tear 24 = .ok (.aload_n 0, 1) := dk_42 (dk_at dksX0_tear_1 0 rfl rfl)
theorem dX0_tear_25 : decode cX0_tear 25 = .ok (.getfield 28, 3) := dk_180 0 28 (dk_at dksX0_tear_1 1 rfl rfl)
theorem dX0_tear_28 : decode cX0_tear 28 = .ok (.iload_n 1, 1) := dk_27 (dk_at dksX0_tear_1 4 rfl rfl)
theorem dX0_tear_29 : decode cX0_tear 29 = .ok (.aconst_null, 1) := dk_1 (dk_at dksX0_tear_1 5 rfl rfl)
theorem dX0_tear_30 : decode cX0_tear 30 = .ok (.aastore, 1) := dk_83 (dk_at dksX0_tear_1 6 rfl rfl)
theorem dX0_tear_31 : decode cX0_tear 31 = .ok (.iconst 1, 1) := dk_4 (dk_at dksX0_tear_1 7 rfl rfl)
theorem dX0_tear_32 : decode cX0_tear 32 = .ok (.ireturn, 1) := dk_172 (dk_at dksX0_tear_1 8 rfl rfl)
abbrev cX0_copy : ByteArray := prog_1_method_13_code
def yX0_copy : MethodName := ⟨RX0, "copy", "(IIIII)I"⟩
def dkwX0_copy_2 : List UInt8 := [4, 172, 58, 6, 42, 4, 182, 0, 87, 172, 58, 6, 42, 5, 182, 0, 87, 172]
abbrev dktX0_copy_2 : List UInt8 := dkwX0_copy_2 ++ []
def dkwX0_copy_1 : List UInt8 := [182, 0, 87, 172, 42, 180, 0, 28, 27, 50, 28, 42, 180, 0, 28, 29, 50, 21, 4, 21, 5, 184, 0, 102]
abbrev dktX0_copy_1 : List UInt8 := dkwX0_copy_1 ++ dktX0_copy_2
def dkwX0_copy_0 : List UInt8 := [27, 184, 0, 81, 153, 0, 10, 29, 184, 0, 81, 154, 0, 5, 2, 172, 21, 5, 156, 0, 9, 42, 8]
abbrev dktX0_copy_0 : List UInt8 := dkwX0_copy_0 ++ dktX0_copy_1
theorem dksX0_copy_0 : cX0_copy.data.toList.drop 0 = dktX0_copy_0 := by decide +kernel
theorem dksX0_copy_1 : cX0_copy.data.toList.drop 23 = dktX0_copy_1 := dk_seg dksX0_copy_0 23 rfl rfl
theorem dksX0_copy_2 : cX0_copy.data.toList.drop 47 = dktX0_copy_2 := dk_seg dksX0_copy_1 24 rfl rfl
theorem dX0_copy_0 : decode cX0_copy 0 = .ok (.iload_n 1, 1) := dk_27 (dk_at dksX0_copy_0 0 rfl rfl)
theorem dX0_copy_1 : decode cX0_copy 1 = .ok (.invokestatic 81, 3) := dk_184 0 81 (dk_at dksX0_copy_0 1 rfl rfl)
theorem dX0_copy_4 : decode cX0_copy 4 = .ok (.ifCond .eq 10, 3) := dk_153 0 10 (dk_at dksX0_copy_0 4 rfl rfl)
theorem dX0_copy_7 : decode cX0_copy 7 = .ok (.iload_n 3, 1) := dk_29 (dk_at dksX0_copy_0 7 rfl rfl)
theorem dX0_copy_8 : decode cX0_copy 8 = .ok (.invokestatic 81, 3) := dk_184 0 81 (dk_at dksX0_copy_0 8 rfl rfl)
theorem dX0_copy_11 : decode cX0_copy 11 = .ok (.ifCond .ne 5, 3) := dk_154 0 5 (dk_at dksX0_copy_0 11 rfl rfl)
theorem dX0_copy_14 : decode cX0_copy 14 = .ok (.iconst (-1), 1) := dk_2 (dk_at dksX0_copy_0 14 rfl rfl)
theorem dX0_copy_15 : decode cX0_copy 15 = .ok (.ireturn, 1) := dk_172 (dk_at dksX0_copy_0 15 rfl rfl)
theorem dX0_copy_16 : decode cX0_copy 16 = .ok (.iload 5, 2) := dk_21 5 (dk_at dksX0_copy_0 16 rfl rfl)
theorem dX0_copy_18 : decode cX0_copy 18 = .ok (.ifCond .ge 9, 3) := dk_156 0 9 (dk_at dksX0_copy_0 18 rfl rfl)
theorem dX0_copy_21 : decode cX0_copy 21 = .ok (.aload_n 0, 1) := dk_42 (dk_at dksX0_copy_0 21 rfl rfl)
theorem dX0_copy_22 : decode cX0_copy 22 = .ok (.iconst 5, 1) := dk_8 (dk_at dksX0_copy_0 22 rfl rfl)
theorem dX0_copy_23 : decode cX0_copy 23 = .ok (.invokevirtual 87, 3) := dk_182 0 87 (dk_at dksX0_copy_1 0 rfl rfl)
theorem dX0_copy_26 : decode cX0_copy 26 = .ok (.ireturn, 1) := dk_172 (dk_at dksX0_copy_1 3 rfl rfl)
theorem dX0_copy_27 : decode cX0_copy 27 = .ok (.aload_n 0, 1) := dk_42 (dk_at dksX0_copy_1 4 rfl rfl)
theorem dX0_copy_28 : decode cX0_copy 28 = .ok (.getfield 28, 3) := dk_180 0 28 (dk_at dksX0_copy_1 5 rfl rfl)
theorem dX0_copy_31 : decode cX0_copy 31 = .ok (.iload_n 1, 1) := dk_27 (dk_at dksX0_copy_1 8 rfl rfl)
theorem dX0_copy_32 : decode cX0_copy 32 = .ok (.aaload, 1) := dk_50 (dk_at dksX0_copy_1 9 rfl rfl)
theorem dX0_copy_33 : decode cX0_copy 33 = .ok (.iload_n 2, 1) := dk_28 (dk_at dksX0_copy_1 10 rfl rfl)
theorem dX0_copy_34 : decode cX0_copy 34 = .ok (.aload_n 0, 1) := dk_42 (dk_at dksX0_copy_1 11 rfl rfl)
theorem dX0_copy_35 : decode cX0_copy 35 = .ok (.getfield 28, 3) := dk_180 0 28 (dk_at dksX0_copy_1 12 rfl rfl)
theorem dX0_copy_38 : decode cX0_copy 38 = .ok (.iload_n 3, 1) := dk_29 (dk_at dksX0_copy_1 15 rfl rfl)
theorem dX0_copy_39 : decode cX0_copy 39 = .ok (.aaload, 1) := dk_50 (dk_at dksX0_copy_1 16 rfl rfl)
theorem dX0_copy_40 : decode cX0_copy 40 = .ok (.iload 4, 2) := dk_21 4 (dk_at dksX0_copy_1 17 rfl rfl)
theorem dX0_copy_42 : decode cX0_copy 42 = .ok (.iload 5, 2) := dk_21 5 (dk_at dksX0_copy_1 19 rfl rfl)
theorem dX0_copy_44 : decode cX0_copy 44 = .ok (.invokestatic 102, 3) := dk_184 0 102 (dk_at dksX0_copy_1 21 rfl rfl)
theorem dX0_copy_47 : decode cX0_copy 47 = .ok (.iconst 1, 1) := dk_4 (dk_at dksX0_copy_2 0 rfl rfl)
theorem dX0_copy_48 : decode cX0_copy 48 = .ok (.ireturn, 1) := dk_172 (dk_at dksX0_copy_2 1 rfl rfl)
theorem dX0_copy_49 : decode cX0_copy 49 = .ok (.astore 6, 2) := dk_58 6 (dk_at dksX0_copy_2 2 rfl rfl)
theorem dX0_copy_51 : decode cX0_copy 51 = .ok (.aload_n 0, 1) := dk_42 (dk_at dksX0_copy_2 4 rfl rfl)
theorem dX0_copy_52 : decode cX0_copy 52 = .ok (.iconst 1, 1) := dk_4 (dk_at dksX0_copy_2 5 rfl rfl)
theorem dX0_copy_53 : decode cX0_copy 53 = .ok (.invokevirtual 87, 3) := dk_182 0 87 (dk_at dksX0_copy_2 6 rfl rfl)
theorem dX0_copy_56 : decode cX0_copy 56 = .ok (.ireturn, 1) := dk_172 (dk_at dksX0_copy_2 9 rfl rfl)
theorem dX0_copy_57 : decode cX0_copy 57 = .ok (.astore 6, 2) := dk_58 6 (dk_at dksX0_copy_2 10 rfl rfl)
theorem dX0_copy_59 : decode cX0_copy 59 = .ok (.aload_n 0, 1) := dk_42 (dk_at dksX0_copy_2 12 rfl rfl)
theorem dX0_copy_60 : decode cX0_copy 60 = .ok (.iconst 2, 1) := dk_5 (dk_at dksX0_copy_2 13 rfl rfl)
theorem dX0_copy_61 : decode cX0_copy 61 = .ok (.invokevirtual 87, 3) := dk_182 0 87 (dk_at dksX0_copy_2 14 rfl rfl)
theorem dX0_copy_64 : decode cX0_copy 64 = .ok (.ireturn, 1) := dk_172 (dk_at dksX0_copy_2 17 rfl rfl)
abbrev cX0_mean : ByteArray := prog_1_method_14_code
def yX0_mean : MethodName := ⟨RX0, "mean", "(I)I"⟩
def dkwX0_mean_3 : List UInt8 := [42, 4, 182, 0, 87, 172, 77, 42, 7, 182, 0, 87, 172]
abbrev dktX0_mean_3 : List UInt8 := dkwX0_mean_3 ++ []
def dkwX0_mean_2 : List UInt8 := [132, 6, 1, 167, 255, 233, 42, 32, 42, 180, 0, 28, 27, 50, 190, 133, 109, 136, 4, 182, 0, 95, 172, 77]
abbrev dktX0_mean_2 : List UInt8 := dkwX0_mean_2 ++ dktX0_mean_3
def dkwX0_mean_1 : List UInt8 := [3, 54, 6, 21, 6, 21, 5, 162, 0, 22, 25, 4, 21, 6, 46, 54, 7, 32, 21, 7, 133, 97, 65]
abbrev dktX0_mean_1 : List UInt8 := dkwX0_mean_1 ++ dktX0_mean_2
def dkwX0_mean_0 : List UInt8 := [27, 184, 0, 81, 154, 0, 5, 2, 172, 9, 65, 42, 180, 0, 28, 27, 50, 58, 4, 25, 4, 190, 54, 5]
abbrev dktX0_mean_0 : List UInt8 := dkwX0_mean_0 ++ dktX0_mean_1
theorem dksX0_mean_0 : cX0_mean.data.toList.drop 0 = dktX0_mean_0 := by decide +kernel
theorem dksX0_mean_1 : cX0_mean.data.toList.drop 24 = dktX0_mean_1 := dk_seg dksX0_mean_0 24 rfl rfl
theorem dksX0_mean_2 : cX0_mean.data.toList.drop 47 = dktX0_mean_2 := dk_seg dksX0_mean_1 23 rfl rfl
theorem dksX0_mean_3 : cX0_mean.data.toList.drop 71 = dktX0_mean_3 := dk_seg dksX0_mean_2 24 rfl rfl
theorem dX0_mean_0 : decode cX0_mean 0 = .ok (.iload_n 1, 1) := dk_27 (dk_at dksX0_mean_0 0 rfl rfl)
theorem dX0_mean_1 : decode cX0_mean 1 = .ok (.invokestatic 81, 3) := dk_184 0 81 (dk_at dksX0_mean_0 1 rfl rfl)
theorem dX0_mean_4 : decode cX0_mean 4 = .ok (.ifCond .ne 5, 3) := dk_154 0 5 (dk_at dksX0_mean_0 4 rfl rfl)
theorem dX0_mean_7 : decode cX0_mean 7 = .ok (.iconst (-1), 1) := dk_2 (dk_at dksX0_mean_0 7 rfl rfl)
theorem dX0_mean_8 : decode cX0_mean 8 = .ok (.ireturn, 1) := dk_172 (dk_at dksX0_mean_0 8 rfl rfl)
theorem dX0_mean_9 : decode cX0_mean 9 = .ok (.lconst 0, 1) := dk_9 (dk_at dksX0_mean_0 9 rfl rfl)
theorem dX0_mean_10 : decode cX0_mean 10 = .ok (.lstore_n 2, 1) := dk_65 (dk_at dksX0_mean_0 10 rfl rfl)
theorem dX0_mean_11 : decode cX0_mean 11 = .ok (.aload_n 0, 1) := dk_42 (dk_at dksX0_mean_0 11 rfl rfl)
theorem dX0_mean_12 : decode cX0_mean 12 = .ok (.getfield 28, 3) := dk_180 0 28 (dk_at dksX0_mean_0 12 rfl rfl)
theorem dX0_mean_15 : decode cX0_mean 15 = .ok (.iload_n 1, 1) := dk_27 (dk_at dksX0_mean_0 15 rfl rfl)
theorem dX0_mean_16 : decode cX0_mean 16 = .ok (.aaload, 1) := dk_50 (dk_at dksX0_mean_0 16 rfl rfl)
theorem dX0_mean_17 : decode cX0_mean 17 = .ok (.astore 4, 2) := dk_58 4 (dk_at dksX0_mean_0 17 rfl rfl)
theorem dX0_mean_19 : decode cX0_mean 19 = .ok (.aload 4, 2) := dk_25 4 (dk_at dksX0_mean_0 19 rfl rfl)
theorem dX0_mean_21 : decode cX0_mean 21 = .ok (.arraylength, 1) := dk_190 (dk_at dksX0_mean_0 21 rfl rfl)
theorem dX0_mean_22 : decode cX0_mean 22 = .ok (.istore 5, 2) := dk_54 5 (dk_at dksX0_mean_0 22 rfl rfl)
theorem dX0_mean_24 : decode cX0_mean 24 = .ok (.iconst 0, 1) := dk_3 (dk_at dksX0_mean_1 0 rfl rfl)
theorem dX0_mean_25 : decode cX0_mean 25 = .ok (.istore 6, 2) := dk_54 6 (dk_at dksX0_mean_1 1 rfl rfl)
theorem dX0_mean_27 : decode cX0_mean 27 = .ok (.iload 6, 2) := dk_21 6 (dk_at dksX0_mean_1 3 rfl rfl)
theorem dX0_mean_29 : decode cX0_mean 29 = .ok (.iload 5, 2) := dk_21 5 (dk_at dksX0_mean_1 5 rfl rfl)
theorem dX0_mean_31 : decode cX0_mean 31 = .ok (.if_icmp .ge 22, 3) := dk_162 0 22 (dk_at dksX0_mean_1 7 rfl rfl)
theorem dX0_mean_34 : decode cX0_mean 34 = .ok (.aload 4, 2) := dk_25 4 (dk_at dksX0_mean_1 10 rfl rfl)
theorem dX0_mean_36 : decode cX0_mean 36 = .ok (.iload 6, 2) := dk_21 6 (dk_at dksX0_mean_1 12 rfl rfl)
theorem dX0_mean_38 : decode cX0_mean 38 = .ok (.iaload, 1) := dk_46 (dk_at dksX0_mean_1 14 rfl rfl)
theorem dX0_mean_39 : decode cX0_mean 39 = .ok (.istore 7, 2) := dk_54 7 (dk_at dksX0_mean_1 15 rfl rfl)
theorem dX0_mean_41 : decode cX0_mean 41 = .ok (.lload_n 2, 1) := dk_32 (dk_at dksX0_mean_1 17 rfl rfl)
theorem dX0_mean_42 : decode cX0_mean 42 = .ok (.iload 7, 2) := dk_21 7 (dk_at dksX0_mean_1 18 rfl rfl)
theorem dX0_mean_44 : decode cX0_mean 44 = .ok (.i2l, 1) := dk_133 (dk_at dksX0_mean_1 20 rfl rfl)
theorem dX0_mean_45 : decode cX0_mean 45 = .ok (.ladd, 1) := dk_97 (dk_at dksX0_mean_1 21 rfl rfl)
theorem dX0_mean_46 : decode cX0_mean 46 = .ok (.lstore_n 2, 1) := dk_65 (dk_at dksX0_mean_1 22 rfl rfl)
theorem dX0_mean_47 : decode cX0_mean 47 = .ok (.iinc 6 1, 3) := dk_132 6 1 (dk_at dksX0_mean_2 0 rfl rfl)
theorem dX0_mean_50 : decode cX0_mean 50 = .ok (.goto (-23), 3) := dk_167 255 233 (dk_at dksX0_mean_2 3 rfl rfl)
theorem dX0_mean_53 : decode cX0_mean 53 = .ok (.aload_n 0, 1) := dk_42 (dk_at dksX0_mean_2 6 rfl rfl)
theorem dX0_mean_54 : decode cX0_mean 54 = .ok (.lload_n 2, 1) := dk_32 (dk_at dksX0_mean_2 7 rfl rfl)
theorem dX0_mean_55 : decode cX0_mean 55 = .ok (.aload_n 0, 1) := dk_42 (dk_at dksX0_mean_2 8 rfl rfl)
theorem dX0_mean_56 : decode cX0_mean 56 = .ok (.getfield 28, 3) := dk_180 0 28 (dk_at dksX0_mean_2 9 rfl rfl)
theorem dX0_mean_59 : decode cX0_mean 59 = .ok (.iload_n 1, 1) := dk_27 (dk_at dksX0_mean_2 12 rfl rfl)
theorem dX0_mean_60 : decode cX0_mean 60 = .ok (.aaload, 1) := dk_50 (dk_at dksX0_mean_2 13 rfl rfl)
theorem dX0_mean_61 : decode cX0_mean 61 = .ok (.arraylength, 1) := dk_190 (dk_at dksX0_mean_2 14 rfl rfl)
theorem dX0_mean_62 : decode cX0_mean 62 = .ok (.i2l, 1) := dk_133 (dk_at dksX0_mean_2 15 rfl rfl)
theorem dX0_mean_63 : decode cX0_mean 63 = .ok (.ldiv, 1) := dk_109 (dk_at dksX0_mean_2 16 rfl rfl)
theorem dX0_mean_64 : decode cX0_mean 64 = .ok (.l2i, 1) := dk_136 (dk_at dksX0_mean_2 17 rfl rfl)
theorem dX0_mean_65 : decode cX0_mean 65 = .ok (.iconst 1, 1) := dk_4 (dk_at dksX0_mean_2 18 rfl rfl)
theorem dX0_mean_66 : decode cX0_mean 66 = .ok (.invokevirtual 95, 3) := dk_182 0 95 (dk_at dksX0_mean_2 19 rfl rfl)
theorem dX0_mean_69 : decode cX0_mean 69 = .ok (.ireturn, 1) := dk_172 (dk_at dksX0_mean_2 22 rfl rfl)
theorem dX0_mean_70 : decode cX0_mean 70 = .ok (.astore_n 2, 1) := dk_77 (dk_at dksX0_mean_2 23 rfl rfl)
theorem dX0_mean_71 : decode cX0_mean 71 = .ok (.aload_n 0, 1) := dk_42 (dk_at dksX0_mean_3 0 rfl rfl)
theorem dX0_mean_72 : decode cX0_mean 72 = .ok (.iconst 1, 1) := dk_4 (dk_at dksX0_mean_3 1 rfl rfl)
theorem dX0_mean_73 : decode cX0_mean 73 = .ok (.invokevirtual 87, 3) := dk_182 0 87 (dk_at dksX0_mean_3 2 rfl rfl)
theorem dX0_mean_76 : decode cX0_mean 76 = .ok (.ireturn, 1) := dk_172 (dk_at dksX0_mean_3 5 rfl rfl)
theorem dX0_mean_77 : decode cX0_mean 77 = .ok (.astore_n 2, 1) := dk_77 (dk_at dksX0_mean_3 6 rfl rfl)
theorem dX0_mean_78 : decode cX0_mean 78 = .ok (.aload_n 0, 1) := dk_42 (dk_at dksX0_mean_3 7 rfl rfl)
theorem dX0_mean_79 : decode cX0_mean 79 = .ok (.iconst 4, 1) := dk_7 (dk_at dksX0_mean_3 8 rfl rfl)
theorem dX0_mean_80 : decode cX0_mean 80 = .ok (.invokevirtual 87, 3) := dk_182 0 87 (dk_at dksX0_mean_3 9 rfl rfl)
theorem dX0_mean_83 : decode cX0_mean 83 = .ok (.ireturn, 1) := dk_172 (dk_at dksX0_mean_3 12 rfl rfl)
abbrev cX0_text : ByteArray := prog_1_method_15_code
def yX0_text : MethodName := ⟨RX0, "text", "(II)I"⟩
def dkwX0_text_2 : List UInt8 := [172, 78, 42, 8, 182, 0, 87, 172]
abbrev dktX0_text_2 : List UInt8 := dkwX0_text_2 ++ []
def dkwX0_text_1 : List UInt8 := [28, 162, 0, 15, 45, 21, 4, 16, 32, 84, 132, 4, 1, 167, 255, 241, 42, 180, 0, 34, 27, 45, 83, 28]
abbrev dktX0_text_1 : List UInt8 := dkwX0_text_1 ++ dktX0_text_2
def dkwX0_text_0 : List UInt8 := [27, 184, 0, 112, 153, 0, 9, 28, 16, 60, 164, 0, 5, 2, 172, 28, 188, 8, 78, 3, 54, 4, 21, 4]
abbrev dktX0_text_0 : List UInt8 := dkwX0_text_0 ++ dktX0_text_1
theorem dksX0_text_0 : cX0_text.data.toList.drop 0 = dktX0_text_0 := by decide +kernel
theorem dksX0_text_1 : cX0_text.data.toList.drop 24 = dktX0_text_1 := dk_seg dksX0_text_0 24 rfl rfl
theorem dksX0_text_2 : cX0_text.data.toList.drop 48 = dktX0_text_2 := dk_seg dksX0_text_1 24 rfl rfl
theorem dX0_text_0 : decode cX0_text 0 = .ok (.iload_n 1, 1) := dk_27 (dk_at dksX0_text_0 0 rfl rfl)
theorem dX0_text_1 : decode cX0_text 1 = .ok (.invokestatic 112, 3) := dk_184 0 112 (dk_at dksX0_text_0 1 rfl rfl)
theorem dX0_text_4 : decode cX0_text 4 = .ok (.ifCond .eq 9, 3) := dk_153 0 9 (dk_at dksX0_text_0 4 rfl rfl)
theorem dX0_text_7 : decode cX0_text 7 = .ok (.iload_n 2, 1) := dk_28 (dk_at dksX0_text_0 7 rfl rfl)
theorem dX0_text_8 : decode cX0_text 8 = .ok (.bipush 60, 2) := dk_16 60 (dk_at dksX0_text_0 8 rfl rfl)
theorem dX0_text_10 : decode cX0_text 10 = .ok (.if_icmp .le 5, 3) := dk_164 0 5 (dk_at dksX0_text_0 10 rfl rfl)
theorem dX0_text_13 : decode cX0_text 13 = .ok (.iconst (-1), 1) := dk_2 (dk_at dksX0_text_0 13 rfl rfl)
theorem dX0_text_14 : decode cX0_text 14 = .ok (.ireturn, 1) := dk_172 (dk_at dksX0_text_0 14 rfl rfl)
theorem dX0_text_15 : decode cX0_text 15 = .ok (.iload_n 2, 1) := dk_28 (dk_at dksX0_text_0 15 rfl rfl)
theorem dX0_text_16 : decode cX0_text 16 = .ok (.newarray .byte, 2) := dk_188_8 (dk_at dksX0_text_0 16 rfl rfl)
theorem dX0_text_18 : decode cX0_text 18 = .ok (.astore_n 3, 1) := dk_78 (dk_at dksX0_text_0 18 rfl rfl)
theorem dX0_text_19 : decode cX0_text 19 = .ok (.iconst 0, 1) := dk_3 (dk_at dksX0_text_0 19 rfl rfl)
theorem dX0_text_20 : decode cX0_text 20 = .ok (.istore 4, 2) := dk_54 4 (dk_at dksX0_text_0 20 rfl rfl)
theorem dX0_text_22 : decode cX0_text 22 = .ok (.iload 4, 2) := dk_21 4 (dk_at dksX0_text_0 22 rfl rfl)
theorem dX0_text_24 : decode cX0_text 24 = .ok (.iload_n 2, 1) := dk_28 (dk_at dksX0_text_1 0 rfl rfl)
theorem dX0_text_25 : decode cX0_text 25 = .ok (.if_icmp .ge 15, 3) := dk_162 0 15 (dk_at dksX0_text_1 1 rfl rfl)
theorem dX0_text_28 : decode cX0_text 28 = .ok (.aload_n 3, 1) := dk_45 (dk_at dksX0_text_1 4 rfl rfl)
theorem dX0_text_29 : decode cX0_text 29 = .ok (.iload 4, 2) := dk_21 4 (dk_at dksX0_text_1 5 rfl rfl)
theorem dX0_text_31 : decode cX0_text 31 = .ok (.bipush 32, 2) := dk_16 32 (dk_at dksX0_text_1 7 rfl rfl)
theorem dX0_text_33 : decode cX0_text 33 = .ok (.bastore, 1) := dk_84 (dk_at dksX0_text_1 9 rfl rfl)
theorem dX0_text_34 : decode cX0_text 34 = .ok (.iinc 4 1, 3) := dk_132 4 1 (dk_at dksX0_text_1 10 rfl rfl)
theorem dX0_text_37 : decode cX0_text 37 = .ok (.goto (-15), 3) := dk_167 255 241 (dk_at dksX0_text_1 13 rfl rfl)
theorem dX0_text_40 : decode cX0_text 40 = .ok (.aload_n 0, 1) := dk_42 (dk_at dksX0_text_1 16 rfl rfl)
theorem dX0_text_41 : decode cX0_text 41 = .ok (.getfield 34, 3) := dk_180 0 34 (dk_at dksX0_text_1 17 rfl rfl)
theorem dX0_text_44 : decode cX0_text 44 = .ok (.iload_n 1, 1) := dk_27 (dk_at dksX0_text_1 20 rfl rfl)
theorem dX0_text_45 : decode cX0_text 45 = .ok (.aload_n 3, 1) := dk_45 (dk_at dksX0_text_1 21 rfl rfl)
theorem dX0_text_46 : decode cX0_text 46 = .ok (.aastore, 1) := dk_83 (dk_at dksX0_text_1 22 rfl rfl)
theorem dX0_text_47 : decode cX0_text 47 = .ok (.iload_n 2, 1) := dk_28 (dk_at dksX0_text_1 23 rfl rfl)
theorem dX0_text_48 : decode cX0_text 48 = .ok (.ireturn, 1) := dk_172 (dk_at dksX0_text_2 0 rfl rfl)
theorem dX0_text_49 : decode cX0_text 49 = .ok (.astore_n 3, 1) := dk_78 (dk_at dksX0_text_2 1 rfl rfl)
theorem dX0_text_50 : decode cX0_text 50 = .ok (.aload_n 0, 1) := dk_42 (dk_at dksX0_text_2 2 rfl rfl)
theorem dX0_text_51 : decode cX0_text 51 = .ok (.iconst 5, 1) := dk_8 (dk_at dksX0_text_2 3 rfl rfl)
theorem dX0_text_52 : decode cX0_text 52 = .ok (.invokevirtual 87, 3) := dk_182 0 87 (dk_at dksX0_text_2 4 rfl rfl)
theorem dX0_text_55 : decode cX0_text 55 = .ok (.ireturn, 1) := dk_172 (dk_at dksX0_text_2 7 rfl rfl)
abbrev cX0_isText : ByteArray := prog_1_method_8_code
def yX0_isText : MethodName := ⟨RX0, "isText", "(I)Z"⟩
def dkwX0_isText_0 : List UInt8 := [26, 3, 6, 184, 0, 77, 172]
abbrev dktX0_isText_0 : List UInt8 := dkwX0_isText_0 ++ []
theorem dksX0_isText_0 : cX0_isText.data.toList.drop 0 = dktX0_isText_0 := by decide +kernel
theorem dX0_isText_0 : decode cX0_isText 0 = .ok (.iload_n 0, 1) := dk_26 (dk_at dksX0_isText_0 0 rfl rfl)
theorem dX0_isText_1 : decode cX0_isText 1 = .ok (.iconst 0, 1) := dk_3 (dk_at dksX0_isText_0 1 rfl rfl)
theorem dX0_isText_2 : decode cX0_isText 2 = .ok (.iconst 3, 1) := dk_6 (dk_at dksX0_isText_0 2 rfl rfl)
theorem dX0_isText_3 : decode cX0_isText 3 = .ok (.invokestatic 77, 3) := dk_184 0 77 (dk_at dksX0_isText_0 3 rfl rfl)
theorem dX0_isText_6 : decode cX0_isText 6 = .ok (.ireturn, 1) := dk_172 (dk_at dksX0_isText_0 6 rfl rfl)
abbrev cX0_put : ByteArray := prog_1_method_16_code
def yX0_put : MethodName := ⟨RX0, "put", "(III)I"⟩
def dkwX0_put_2 : List UInt8 := [182, 0, 87, 172]
abbrev dktX0_put_2 : List UInt8 := dkwX0_put_2 ++ []
def dkwX0_put_1 : List UInt8 := [50, 28, 29, 145, 84, 21, 4, 17, 3, 232, 96, 172, 58, 4, 42, 4, 182, 0, 87, 172, 58, 4, 42, 5]
abbrev dktX0_put_1 : List UInt8 := dkwX0_put_1 ++ dktX0_put_2
def dkwX0_put_0 : List UInt8 := [27, 184, 0, 112, 154, 0, 5, 2, 172, 42, 180, 0, 34, 27, 50, 28, 51, 54, 4, 42, 180, 0, 34, 27]
abbrev dktX0_put_0 : List UInt8 := dkwX0_put_0 ++ dktX0_put_1
theorem dksX0_put_0 : cX0_put.data.toList.drop 0 = dktX0_put_0 := by decide +kernel
theorem dksX0_put_1 : cX0_put.data.toList.drop 24 = dktX0_put_1 := dk_seg dksX0_put_0 24 rfl rfl
theorem dksX0_put_2 : cX0_put.data.toList.drop 48 = dktX0_put_2 := dk_seg dksX0_put_1 24 rfl rfl
theorem dX0_put_0 : decode cX0_put 0 = .ok (.iload_n 1, 1) := dk_27 (dk_at dksX0_put_0 0 rfl rfl)
theorem dX0_put_1 : decode cX0_put 1 = .ok (.invokestatic 112, 3) := dk_184 0 112 (dk_at dksX0_put_0 1 rfl rfl)
theorem dX0_put_4 : decode cX0_put 4 = .ok (.ifCond .ne 5, 3) := dk_154 0 5 (dk_at dksX0_put_0 4 rfl rfl)
theorem dX0_put_7 : decode cX0_put 7 = .ok (.iconst (-1), 1) := dk_2 (dk_at dksX0_put_0 7 rfl rfl)
theorem dX0_put_8 : decode cX0_put 8 = .ok (.ireturn, 1) := dk_172 (dk_at dksX0_put_0 8 rfl rfl)
theorem dX0_put_9 : decode cX0_put 9 = .ok (.aload_n 0, 1) := dk_42 (dk_at dksX0_put_0 9 rfl rfl)
theorem dX0_put_10 : decode cX0_put 10 = .ok (.getfield 34, 3) := dk_180 0 34 (dk_at dksX0_put_0 10 rfl rfl)
theorem dX0_put_13 : decode cX0_put 13 = .ok (.iload_n 1, 1) := dk_27 (dk_at dksX0_put_0 13 rfl rfl)
theorem dX0_put_14 : decode cX0_put 14 = .ok (.aaload, 1) := dk_50 (dk_at dksX0_put_0 14 rfl rfl)
theorem dX0_put_15 : decode cX0_put 15 = .ok (.iload_n 2, 1) := dk_28 (dk_at dksX0_put_0 15 rfl rfl)
theorem dX0_put_16 : decode cX0_put 16 = .ok (.baload, 1) := dk_51 (dk_at dksX0_put_0 16 rfl rfl)
theorem dX0_put_17 : decode cX0_put 17 = .ok (.istore 4, 2) := dk_54 4 (dk_at dksX0_put_0 17 rfl rfl)
theorem dX0_put_19 : decode cX0_put 19 = .ok (.aload_n 0, 1) := dk_42 (dk_at dksX0_put_0 19 rfl rfl)
theorem dX0_put_20 : decode cX0_put 20 = .ok (.getfield 34, 3) := dk_180 0 34 (dk_at dksX0_put_0 20 rfl rfl)
theorem dX0_put_23 : decode cX0_put 23 = .ok (.iload_n 1, 1) := dk_27 (dk_at dksX0_put_0 23 rfl rfl)
theorem dX0_put_24 : decode cX0_put 24 = .ok (.aaload, 1) := dk_50 (dk_at dksX0_put_1 0 rfl rfl)
theorem dX0_put_25 : decode cX0_put 25 = .ok (.iload_n 2, 1) := dk_28 (dk_at dksX0_put_1 1 rfl rfl)
theorem dX0_put_26 : decode cX0_put 26 = .ok (.iload_n 3, 1) := dk_29 (dk_at dksX0_put_1 2 rfl rfl)
theorem dX0_put_27 : decode cX0_put 27 = .ok (.i2b, 1) := dk_145 (dk_at dksX0_put_1 3 rfl rfl)
theorem dX0_put_28 : decode cX0_put 28 = .ok (.bastore, 1) := dk_84 (dk_at dksX0_put_1 4 rfl rfl)
theorem dX0_put_29 : decode cX0_put 29 = .ok (.iload 4, 2) := dk_21 4 (dk_at dksX0_put_1 5 rfl rfl)
theorem dX0_put_31 : decode cX0_put 31 = .ok (.sipush 1000, 3) := dk_17 3 232 (dk_at dksX0_put_1 7 rfl rfl)
theorem dX0_put_34 : decode cX0_put 34 = .ok (.iadd, 1) := dk_96 (dk_at dksX0_put_1 10 rfl rfl)
theorem dX0_put_35 : decode cX0_put 35 = .ok (.ireturn, 1) := dk_172 (dk_at dksX0_put_1 11 rfl rfl)
theorem dX0_put_36 : decode cX0_put 36 = .ok (.astore 4, 2) := dk_58 4 (dk_at dksX0_put_1 12 rfl rfl)
theorem dX0_put_38 : decode cX0_put 38 = .ok (.aload_n 0, 1) := dk_42 (dk_at dksX0_put_1 14 rfl rfl)
theorem dX0_put_39 : decode cX0_put 39 = .ok (.iconst 1, 1) := dk_4 (dk_at dksX0_put_1 15 rfl rfl)
theorem dX0_put_40 : decode cX0_put 40 = .ok (.invokevirtual 87, 3) := dk_182 0 87 (dk_at dksX0_put_1 16 rfl rfl)
theorem dX0_put_43 : decode cX0_put 43 = .ok (.ireturn, 1) := dk_172 (dk_at dksX0_put_1 19 rfl rfl)
theorem dX0_put_44 : decode cX0_put 44 = .ok (.astore 4, 2) := dk_58 4 (dk_at dksX0_put_1 20 rfl rfl)
theorem dX0_put_46 : decode cX0_put 46 = .ok (.aload_n 0, 1) := dk_42 (dk_at dksX0_put_1 22 rfl rfl)
theorem dX0_put_47 : decode cX0_put 47 = .ok (.iconst 2, 1) := dk_5 (dk_at dksX0_put_1 23 rfl rfl)
theorem dX0_put_48 : decode cX0_put 48 = .ok (.invokevirtual 87, 3) := dk_182 0 87 (dk_at dksX0_put_2 0 rfl rfl)
theorem dX0_put_51 : decode cX0_put 51 = .ok (.ireturn, 1) := dk_172 (dk_at dksX0_put_2 3 rfl rfl)
abbrev cX0_fault : ByteArray := prog_1_method_25_code
def yX0_fault : MethodName := ⟨RX0, "fault", "(I)I"⟩
def dkwX0_fault_1 : List UInt8 := [167, 0, 13, 42, 42, 180, 0, 34, 27, 50, 182, 0, 165, 172]
abbrev dktX0_fault_1 : List UInt8 := dkwX0_fault_1 ++ []
def dkwX0_fault_0 : List UInt8 := [27, 184, 0, 112, 154, 0, 5, 2, 172, 42, 180, 0, 34, 27, 50, 199, 0, 11, 42, 4, 182, 0, 87]
abbrev dktX0_fault_0 : List UInt8 := dkwX0_fault_0 ++ dktX0_fault_1
theorem dksX0_fault_0 : cX0_fault.data.toList.drop 0 = dktX0_fault_0 := by decide +kernel
theorem dksX0_fault_1 : cX0_fault.data.toList.drop 23 = dktX0_fault_1 := dk_seg dksX0_fault_0 23 rfl rfl
theorem dX0_fault_0 : decode cX0_fault 0 = .ok (.iload_n 1, 1) := dk_27 (dk_at dksX0_fault_0 0 rfl rfl)
theorem dX0_fault_1 : decode cX0_fault 1 = .ok (.invokestatic 112, 3) := dk_184 0 112 (dk_at dksX0_fault_0 1 rfl rfl)
theorem dX0_fault_4 : decode cX0_fault 4 = .ok (.ifCond .ne 5, 3) := dk_154 0 5 (dk_at dksX0_fault_0 4 rfl rfl)
theorem dX0_fault_7 : decode cX0_fault 7 = .ok (.iconst (-1), 1) := dk_2 (dk_at dksX0_fault_0 7 rfl rfl)
theorem dX0_fault_8 : decode cX0_fault 8 = .ok (.ireturn, 1) := dk_172 (dk_at dksX0_fault_0 8 rfl rfl)
theorem dX0_fault_9 : decode cX0_fault 9 = .ok (.aload_n 0, 1) := dk_42 (dk_at dksX0_fault_0 9 rfl rfl)
theorem dX0_fault_10 : decode cX0_fault 10 = .ok (.getfield 34, 3) := dk_180 0 34 (dk_at dksX0_fault_0 10 rfl rfl)
theorem dX0_fault_13 : decode cX0_fault 13 = .ok (.iload_n 1, 1) := dk_27 (dk_at dksX0_fault_0 13 rfl rfl)
theorem dX0_fault_14 : decode cX0_fault 14 = .ok (.aaload, 1) := dk_50 (dk_at dksX0_fault_0 14 rfl rfl)
theorem dX0_fault_15 : decode cX0_fault 15 = .ok (.ifnonnull 11, 3) := dk_199 0 11 (dk_at dksX0_fault_0 15 rfl rfl)
theorem dX0_fault_18 : decode cX0_fault 18 = .ok (.aload_n 0, 1) := dk_42 (dk_at dksX0_fault_0 18 rfl rfl)
theorem dX0_fault_19 : decode cX0_fault 19 = .ok (.iconst 1, 1) := dk_4 (dk_at dksX0_fault_0 19 rfl rfl)
theorem dX0_fault_20 : decode cX0_fault 20 = .ok (.invokevirtual 87, 3) := dk_182 0 87 (dk_at dksX0_fault_0 20 rfl rfl)
theorem dX0_fault_23 : decode cX0_fault 23 = .ok (.goto 13, 3) := dk_167 0 13 (dk_at dksX0_fault_1 0 rfl rfl)
theorem dX0_fault_26 : decode cX0_fault 26 = .ok (.aload_n 0, 1) := dk_42 (dk_at dksX0_fault_1 3 rfl rfl)
theorem dX0_fault_27 : decode cX0_fault 27 = .ok (.aload_n 0, 1) := dk_42 (dk_at dksX0_fault_1 4 rfl rfl)
theorem dX0_fault_28 : decode cX0_fault 28 = .ok (.getfield 34, 3) := dk_180 0 34 (dk_at dksX0_fault_1 5 rfl rfl)
theorem dX0_fault_31 : decode cX0_fault 31 = .ok (.iload_n 1, 1) := dk_27 (dk_at dksX0_fault_1 8 rfl rfl)
theorem dX0_fault_32 : decode cX0_fault 32 = .ok (.aaload, 1) := dk_50 (dk_at dksX0_fault_1 9 rfl rfl)
theorem dX0_fault_33 : decode cX0_fault 33 = .ok (.invokevirtual 165, 3) := dk_182 0 165 (dk_at dksX0_fault_1 10 rfl rfl)
theorem dX0_fault_36 : decode cX0_fault 36 = .ok (.ireturn, 1) := dk_172 (dk_at dksX0_fault_1 13 rfl rfl)
abbrev cX0_goesOn : ByteArray := prog_1_method_24_code
def yX0_goesOn : MethodName := ⟨RX0, "goesOn", "([B)I"⟩
def dkwX0_goesOn_4 : List UInt8 := [154, 0, 8, 43, 190, 167, 0, 5, 16, 247, 172]
abbrev dktX0_goesOn_4 : List UInt8 := dkwX0_goesOn_4 ++ []
def dkwX0_goesOn_3 : List UInt8 := [182, 0, 162, 154, 255, 202, 42, 180, 0, 133, 172, 42, 180, 0, 155, 153, 0, 10, 42, 180, 0, 146]
abbrev dktX0_goesOn_3 : List UInt8 := dkwX0_goesOn_3 ++ dktX0_goesOn_4
def dkwX0_goesOn_2 : List UInt8 := [167, 255, 228, 42, 182, 0, 139, 16, 98, 160, 0, 13, 42, 182, 0, 158, 154, 255, 212, 167, 0, 10, 42]
abbrev dktX0_goesOn_2 : List UInt8 := dkwX0_goesOn_2 ++ dktX0_goesOn_3
def dkwX0_goesOn_1 : List UInt8 := [43, 190, 162, 0, 56, 42, 182, 0, 139, 16, 32, 160, 0, 16, 42, 89, 180, 0, 133, 4, 96, 181, 0, 133]
abbrev dktX0_goesOn_1 : List UInt8 := dkwX0_goesOn_1 ++ dktX0_goesOn_2
def dkwX0_goesOn_0 : List UInt8 := [42, 43, 181, 0, 136, 42, 3, 181, 0, 133, 42, 3, 181, 0, 155, 42, 3, 181, 0, 146, 42, 180, 0, 133]
abbrev dktX0_goesOn_0 : List UInt8 := dkwX0_goesOn_0 ++ dktX0_goesOn_1
theorem dksX0_goesOn_0 : cX0_goesOn.data.toList.drop 0 = dktX0_goesOn_0 := by decide +kernel
theorem dksX0_goesOn_1 : cX0_goesOn.data.toList.drop 24 = dktX0_goesOn_1 := dk_seg dksX0_goesOn_0 24 rfl rfl
theorem dksX0_goesOn_2 : cX0_goesOn.data.toList.drop 48 = dktX0_goesOn_2 := dk_seg dksX0_goesOn_1 24 rfl rfl
theorem dksX0_goesOn_3 : cX0_goesOn.data.toList.drop 71 = dktX0_goesOn_3 := dk_seg dksX0_goesOn_2 23 rfl rfl
theorem dksX0_goesOn_4 : cX0_goesOn.data.toList.drop 93 = dktX0_goesOn_4 := dk_seg dksX0_goesOn_3 22 rfl rfl
theorem dX0_goesOn_0 : decode cX0_goesOn 0 = .ok (.aload_n 0, 1) := dk_42 (dk_at dksX0_goesOn_0 0 rfl rfl)
theorem dX0_goesOn_1 : decode cX0_goesOn 1 = .ok (.aload_n 1, 1) := dk_43 (dk_at dksX0_goesOn_0 1 rfl rfl)
theorem dX0_goesOn_2 : decode cX0_goesOn 2 = .ok (.putfield 136, 3) := dk_181 0 136 (dk_at dksX0_goesOn_0 2 rfl rfl)
theorem dX0_goesOn_5 : decode cX0_goesOn 5 = .ok (.aload_n 0, 1) := dk_42 (dk_at dksX0_goesOn_0 5 rfl rfl)
theorem dX0_goesOn_6 : decode cX0_goesOn 6 = .ok (.iconst 0, 1) := dk_3 (dk_at dksX0_goesOn_0 6 rfl rfl)
theorem dX0_goesOn_7 : decode cX0_goesOn 7 = .ok (.putfield 133, 3) := dk_181 0 133 (dk_at dksX0_goesOn_0 7 rfl rfl)
theorem dX0_goesOn_10 : decode cX0_goesOn 10 = .ok (.aload_n 0, 1) := dk_42 (dk_at dksX0_goesOn_0 10 rfl rfl)
theorem dX0_goesOn_11 : decode cX0_goesOn 11 = .ok (.iconst 0, 1) := dk_3 (dk_at dksX0_goesOn_0 11 rfl rfl)
theorem dX0_goesOn_12 : decode cX0_goesOn 12 = .ok (.putfield 155, 3) := dk_181 0 155 (dk_at dksX0_goesOn_0 12 rfl rfl)
theorem dX0_goesOn_15 : decode cX0_goesOn 15 = .ok (.aload_n 0, 1) := dk_42 (dk_at dksX0_goesOn_0 15 rfl rfl)
theorem dX0_goesOn_16 : decode cX0_goesOn 16 = .ok (.iconst 0, 1) := dk_3 (dk_at dksX0_goesOn_0 16 rfl rfl)
theorem dX0_goesOn_17 : decode cX0_goesOn 17 = .ok (.putfield 146, 3) := dk_181 0 146 (dk_at dksX0_goesOn_0 17 rfl rfl)
theorem dX0_goesOn_20 : decode cX0_goesOn 20 = .ok (.aload_n 0, 1) := dk_42 (dk_at dksX0_goesOn_0 20 rfl rfl)
theorem dX0_goesOn_21 : decode cX0_goesOn 21 = .ok (.getfield 133, 3) := dk_180 0 133 (dk_at dksX0_goesOn_0 21 rfl rfl)
theorem dX0_goesOn_24 : decode cX0_goesOn 24 = .ok (.aload_n 1, 1) := dk_43 (dk_at dksX0_goesOn_1 0 rfl rfl)
theorem dX0_goesOn_25 : decode cX0_goesOn 25 = .ok (.arraylength, 1) := dk_190 (dk_at dksX0_goesOn_1 1 rfl rfl)
theorem dX0_goesOn_26 : decode cX0_goesOn 26 = .ok (.if_icmp .ge 56, 3) := dk_162 0 56 (dk_at dksX0_goesOn_1 2 rfl rfl)
theorem dX0_goesOn_29 : decode cX0_goesOn 29 = .ok (.aload_n 0, 1) := dk_42 (dk_at dksX0_goesOn_1 5 rfl rfl)
theorem dX0_goesOn_30 : decode cX0_goesOn 30 = .ok (.invokevirtual 139, 3) := dk_182 0 139 (dk_at dksX0_goesOn_1 6 rfl rfl)
theorem dX0_goesOn_33 : decode cX0_goesOn 33 = .ok (.bipush 32, 2) := dk_16 32 (dk_at dksX0_goesOn_1 9 rfl rfl)
theorem dX0_goesOn_35 : decode cX0_goesOn 35 = .ok (.if_icmp .ne 16, 3) := dk_160 0 16 (dk_at dksX0_goesOn_1 11 rfl rfl)
theorem dX0_goesOn_38 : decode cX0_goesOn 38 = .ok (.aload_n 0, 1) := dk_42 (dk_at dksX0_goesOn_1 14 rfl rfl)
theorem dX0_goesOn_39 : decode cX0_goesOn 39 = .ok (.dup, 1) := dk_89 (dk_at dksX0_goesOn_1 15 rfl rfl)
theorem dX0_goesOn_40 : decode cX0_goesOn 40 = .ok (.getfield 133, 3) := dk_180 0 133 (dk_at dksX0_goesOn_1 16 rfl rfl)
theorem dX0_goesOn_43 : decode cX0_goesOn 43 = .ok (.iconst 1, 1) := dk_4 (dk_at dksX0_goesOn_1 19 rfl rfl)
theorem dX0_goesOn_44 : decode cX0_goesOn 44 = .ok (.iadd, 1) := dk_96 (dk_at dksX0_goesOn_1 20 rfl rfl)
theorem dX0_goesOn_45 : decode cX0_goesOn 45 = .ok (.putfield 133, 3) := dk_181 0 133 (dk_at dksX0_goesOn_1 21 rfl rfl)
theorem dX0_goesOn_48 : decode cX0_goesOn 48 = .ok (.goto (-28), 3) := dk_167 255 228 (dk_at dksX0_goesOn_2 0 rfl rfl)
theorem dX0_goesOn_51 : decode cX0_goesOn 51 = .ok (.aload_n 0, 1) := dk_42 (dk_at dksX0_goesOn_2 3 rfl rfl)
theorem dX0_goesOn_52 : decode cX0_goesOn 52 = .ok (.invokevirtual 139, 3) := dk_182 0 139 (dk_at dksX0_goesOn_2 4 rfl rfl)
theorem dX0_goesOn_55 : decode cX0_goesOn 55 = .ok (.bipush 98, 2) := dk_16 98 (dk_at dksX0_goesOn_2 7 rfl rfl)
theorem dX0_goesOn_57 : decode cX0_goesOn 57 = .ok (.if_icmp .ne 13, 3) := dk_160 0 13 (dk_at dksX0_goesOn_2 9 rfl rfl)
theorem dX0_goesOn_60 : decode cX0_goesOn 60 = .ok (.aload_n 0, 1) := dk_42 (dk_at dksX0_goesOn_2 12 rfl rfl)
theorem dX0_goesOn_61 : decode cX0_goesOn 61 = .ok (.invokevirtual 158, 3) := dk_182 0 158 (dk_at dksX0_goesOn_2 13 rfl rfl)
theorem dX0_goesOn_64 : decode cX0_goesOn 64 = .ok (.ifCond .ne (-44), 3) := dk_154 255 212 (dk_at dksX0_goesOn_2 16 rfl rfl)
theorem dX0_goesOn_67 : decode cX0_goesOn 67 = .ok (.goto 10, 3) := dk_167 0 10 (dk_at dksX0_goesOn_2 19 rfl rfl)
theorem dX0_goesOn_70 : decode cX0_goesOn 70 = .ok (.aload_n 0, 1) := dk_42 (dk_at dksX0_goesOn_2 22 rfl rfl)
theorem dX0_goesOn_71 : decode cX0_goesOn 71 = .ok (.invokevirtual 162, 3) := dk_182 0 162 (dk_at dksX0_goesOn_3 0 rfl rfl)
theorem dX0_goesOn_74 : decode cX0_goesOn 74 = .ok (.ifCond .ne (-54), 3) := dk_154 255 202 (dk_at dksX0_goesOn_3 3 rfl rfl)
theorem dX0_goesOn_77 : decode cX0_goesOn 77 = .ok (.aload_n 0, 1) := dk_42 (dk_at dksX0_goesOn_3 6 rfl rfl)
theorem dX0_goesOn_78 : decode cX0_goesOn 78 = .ok (.getfield 133, 3) := dk_180 0 133 (dk_at dksX0_goesOn_3 7 rfl rfl)
theorem dX0_goesOn_81 : decode cX0_goesOn 81 = .ok (.ireturn, 1) := dk_172 (dk_at dksX0_goesOn_3 10 rfl rfl)
theorem dX0_goesOn_82 : decode cX0_goesOn 82 = .ok (.aload_n 0, 1) := dk_42 (dk_at dksX0_goesOn_3 11 rfl rfl)
theorem dX0_goesOn_83 : decode cX0_goesOn 83 = .ok (.getfield 155, 3) := dk_180 0 155 (dk_at dksX0_goesOn_3 12 rfl rfl)
theorem dX0_goesOn_86 : decode cX0_goesOn 86 = .ok (.ifCond .eq 10, 3) := dk_153 0 10 (dk_at dksX0_goesOn_3 15 rfl rfl)
theorem dX0_goesOn_89 : decode cX0_goesOn 89 = .ok (.aload_n 0, 1) := dk_42 (dk_at dksX0_goesOn_3 18 rfl rfl)
theorem dX0_goesOn_90 : decode cX0_goesOn 90 = .ok (.getfield 146, 3) := dk_180 0 146 (dk_at dksX0_goesOn_3 19 rfl rfl)
theorem dX0_goesOn_93 : decode cX0_goesOn 93 = .ok (.ifCond .ne 8, 3) := dk_154 0 8 (dk_at dksX0_goesOn_4 0 rfl rfl)
theorem dX0_goesOn_96 : decode cX0_goesOn 96 = .ok (.aload_n 1, 1) := dk_43 (dk_at dksX0_goesOn_4 3 rfl rfl)
theorem dX0_goesOn_97 : decode cX0_goesOn 97 = .ok (.arraylength, 1) := dk_190 (dk_at dksX0_goesOn_4 4 rfl rfl)
theorem dX0_goesOn_98 : decode cX0_goesOn 98 = .ok (.goto 5, 3) := dk_167 0 5 (dk_at dksX0_goesOn_4 5 rfl rfl)
theorem dX0_goesOn_101 : decode cX0_goesOn 101 = .ok (.bipush (-9), 2) := dk_16 247 (dk_at dksX0_goesOn_4 8 rfl rfl)
theorem dX0_goesOn_103 : decode cX0_goesOn 103 = .ok (.ireturn, 1) := dk_172 (dk_at dksX0_goesOn_4 10 rfl rfl)
abbrev cX0_sign : ByteArray := prog_1_method_19_code
def yX0_sign : MethodName := ⟨RX0, "sign", "()I"⟩
def dkwX0_sign_1 : List UInt8 := [16, 247, 172]
abbrev dktX0_sign_1 : List UInt8 := dkwX0_sign_1 ++ []
def dkwX0_sign_0 : List UInt8 := [42, 180, 0, 133, 42, 180, 0, 136, 190, 162, 0, 15, 42, 180, 0, 136, 42, 180, 0, 133, 51, 167, 0, 5]
abbrev dktX0_sign_0 : List UInt8 := dkwX0_sign_0 ++ dktX0_sign_1
theorem dksX0_sign_0 : cX0_sign.data.toList.drop 0 = dktX0_sign_0 := by decide +kernel
theorem dksX0_sign_1 : cX0_sign.data.toList.drop 24 = dktX0_sign_1 := dk_seg dksX0_sign_0 24 rfl rfl
theorem dX0_sign_0 : decode cX0_sign 0 = .ok (.aload_n 0, 1) := dk_42 (dk_at dksX0_sign_0 0 rfl rfl)
theorem dX0_sign_1 : decode cX0_sign 1 = .ok (.getfield 133, 3) := dk_180 0 133 (dk_at dksX0_sign_0 1 rfl rfl)
theorem dX0_sign_4 : decode cX0_sign 4 = .ok (.aload_n 0, 1) := dk_42 (dk_at dksX0_sign_0 4 rfl rfl)
theorem dX0_sign_5 : decode cX0_sign 5 = .ok (.getfield 136, 3) := dk_180 0 136 (dk_at dksX0_sign_0 5 rfl rfl)
theorem dX0_sign_8 : decode cX0_sign 8 = .ok (.arraylength, 1) := dk_190 (dk_at dksX0_sign_0 8 rfl rfl)
theorem dX0_sign_9 : decode cX0_sign 9 = .ok (.if_icmp .ge 15, 3) := dk_162 0 15 (dk_at dksX0_sign_0 9 rfl rfl)
theorem dX0_sign_12 : decode cX0_sign 12 = .ok (.aload_n 0, 1) := dk_42 (dk_at dksX0_sign_0 12 rfl rfl)
theorem dX0_sign_13 : decode cX0_sign 13 = .ok (.getfield 136, 3) := dk_180 0 136 (dk_at dksX0_sign_0 13 rfl rfl)
theorem dX0_sign_16 : decode cX0_sign 16 = .ok (.aload_n 0, 1) := dk_42 (dk_at dksX0_sign_0 16 rfl rfl)
theorem dX0_sign_17 : decode cX0_sign 17 = .ok (.getfield 133, 3) := dk_180 0 133 (dk_at dksX0_sign_0 17 rfl rfl)
theorem dX0_sign_20 : decode cX0_sign 20 = .ok (.baload, 1) := dk_51 (dk_at dksX0_sign_0 20 rfl rfl)
theorem dX0_sign_21 : decode cX0_sign 21 = .ok (.goto 5, 3) := dk_167 0 5 (dk_at dksX0_sign_0 21 rfl rfl)
theorem dX0_sign_24 : decode cX0_sign 24 = .ok (.bipush (-9), 2) := dk_16 247 (dk_at dksX0_sign_1 0 rfl rfl)
theorem dX0_sign_26 : decode cX0_sign 26 = .ok (.ireturn, 1) := dk_172 (dk_at dksX0_sign_1 2 rfl rfl)
abbrev cX0_readsBed : ByteArray := prog_1_method_22_code
def yX0_readsBed : MethodName := ⟨RX0, "readsBed", "()Z"⟩
def dkwX0_readsBed_3 : List UInt8 := [180, 0, 146, 104, 4, 96, 28, 79, 42, 89, 180, 0, 146, 4, 96, 181, 0, 146, 4, 172]
abbrev dktX0_readsBed_3 : List UInt8 := dkwX0_readsBed_3 ++ []
def dkwX0_readsBed_2 : List UInt8 := [160, 0, 5, 3, 172, 42, 180, 0, 56, 5, 42, 180, 0, 146, 104, 27, 79, 42, 180, 0, 56, 5, 42]
abbrev dktX0_readsBed_2 : List UInt8 := dkwX0_readsBed_2 ++ dktX0_readsBed_3
def dkwX0_readsBed_1 : List UInt8 := [182, 0, 149, 60, 27, 16, 247, 160, 0, 8, 16, 247, 167, 0, 7, 42, 182, 0, 143, 61, 28, 16, 247]
abbrev dktX0_readsBed_1 : List UInt8 := dkwX0_readsBed_1 ++ dktX0_readsBed_2
def dkwX0_readsBed_0 : List UInt8 := [42, 180, 0, 146, 16, 6, 160, 0, 5, 3, 172, 42, 89, 180, 0, 133, 4, 96, 181, 0, 133, 42]
abbrev dktX0_readsBed_0 : List UInt8 := dkwX0_readsBed_0 ++ dktX0_readsBed_1
theorem dksX0_readsBed_0 : cX0_readsBed.data.toList.drop 0 = dktX0_readsBed_0 := by decide +kernel
theorem dksX0_readsBed_1 : cX0_readsBed.data.toList.drop 22 = dktX0_readsBed_1 := dk_seg dksX0_readsBed_0 22 rfl rfl
theorem dksX0_readsBed_2 : cX0_readsBed.data.toList.drop 45 = dktX0_readsBed_2 := dk_seg dksX0_readsBed_1 23 rfl rfl
theorem dksX0_readsBed_3 : cX0_readsBed.data.toList.drop 68 = dktX0_readsBed_3 := dk_seg dksX0_readsBed_2 23 rfl rfl
theorem dX0_readsBed_0 : decode cX0_readsBed 0 = .ok (.aload_n 0, 1) := dk_42 (dk_at dksX0_readsBed_0 0 rfl rfl)
theorem dX0_readsBed_1 : decode cX0_readsBed 1 = .ok (.getfield 146, 3) := dk_180 0 146 (dk_at dksX0_readsBed_0 1 rfl rfl)
theorem dX0_readsBed_4 : decode cX0_readsBed 4 = .ok (.bipush 6, 2) := dk_16 6 (dk_at dksX0_readsBed_0 4 rfl rfl)
theorem dX0_readsBed_6 : decode cX0_readsBed 6 = .ok (.if_icmp .ne 5, 3) := dk_160 0 5 (dk_at dksX0_readsBed_0 6 rfl rfl)
theorem dX0_readsBed_9 : decode cX0_readsBed 9 = .ok (.iconst 0, 1) := dk_3 (dk_at dksX0_readsBed_0 9 rfl rfl)
theorem dX0_readsBed_10 : decode cX0_readsBed 10 = .ok (.ireturn, 1) := dk_172 (dk_at dksX0_readsBed_0 10 rfl rfl)
theorem dX0_readsBed_11 : decode cX0_readsBed 11 = .ok (.aload_n 0, 1) := dk_42 (dk_at dksX0_readsBed_0 11 rfl rfl)
theorem dX0_readsBed_12 : decode cX0_readsBed 12 = .ok (.dup, 1) := dk_89 (dk_at dksX0_readsBed_0 12 rfl rfl)
theorem dX0_readsBed_13 : decode cX0_readsBed 13 = .ok (.getfield 133, 3) := dk_180 0 133 (dk_at dksX0_readsBed_0 13 rfl rfl)
theorem dX0_readsBed_16 : decode cX0_readsBed 16 = .ok (.iconst 1, 1) := dk_4 (dk_at dksX0_readsBed_0 16 rfl rfl)
theorem dX0_readsBed_17 : decode cX0_readsBed 17 = .ok (.iadd, 1) := dk_96 (dk_at dksX0_readsBed_0 17 rfl rfl)
theorem dX0_readsBed_18 : decode cX0_readsBed 18 = .ok (.putfield 133, 3) := dk_181 0 133 (dk_at dksX0_readsBed_0 18 rfl rfl)
theorem dX0_readsBed_21 : decode cX0_readsBed 21 = .ok (.aload_n 0, 1) := dk_42 (dk_at dksX0_readsBed_0 21 rfl rfl)
theorem dX0_readsBed_22 : decode cX0_readsBed 22 = .ok (.invokevirtual 149, 3) := dk_182 0 149 (dk_at dksX0_readsBed_1 0 rfl rfl)
theorem dX0_readsBed_25 : decode cX0_readsBed 25 = .ok (.istore_n 1, 1) := dk_60 (dk_at dksX0_readsBed_1 3 rfl rfl)
theorem dX0_readsBed_26 : decode cX0_readsBed 26 = .ok (.iload_n 1, 1) := dk_27 (dk_at dksX0_readsBed_1 4 rfl rfl)
theorem dX0_readsBed_27 : decode cX0_readsBed 27 = .ok (.bipush (-9), 2) := dk_16 247 (dk_at dksX0_readsBed_1 5 rfl rfl)
theorem dX0_readsBed_29 : decode cX0_readsBed 29 = .ok (.if_icmp .ne 8, 3) := dk_160 0 8 (dk_at dksX0_readsBed_1 7 rfl rfl)
theorem dX0_readsBed_32 : decode cX0_readsBed 32 = .ok (.bipush (-9), 2) := dk_16 247 (dk_at dksX0_readsBed_1 10 rfl rfl)
theorem dX0_readsBed_34 : decode cX0_readsBed 34 = .ok (.goto 7, 3) := dk_167 0 7 (dk_at dksX0_readsBed_1 12 rfl rfl)
theorem dX0_readsBed_37 : decode cX0_readsBed 37 = .ok (.aload_n 0, 1) := dk_42 (dk_at dksX0_readsBed_1 15 rfl rfl)
theorem dX0_readsBed_38 : decode cX0_readsBed 38 = .ok (.invokevirtual 143, 3) := dk_182 0 143 (dk_at dksX0_readsBed_1 16 rfl rfl)
theorem dX0_readsBed_41 : decode cX0_readsBed 41 = .ok (.istore_n 2, 1) := dk_61 (dk_at dksX0_readsBed_1 19 rfl rfl)
theorem dX0_readsBed_42 : decode cX0_readsBed 42 = .ok (.iload_n 2, 1) := dk_28 (dk_at dksX0_readsBed_1 20 rfl rfl)
theorem dX0_readsBed_43 : decode cX0_readsBed 43 = .ok (.bipush (-9), 2) := dk_16 247 (dk_at dksX0_readsBed_1 21 rfl rfl)
theorem dX0_readsBed_45 : decode cX0_readsBed 45 = .ok (.if_icmp .ne 5, 3) := dk_160 0 5 (dk_at dksX0_readsBed_2 0 rfl rfl)
theorem dX0_readsBed_48 : decode cX0_readsBed 48 = .ok (.iconst 0, 1) := dk_3 (dk_at dksX0_readsBed_2 3 rfl rfl)
theorem dX0_readsBed_49 : decode cX0_readsBed 49 = .ok (.ireturn, 1) := dk_172 (dk_at dksX0_readsBed_2 4 rfl rfl)
theorem dX0_readsBed_50 : decode cX0_readsBed 50 = .ok (.aload_n 0, 1) := dk_42 (dk_at dksX0_readsBed_2 5 rfl rfl)
theorem dX0_readsBed_51 : decode cX0_readsBed 51 = .ok (.getfield 56, 3) := dk_180 0 56 (dk_at dksX0_readsBed_2 6 rfl rfl)
theorem dX0_readsBed_54 : decode cX0_readsBed 54 = .ok (.iconst 2, 1) := dk_5 (dk_at dksX0_readsBed_2 9 rfl rfl)
theorem dX0_readsBed_55 : decode cX0_readsBed 55 = .ok (.aload_n 0, 1) := dk_42 (dk_at dksX0_readsBed_2 10 rfl rfl)
theorem dX0_readsBed_56 : decode cX0_readsBed 56 = .ok (.getfield 146, 3) := dk_180 0 146 (dk_at dksX0_readsBed_2 11 rfl rfl)
theorem dX0_readsBed_59 : decode cX0_readsBed 59 = .ok (.imul, 1) := dk_104 (dk_at dksX0_readsBed_2 14 rfl rfl)
theorem dX0_readsBed_60 : decode cX0_readsBed 60 = .ok (.iload_n 1, 1) := dk_27 (dk_at dksX0_readsBed_2 15 rfl rfl)
theorem dX0_readsBed_61 : decode cX0_readsBed 61 = .ok (.iastore, 1) := dk_79 (dk_at dksX0_readsBed_2 16 rfl rfl)
theorem dX0_readsBed_62 : decode cX0_readsBed 62 = .ok (.aload_n 0, 1) := dk_42 (dk_at dksX0_readsBed_2 17 rfl rfl)
theorem dX0_readsBed_63 : decode cX0_readsBed 63 = .ok (.getfield 56, 3) := dk_180 0 56 (dk_at dksX0_readsBed_2 18 rfl rfl)
theorem dX0_readsBed_66 : decode cX0_readsBed 66 = .ok (.iconst 2, 1) := dk_5 (dk_at dksX0_readsBed_2 21 rfl rfl)
theorem dX0_readsBed_67 : decode cX0_readsBed 67 = .ok (.aload_n 0, 1) := dk_42 (dk_at dksX0_readsBed_2 22 rfl rfl)
theorem dX0_readsBed_68 : decode cX0_readsBed 68 = .ok (.getfield 146, 3) := dk_180 0 146 (dk_at dksX0_readsBed_3 0 rfl rfl)
theorem dX0_readsBed_71 : decode cX0_readsBed 71 = .ok (.imul, 1) := dk_104 (dk_at dksX0_readsBed_3 3 rfl rfl)
theorem dX0_readsBed_72 : decode cX0_readsBed 72 = .ok (.iconst 1, 1) := dk_4 (dk_at dksX0_readsBed_3 4 rfl rfl)
theorem dX0_readsBed_73 : decode cX0_readsBed 73 = .ok (.iadd, 1) := dk_96 (dk_at dksX0_readsBed_3 5 rfl rfl)
theorem dX0_readsBed_74 : decode cX0_readsBed 74 = .ok (.iload_n 2, 1) := dk_28 (dk_at dksX0_readsBed_3 6 rfl rfl)
theorem dX0_readsBed_75 : decode cX0_readsBed 75 = .ok (.iastore, 1) := dk_79 (dk_at dksX0_readsBed_3 7 rfl rfl)
theorem dX0_readsBed_76 : decode cX0_readsBed 76 = .ok (.aload_n 0, 1) := dk_42 (dk_at dksX0_readsBed_3 8 rfl rfl)
theorem dX0_readsBed_77 : decode cX0_readsBed 77 = .ok (.dup, 1) := dk_89 (dk_at dksX0_readsBed_3 9 rfl rfl)
theorem dX0_readsBed_78 : decode cX0_readsBed 78 = .ok (.getfield 146, 3) := dk_180 0 146 (dk_at dksX0_readsBed_3 10 rfl rfl)
theorem dX0_readsBed_81 : decode cX0_readsBed 81 = .ok (.iconst 1, 1) := dk_4 (dk_at dksX0_readsBed_3 13 rfl rfl)
theorem dX0_readsBed_82 : decode cX0_readsBed 82 = .ok (.iadd, 1) := dk_96 (dk_at dksX0_readsBed_3 14 rfl rfl)
theorem dX0_readsBed_83 : decode cX0_readsBed 83 = .ok (.putfield 146, 3) := dk_181 0 146 (dk_at dksX0_readsBed_3 15 rfl rfl)
theorem dX0_readsBed_86 : decode cX0_readsBed 86 = .ok (.iconst 1, 1) := dk_4 (dk_at dksX0_readsBed_3 18 rfl rfl)
theorem dX0_readsBed_87 : decode cX0_readsBed 87 = .ok (.ireturn, 1) := dk_172 (dk_at dksX0_readsBed_3 19 rfl rfl)
abbrev cX0_readsCell : ByteArray := prog_1_method_21_code
def yX0_readsCell : MethodName := ⟨RX0, "readsCell", "()I"⟩
def dkwX0_readsCell_1 : List UInt8 := [160, 0, 8, 16, 247, 167, 0, 9, 16, 10, 27, 104, 28, 96, 172]
abbrev dktX0_readsCell_1 : List UInt8 := dkwX0_readsCell_1 ++ []
def dkwX0_readsCell_0 : List UInt8 := [42, 182, 0, 143, 60, 27, 16, 247, 160, 0, 8, 16, 247, 167, 0, 7, 42, 182, 0, 143, 61, 28, 16, 247]
abbrev dktX0_readsCell_0 : List UInt8 := dkwX0_readsCell_0 ++ dktX0_readsCell_1
theorem dksX0_readsCell_0 : cX0_readsCell.data.toList.drop 0 = dktX0_readsCell_0 := by decide +kernel
theorem dksX0_readsCell_1 : cX0_readsCell.data.toList.drop 24 = dktX0_readsCell_1 := dk_seg dksX0_readsCell_0 24 rfl rfl
theorem dX0_readsCell_0 : decode cX0_readsCell 0 = .ok (.aload_n 0, 1) := dk_42 (dk_at dksX0_readsCell_0 0 rfl rfl)
theorem dX0_readsCell_1 : decode cX0_readsCell 1 = .ok (.invokevirtual 143, 3) := dk_182 0 143 (dk_at dksX0_readsCell_0 1 rfl rfl)
theorem dX0_readsCell_4 : decode cX0_readsCell 4 = .ok (.istore_n 1, 1) := dk_60 (dk_at dksX0_readsCell_0 4 rfl rfl)
theorem dX0_readsCell_5 : decode cX0_readsCell 5 = .ok (.iload_n 1, 1) := dk_27 (dk_at dksX0_readsCell_0 5 rfl rfl)
theorem dX0_readsCell_6 : decode cX0_readsCell 6 = .ok (.bipush (-9), 2) := dk_16 247 (dk_at dksX0_readsCell_0 6 rfl rfl)
theorem dX0_readsCell_8 : decode cX0_readsCell 8 = .ok (.if_icmp .ne 8, 3) := dk_160 0 8 (dk_at dksX0_readsCell_0 8 rfl rfl)
theorem dX0_readsCell_11 : decode cX0_readsCell 11 = .ok (.bipush (-9), 2) := dk_16 247 (dk_at dksX0_readsCell_0 11 rfl rfl)
theorem dX0_readsCell_13 : decode cX0_readsCell 13 = .ok (.goto 7, 3) := dk_167 0 7 (dk_at dksX0_readsCell_0 13 rfl rfl)
theorem dX0_readsCell_16 : decode cX0_readsCell 16 = .ok (.aload_n 0, 1) := dk_42 (dk_at dksX0_readsCell_0 16 rfl rfl)
theorem dX0_readsCell_17 : decode cX0_readsCell 17 = .ok (.invokevirtual 143, 3) := dk_182 0 143 (dk_at dksX0_readsCell_0 17 rfl rfl)
theorem dX0_readsCell_20 : decode cX0_readsCell 20 = .ok (.istore_n 2, 1) := dk_61 (dk_at dksX0_readsCell_0 20 rfl rfl)
theorem dX0_readsCell_21 : decode cX0_readsCell 21 = .ok (.iload_n 2, 1) := dk_28 (dk_at dksX0_readsCell_0 21 rfl rfl)
theorem dX0_readsCell_22 : decode cX0_readsCell 22 = .ok (.bipush (-9), 2) := dk_16 247 (dk_at dksX0_readsCell_0 22 rfl rfl)
theorem dX0_readsCell_24 : decode cX0_readsCell 24 = .ok (.if_icmp .ne 8, 3) := dk_160 0 8 (dk_at dksX0_readsCell_1 0 rfl rfl)
theorem dX0_readsCell_27 : decode cX0_readsCell 27 = .ok (.bipush (-9), 2) := dk_16 247 (dk_at dksX0_readsCell_1 3 rfl rfl)
theorem dX0_readsCell_29 : decode cX0_readsCell 29 = .ok (.goto 9, 3) := dk_167 0 9 (dk_at dksX0_readsCell_1 5 rfl rfl)
theorem dX0_readsCell_32 : decode cX0_readsCell 32 = .ok (.bipush 10, 2) := dk_16 10 (dk_at dksX0_readsCell_1 8 rfl rfl)
theorem dX0_readsCell_34 : decode cX0_readsCell 34 = .ok (.iload_n 1, 1) := dk_27 (dk_at dksX0_readsCell_1 10 rfl rfl)
theorem dX0_readsCell_35 : decode cX0_readsCell 35 = .ok (.imul, 1) := dk_104 (dk_at dksX0_readsCell_1 11 rfl rfl)
theorem dX0_readsCell_36 : decode cX0_readsCell 36 = .ok (.iload_n 2, 1) := dk_28 (dk_at dksX0_readsCell_1 12 rfl rfl)
theorem dX0_readsCell_37 : decode cX0_readsCell 37 = .ok (.iadd, 1) := dk_96 (dk_at dksX0_readsCell_1 13 rfl rfl)
theorem dX0_readsCell_38 : decode cX0_readsCell 38 = .ok (.ireturn, 1) := dk_172 (dk_at dksX0_readsCell_1 14 rfl rfl)
abbrev cX0_readsFigure : ByteArray := prog_1_method_20_code
def yX0_readsFigure : MethodName := ⟨RX0, "readsFigure", "()I"⟩
def dkwX0_readsFigure_1 : List UInt8 := [180, 0, 133, 4, 96, 181, 0, 133, 27, 172]
abbrev dktX0_readsFigure_1 : List UInt8 := dkwX0_readsFigure_1 ++ []
def dkwX0_readsFigure_0 : List UInt8 := [42, 182, 0, 139, 16, 48, 100, 60, 27, 3, 16, 9, 184, 0, 77, 154, 0, 6, 16, 247, 172, 42, 89]
abbrev dktX0_readsFigure_0 : List UInt8 := dkwX0_readsFigure_0 ++ dktX0_readsFigure_1
theorem dksX0_readsFigure_0 : cX0_readsFigure.data.toList.drop 0 = dktX0_readsFigure_0 := by decide +kernel
theorem dksX0_readsFigure_1 : cX0_readsFigure.data.toList.drop 23 = dktX0_readsFigure_1 := dk_seg dksX0_readsFigure_0 23 rfl rfl
theorem dX0_readsFigure_0 : decode cX0_readsFigure 0 = .ok (.aload_n 0, 1) := dk_42 (dk_at dksX0_readsFigure_0 0 rfl rfl)
theorem dX0_readsFigure_1 : decode cX0_readsFigure 1 = .ok (.invokevirtual 139, 3) := dk_182 0 139 (dk_at dksX0_readsFigure_0 1 rfl rfl)
theorem dX0_readsFigure_4 : decode cX0_readsFigure 4 = .ok (.bipush 48, 2) := dk_16 48 (dk_at dksX0_readsFigure_0 4 rfl rfl)
theorem dX0_readsFigure_6 : decode cX0_readsFigure 6 = .ok (.isub, 1) := dk_100 (dk_at dksX0_readsFigure_0 6 rfl rfl)
theorem dX0_readsFigure_7 : decode cX0_readsFigure 7 = .ok (.istore_n 1, 1) := dk_60 (dk_at dksX0_readsFigure_0 7 rfl rfl)
theorem dX0_readsFigure_8 : decode cX0_readsFigure 8 = .ok (.iload_n 1, 1) := dk_27 (dk_at dksX0_readsFigure_0 8 rfl rfl)
theorem dX0_readsFigure_9 : decode cX0_readsFigure 9 = .ok (.iconst 0, 1) := dk_3 (dk_at dksX0_readsFigure_0 9 rfl rfl)
theorem dX0_readsFigure_10 : decode cX0_readsFigure 10 = .ok (.bipush 9, 2) := dk_16 9 (dk_at dksX0_readsFigure_0 10 rfl rfl)
theorem dX0_readsFigure_12 : decode cX0_readsFigure 12 = .ok (.invokestatic 77, 3) := dk_184 0 77 (dk_at dksX0_readsFigure_0 12 rfl rfl)
theorem dX0_readsFigure_15 : decode cX0_readsFigure 15 = .ok (.ifCond .ne 6, 3) := dk_154 0 6 (dk_at dksX0_readsFigure_0 15 rfl rfl)
theorem dX0_readsFigure_18 : decode cX0_readsFigure 18 = .ok (.bipush (-9), 2) := dk_16 247 (dk_at dksX0_readsFigure_0 18 rfl rfl)
theorem dX0_readsFigure_20 : decode cX0_readsFigure 20 = .ok (.ireturn, 1) := dk_172 (dk_at dksX0_readsFigure_0 20 rfl rfl)
theorem dX0_readsFigure_21 : decode cX0_readsFigure 21 = .ok (.aload_n 0, 1) := dk_42 (dk_at dksX0_readsFigure_0 21 rfl rfl)
theorem dX0_readsFigure_22 : decode cX0_readsFigure 22 = .ok (.dup, 1) := dk_89 (dk_at dksX0_readsFigure_0 22 rfl rfl)
theorem dX0_readsFigure_23 : decode cX0_readsFigure 23 = .ok (.getfield 133, 3) := dk_180 0 133 (dk_at dksX0_readsFigure_1 0 rfl rfl)
theorem dX0_readsFigure_26 : decode cX0_readsFigure 26 = .ok (.iconst 1, 1) := dk_4 (dk_at dksX0_readsFigure_1 3 rfl rfl)
theorem dX0_readsFigure_27 : decode cX0_readsFigure 27 = .ok (.iadd, 1) := dk_96 (dk_at dksX0_readsFigure_1 4 rfl rfl)
theorem dX0_readsFigure_28 : decode cX0_readsFigure 28 = .ok (.putfield 133, 3) := dk_181 0 133 (dk_at dksX0_readsFigure_1 5 rfl rfl)
theorem dX0_readsFigure_31 : decode cX0_readsFigure 31 = .ok (.iload_n 1, 1) := dk_27 (dk_at dksX0_readsFigure_1 8 rfl rfl)
theorem dX0_readsFigure_32 : decode cX0_readsFigure 32 = .ok (.ireturn, 1) := dk_172 (dk_at dksX0_readsFigure_1 9 rfl rfl)
abbrev cX0_readsRing : ByteArray := prog_1_method_23_code
def yX0_readsRing : MethodName := ⟨RX0, "readsRing", "()Z"⟩
def dkwX0_readsRing_4 : List UInt8 := [6, 42, 180, 0, 155, 104, 5, 96, 29, 79, 42, 89, 180, 0, 155, 4, 96, 181, 0, 155, 4, 172]
abbrev dktX0_readsRing_4 : List UInt8 := dkwX0_readsRing_4 ++ []
def dkwX0_readsRing_3 : List UInt8 := [180, 0, 155, 104, 27, 79, 42, 180, 0, 53, 6, 42, 180, 0, 155, 104, 4, 96, 28, 79, 42, 180, 0, 53]
abbrev dktX0_readsRing_3 : List UInt8 := dkwX0_readsRing_3 ++ dktX0_readsRing_4
def dkwX0_readsRing_2 : List UInt8 := [167, 0, 7, 42, 182, 0, 143, 62, 29, 16, 247, 160, 0, 5, 3, 172, 42, 180, 0, 53, 6, 42]
abbrev dktX0_readsRing_2 : List UInt8 := dkwX0_readsRing_2 ++ dktX0_readsRing_3
def dkwX0_readsRing_1 : List UInt8 := [42, 89, 180, 0, 133, 4, 96, 181, 0, 133, 42, 182, 0, 149, 61, 28, 16, 247, 160, 0, 8, 16, 247]
abbrev dktX0_readsRing_1 : List UInt8 := dkwX0_readsRing_1 ++ dktX0_readsRing_2
def dkwX0_readsRing_0 : List UInt8 := [42, 182, 0, 139, 184, 0, 152, 60, 27, 16, 247, 159, 0, 11, 42, 180, 0, 155, 8, 160, 0, 5, 3, 172]
abbrev dktX0_readsRing_0 : List UInt8 := dkwX0_readsRing_0 ++ dktX0_readsRing_1
theorem dksX0_readsRing_0 : cX0_readsRing.data.toList.drop 0 = dktX0_readsRing_0 := by decide +kernel
theorem dksX0_readsRing_1 : cX0_readsRing.data.toList.drop 24 = dktX0_readsRing_1 := dk_seg dksX0_readsRing_0 24 rfl rfl
theorem dksX0_readsRing_2 : cX0_readsRing.data.toList.drop 47 = dktX0_readsRing_2 := dk_seg dksX0_readsRing_1 23 rfl rfl
theorem dksX0_readsRing_3 : cX0_readsRing.data.toList.drop 69 = dktX0_readsRing_3 := dk_seg dksX0_readsRing_2 22 rfl rfl
theorem dksX0_readsRing_4 : cX0_readsRing.data.toList.drop 93 = dktX0_readsRing_4 := dk_seg dksX0_readsRing_3 24 rfl rfl
theorem dX0_readsRing_0 : decode cX0_readsRing 0 = .ok (.aload_n 0, 1) := dk_42 (dk_at dksX0_readsRing_0 0 rfl rfl)
theorem dX0_readsRing_1 : decode cX0_readsRing 1 = .ok (.invokevirtual 139, 3) := dk_182 0 139 (dk_at dksX0_readsRing_0 1 rfl rfl)
theorem dX0_readsRing_4 : decode cX0_readsRing 4 = .ok (.invokestatic 152, 3) := dk_184 0 152 (dk_at dksX0_readsRing_0 4 rfl rfl)
theorem dX0_readsRing_7 : decode cX0_readsRing 7 = .ok (.istore_n 1, 1) := dk_60 (dk_at dksX0_readsRing_0 7 rfl rfl)
theorem dX0_readsRing_8 : decode cX0_readsRing 8 = .ok (.iload_n 1, 1) := dk_27 (dk_at dksX0_readsRing_0 8 rfl rfl)
theorem dX0_readsRing_9 : decode cX0_readsRing 9 = .ok (.bipush (-9), 2) := dk_16 247 (dk_at dksX0_readsRing_0 9 rfl rfl)
theorem dX0_readsRing_11 : decode cX0_readsRing 11 = .ok (.if_icmp .eq 11, 3) := dk_159 0 11 (dk_at dksX0_readsRing_0 11 rfl rfl)
theorem dX0_readsRing_14 : decode cX0_readsRing 14 = .ok (.aload_n 0, 1) := dk_42 (dk_at dksX0_readsRing_0 14 rfl rfl)
theorem dX0_readsRing_15 : decode cX0_readsRing 15 = .ok (.getfield 155, 3) := dk_180 0 155 (dk_at dksX0_readsRing_0 15 rfl rfl)
theorem dX0_readsRing_18 : decode cX0_readsRing 18 = .ok (.iconst 5, 1) := dk_8 (dk_at dksX0_readsRing_0 18 rfl rfl)
theorem dX0_readsRing_19 : decode cX0_readsRing 19 = .ok (.if_icmp .ne 5, 3) := dk_160 0 5 (dk_at dksX0_readsRing_0 19 rfl rfl)
theorem dX0_readsRing_22 : decode cX0_readsRing 22 = .ok (.iconst 0, 1) := dk_3 (dk_at dksX0_readsRing_0 22 rfl rfl)
theorem dX0_readsRing_23 : decode cX0_readsRing 23 = .ok (.ireturn, 1) := dk_172 (dk_at dksX0_readsRing_0 23 rfl rfl)
theorem dX0_readsRing_24 : decode cX0_readsRing 24 = .ok (.aload_n 0, 1) := dk_42 (dk_at dksX0_readsRing_1 0 rfl rfl)
theorem dX0_readsRing_25 : decode cX0_readsRing 25 = .ok (.dup, 1) := dk_89 (dk_at dksX0_readsRing_1 1 rfl rfl)
theorem dX0_readsRing_26 : decode cX0_readsRing 26 = .ok (.getfield 133, 3) := dk_180 0 133 (dk_at dksX0_readsRing_1 2 rfl rfl)
theorem dX0_readsRing_29 : decode cX0_readsRing 29 = .ok (.iconst 1, 1) := dk_4 (dk_at dksX0_readsRing_1 5 rfl rfl)
theorem dX0_readsRing_30 : decode cX0_readsRing 30 = .ok (.iadd, 1) := dk_96 (dk_at dksX0_readsRing_1 6 rfl rfl)
theorem dX0_readsRing_31 : decode cX0_readsRing 31 = .ok (.putfield 133, 3) := dk_181 0 133 (dk_at dksX0_readsRing_1 7 rfl rfl)
theorem dX0_readsRing_34 : decode cX0_readsRing 34 = .ok (.aload_n 0, 1) := dk_42 (dk_at dksX0_readsRing_1 10 rfl rfl)
theorem dX0_readsRing_35 : decode cX0_readsRing 35 = .ok (.invokevirtual 149, 3) := dk_182 0 149 (dk_at dksX0_readsRing_1 11 rfl rfl)
theorem dX0_readsRing_38 : decode cX0_readsRing 38 = .ok (.istore_n 2, 1) := dk_61 (dk_at dksX0_readsRing_1 14 rfl rfl)
theorem dX0_readsRing_39 : decode cX0_readsRing 39 = .ok (.iload_n 2, 1) := dk_28 (dk_at dksX0_readsRing_1 15 rfl rfl)
theorem dX0_readsRing_40 : decode cX0_readsRing 40 = .ok (.bipush (-9), 2) := dk_16 247 (dk_at dksX0_readsRing_1 16 rfl rfl)
theorem dX0_readsRing_42 : decode cX0_readsRing 42 = .ok (.if_icmp .ne 8, 3) := dk_160 0 8 (dk_at dksX0_readsRing_1 18 rfl rfl)
theorem dX0_readsRing_45 : decode cX0_readsRing 45 = .ok (.bipush (-9), 2) := dk_16 247 (dk_at dksX0_readsRing_1 21 rfl rfl)
theorem dX0_readsRing_47 : decode cX0_readsRing 47 = .ok (.goto 7, 3) := dk_167 0 7 (dk_at dksX0_readsRing_2 0 rfl rfl)
theorem dX0_readsRing_50 : decode cX0_readsRing 50 = .ok (.aload_n 0, 1) := dk_42 (dk_at dksX0_readsRing_2 3 rfl rfl)
theorem dX0_readsRing_51 : decode cX0_readsRing 51 = .ok (.invokevirtual 143, 3) := dk_182 0 143 (dk_at dksX0_readsRing_2 4 rfl rfl)
theorem dX0_readsRing_54 : decode cX0_readsRing 54 = .ok (.istore_n 3, 1) := dk_62 (dk_at dksX0_readsRing_2 7 rfl rfl)
theorem dX0_readsRing_55 : decode cX0_readsRing 55 = .ok (.iload_n 3, 1) := dk_29 (dk_at dksX0_readsRing_2 8 rfl rfl)
theorem dX0_readsRing_56 : decode cX0_readsRing 56 = .ok (.bipush (-9), 2) := dk_16 247 (dk_at dksX0_readsRing_2 9 rfl rfl)
theorem dX0_readsRing_58 : decode cX0_readsRing 58 = .ok (.if_icmp .ne 5, 3) := dk_160 0 5 (dk_at dksX0_readsRing_2 11 rfl rfl)
theorem dX0_readsRing_61 : decode cX0_readsRing 61 = .ok (.iconst 0, 1) := dk_3 (dk_at dksX0_readsRing_2 14 rfl rfl)
theorem dX0_readsRing_62 : decode cX0_readsRing 62 = .ok (.ireturn, 1) := dk_172 (dk_at dksX0_readsRing_2 15 rfl rfl)
theorem dX0_readsRing_63 : decode cX0_readsRing 63 = .ok (.aload_n 0, 1) := dk_42 (dk_at dksX0_readsRing_2 16 rfl rfl)
theorem dX0_readsRing_64 : decode cX0_readsRing 64 = .ok (.getfield 53, 3) := dk_180 0 53 (dk_at dksX0_readsRing_2 17 rfl rfl)
theorem dX0_readsRing_67 : decode cX0_readsRing 67 = .ok (.iconst 3, 1) := dk_6 (dk_at dksX0_readsRing_2 20 rfl rfl)
theorem dX0_readsRing_68 : decode cX0_readsRing 68 = .ok (.aload_n 0, 1) := dk_42 (dk_at dksX0_readsRing_2 21 rfl rfl)
theorem dX0_readsRing_69 : decode cX0_readsRing 69 = .ok (.getfield 155, 3) := dk_180 0 155 (dk_at dksX0_readsRing_3 0 rfl rfl)
theorem dX0_readsRing_72 : decode cX0_readsRing 72 = .ok (.imul, 1) := dk_104 (dk_at dksX0_readsRing_3 3 rfl rfl)
theorem dX0_readsRing_73 : decode cX0_readsRing 73 = .ok (.iload_n 1, 1) := dk_27 (dk_at dksX0_readsRing_3 4 rfl rfl)
theorem dX0_readsRing_74 : decode cX0_readsRing 74 = .ok (.iastore, 1) := dk_79 (dk_at dksX0_readsRing_3 5 rfl rfl)
theorem dX0_readsRing_75 : decode cX0_readsRing 75 = .ok (.aload_n 0, 1) := dk_42 (dk_at dksX0_readsRing_3 6 rfl rfl)
theorem dX0_readsRing_76 : decode cX0_readsRing 76 = .ok (.getfield 53, 3) := dk_180 0 53 (dk_at dksX0_readsRing_3 7 rfl rfl)
theorem dX0_readsRing_79 : decode cX0_readsRing 79 = .ok (.iconst 3, 1) := dk_6 (dk_at dksX0_readsRing_3 10 rfl rfl)
theorem dX0_readsRing_80 : decode cX0_readsRing 80 = .ok (.aload_n 0, 1) := dk_42 (dk_at dksX0_readsRing_3 11 rfl rfl)
theorem dX0_readsRing_81 : decode cX0_readsRing 81 = .ok (.getfield 155, 3) := dk_180 0 155 (dk_at dksX0_readsRing_3 12 rfl rfl)
theorem dX0_readsRing_84 : decode cX0_readsRing 84 = .ok (.imul, 1) := dk_104 (dk_at dksX0_readsRing_3 15 rfl rfl)
theorem dX0_readsRing_85 : decode cX0_readsRing 85 = .ok (.iconst 1, 1) := dk_4 (dk_at dksX0_readsRing_3 16 rfl rfl)
theorem dX0_readsRing_86 : decode cX0_readsRing 86 = .ok (.iadd, 1) := dk_96 (dk_at dksX0_readsRing_3 17 rfl rfl)
theorem dX0_readsRing_87 : decode cX0_readsRing 87 = .ok (.iload_n 2, 1) := dk_28 (dk_at dksX0_readsRing_3 18 rfl rfl)
theorem dX0_readsRing_88 : decode cX0_readsRing 88 = .ok (.iastore, 1) := dk_79 (dk_at dksX0_readsRing_3 19 rfl rfl)
theorem dX0_readsRing_89 : decode cX0_readsRing 89 = .ok (.aload_n 0, 1) := dk_42 (dk_at dksX0_readsRing_3 20 rfl rfl)
theorem dX0_readsRing_90 : decode cX0_readsRing 90 = .ok (.getfield 53, 3) := dk_180 0 53 (dk_at dksX0_readsRing_3 21 rfl rfl)
theorem dX0_readsRing_93 : decode cX0_readsRing 93 = .ok (.iconst 3, 1) := dk_6 (dk_at dksX0_readsRing_4 0 rfl rfl)
theorem dX0_readsRing_94 : decode cX0_readsRing 94 = .ok (.aload_n 0, 1) := dk_42 (dk_at dksX0_readsRing_4 1 rfl rfl)
theorem dX0_readsRing_95 : decode cX0_readsRing 95 = .ok (.getfield 155, 3) := dk_180 0 155 (dk_at dksX0_readsRing_4 2 rfl rfl)
theorem dX0_readsRing_98 : decode cX0_readsRing 98 = .ok (.imul, 1) := dk_104 (dk_at dksX0_readsRing_4 5 rfl rfl)
theorem dX0_readsRing_99 : decode cX0_readsRing 99 = .ok (.iconst 2, 1) := dk_5 (dk_at dksX0_readsRing_4 6 rfl rfl)
theorem dX0_readsRing_100 : decode cX0_readsRing 100 = .ok (.iadd, 1) := dk_96 (dk_at dksX0_readsRing_4 7 rfl rfl)
theorem dX0_readsRing_101 : decode cX0_readsRing 101 = .ok (.iload_n 3, 1) := dk_29 (dk_at dksX0_readsRing_4 8 rfl rfl)
theorem dX0_readsRing_102 : decode cX0_readsRing 102 = .ok (.iastore, 1) := dk_79 (dk_at dksX0_readsRing_4 9 rfl rfl)
theorem dX0_readsRing_103 : decode cX0_readsRing 103 = .ok (.aload_n 0, 1) := dk_42 (dk_at dksX0_readsRing_4 10 rfl rfl)
theorem dX0_readsRing_104 : decode cX0_readsRing 104 = .ok (.dup, 1) := dk_89 (dk_at dksX0_readsRing_4 11 rfl rfl)
theorem dX0_readsRing_105 : decode cX0_readsRing 105 = .ok (.getfield 155, 3) := dk_180 0 155 (dk_at dksX0_readsRing_4 12 rfl rfl)
theorem dX0_readsRing_108 : decode cX0_readsRing 108 = .ok (.iconst 1, 1) := dk_4 (dk_at dksX0_readsRing_4 15 rfl rfl)
theorem dX0_readsRing_109 : decode cX0_readsRing 109 = .ok (.iadd, 1) := dk_96 (dk_at dksX0_readsRing_4 16 rfl rfl)
theorem dX0_readsRing_110 : decode cX0_readsRing 110 = .ok (.putfield 155, 3) := dk_181 0 155 (dk_at dksX0_readsRing_4 17 rfl rfl)
theorem dX0_readsRing_113 : decode cX0_readsRing 113 = .ok (.iconst 1, 1) := dk_4 (dk_at dksX0_readsRing_4 20 rfl rfl)
theorem dX0_readsRing_114 : decode cX0_readsRing 114 = .ok (.ireturn, 1) := dk_172 (dk_at dksX0_readsRing_4 21 rfl rfl)
abbrev cX0_kindBy : ByteArray := prog_1_method_18_code
def yX0_kindBy : MethodName := ⟨RX0, "kindBy", "(I)I"⟩
def dkwX0_kindBy_2 : List UInt8 := [167, 0, 15, 26, 16, 119, 160, 0, 7, 8, 167, 0, 5, 16, 247, 172]
abbrev dktX0_kindBy_2 : List UInt8 := dkwX0_kindBy_2 ++ []
def dkwX0_kindBy_1 : List UInt8 := [160, 0, 7, 5, 167, 0, 35, 26, 16, 112, 160, 0, 7, 6, 167, 0, 25, 26, 16, 100, 160, 0, 7, 7]
abbrev dktX0_kindBy_1 : List UInt8 := dkwX0_kindBy_1 ++ dktX0_kindBy_2
def dkwX0_kindBy_0 : List UInt8 := [26, 16, 114, 160, 0, 7, 3, 167, 0, 55, 26, 16, 111, 160, 0, 7, 4, 167, 0, 45, 26, 16, 97]
abbrev dktX0_kindBy_0 : List UInt8 := dkwX0_kindBy_0 ++ dktX0_kindBy_1
theorem dksX0_kindBy_0 : cX0_kindBy.data.toList.drop 0 = dktX0_kindBy_0 := by decide +kernel
theorem dksX0_kindBy_1 : cX0_kindBy.data.toList.drop 23 = dktX0_kindBy_1 := dk_seg dksX0_kindBy_0 23 rfl rfl
theorem dksX0_kindBy_2 : cX0_kindBy.data.toList.drop 47 = dktX0_kindBy_2 := dk_seg dksX0_kindBy_1 24 rfl rfl
theorem dX0_kindBy_0 : decode cX0_kindBy 0 = .ok (.iload_n 0, 1) := dk_26 (dk_at dksX0_kindBy_0 0 rfl rfl)
theorem dX0_kindBy_1 : decode cX0_kindBy 1 = .ok (.bipush 114, 2) := dk_16 114 (dk_at dksX0_kindBy_0 1 rfl rfl)
theorem dX0_kindBy_3 : decode cX0_kindBy 3 = .ok (.if_icmp .ne 7, 3) := dk_160 0 7 (dk_at dksX0_kindBy_0 3 rfl rfl)
theorem dX0_kindBy_6 : decode cX0_kindBy 6 = .ok (.iconst 0, 1) := dk_3 (dk_at dksX0_kindBy_0 6 rfl rfl)
theorem dX0_kindBy_7 : decode cX0_kindBy 7 = .ok (.goto 55, 3) := dk_167 0 55 (dk_at dksX0_kindBy_0 7 rfl rfl)
theorem dX0_kindBy_10 : decode cX0_kindBy 10 = .ok (.iload_n 0, 1) := dk_26 (dk_at dksX0_kindBy_0 10 rfl rfl)
theorem dX0_kindBy_11 : decode cX0_kindBy 11 = .ok (.bipush 111, 2) := dk_16 111 (dk_at dksX0_kindBy_0 11 rfl rfl)
theorem dX0_kindBy_13 : decode cX0_kindBy 13 = .ok (.if_icmp .ne 7, 3) := dk_160 0 7 (dk_at dksX0_kindBy_0 13 rfl rfl)
theorem dX0_kindBy_16 : decode cX0_kindBy 16 = .ok (.iconst 1, 1) := dk_4 (dk_at dksX0_kindBy_0 16 rfl rfl)
theorem dX0_kindBy_17 : decode cX0_kindBy 17 = .ok (.goto 45, 3) := dk_167 0 45 (dk_at dksX0_kindBy_0 17 rfl rfl)
theorem dX0_kindBy_20 : decode cX0_kindBy 20 = .ok (.iload_n 0, 1) := dk_26 (dk_at dksX0_kindBy_0 20 rfl rfl)
theorem dX0_kindBy_21 : decode cX0_kindBy 21 = .ok (.bipush 97, 2) := dk_16 97 (dk_at dksX0_kindBy_0 21 rfl rfl)
theorem dX0_kindBy_23 : decode cX0_kindBy 23 = .ok (.if_icmp .ne 7, 3) := dk_160 0 7 (dk_at dksX0_kindBy_1 0 rfl rfl)
theorem dX0_kindBy_26 : decode cX0_kindBy 26 = .ok (.iconst 2, 1) := dk_5 (dk_at dksX0_kindBy_1 3 rfl rfl)
theorem dX0_kindBy_27 : decode cX0_kindBy 27 = .ok (.goto 35, 3) := dk_167 0 35 (dk_at dksX0_kindBy_1 4 rfl rfl)
theorem dX0_kindBy_30 : decode cX0_kindBy 30 = .ok (.iload_n 0, 1) := dk_26 (dk_at dksX0_kindBy_1 7 rfl rfl)
theorem dX0_kindBy_31 : decode cX0_kindBy 31 = .ok (.bipush 112, 2) := dk_16 112 (dk_at dksX0_kindBy_1 8 rfl rfl)
theorem dX0_kindBy_33 : decode cX0_kindBy 33 = .ok (.if_icmp .ne 7, 3) := dk_160 0 7 (dk_at dksX0_kindBy_1 10 rfl rfl)
theorem dX0_kindBy_36 : decode cX0_kindBy 36 = .ok (.iconst 3, 1) := dk_6 (dk_at dksX0_kindBy_1 13 rfl rfl)
theorem dX0_kindBy_37 : decode cX0_kindBy 37 = .ok (.goto 25, 3) := dk_167 0 25 (dk_at dksX0_kindBy_1 14 rfl rfl)
theorem dX0_kindBy_40 : decode cX0_kindBy 40 = .ok (.iload_n 0, 1) := dk_26 (dk_at dksX0_kindBy_1 17 rfl rfl)
theorem dX0_kindBy_41 : decode cX0_kindBy 41 = .ok (.bipush 100, 2) := dk_16 100 (dk_at dksX0_kindBy_1 18 rfl rfl)
theorem dX0_kindBy_43 : decode cX0_kindBy 43 = .ok (.if_icmp .ne 7, 3) := dk_160 0 7 (dk_at dksX0_kindBy_1 20 rfl rfl)
theorem dX0_kindBy_46 : decode cX0_kindBy 46 = .ok (.iconst 4, 1) := dk_7 (dk_at dksX0_kindBy_1 23 rfl rfl)
theorem dX0_kindBy_47 : decode cX0_kindBy 47 = .ok (.goto 15, 3) := dk_167 0 15 (dk_at dksX0_kindBy_2 0 rfl rfl)
theorem dX0_kindBy_50 : decode cX0_kindBy 50 = .ok (.iload_n 0, 1) := dk_26 (dk_at dksX0_kindBy_2 3 rfl rfl)
theorem dX0_kindBy_51 : decode cX0_kindBy 51 = .ok (.bipush 119, 2) := dk_16 119 (dk_at dksX0_kindBy_2 4 rfl rfl)
theorem dX0_kindBy_53 : decode cX0_kindBy 53 = .ok (.if_icmp .ne 7, 3) := dk_160 0 7 (dk_at dksX0_kindBy_2 6 rfl rfl)
theorem dX0_kindBy_56 : decode cX0_kindBy 56 = .ok (.iconst 5, 1) := dk_8 (dk_at dksX0_kindBy_2 9 rfl rfl)
theorem dX0_kindBy_57 : decode cX0_kindBy 57 = .ok (.goto 5, 3) := dk_167 0 5 (dk_at dksX0_kindBy_2 10 rfl rfl)
theorem dX0_kindBy_60 : decode cX0_kindBy 60 = .ok (.bipush (-9), 2) := dk_16 247 (dk_at dksX0_kindBy_2 13 rfl rfl)
theorem dX0_kindBy_62 : decode cX0_kindBy 62 = .ok (.ireturn, 1) := dk_172 (dk_at dksX0_kindBy_2 15 rfl rfl)
abbrev cX0_parish : ByteArray := prog_1_method_26_code
def yX0_parish : MethodName := ⟨RX0, "parish", "(I)I"⟩
def dkwX0_parish_10 : List UInt8 := [42, 180, 0, 169, 172]
abbrev dktX0_parish_10 : List UInt8 := dkwX0_parish_10 ++ []
def dkwX0_parish_9 : List UInt8 := [3, 181, 0, 74, 3, 61, 28, 6, 162, 0, 16, 42, 180, 0, 70, 28, 1, 83, 132, 2, 1, 167, 255, 241]
abbrev dktX0_parish_9 : List UInt8 := dkwX0_parish_9 ++ dktX0_parish_10
def dkwX0_parish_8 : List UInt8 := [132, 2, 1, 167, 255, 215, 42, 3, 181, 0, 179, 42, 4, 42, 180, 0, 169, 120, 4, 100, 181, 0, 182, 42]
abbrev dktX0_parish_8 : List UInt8 := dkwX0_parish_8 ++ dktX0_parish_9
def dkwX0_parish_7 : List UInt8 := [180, 0, 56, 5, 28, 104, 46, 79, 42, 180, 0, 62, 28, 42, 180, 0, 56, 5, 28, 104, 4, 96, 46, 79]
abbrev dktX0_parish_7 : List UInt8 := dkwX0_parish_7 ++ dktX0_parish_8
def dkwX0_parish_6 : List UInt8 := [46, 79, 132, 2, 1, 167, 255, 195, 3, 61, 28, 42, 180, 0, 172, 162, 0, 39, 42, 180, 0, 59, 28, 42]
abbrev dktX0_parish_6 : List UInt8 := dkwX0_parish_6 ++ dktX0_parish_7
def dkwX0_parish_5 : List UInt8 := [180, 0, 53, 6, 28, 104, 4, 96, 46, 79, 42, 180, 0, 50, 28, 42, 180, 0, 53, 6, 28, 104, 5, 96]
abbrev dktX0_parish_5 : List UInt8 := dkwX0_parish_5 ++ dktX0_parish_6
def dkwX0_parish_4 : List UInt8 := [180, 0, 44, 28, 42, 180, 0, 53, 6, 28, 104, 46, 28, 184, 0, 175, 83, 42, 180, 0, 47, 28, 42]
abbrev dktX0_parish_4 : List UInt8 := dkwX0_parish_4 ++ dktX0_parish_5
def dkwX0_parish_3 : List UInt8 := [28, 3, 184, 0, 175, 83, 132, 2, 1, 167, 255, 236, 3, 61, 28, 42, 180, 0, 169, 162, 0, 59, 42]
abbrev dktX0_parish_3 : List UInt8 := dkwX0_parish_3 ++ dktX0_parish_4
def dkwX0_parish_2 : List UInt8 := [181, 0, 169, 42, 42, 180, 0, 146, 181, 0, 172, 3, 61, 28, 16, 6, 162, 0, 20, 42, 180, 0, 40, 28]
abbrev dktX0_parish_2 : List UInt8 := dkwX0_parish_2 ++ dktX0_parish_3
def dkwX0_parish_1 : List UInt8 := [42, 42, 180, 0, 34, 27, 50, 182, 0, 165, 16, 247, 159, 0, 6, 16, 252, 172, 42, 42, 180, 0, 155]
abbrev dktX0_parish_1 : List UInt8 := dkwX0_parish_1 ++ dktX0_parish_2
def dkwX0_parish_0 : List UInt8 := [27, 184, 0, 112, 154, 0, 5, 2, 172, 42, 180, 0, 34, 27, 50, 199, 0, 9, 42, 4, 182, 0, 87, 172]
abbrev dktX0_parish_0 : List UInt8 := dkwX0_parish_0 ++ dktX0_parish_1
theorem dksX0_parish_0 : cX0_parish.data.toList.drop 0 = dktX0_parish_0 := by decide +kernel
theorem dksX0_parish_1 : cX0_parish.data.toList.drop 24 = dktX0_parish_1 := dk_seg dksX0_parish_0 24 rfl rfl
theorem dksX0_parish_2 : cX0_parish.data.toList.drop 47 = dktX0_parish_2 := dk_seg dksX0_parish_1 23 rfl rfl
theorem dksX0_parish_3 : cX0_parish.data.toList.drop 71 = dktX0_parish_3 := dk_seg dksX0_parish_2 24 rfl rfl
theorem dksX0_parish_4 : cX0_parish.data.toList.drop 94 = dktX0_parish_4 := dk_seg dksX0_parish_3 23 rfl rfl
theorem dksX0_parish_5 : cX0_parish.data.toList.drop 117 = dktX0_parish_5 := dk_seg dksX0_parish_4 23 rfl rfl
theorem dksX0_parish_6 : cX0_parish.data.toList.drop 141 = dktX0_parish_6 := dk_seg dksX0_parish_5 24 rfl rfl
theorem dksX0_parish_7 : cX0_parish.data.toList.drop 165 = dktX0_parish_7 := dk_seg dksX0_parish_6 24 rfl rfl
theorem dksX0_parish_8 : cX0_parish.data.toList.drop 189 = dktX0_parish_8 := dk_seg dksX0_parish_7 24 rfl rfl
theorem dksX0_parish_9 : cX0_parish.data.toList.drop 213 = dktX0_parish_9 := dk_seg dksX0_parish_8 24 rfl rfl
theorem dksX0_parish_10 : cX0_parish.data.toList.drop 237 = dktX0_parish_10 := dk_seg dksX0_parish_9 24 rfl rfl
theorem dX0_parish_0 : decode cX0_parish 0 = .ok (.iload_n 1, 1) := dk_27 (dk_at dksX0_parish_0 0 rfl rfl)
theorem dX0_parish_1 : decode cX0_parish 1 = .ok (.invokestatic 112, 3) := dk_184 0 112 (dk_at dksX0_parish_0 1 rfl rfl)
theorem dX0_parish_4 : decode cX0_parish 4 = .ok (.ifCond .ne 5, 3) := dk_154 0 5 (dk_at dksX0_parish_0 4 rfl rfl)
theorem dX0_parish_7 : decode cX0_parish 7 = .ok (.iconst (-1), 1) := dk_2 (dk_at dksX0_parish_0 7 rfl rfl)
theorem dX0_parish_8 : decode cX0_parish 8 = .ok (.ireturn, 1) := dk_172 (dk_at dksX0_parish_0 8 rfl rfl)
theorem dX0_parish_9 : decode cX0_parish 9 = .ok (.aload_n 0, 1) := dk_42 (dk_at dksX0_parish_0 9 rfl rfl)
theorem dX0_parish_10 : decode cX0_parish 10 = .ok (.getfield 34, 3) := dk_180 0 34 (dk_at dksX0_parish_0 10 rfl rfl)
theorem dX0_parish_13 : decode cX0_parish 13 = .ok (.iload_n 1, 1) := dk_27 (dk_at dksX0_parish_0 13 rfl rfl)
theorem dX0_parish_14 : decode cX0_parish 14 = .ok (.aaload, 1) := dk_50 (dk_at dksX0_parish_0 14 rfl rfl)
theorem dX0_parish_15 : decode cX0_parish 15 = .ok (.ifnonnull 9, 3) := dk_199 0 9 (dk_at dksX0_parish_0 15 rfl rfl)
theorem dX0_parish_18 : decode cX0_parish 18 = .ok (.aload_n 0, 1) := dk_42 (dk_at dksX0_parish_0 18 rfl rfl)
theorem dX0_parish_19 : decode cX0_parish 19 = .ok (.iconst 1, 1) := dk_4 (dk_at dksX0_parish_0 19 rfl rfl)
theorem dX0_parish_20 : decode cX0_parish 20 = .ok (.invokevirtual 87, 3) := dk_182 0 87 (dk_at dksX0_parish_0 20 rfl rfl)
theorem dX0_parish_23 : decode cX0_parish 23 = .ok (.ireturn, 1) := dk_172 (dk_at dksX0_parish_0 23 rfl rfl)
theorem dX0_parish_24 : decode cX0_parish 24 = .ok (.aload_n 0, 1) := dk_42 (dk_at dksX0_parish_1 0 rfl rfl)
theorem dX0_parish_25 : decode cX0_parish 25 = .ok (.aload_n 0, 1) := dk_42 (dk_at dksX0_parish_1 1 rfl rfl)
theorem dX0_parish_26 : decode cX0_parish 26 = .ok (.getfield 34, 3) := dk_180 0 34 (dk_at dksX0_parish_1 2 rfl rfl)
theorem dX0_parish_29 : decode cX0_parish 29 = .ok (.iload_n 1, 1) := dk_27 (dk_at dksX0_parish_1 5 rfl rfl)
theorem dX0_parish_30 : decode cX0_parish 30 = .ok (.aaload, 1) := dk_50 (dk_at dksX0_parish_1 6 rfl rfl)
theorem dX0_parish_31 : decode cX0_parish 31 = .ok (.invokevirtual 165, 3) := dk_182 0 165 (dk_at dksX0_parish_1 7 rfl rfl)
theorem dX0_parish_34 : decode cX0_parish 34 = .ok (.bipush (-9), 2) := dk_16 247 (dk_at dksX0_parish_1 10 rfl rfl)
theorem dX0_parish_36 : decode cX0_parish 36 = .ok (.if_icmp .eq 6, 3) := dk_159 0 6 (dk_at dksX0_parish_1 12 rfl rfl)
theorem dX0_parish_39 : decode cX0_parish 39 = .ok (.bipush (-4), 2) := dk_16 252 (dk_at dksX0_parish_1 15 rfl rfl)
theorem dX0_parish_41 : decode cX0_parish 41 = .ok (.ireturn, 1) := dk_172 (dk_at dksX0_parish_1 17 rfl rfl)
theorem dX0_parish_42 : decode cX0_parish 42 = .ok (.aload_n 0, 1) := dk_42 (dk_at dksX0_parish_1 18 rfl rfl)
theorem dX0_parish_43 : decode cX0_parish 43 = .ok (.aload_n 0, 1) := dk_42 (dk_at dksX0_parish_1 19 rfl rfl)
theorem dX0_parish_44 : decode cX0_parish 44 = .ok (.getfield 155, 3) := dk_180 0 155 (dk_at dksX0_parish_1 20 rfl rfl)
theorem dX0_parish_47 : decode cX0_parish 47 = .ok (.putfield 169, 3) := dk_181 0 169 (dk_at dksX0_parish_2 0 rfl rfl)
theorem dX0_parish_50 : decode cX0_parish 50 = .ok (.aload_n 0, 1) := dk_42 (dk_at dksX0_parish_2 3 rfl rfl)
theorem dX0_parish_51 : decode cX0_parish 51 = .ok (.aload_n 0, 1) := dk_42 (dk_at dksX0_parish_2 4 rfl rfl)
theorem dX0_parish_52 : decode cX0_parish 52 = .ok (.getfield 146, 3) := dk_180 0 146 (dk_at dksX0_parish_2 5 rfl rfl)
theorem dX0_parish_55 : decode cX0_parish 55 = .ok (.putfield 172, 3) := dk_181 0 172 (dk_at dksX0_parish_2 8 rfl rfl)
theorem dX0_parish_58 : decode cX0_parish 58 = .ok (.iconst 0, 1) := dk_3 (dk_at dksX0_parish_2 11 rfl rfl)
theorem dX0_parish_59 : decode cX0_parish 59 = .ok (.istore_n 2, 1) := dk_61 (dk_at dksX0_parish_2 12 rfl rfl)
theorem dX0_parish_60 : decode cX0_parish 60 = .ok (.iload_n 2, 1) := dk_28 (dk_at dksX0_parish_2 13 rfl rfl)
theorem dX0_parish_61 : decode cX0_parish 61 = .ok (.bipush 6, 2) := dk_16 6 (dk_at dksX0_parish_2 14 rfl rfl)
theorem dX0_parish_63 : decode cX0_parish 63 = .ok (.if_icmp .ge 20, 3) := dk_162 0 20 (dk_at dksX0_parish_2 16 rfl rfl)
theorem dX0_parish_66 : decode cX0_parish 66 = .ok (.aload_n 0, 1) := dk_42 (dk_at dksX0_parish_2 19 rfl rfl)
theorem dX0_parish_67 : decode cX0_parish 67 = .ok (.getfield 40, 3) := dk_180 0 40 (dk_at dksX0_parish_2 20 rfl rfl)
theorem dX0_parish_70 : decode cX0_parish 70 = .ok (.iload_n 2, 1) := dk_28 (dk_at dksX0_parish_2 23 rfl rfl)
theorem dX0_parish_71 : decode cX0_parish 71 = .ok (.iload_n 2, 1) := dk_28 (dk_at dksX0_parish_3 0 rfl rfl)
theorem dX0_parish_72 : decode cX0_parish 72 = .ok (.iconst 0, 1) := dk_3 (dk_at dksX0_parish_3 1 rfl rfl)
theorem dX0_parish_73 : decode cX0_parish 73 = .ok (.invokestatic 175, 3) := dk_184 0 175 (dk_at dksX0_parish_3 2 rfl rfl)
theorem dX0_parish_76 : decode cX0_parish 76 = .ok (.aastore, 1) := dk_83 (dk_at dksX0_parish_3 5 rfl rfl)
theorem dX0_parish_77 : decode cX0_parish 77 = .ok (.iinc 2 1, 3) := dk_132 2 1 (dk_at dksX0_parish_3 6 rfl rfl)
theorem dX0_parish_80 : decode cX0_parish 80 = .ok (.goto (-20), 3) := dk_167 255 236 (dk_at dksX0_parish_3 9 rfl rfl)
theorem dX0_parish_83 : decode cX0_parish 83 = .ok (.iconst 0, 1) := dk_3 (dk_at dksX0_parish_3 12 rfl rfl)
theorem dX0_parish_84 : decode cX0_parish 84 = .ok (.istore_n 2, 1) := dk_61 (dk_at dksX0_parish_3 13 rfl rfl)
theorem dX0_parish_85 : decode cX0_parish 85 = .ok (.iload_n 2, 1) := dk_28 (dk_at dksX0_parish_3 14 rfl rfl)
theorem dX0_parish_86 : decode cX0_parish 86 = .ok (.aload_n 0, 1) := dk_42 (dk_at dksX0_parish_3 15 rfl rfl)
theorem dX0_parish_87 : decode cX0_parish 87 = .ok (.getfield 169, 3) := dk_180 0 169 (dk_at dksX0_parish_3 16 rfl rfl)
theorem dX0_parish_90 : decode cX0_parish 90 = .ok (.if_icmp .ge 59, 3) := dk_162 0 59 (dk_at dksX0_parish_3 19 rfl rfl)
theorem dX0_parish_93 : decode cX0_parish 93 = .ok (.aload_n 0, 1) := dk_42 (dk_at dksX0_parish_3 22 rfl rfl)
theorem dX0_parish_94 : decode cX0_parish 94 = .ok (.getfield 44, 3) := dk_180 0 44 (dk_at dksX0_parish_4 0 rfl rfl)
theorem dX0_parish_97 : decode cX0_parish 97 = .ok (.iload_n 2, 1) := dk_28 (dk_at dksX0_parish_4 3 rfl rfl)
theorem dX0_parish_98 : decode cX0_parish 98 = .ok (.aload_n 0, 1) := dk_42 (dk_at dksX0_parish_4 4 rfl rfl)
theorem dX0_parish_99 : decode cX0_parish 99 = .ok (.getfield 53, 3) := dk_180 0 53 (dk_at dksX0_parish_4 5 rfl rfl)
theorem dX0_parish_102 : decode cX0_parish 102 = .ok (.iconst 3, 1) := dk_6 (dk_at dksX0_parish_4 8 rfl rfl)
theorem dX0_parish_103 : decode cX0_parish 103 = .ok (.iload_n 2, 1) := dk_28 (dk_at dksX0_parish_4 9 rfl rfl)
theorem dX0_parish_104 : decode cX0_parish 104 = .ok (.imul, 1) := dk_104 (dk_at dksX0_parish_4 10 rfl rfl)
theorem dX0_parish_105 : decode cX0_parish 105 = .ok (.iaload, 1) := dk_46 (dk_at dksX0_parish_4 11 rfl rfl)
theorem dX0_parish_106 : decode cX0_parish 106 = .ok (.iload_n 2, 1) := dk_28 (dk_at dksX0_parish_4 12 rfl rfl)
theorem dX0_parish_107 : decode cX0_parish 107 = .ok (.invokestatic 175, 3) := dk_184 0 175 (dk_at dksX0_parish_4 13 rfl rfl)
theorem dX0_parish_110 : decode cX0_parish 110 = .ok (.aastore, 1) := dk_83 (dk_at dksX0_parish_4 16 rfl rfl)
theorem dX0_parish_111 : decode cX0_parish 111 = .ok (.aload_n 0, 1) := dk_42 (dk_at dksX0_parish_4 17 rfl rfl)
theorem dX0_parish_112 : decode cX0_parish 112 = .ok (.getfield 47, 3) := dk_180 0 47 (dk_at dksX0_parish_4 18 rfl rfl)
theorem dX0_parish_115 : decode cX0_parish 115 = .ok (.iload_n 2, 1) := dk_28 (dk_at dksX0_parish_4 21 rfl rfl)
theorem dX0_parish_116 : decode cX0_parish 116 = .ok (.aload_n 0, 1) := dk_42 (dk_at dksX0_parish_4 22 rfl rfl)
theorem dX0_parish_117 : decode cX0_parish 117 = .ok (.getfield 53, 3) := dk_180 0 53 (dk_at dksX0_parish_5 0 rfl rfl)
theorem dX0_parish_120 : decode cX0_parish 120 = .ok (.iconst 3, 1) := dk_6 (dk_at dksX0_parish_5 3 rfl rfl)
theorem dX0_parish_121 : decode cX0_parish 121 = .ok (.iload_n 2, 1) := dk_28 (dk_at dksX0_parish_5 4 rfl rfl)
theorem dX0_parish_122 : decode cX0_parish 122 = .ok (.imul, 1) := dk_104 (dk_at dksX0_parish_5 5 rfl rfl)
theorem dX0_parish_123 : decode cX0_parish 123 = .ok (.iconst 1, 1) := dk_4 (dk_at dksX0_parish_5 6 rfl rfl)
theorem dX0_parish_124 : decode cX0_parish 124 = .ok (.iadd, 1) := dk_96 (dk_at dksX0_parish_5 7 rfl rfl)
theorem dX0_parish_125 : decode cX0_parish 125 = .ok (.iaload, 1) := dk_46 (dk_at dksX0_parish_5 8 rfl rfl)
theorem dX0_parish_126 : decode cX0_parish 126 = .ok (.iastore, 1) := dk_79 (dk_at dksX0_parish_5 9 rfl rfl)
theorem dX0_parish_127 : decode cX0_parish 127 = .ok (.aload_n 0, 1) := dk_42 (dk_at dksX0_parish_5 10 rfl rfl)
theorem dX0_parish_128 : decode cX0_parish 128 = .ok (.getfield 50, 3) := dk_180 0 50 (dk_at dksX0_parish_5 11 rfl rfl)
theorem dX0_parish_131 : decode cX0_parish 131 = .ok (.iload_n 2, 1) := dk_28 (dk_at dksX0_parish_5 14 rfl rfl)
theorem dX0_parish_132 : decode cX0_parish 132 = .ok (.aload_n 0, 1) := dk_42 (dk_at dksX0_parish_5 15 rfl rfl)
theorem dX0_parish_133 : decode cX0_parish 133 = .ok (.getfield 53, 3) := dk_180 0 53 (dk_at dksX0_parish_5 16 rfl rfl)
theorem dX0_parish_136 : decode cX0_parish 136 = .ok (.iconst 3, 1) := dk_6 (dk_at dksX0_parish_5 19 rfl rfl)
theorem dX0_parish_137 : decode cX0_parish 137 = .ok (.iload_n 2, 1) := dk_28 (dk_at dksX0_parish_5 20 rfl rfl)
theorem dX0_parish_138 : decode cX0_parish 138 = .ok (.imul, 1) := dk_104 (dk_at dksX0_parish_5 21 rfl rfl)
theorem dX0_parish_139 : decode cX0_parish 139 = .ok (.iconst 2, 1) := dk_5 (dk_at dksX0_parish_5 22 rfl rfl)
theorem dX0_parish_140 : decode cX0_parish 140 = .ok (.iadd, 1) := dk_96 (dk_at dksX0_parish_5 23 rfl rfl)
theorem dX0_parish_141 : decode cX0_parish 141 = .ok (.iaload, 1) := dk_46 (dk_at dksX0_parish_6 0 rfl rfl)
theorem dX0_parish_142 : decode cX0_parish 142 = .ok (.iastore, 1) := dk_79 (dk_at dksX0_parish_6 1 rfl rfl)
theorem dX0_parish_143 : decode cX0_parish 143 = .ok (.iinc 2 1, 3) := dk_132 2 1 (dk_at dksX0_parish_6 2 rfl rfl)
theorem dX0_parish_146 : decode cX0_parish 146 = .ok (.goto (-61), 3) := dk_167 255 195 (dk_at dksX0_parish_6 5 rfl rfl)
theorem dX0_parish_149 : decode cX0_parish 149 = .ok (.iconst 0, 1) := dk_3 (dk_at dksX0_parish_6 8 rfl rfl)
theorem dX0_parish_150 : decode cX0_parish 150 = .ok (.istore_n 2, 1) := dk_61 (dk_at dksX0_parish_6 9 rfl rfl)
theorem dX0_parish_151 : decode cX0_parish 151 = .ok (.iload_n 2, 1) := dk_28 (dk_at dksX0_parish_6 10 rfl rfl)
theorem dX0_parish_152 : decode cX0_parish 152 = .ok (.aload_n 0, 1) := dk_42 (dk_at dksX0_parish_6 11 rfl rfl)
theorem dX0_parish_153 : decode cX0_parish 153 = .ok (.getfield 172, 3) := dk_180 0 172 (dk_at dksX0_parish_6 12 rfl rfl)
theorem dX0_parish_156 : decode cX0_parish 156 = .ok (.if_icmp .ge 39, 3) := dk_162 0 39 (dk_at dksX0_parish_6 15 rfl rfl)
theorem dX0_parish_159 : decode cX0_parish 159 = .ok (.aload_n 0, 1) := dk_42 (dk_at dksX0_parish_6 18 rfl rfl)
theorem dX0_parish_160 : decode cX0_parish 160 = .ok (.getfield 59, 3) := dk_180 0 59 (dk_at dksX0_parish_6 19 rfl rfl)
theorem dX0_parish_163 : decode cX0_parish 163 = .ok (.iload_n 2, 1) := dk_28 (dk_at dksX0_parish_6 22 rfl rfl)
theorem dX0_parish_164 : decode cX0_parish 164 = .ok (.aload_n 0, 1) := dk_42 (dk_at dksX0_parish_6 23 rfl rfl)
theorem dX0_parish_165 : decode cX0_parish 165 = .ok (.getfield 56, 3) := dk_180 0 56 (dk_at dksX0_parish_7 0 rfl rfl)
theorem dX0_parish_168 : decode cX0_parish 168 = .ok (.iconst 2, 1) := dk_5 (dk_at dksX0_parish_7 3 rfl rfl)
theorem dX0_parish_169 : decode cX0_parish 169 = .ok (.iload_n 2, 1) := dk_28 (dk_at dksX0_parish_7 4 rfl rfl)
theorem dX0_parish_170 : decode cX0_parish 170 = .ok (.imul, 1) := dk_104 (dk_at dksX0_parish_7 5 rfl rfl)
theorem dX0_parish_171 : decode cX0_parish 171 = .ok (.iaload, 1) := dk_46 (dk_at dksX0_parish_7 6 rfl rfl)
theorem dX0_parish_172 : decode cX0_parish 172 = .ok (.iastore, 1) := dk_79 (dk_at dksX0_parish_7 7 rfl rfl)
theorem dX0_parish_173 : decode cX0_parish 173 = .ok (.aload_n 0, 1) := dk_42 (dk_at dksX0_parish_7 8 rfl rfl)
theorem dX0_parish_174 : decode cX0_parish 174 = .ok (.getfield 62, 3) := dk_180 0 62 (dk_at dksX0_parish_7 9 rfl rfl)
theorem dX0_parish_177 : decode cX0_parish 177 = .ok (.iload_n 2, 1) := dk_28 (dk_at dksX0_parish_7 12 rfl rfl)
theorem dX0_parish_178 : decode cX0_parish 178 = .ok (.aload_n 0, 1) := dk_42 (dk_at dksX0_parish_7 13 rfl rfl)
theorem dX0_parish_179 : decode cX0_parish 179 = .ok (.getfield 56, 3) := dk_180 0 56 (dk_at dksX0_parish_7 14 rfl rfl)
theorem dX0_parish_182 : decode cX0_parish 182 = .ok (.iconst 2, 1) := dk_5 (dk_at dksX0_parish_7 17 rfl rfl)
theorem dX0_parish_183 : decode cX0_parish 183 = .ok (.iload_n 2, 1) := dk_28 (dk_at dksX0_parish_7 18 rfl rfl)
theorem dX0_parish_184 : decode cX0_parish 184 = .ok (.imul, 1) := dk_104 (dk_at dksX0_parish_7 19 rfl rfl)
theorem dX0_parish_185 : decode cX0_parish 185 = .ok (.iconst 1, 1) := dk_4 (dk_at dksX0_parish_7 20 rfl rfl)
theorem dX0_parish_186 : decode cX0_parish 186 = .ok (.iadd, 1) := dk_96 (dk_at dksX0_parish_7 21 rfl rfl)
theorem dX0_parish_187 : decode cX0_parish 187 = .ok (.iaload, 1) := dk_46 (dk_at dksX0_parish_7 22 rfl rfl)
theorem dX0_parish_188 : decode cX0_parish 188 = .ok (.iastore, 1) := dk_79 (dk_at dksX0_parish_7 23 rfl rfl)
theorem dX0_parish_189 : decode cX0_parish 189 = .ok (.iinc 2 1, 3) := dk_132 2 1 (dk_at dksX0_parish_8 0 rfl rfl)
theorem dX0_parish_192 : decode cX0_parish 192 = .ok (.goto (-41), 3) := dk_167 255 215 (dk_at dksX0_parish_8 3 rfl rfl)
theorem dX0_parish_195 : decode cX0_parish 195 = .ok (.aload_n 0, 1) := dk_42 (dk_at dksX0_parish_8 6 rfl rfl)
theorem dX0_parish_196 : decode cX0_parish 196 = .ok (.iconst 0, 1) := dk_3 (dk_at dksX0_parish_8 7 rfl rfl)
theorem dX0_parish_197 : decode cX0_parish 197 = .ok (.putfield 179, 3) := dk_181 0 179 (dk_at dksX0_parish_8 8 rfl rfl)
theorem dX0_parish_200 : decode cX0_parish 200 = .ok (.aload_n 0, 1) := dk_42 (dk_at dksX0_parish_8 11 rfl rfl)
theorem dX0_parish_201 : decode cX0_parish 201 = .ok (.iconst 1, 1) := dk_4 (dk_at dksX0_parish_8 12 rfl rfl)
theorem dX0_parish_202 : decode cX0_parish 202 = .ok (.aload_n 0, 1) := dk_42 (dk_at dksX0_parish_8 13 rfl rfl)
theorem dX0_parish_203 : decode cX0_parish 203 = .ok (.getfield 169, 3) := dk_180 0 169 (dk_at dksX0_parish_8 14 rfl rfl)
theorem dX0_parish_206 : decode cX0_parish 206 = .ok (.ishl, 1) := dk_120 (dk_at dksX0_parish_8 17 rfl rfl)
theorem dX0_parish_207 : decode cX0_parish 207 = .ok (.iconst 1, 1) := dk_4 (dk_at dksX0_parish_8 18 rfl rfl)
theorem dX0_parish_208 : decode cX0_parish 208 = .ok (.isub, 1) := dk_100 (dk_at dksX0_parish_8 19 rfl rfl)
theorem dX0_parish_209 : decode cX0_parish 209 = .ok (.putfield 182, 3) := dk_181 0 182 (dk_at dksX0_parish_8 20 rfl rfl)
theorem dX0_parish_212 : decode cX0_parish 212 = .ok (.aload_n 0, 1) := dk_42 (dk_at dksX0_parish_8 23 rfl rfl)
theorem dX0_parish_213 : decode cX0_parish 213 = .ok (.iconst 0, 1) := dk_3 (dk_at dksX0_parish_9 0 rfl rfl)
theorem dX0_parish_214 : decode cX0_parish 214 = .ok (.putfield 74, 3) := dk_181 0 74 (dk_at dksX0_parish_9 1 rfl rfl)
theorem dX0_parish_217 : decode cX0_parish 217 = .ok (.iconst 0, 1) := dk_3 (dk_at dksX0_parish_9 4 rfl rfl)
theorem dX0_parish_218 : decode cX0_parish 218 = .ok (.istore_n 2, 1) := dk_61 (dk_at dksX0_parish_9 5 rfl rfl)
theorem dX0_parish_219 : decode cX0_parish 219 = .ok (.iload_n 2, 1) := dk_28 (dk_at dksX0_parish_9 6 rfl rfl)
theorem dX0_parish_220 : decode cX0_parish 220 = .ok (.iconst 3, 1) := dk_6 (dk_at dksX0_parish_9 7 rfl rfl)
theorem dX0_parish_221 : decode cX0_parish 221 = .ok (.if_icmp .ge 16, 3) := dk_162 0 16 (dk_at dksX0_parish_9 8 rfl rfl)
theorem dX0_parish_224 : decode cX0_parish 224 = .ok (.aload_n 0, 1) := dk_42 (dk_at dksX0_parish_9 11 rfl rfl)
theorem dX0_parish_225 : decode cX0_parish 225 = .ok (.getfield 70, 3) := dk_180 0 70 (dk_at dksX0_parish_9 12 rfl rfl)
theorem dX0_parish_228 : decode cX0_parish 228 = .ok (.iload_n 2, 1) := dk_28 (dk_at dksX0_parish_9 15 rfl rfl)
theorem dX0_parish_229 : decode cX0_parish 229 = .ok (.aconst_null, 1) := dk_1 (dk_at dksX0_parish_9 16 rfl rfl)
theorem dX0_parish_230 : decode cX0_parish 230 = .ok (.aastore, 1) := dk_83 (dk_at dksX0_parish_9 17 rfl rfl)
theorem dX0_parish_231 : decode cX0_parish 231 = .ok (.iinc 2 1, 3) := dk_132 2 1 (dk_at dksX0_parish_9 18 rfl rfl)
theorem dX0_parish_234 : decode cX0_parish 234 = .ok (.goto (-15), 3) := dk_167 255 241 (dk_at dksX0_parish_9 21 rfl rfl)
theorem dX0_parish_237 : decode cX0_parish 237 = .ok (.aload_n 0, 1) := dk_42 (dk_at dksX0_parish_10 0 rfl rfl)
theorem dX0_parish_238 : decode cX0_parish 238 = .ok (.getfield 169, 3) := dk_180 0 169 (dk_at dksX0_parish_10 1 rfl rfl)
theorem dX0_parish_241 : decode cX0_parish 241 = .ok (.ireturn, 1) := dk_172 (dk_at dksX0_parish_10 4 rfl rfl)
abbrev cX0_newRing : ByteArray := prog_1_method_17_code
def yX0_newRing : MethodName := ⟨RX0, "newRing", "(II)LCapCouncil$Ring;"⟩
def dkwX0_newRing_4 : List UInt8 := [187, 0, 38, 89, 27, 183, 0, 132, 176]
abbrev dktX0_newRing_4 : List UInt8 := dkwX0_newRing_4 ++ []
def dkwX0_newRing_3 : List UInt8 := [183, 0, 125, 176, 187, 0, 126, 89, 27, 183, 0, 128, 176, 187, 0, 129, 89, 27, 183, 0, 131, 176]
abbrev dktX0_newRing_3 : List UInt8 := dkwX0_newRing_3 ++ dktX0_newRing_4
def dkwX0_newRing_2 : List UInt8 := [187, 0, 115, 89, 27, 183, 0, 117, 176, 187, 0, 120, 89, 27, 183, 0, 122, 176, 187, 0, 123, 89, 27]
abbrev dktX0_newRing_2 : List UInt8 := dkwX0_newRing_2 ++ dktX0_newRing_3
def dkwX0_newRing_1 : List UInt8 := [170, 0, 0, 0, 0, 0, 80, 0, 0, 0, 1, 0, 0, 0, 5, 0, 0, 0, 35, 0, 0, 0, 44, 0, 0, 0, 53, 0, 0, 0, 62, 0, 0, 0, 71]
abbrev dktX0_newRing_1 : List UInt8 := dkwX0_newRing_1 ++ dktX0_newRing_2
def dkwX0_newRing_0 : List UInt8 := [26]
abbrev dktX0_newRing_0 : List UInt8 := dkwX0_newRing_0 ++ dktX0_newRing_1
theorem dksX0_newRing_0 : cX0_newRing.data.toList.drop 0 = dktX0_newRing_0 := by decide +kernel
theorem dksX0_newRing_1 : cX0_newRing.data.toList.drop 1 = dktX0_newRing_1 := dk_seg dksX0_newRing_0 1 rfl rfl
theorem dksX0_newRing_2 : cX0_newRing.data.toList.drop 36 = dktX0_newRing_2 := dk_seg dksX0_newRing_1 35 rfl rfl
theorem dksX0_newRing_3 : cX0_newRing.data.toList.drop 59 = dktX0_newRing_3 := dk_seg dksX0_newRing_2 23 rfl rfl
theorem dksX0_newRing_4 : cX0_newRing.data.toList.drop 81 = dktX0_newRing_4 := dk_seg dksX0_newRing_3 22 rfl rfl
theorem dX0_newRing_0 : decode cX0_newRing 0 = .ok (.iload_n 0, 1) := dk_26 (dk_at dksX0_newRing_0 0 rfl rfl)
theorem dX0_newRing_1 : decode cX0_newRing 1 = .ok (.tableswitch 80 1 5 #[35, 44, 53, 62, 71], 35) := by decide +kernel
theorem dX0_newRing_36 : decode cX0_newRing 36 = .ok (.new 115, 3) := dk_187 0 115 (dk_at dksX0_newRing_2 0 rfl rfl)
theorem dX0_newRing_39 : decode cX0_newRing 39 = .ok (.dup, 1) := dk_89 (dk_at dksX0_newRing_2 3 rfl rfl)
theorem dX0_newRing_40 : decode cX0_newRing 40 = .ok (.iload_n 1, 1) := dk_27 (dk_at dksX0_newRing_2 4 rfl rfl)
theorem dX0_newRing_41 : decode cX0_newRing 41 = .ok (.invokespecial 117, 3) := dk_183 0 117 (dk_at dksX0_newRing_2 5 rfl rfl)
theorem dX0_newRing_44 : decode cX0_newRing 44 = .ok (.areturn, 1) := dk_176 (dk_at dksX0_newRing_2 8 rfl rfl)
theorem dX0_newRing_45 : decode cX0_newRing 45 = .ok (.new 120, 3) := dk_187 0 120 (dk_at dksX0_newRing_2 9 rfl rfl)
theorem dX0_newRing_48 : decode cX0_newRing 48 = .ok (.dup, 1) := dk_89 (dk_at dksX0_newRing_2 12 rfl rfl)
theorem dX0_newRing_49 : decode cX0_newRing 49 = .ok (.iload_n 1, 1) := dk_27 (dk_at dksX0_newRing_2 13 rfl rfl)
theorem dX0_newRing_50 : decode cX0_newRing 50 = .ok (.invokespecial 122, 3) := dk_183 0 122 (dk_at dksX0_newRing_2 14 rfl rfl)
theorem dX0_newRing_53 : decode cX0_newRing 53 = .ok (.areturn, 1) := dk_176 (dk_at dksX0_newRing_2 17 rfl rfl)
theorem dX0_newRing_54 : decode cX0_newRing 54 = .ok (.new 123, 3) := dk_187 0 123 (dk_at dksX0_newRing_2 18 rfl rfl)
theorem dX0_newRing_57 : decode cX0_newRing 57 = .ok (.dup, 1) := dk_89 (dk_at dksX0_newRing_2 21 rfl rfl)
theorem dX0_newRing_58 : decode cX0_newRing 58 = .ok (.iload_n 1, 1) := dk_27 (dk_at dksX0_newRing_2 22 rfl rfl)
theorem dX0_newRing_59 : decode cX0_newRing 59 = .ok (.invokespecial 125, 3) := dk_183 0 125 (dk_at dksX0_newRing_3 0 rfl rfl)
theorem dX0_newRing_62 : decode cX0_newRing 62 = .ok (.areturn, 1) := dk_176 (dk_at dksX0_newRing_3 3 rfl rfl)
theorem dX0_newRing_63 : decode cX0_newRing 63 = .ok (.new 126, 3) := dk_187 0 126 (dk_at dksX0_newRing_3 4 rfl rfl)
theorem dX0_newRing_66 : decode cX0_newRing 66 = .ok (.dup, 1) := dk_89 (dk_at dksX0_newRing_3 7 rfl rfl)
theorem dX0_newRing_67 : decode cX0_newRing 67 = .ok (.iload_n 1, 1) := dk_27 (dk_at dksX0_newRing_3 8 rfl rfl)
theorem dX0_newRing_68 : decode cX0_newRing 68 = .ok (.invokespecial 128, 3) := dk_183 0 128 (dk_at dksX0_newRing_3 9 rfl rfl)
theorem dX0_newRing_71 : decode cX0_newRing 71 = .ok (.areturn, 1) := dk_176 (dk_at dksX0_newRing_3 12 rfl rfl)
theorem dX0_newRing_72 : decode cX0_newRing 72 = .ok (.new 129, 3) := dk_187 0 129 (dk_at dksX0_newRing_3 13 rfl rfl)
theorem dX0_newRing_75 : decode cX0_newRing 75 = .ok (.dup, 1) := dk_89 (dk_at dksX0_newRing_3 16 rfl rfl)
theorem dX0_newRing_76 : decode cX0_newRing 76 = .ok (.iload_n 1, 1) := dk_27 (dk_at dksX0_newRing_3 17 rfl rfl)
theorem dX0_newRing_77 : decode cX0_newRing 77 = .ok (.invokespecial 131, 3) := dk_183 0 131 (dk_at dksX0_newRing_3 18 rfl rfl)
theorem dX0_newRing_80 : decode cX0_newRing 80 = .ok (.areturn, 1) := dk_176 (dk_at dksX0_newRing_3 21 rfl rfl)
theorem dX0_newRing_81 : decode cX0_newRing 81 = .ok (.new 38, 3) := dk_187 0 38 (dk_at dksX0_newRing_4 0 rfl rfl)
theorem dX0_newRing_84 : decode cX0_newRing 84 = .ok (.dup, 1) := dk_89 (dk_at dksX0_newRing_4 3 rfl rfl)
theorem dX0_newRing_85 : decode cX0_newRing 85 = .ok (.iload_n 1, 1) := dk_27 (dk_at dksX0_newRing_4 4 rfl rfl)
theorem dX0_newRing_86 : decode cX0_newRing 86 = .ok (.invokespecial 132, 3) := dk_183 0 132 (dk_at dksX0_newRing_4 5 rfl rfl)
theorem dX0_newRing_89 : decode cX0_newRing 89 = .ok (.areturn, 1) := dk_176 (dk_at dksX0_newRing_4 8 rfl rfl)
abbrev cX0_ring : ByteArray := prog_1_method_42_code
def yX0_ring : MethodName := ⟨RX0, "ring", "(II)I"⟩
def dkwX0_ring_1 : List UInt8 := [182, 0, 231, 4, 182, 0, 95, 167, 0, 4, 2, 172]
abbrev dktX0_ring_1 : List UInt8 := dkwX0_ring_1 ++ []
def dkwX0_ring_0 : List UInt8 := [42, 27, 182, 0, 228, 153, 0, 27, 28, 3, 16, 6, 184, 0, 77, 153, 0, 17, 42, 42, 27, 28]
abbrev dktX0_ring_0 : List UInt8 := dkwX0_ring_0 ++ dktX0_ring_1
theorem dksX0_ring_0 : cX0_ring.data.toList.drop 0 = dktX0_ring_0 := by decide +kernel
theorem dksX0_ring_1 : cX0_ring.data.toList.drop 22 = dktX0_ring_1 := dk_seg dksX0_ring_0 22 rfl rfl
theorem dX0_ring_0 : decode cX0_ring 0 = .ok (.aload_n 0, 1) := dk_42 (dk_at dksX0_ring_0 0 rfl rfl)
theorem dX0_ring_1 : decode cX0_ring 1 = .ok (.iload_n 1, 1) := dk_27 (dk_at dksX0_ring_0 1 rfl rfl)
theorem dX0_ring_2 : decode cX0_ring 2 = .ok (.invokevirtual 228, 3) := dk_182 0 228 (dk_at dksX0_ring_0 2 rfl rfl)
theorem dX0_ring_5 : decode cX0_ring 5 = .ok (.ifCond .eq 27, 3) := dk_153 0 27 (dk_at dksX0_ring_0 5 rfl rfl)
theorem dX0_ring_8 : decode cX0_ring 8 = .ok (.iload_n 2, 1) := dk_28 (dk_at dksX0_ring_0 8 rfl rfl)
theorem dX0_ring_9 : decode cX0_ring 9 = .ok (.iconst 0, 1) := dk_3 (dk_at dksX0_ring_0 9 rfl rfl)
theorem dX0_ring_10 : decode cX0_ring 10 = .ok (.bipush 6, 2) := dk_16 6 (dk_at dksX0_ring_0 10 rfl rfl)
theorem dX0_ring_12 : decode cX0_ring 12 = .ok (.invokestatic 77, 3) := dk_184 0 77 (dk_at dksX0_ring_0 12 rfl rfl)
theorem dX0_ring_15 : decode cX0_ring 15 = .ok (.ifCond .eq 17, 3) := dk_153 0 17 (dk_at dksX0_ring_0 15 rfl rfl)
theorem dX0_ring_18 : decode cX0_ring 18 = .ok (.aload_n 0, 1) := dk_42 (dk_at dksX0_ring_0 18 rfl rfl)
theorem dX0_ring_19 : decode cX0_ring 19 = .ok (.aload_n 0, 1) := dk_42 (dk_at dksX0_ring_0 19 rfl rfl)
theorem dX0_ring_20 : decode cX0_ring 20 = .ok (.iload_n 1, 1) := dk_27 (dk_at dksX0_ring_0 20 rfl rfl)
theorem dX0_ring_21 : decode cX0_ring 21 = .ok (.iload_n 2, 1) := dk_28 (dk_at dksX0_ring_0 21 rfl rfl)
theorem dX0_ring_22 : decode cX0_ring 22 = .ok (.invokevirtual 231, 3) := dk_182 0 231 (dk_at dksX0_ring_1 0 rfl rfl)
theorem dX0_ring_25 : decode cX0_ring 25 = .ok (.iconst 1, 1) := dk_4 (dk_at dksX0_ring_1 3 rfl rfl)
theorem dX0_ring_26 : decode cX0_ring 26 = .ok (.invokevirtual 95, 3) := dk_182 0 95 (dk_at dksX0_ring_1 4 rfl rfl)
theorem dX0_ring_29 : decode cX0_ring 29 = .ok (.goto 4, 3) := dk_167 0 4 (dk_at dksX0_ring_1 7 rfl rfl)
theorem dX0_ring_32 : decode cX0_ring 32 = .ok (.iconst (-1), 1) := dk_2 (dk_at dksX0_ring_1 10 rfl rfl)
theorem dX0_ring_33 : decode cX0_ring 33 = .ok (.ireturn, 1) := dk_172 (dk_at dksX0_ring_1 11 rfl rfl)
abbrev cX0_isRing : ByteArray := prog_1_method_27_code
def yX0_isRing : MethodName := ⟨RX0, "isRing", "(I)Z"⟩
def dkwX0_isRing_0 : List UInt8 := [27, 3, 42, 180, 0, 169, 4, 100, 184, 0, 77, 172]
abbrev dktX0_isRing_0 : List UInt8 := dkwX0_isRing_0 ++ []
theorem dksX0_isRing_0 : cX0_isRing.data.toList.drop 0 = dktX0_isRing_0 := by decide +kernel
theorem dX0_isRing_0 : decode cX0_isRing 0 = .ok (.iload_n 1, 1) := dk_27 (dk_at dksX0_isRing_0 0 rfl rfl)
theorem dX0_isRing_1 : decode cX0_isRing 1 = .ok (.iconst 0, 1) := dk_3 (dk_at dksX0_isRing_0 1 rfl rfl)
theorem dX0_isRing_2 : decode cX0_isRing 2 = .ok (.aload_n 0, 1) := dk_42 (dk_at dksX0_isRing_0 2 rfl rfl)
theorem dX0_isRing_3 : decode cX0_isRing 3 = .ok (.getfield 169, 3) := dk_180 0 169 (dk_at dksX0_isRing_0 3 rfl rfl)
theorem dX0_isRing_6 : decode cX0_isRing 6 = .ok (.iconst 1, 1) := dk_4 (dk_at dksX0_isRing_0 6 rfl rfl)
theorem dX0_isRing_7 : decode cX0_isRing 7 = .ok (.isub, 1) := dk_100 (dk_at dksX0_isRing_0 7 rfl rfl)
theorem dX0_isRing_8 : decode cX0_isRing 8 = .ok (.invokestatic 77, 3) := dk_184 0 77 (dk_at dksX0_isRing_0 8 rfl rfl)
theorem dX0_isRing_11 : decode cX0_isRing 11 = .ok (.ireturn, 1) := dk_172 (dk_at dksX0_isRing_0 11 rfl rfl)
abbrev cX0_ringTells : ByteArray := prog_1_method_40_code
def yX0_ringTells : MethodName := ⟨RX0, "ringTells", "(II)I"⟩
def dkwX0_ringTells_4 : List UInt8 := [182, 0, 216, 172]
abbrev dktX0_ringTells_4 : List UInt8 := dkwX0_ringTells_4 ++ []
def dkwX0_ringTells_3 : List UInt8 := [42, 27, 182, 0, 225, 172, 42, 180, 0, 182, 27, 122, 4, 126, 172, 42, 27, 182, 0, 213, 172, 42, 27]
abbrev dktX0_ringTells_3 : List UInt8 := dkwX0_ringTells_3 ++ dktX0_ringTells_4
def dkwX0_ringTells_2 : List UInt8 := [42, 180, 0, 44, 27, 50, 182, 0, 222, 172, 42, 180, 0, 47, 27, 46, 172, 42, 180, 0, 50, 27, 46, 172]
abbrev dktX0_ringTells_2 : List UInt8 := dkwX0_ringTells_2 ++ dktX0_ringTells_3
def dkwX0_ringTells_1 : List UInt8 := [170, 0, 0, 0, 0, 0, 84, 0, 0, 0, 0, 0, 0, 0, 5, 0, 0, 0, 39, 0, 0, 0, 49, 0, 0, 0, 56, 0, 0, 0, 63, 0, 0, 0, 69, 0, 0, 0, 78]
abbrev dktX0_ringTells_1 : List UInt8 := dkwX0_ringTells_1 ++ dktX0_ringTells_2
def dkwX0_ringTells_0 : List UInt8 := [28]
abbrev dktX0_ringTells_0 : List UInt8 := dkwX0_ringTells_0 ++ dktX0_ringTells_1
theorem dksX0_ringTells_0 : cX0_ringTells.data.toList.drop 0 = dktX0_ringTells_0 := by decide +kernel
theorem dksX0_ringTells_1 : cX0_ringTells.data.toList.drop 1 = dktX0_ringTells_1 := dk_seg dksX0_ringTells_0 1 rfl rfl
theorem dksX0_ringTells_2 : cX0_ringTells.data.toList.drop 40 = dktX0_ringTells_2 := dk_seg dksX0_ringTells_1 39 rfl rfl
theorem dksX0_ringTells_3 : cX0_ringTells.data.toList.drop 64 = dktX0_ringTells_3 := dk_seg dksX0_ringTells_2 24 rfl rfl
theorem dksX0_ringTells_4 : cX0_ringTells.data.toList.drop 87 = dktX0_ringTells_4 := dk_seg dksX0_ringTells_3 23 rfl rfl
theorem dX0_ringTells_0 : decode cX0_ringTells 0 = .ok (.iload_n 2, 1) := dk_28 (dk_at dksX0_ringTells_0 0 rfl rfl)
theorem dX0_ringTells_1 : decode cX0_ringTells 1 = .ok (.tableswitch 84 0 5 #[39, 49, 56, 63, 69, 78], 39) := by decide +kernel
theorem dX0_ringTells_40 : decode cX0_ringTells 40 = .ok (.aload_n 0, 1) := dk_42 (dk_at dksX0_ringTells_2 0 rfl rfl)
theorem dX0_ringTells_41 : decode cX0_ringTells 41 = .ok (.getfield 44, 3) := dk_180 0 44 (dk_at dksX0_ringTells_2 1 rfl rfl)
theorem dX0_ringTells_44 : decode cX0_ringTells 44 = .ok (.iload_n 1, 1) := dk_27 (dk_at dksX0_ringTells_2 4 rfl rfl)
theorem dX0_ringTells_45 : decode cX0_ringTells 45 = .ok (.aaload, 1) := dk_50 (dk_at dksX0_ringTells_2 5 rfl rfl)
theorem dX0_ringTells_46 : decode cX0_ringTells 46 = .ok (.invokevirtual 222, 3) := dk_182 0 222 (dk_at dksX0_ringTells_2 6 rfl rfl)
theorem dX0_ringTells_49 : decode cX0_ringTells 49 = .ok (.ireturn, 1) := dk_172 (dk_at dksX0_ringTells_2 9 rfl rfl)
theorem dX0_ringTells_50 : decode cX0_ringTells 50 = .ok (.aload_n 0, 1) := dk_42 (dk_at dksX0_ringTells_2 10 rfl rfl)
theorem dX0_ringTells_51 : decode cX0_ringTells 51 = .ok (.getfield 47, 3) := dk_180 0 47 (dk_at dksX0_ringTells_2 11 rfl rfl)
theorem dX0_ringTells_54 : decode cX0_ringTells 54 = .ok (.iload_n 1, 1) := dk_27 (dk_at dksX0_ringTells_2 14 rfl rfl)
theorem dX0_ringTells_55 : decode cX0_ringTells 55 = .ok (.iaload, 1) := dk_46 (dk_at dksX0_ringTells_2 15 rfl rfl)
theorem dX0_ringTells_56 : decode cX0_ringTells 56 = .ok (.ireturn, 1) := dk_172 (dk_at dksX0_ringTells_2 16 rfl rfl)
theorem dX0_ringTells_57 : decode cX0_ringTells 57 = .ok (.aload_n 0, 1) := dk_42 (dk_at dksX0_ringTells_2 17 rfl rfl)
theorem dX0_ringTells_58 : decode cX0_ringTells 58 = .ok (.getfield 50, 3) := dk_180 0 50 (dk_at dksX0_ringTells_2 18 rfl rfl)
theorem dX0_ringTells_61 : decode cX0_ringTells 61 = .ok (.iload_n 1, 1) := dk_27 (dk_at dksX0_ringTells_2 21 rfl rfl)
theorem dX0_ringTells_62 : decode cX0_ringTells 62 = .ok (.iaload, 1) := dk_46 (dk_at dksX0_ringTells_2 22 rfl rfl)
theorem dX0_ringTells_63 : decode cX0_ringTells 63 = .ok (.ireturn, 1) := dk_172 (dk_at dksX0_ringTells_2 23 rfl rfl)
theorem dX0_ringTells_64 : decode cX0_ringTells 64 = .ok (.aload_n 0, 1) := dk_42 (dk_at dksX0_ringTells_3 0 rfl rfl)
theorem dX0_ringTells_65 : decode cX0_ringTells 65 = .ok (.iload_n 1, 1) := dk_27 (dk_at dksX0_ringTells_3 1 rfl rfl)
theorem dX0_ringTells_66 : decode cX0_ringTells 66 = .ok (.invokevirtual 225, 3) := dk_182 0 225 (dk_at dksX0_ringTells_3 2 rfl rfl)
theorem dX0_ringTells_69 : decode cX0_ringTells 69 = .ok (.ireturn, 1) := dk_172 (dk_at dksX0_ringTells_3 5 rfl rfl)
theorem dX0_ringTells_70 : decode cX0_ringTells 70 = .ok (.aload_n 0, 1) := dk_42 (dk_at dksX0_ringTells_3 6 rfl rfl)
theorem dX0_ringTells_71 : decode cX0_ringTells 71 = .ok (.getfield 182, 3) := dk_180 0 182 (dk_at dksX0_ringTells_3 7 rfl rfl)
theorem dX0_ringTells_74 : decode cX0_ringTells 74 = .ok (.iload_n 1, 1) := dk_27 (dk_at dksX0_ringTells_3 10 rfl rfl)
theorem dX0_ringTells_75 : decode cX0_ringTells 75 = .ok (.ishr, 1) := dk_122 (dk_at dksX0_ringTells_3 11 rfl rfl)
theorem dX0_ringTells_76 : decode cX0_ringTells 76 = .ok (.iconst 1, 1) := dk_4 (dk_at dksX0_ringTells_3 12 rfl rfl)
theorem dX0_ringTells_77 : decode cX0_ringTells 77 = .ok (.iand, 1) := dk_126 (dk_at dksX0_ringTells_3 13 rfl rfl)
theorem dX0_ringTells_78 : decode cX0_ringTells 78 = .ok (.ireturn, 1) := dk_172 (dk_at dksX0_ringTells_3 14 rfl rfl)
theorem dX0_ringTells_79 : decode cX0_ringTells 79 = .ok (.aload_n 0, 1) := dk_42 (dk_at dksX0_ringTells_3 15 rfl rfl)
theorem dX0_ringTells_80 : decode cX0_ringTells 80 = .ok (.iload_n 1, 1) := dk_27 (dk_at dksX0_ringTells_3 16 rfl rfl)
theorem dX0_ringTells_81 : decode cX0_ringTells 81 = .ok (.invokevirtual 213, 3) := dk_182 0 213 (dk_at dksX0_ringTells_3 17 rfl rfl)
theorem dX0_ringTells_84 : decode cX0_ringTells 84 = .ok (.ireturn, 1) := dk_172 (dk_at dksX0_ringTells_3 20 rfl rfl)
theorem dX0_ringTells_85 : decode cX0_ringTells 85 = .ok (.aload_n 0, 1) := dk_42 (dk_at dksX0_ringTells_3 21 rfl rfl)
theorem dX0_ringTells_86 : decode cX0_ringTells 86 = .ok (.iload_n 1, 1) := dk_27 (dk_at dksX0_ringTells_3 22 rfl rfl)
theorem dX0_ringTells_87 : decode cX0_ringTells 87 = .ok (.invokevirtual 216, 3) := dk_182 0 216 (dk_at dksX0_ringTells_4 0 rfl rfl)
theorem dX0_ringTells_90 : decode cX0_ringTells 90 = .ok (.ireturn, 1) := dk_172 (dk_at dksX0_ringTells_4 3 rfl rfl)
abbrev cX0_reach : ByteArray := prog_1_method_39_code
def yX0_reach : MethodName := ⟨RX0, "reach", "(I)I"⟩
def dkwX0_reach_0 : List UInt8 := [16, 18, 42, 180, 0, 50, 27, 46, 42, 180, 0, 179, 96, 184, 0, 193, 172]
abbrev dktX0_reach_0 : List UInt8 := dkwX0_reach_0 ++ []
theorem dksX0_reach_0 : cX0_reach.data.toList.drop 0 = dktX0_reach_0 := by decide +kernel
theorem dX0_reach_0 : decode cX0_reach 0 = .ok (.bipush 18, 2) := dk_16 18 (dk_at dksX0_reach_0 0 rfl rfl)
theorem dX0_reach_2 : decode cX0_reach 2 = .ok (.aload_n 0, 1) := dk_42 (dk_at dksX0_reach_0 2 rfl rfl)
theorem dX0_reach_3 : decode cX0_reach 3 = .ok (.getfield 50, 3) := dk_180 0 50 (dk_at dksX0_reach_0 3 rfl rfl)
theorem dX0_reach_6 : decode cX0_reach 6 = .ok (.iload_n 1, 1) := dk_27 (dk_at dksX0_reach_0 6 rfl rfl)
theorem dX0_reach_7 : decode cX0_reach 7 = .ok (.iaload, 1) := dk_46 (dk_at dksX0_reach_0 7 rfl rfl)
theorem dX0_reach_8 : decode cX0_reach 8 = .ok (.aload_n 0, 1) := dk_42 (dk_at dksX0_reach_0 8 rfl rfl)
theorem dX0_reach_9 : decode cX0_reach 9 = .ok (.getfield 179, 3) := dk_180 0 179 (dk_at dksX0_reach_0 9 rfl rfl)
theorem dX0_reach_12 : decode cX0_reach 12 = .ok (.iadd, 1) := dk_96 (dk_at dksX0_reach_0 12 rfl rfl)
theorem dX0_reach_13 : decode cX0_reach 13 = .ok (.invokestatic 193, 3) := dk_184 0 193 (dk_at dksX0_reach_0 13 rfl rfl)
theorem dX0_reach_16 : decode cX0_reach 16 = .ok (.ireturn, 1) := dk_172 (dk_at dksX0_reach_0 16 rfl rfl)
abbrev cX0_bedsIn : ByteArray := prog_1_method_35_code
def yX0_bedsIn : MethodName := ⟨RX0, "bedsIn", "(I)I"⟩
def dkwX0_bedsIn_2 : List UInt8 := [3, 128, 61, 132, 3, 1, 167, 255, 206, 28, 172]
abbrev dktX0_bedsIn_2 : List UInt8 := dkwX0_bedsIn_2 ++ []
def dkwX0_bedsIn_1 : List UInt8 := [42, 27, 42, 180, 0, 59, 29, 46, 42, 180, 0, 179, 182, 0, 207, 153, 0, 9, 4, 29, 120, 167, 0, 4]
abbrev dktX0_bedsIn_1 : List UInt8 := dkwX0_bedsIn_1 ++ dktX0_bedsIn_2
def dkwX0_bedsIn_0 : List UInt8 := [3, 61, 3, 62, 29, 42, 180, 0, 172, 162, 0, 48, 28, 42, 180, 0, 182, 27, 184, 0, 204, 153, 0, 27]
abbrev dktX0_bedsIn_0 : List UInt8 := dkwX0_bedsIn_0 ++ dktX0_bedsIn_1
theorem dksX0_bedsIn_0 : cX0_bedsIn.data.toList.drop 0 = dktX0_bedsIn_0 := by decide +kernel
theorem dksX0_bedsIn_1 : cX0_bedsIn.data.toList.drop 24 = dktX0_bedsIn_1 := dk_seg dksX0_bedsIn_0 24 rfl rfl
theorem dksX0_bedsIn_2 : cX0_bedsIn.data.toList.drop 48 = dktX0_bedsIn_2 := dk_seg dksX0_bedsIn_1 24 rfl rfl
theorem dX0_bedsIn_0 : decode cX0_bedsIn 0 = .ok (.iconst 0, 1) := dk_3 (dk_at dksX0_bedsIn_0 0 rfl rfl)
theorem dX0_bedsIn_1 : decode cX0_bedsIn 1 = .ok (.istore_n 2, 1) := dk_61 (dk_at dksX0_bedsIn_0 1 rfl rfl)
theorem dX0_bedsIn_2 : decode cX0_bedsIn 2 = .ok (.iconst 0, 1) := dk_3 (dk_at dksX0_bedsIn_0 2 rfl rfl)
theorem dX0_bedsIn_3 : decode cX0_bedsIn 3 = .ok (.istore_n 3, 1) := dk_62 (dk_at dksX0_bedsIn_0 3 rfl rfl)
theorem dX0_bedsIn_4 : decode cX0_bedsIn 4 = .ok (.iload_n 3, 1) := dk_29 (dk_at dksX0_bedsIn_0 4 rfl rfl)
theorem dX0_bedsIn_5 : decode cX0_bedsIn 5 = .ok (.aload_n 0, 1) := dk_42 (dk_at dksX0_bedsIn_0 5 rfl rfl)
theorem dX0_bedsIn_6 : decode cX0_bedsIn 6 = .ok (.getfield 172, 3) := dk_180 0 172 (dk_at dksX0_bedsIn_0 6 rfl rfl)
theorem dX0_bedsIn_9 : decode cX0_bedsIn 9 = .ok (.if_icmp .ge 48, 3) := dk_162 0 48 (dk_at dksX0_bedsIn_0 9 rfl rfl)
theorem dX0_bedsIn_12 : decode cX0_bedsIn 12 = .ok (.iload_n 2, 1) := dk_28 (dk_at dksX0_bedsIn_0 12 rfl rfl)
theorem dX0_bedsIn_13 : decode cX0_bedsIn 13 = .ok (.aload_n 0, 1) := dk_42 (dk_at dksX0_bedsIn_0 13 rfl rfl)
theorem dX0_bedsIn_14 : decode cX0_bedsIn 14 = .ok (.getfield 182, 3) := dk_180 0 182 (dk_at dksX0_bedsIn_0 14 rfl rfl)
theorem dX0_bedsIn_17 : decode cX0_bedsIn 17 = .ok (.iload_n 1, 1) := dk_27 (dk_at dksX0_bedsIn_0 17 rfl rfl)
theorem dX0_bedsIn_18 : decode cX0_bedsIn 18 = .ok (.invokestatic 204, 3) := dk_184 0 204 (dk_at dksX0_bedsIn_0 18 rfl rfl)
theorem dX0_bedsIn_21 : decode cX0_bedsIn 21 = .ok (.ifCond .eq 27, 3) := dk_153 0 27 (dk_at dksX0_bedsIn_0 21 rfl rfl)
theorem dX0_bedsIn_24 : decode cX0_bedsIn 24 = .ok (.aload_n 0, 1) := dk_42 (dk_at dksX0_bedsIn_1 0 rfl rfl)
theorem dX0_bedsIn_25 : decode cX0_bedsIn 25 = .ok (.iload_n 1, 1) := dk_27 (dk_at dksX0_bedsIn_1 1 rfl rfl)
theorem dX0_bedsIn_26 : decode cX0_bedsIn 26 = .ok (.aload_n 0, 1) := dk_42 (dk_at dksX0_bedsIn_1 2 rfl rfl)
theorem dX0_bedsIn_27 : decode cX0_bedsIn 27 = .ok (.getfield 59, 3) := dk_180 0 59 (dk_at dksX0_bedsIn_1 3 rfl rfl)
theorem dX0_bedsIn_30 : decode cX0_bedsIn 30 = .ok (.iload_n 3, 1) := dk_29 (dk_at dksX0_bedsIn_1 6 rfl rfl)
theorem dX0_bedsIn_31 : decode cX0_bedsIn 31 = .ok (.iaload, 1) := dk_46 (dk_at dksX0_bedsIn_1 7 rfl rfl)
theorem dX0_bedsIn_32 : decode cX0_bedsIn 32 = .ok (.aload_n 0, 1) := dk_42 (dk_at dksX0_bedsIn_1 8 rfl rfl)
theorem dX0_bedsIn_33 : decode cX0_bedsIn 33 = .ok (.getfield 179, 3) := dk_180 0 179 (dk_at dksX0_bedsIn_1 9 rfl rfl)
theorem dX0_bedsIn_36 : decode cX0_bedsIn 36 = .ok (.invokevirtual 207, 3) := dk_182 0 207 (dk_at dksX0_bedsIn_1 12 rfl rfl)
theorem dX0_bedsIn_39 : decode cX0_bedsIn 39 = .ok (.ifCond .eq 9, 3) := dk_153 0 9 (dk_at dksX0_bedsIn_1 15 rfl rfl)
theorem dX0_bedsIn_42 : decode cX0_bedsIn 42 = .ok (.iconst 1, 1) := dk_4 (dk_at dksX0_bedsIn_1 18 rfl rfl)
theorem dX0_bedsIn_43 : decode cX0_bedsIn 43 = .ok (.iload_n 3, 1) := dk_29 (dk_at dksX0_bedsIn_1 19 rfl rfl)
theorem dX0_bedsIn_44 : decode cX0_bedsIn 44 = .ok (.ishl, 1) := dk_120 (dk_at dksX0_bedsIn_1 20 rfl rfl)
theorem dX0_bedsIn_45 : decode cX0_bedsIn 45 = .ok (.goto 4, 3) := dk_167 0 4 (dk_at dksX0_bedsIn_1 21 rfl rfl)
theorem dX0_bedsIn_48 : decode cX0_bedsIn 48 = .ok (.iconst 0, 1) := dk_3 (dk_at dksX0_bedsIn_2 0 rfl rfl)
theorem dX0_bedsIn_49 : decode cX0_bedsIn 49 = .ok (.ior, 1) := dk_128 (dk_at dksX0_bedsIn_2 1 rfl rfl)
theorem dX0_bedsIn_50 : decode cX0_bedsIn 50 = .ok (.istore_n 2, 1) := dk_61 (dk_at dksX0_bedsIn_2 2 rfl rfl)
theorem dX0_bedsIn_51 : decode cX0_bedsIn 51 = .ok (.iinc 3 1, 3) := dk_132 3 1 (dk_at dksX0_bedsIn_2 3 rfl rfl)
theorem dX0_bedsIn_54 : decode cX0_bedsIn 54 = .ok (.goto (-50), 3) := dk_167 255 206 (dk_at dksX0_bedsIn_2 6 rfl rfl)
theorem dX0_bedsIn_57 : decode cX0_bedsIn 57 = .ok (.iload_n 2, 1) := dk_28 (dk_at dksX0_bedsIn_2 9 rfl rfl)
theorem dX0_bedsIn_58 : decode cX0_bedsIn 58 = .ok (.ireturn, 1) := dk_172 (dk_at dksX0_bedsIn_2 10 rfl rfl)
abbrev cX0_has : ByteArray := prog_1_method_2_code
def yX0_has : MethodName := ⟨RX0, "has", "(II)Z"⟩
def dkwX0_has_0 : List UInt8 := [26, 27, 122, 4, 126, 4, 160, 0, 7, 4, 167, 0, 4, 3, 172]
abbrev dktX0_has_0 : List UInt8 := dkwX0_has_0 ++ []
theorem dksX0_has_0 : cX0_has.data.toList.drop 0 = dktX0_has_0 := by decide +kernel
theorem dX0_has_0 : decode cX0_has 0 = .ok (.iload_n 0, 1) := dk_26 (dk_at dksX0_has_0 0 rfl rfl)
theorem dX0_has_1 : decode cX0_has 1 = .ok (.iload_n 1, 1) := dk_27 (dk_at dksX0_has_0 1 rfl rfl)
theorem dX0_has_2 : decode cX0_has 2 = .ok (.ishr, 1) := dk_122 (dk_at dksX0_has_0 2 rfl rfl)
theorem dX0_has_3 : decode cX0_has 3 = .ok (.iconst 1, 1) := dk_4 (dk_at dksX0_has_0 3 rfl rfl)
theorem dX0_has_4 : decode cX0_has 4 = .ok (.iand, 1) := dk_126 (dk_at dksX0_has_0 4 rfl rfl)
theorem dX0_has_5 : decode cX0_has 5 = .ok (.iconst 1, 1) := dk_4 (dk_at dksX0_has_0 5 rfl rfl)
theorem dX0_has_6 : decode cX0_has 6 = .ok (.if_icmp .ne 7, 3) := dk_160 0 7 (dk_at dksX0_has_0 6 rfl rfl)
theorem dX0_has_9 : decode cX0_has 9 = .ok (.iconst 1, 1) := dk_4 (dk_at dksX0_has_0 9 rfl rfl)
theorem dX0_has_10 : decode cX0_has 10 = .ok (.goto 4, 3) := dk_167 0 4 (dk_at dksX0_has_0 10 rfl rfl)
theorem dX0_has_13 : decode cX0_has 13 = .ok (.iconst 0, 1) := dk_3 (dk_at dksX0_has_0 13 rfl rfl)
theorem dX0_has_14 : decode cX0_has 14 = .ok (.ireturn, 1) := dk_172 (dk_at dksX0_has_0 14 rfl rfl)
abbrev cX0_isWithin : ByteArray := prog_1_method_33_code
def yX0_isWithin : MethodName := ⟨RX0, "isWithin", "(III)Z"⟩
def dkwX0_isWithin_0 : List UInt8 := [42, 180, 0, 44, 27, 50, 42, 180, 0, 47, 27, 46, 42, 180, 0, 50, 27, 46, 28, 29, 184, 0, 200, 172]
abbrev dktX0_isWithin_0 : List UInt8 := dkwX0_isWithin_0 ++ []
theorem dksX0_isWithin_0 : cX0_isWithin.data.toList.drop 0 = dktX0_isWithin_0 := by decide +kernel
theorem dX0_isWithin_0 : decode cX0_isWithin 0 = .ok (.aload_n 0, 1) := dk_42 (dk_at dksX0_isWithin_0 0 rfl rfl)
theorem dX0_isWithin_1 : decode cX0_isWithin 1 = .ok (.getfield 44, 3) := dk_180 0 44 (dk_at dksX0_isWithin_0 1 rfl rfl)
theorem dX0_isWithin_4 : decode cX0_isWithin 4 = .ok (.iload_n 1, 1) := dk_27 (dk_at dksX0_isWithin_0 4 rfl rfl)
theorem dX0_isWithin_5 : decode cX0_isWithin 5 = .ok (.aaload, 1) := dk_50 (dk_at dksX0_isWithin_0 5 rfl rfl)
theorem dX0_isWithin_6 : decode cX0_isWithin 6 = .ok (.aload_n 0, 1) := dk_42 (dk_at dksX0_isWithin_0 6 rfl rfl)
theorem dX0_isWithin_7 : decode cX0_isWithin 7 = .ok (.getfield 47, 3) := dk_180 0 47 (dk_at dksX0_isWithin_0 7 rfl rfl)
theorem dX0_isWithin_10 : decode cX0_isWithin 10 = .ok (.iload_n 1, 1) := dk_27 (dk_at dksX0_isWithin_0 10 rfl rfl)
theorem dX0_isWithin_11 : decode cX0_isWithin 11 = .ok (.iaload, 1) := dk_46 (dk_at dksX0_isWithin_0 11 rfl rfl)
theorem dX0_isWithin_12 : decode cX0_isWithin 12 = .ok (.aload_n 0, 1) := dk_42 (dk_at dksX0_isWithin_0 12 rfl rfl)
theorem dX0_isWithin_13 : decode cX0_isWithin 13 = .ok (.getfield 50, 3) := dk_180 0 50 (dk_at dksX0_isWithin_0 13 rfl rfl)
theorem dX0_isWithin_16 : decode cX0_isWithin 16 = .ok (.iload_n 1, 1) := dk_27 (dk_at dksX0_isWithin_0 16 rfl rfl)
theorem dX0_isWithin_17 : decode cX0_isWithin 17 = .ok (.iaload, 1) := dk_46 (dk_at dksX0_isWithin_0 17 rfl rfl)
theorem dX0_isWithin_18 : decode cX0_isWithin 18 = .ok (.iload_n 2, 1) := dk_28 (dk_at dksX0_isWithin_0 18 rfl rfl)
theorem dX0_isWithin_19 : decode cX0_isWithin 19 = .ok (.iload_n 3, 1) := dk_29 (dk_at dksX0_isWithin_0 19 rfl rfl)
theorem dX0_isWithin_20 : decode cX0_isWithin 20 = .ok (.invokestatic 200, 3) := dk_184 0 200 (dk_at dksX0_isWithin_0 20 rfl rfl)
theorem dX0_isWithin_23 : decode cX0_isWithin 23 = .ok (.ireturn, 1) := dk_172 (dk_at dksX0_isWithin_0 23 rfl rfl)
abbrev cX0_holdsBy : ByteArray := prog_1_method_31_code
def yX0_holdsBy : MethodName := ⟨RX0, "holdsBy", "(LCapCouncil$Ring;IIII)Z"⟩
def dkwX0_holdsBy_1 : List UInt8 := [21, 4, 182, 0, 196, 172]
abbrev dktX0_holdsBy_1 : List UInt8 := dkwX0_holdsBy_1 ++ []
def dkwX0_holdsBy_0 : List UInt8 := [42, 29, 27, 184, 0, 190, 29, 16, 10, 112, 27, 16, 10, 112, 100, 16, 18, 28, 21, 4, 96, 184, 0, 193]
abbrev dktX0_holdsBy_0 : List UInt8 := dkwX0_holdsBy_0 ++ dktX0_holdsBy_1
theorem dksX0_holdsBy_0 : cX0_holdsBy.data.toList.drop 0 = dktX0_holdsBy_0 := by decide +kernel
theorem dksX0_holdsBy_1 : cX0_holdsBy.data.toList.drop 24 = dktX0_holdsBy_1 := dk_seg dksX0_holdsBy_0 24 rfl rfl
theorem dX0_holdsBy_0 : decode cX0_holdsBy 0 = .ok (.aload_n 0, 1) := dk_42 (dk_at dksX0_holdsBy_0 0 rfl rfl)
theorem dX0_holdsBy_1 : decode cX0_holdsBy 1 = .ok (.iload_n 3, 1) := dk_29 (dk_at dksX0_holdsBy_0 1 rfl rfl)
theorem dX0_holdsBy_2 : decode cX0_holdsBy 2 = .ok (.iload_n 1, 1) := dk_27 (dk_at dksX0_holdsBy_0 2 rfl rfl)
theorem dX0_holdsBy_3 : decode cX0_holdsBy 3 = .ok (.invokestatic 190, 3) := dk_184 0 190 (dk_at dksX0_holdsBy_0 3 rfl rfl)
theorem dX0_holdsBy_6 : decode cX0_holdsBy 6 = .ok (.iload_n 3, 1) := dk_29 (dk_at dksX0_holdsBy_0 6 rfl rfl)
theorem dX0_holdsBy_7 : decode cX0_holdsBy 7 = .ok (.bipush 10, 2) := dk_16 10 (dk_at dksX0_holdsBy_0 7 rfl rfl)
theorem dX0_holdsBy_9 : decode cX0_holdsBy 9 = .ok (.irem, 1) := dk_112 (dk_at dksX0_holdsBy_0 9 rfl rfl)
theorem dX0_holdsBy_10 : decode cX0_holdsBy 10 = .ok (.iload_n 1, 1) := dk_27 (dk_at dksX0_holdsBy_0 10 rfl rfl)
theorem dX0_holdsBy_11 : decode cX0_holdsBy 11 = .ok (.bipush 10, 2) := dk_16 10 (dk_at dksX0_holdsBy_0 11 rfl rfl)
theorem dX0_holdsBy_13 : decode cX0_holdsBy 13 = .ok (.irem, 1) := dk_112 (dk_at dksX0_holdsBy_0 13 rfl rfl)
theorem dX0_holdsBy_14 : decode cX0_holdsBy 14 = .ok (.isub, 1) := dk_100 (dk_at dksX0_holdsBy_0 14 rfl rfl)
theorem dX0_holdsBy_15 : decode cX0_holdsBy 15 = .ok (.bipush 18, 2) := dk_16 18 (dk_at dksX0_holdsBy_0 15 rfl rfl)
theorem dX0_holdsBy_17 : decode cX0_holdsBy 17 = .ok (.iload_n 2, 1) := dk_28 (dk_at dksX0_holdsBy_0 17 rfl rfl)
theorem dX0_holdsBy_18 : decode cX0_holdsBy 18 = .ok (.iload 4, 2) := dk_21 4 (dk_at dksX0_holdsBy_0 18 rfl rfl)
theorem dX0_holdsBy_20 : decode cX0_holdsBy 20 = .ok (.iadd, 1) := dk_96 (dk_at dksX0_holdsBy_0 20 rfl rfl)
theorem dX0_holdsBy_21 : decode cX0_holdsBy 21 = .ok (.invokestatic 193, 3) := dk_184 0 193 (dk_at dksX0_holdsBy_0 21 rfl rfl)
theorem dX0_holdsBy_24 : decode cX0_holdsBy 24 = .ok (.iload 4, 2) := dk_21 4 (dk_at dksX0_holdsBy_1 0 rfl rfl)
theorem dX0_holdsBy_26 : decode cX0_holdsBy 26 = .ok (.invokevirtual 196, 3) := dk_182 0 196 (dk_at dksX0_holdsBy_1 2 rfl rfl)
theorem dX0_holdsBy_29 : decode cX0_holdsBy 29 = .ok (.ireturn, 1) := dk_172 (dk_at dksX0_holdsBy_1 5 rfl rfl)
abbrev cX0_apart : ByteArray := prog_1_method_30_code
def yX0_apart : MethodName := ⟨RX0, "apart", "(II)I"⟩
def dkwX0_apart_1 : List UInt8 := [96, 172]
abbrev dktX0_apart_1 : List UInt8 := dkwX0_apart_1 ++ []
def dkwX0_apart_0 : List UInt8 := [26, 16, 10, 108, 27, 16, 10, 108, 100, 184, 0, 185, 26, 16, 10, 112, 27, 16, 10, 112, 100, 184, 0, 185]
abbrev dktX0_apart_0 : List UInt8 := dkwX0_apart_0 ++ dktX0_apart_1
theorem dksX0_apart_0 : cX0_apart.data.toList.drop 0 = dktX0_apart_0 := by decide +kernel
theorem dksX0_apart_1 : cX0_apart.data.toList.drop 24 = dktX0_apart_1 := dk_seg dksX0_apart_0 24 rfl rfl
theorem dX0_apart_0 : decode cX0_apart 0 = .ok (.iload_n 0, 1) := dk_26 (dk_at dksX0_apart_0 0 rfl rfl)
theorem dX0_apart_1 : decode cX0_apart 1 = .ok (.bipush 10, 2) := dk_16 10 (dk_at dksX0_apart_0 1 rfl rfl)
theorem dX0_apart_3 : decode cX0_apart 3 = .ok (.idiv, 1) := dk_108 (dk_at dksX0_apart_0 3 rfl rfl)
theorem dX0_apart_4 : decode cX0_apart 4 = .ok (.iload_n 1, 1) := dk_27 (dk_at dksX0_apart_0 4 rfl rfl)
theorem dX0_apart_5 : decode cX0_apart 5 = .ok (.bipush 10, 2) := dk_16 10 (dk_at dksX0_apart_0 5 rfl rfl)
theorem dX0_apart_7 : decode cX0_apart 7 = .ok (.idiv, 1) := dk_108 (dk_at dksX0_apart_0 7 rfl rfl)
theorem dX0_apart_8 : decode cX0_apart 8 = .ok (.isub, 1) := dk_100 (dk_at dksX0_apart_0 8 rfl rfl)
theorem dX0_apart_9 : decode cX0_apart 9 = .ok (.invokestatic 185, 3) := dk_184 0 185 (dk_at dksX0_apart_0 9 rfl rfl)
theorem dX0_apart_12 : decode cX0_apart 12 = .ok (.iload_n 0, 1) := dk_26 (dk_at dksX0_apart_0 12 rfl rfl)
theorem dX0_apart_13 : decode cX0_apart 13 = .ok (.bipush 10, 2) := dk_16 10 (dk_at dksX0_apart_0 13 rfl rfl)
theorem dX0_apart_15 : decode cX0_apart 15 = .ok (.irem, 1) := dk_112 (dk_at dksX0_apart_0 15 rfl rfl)
theorem dX0_apart_16 : decode cX0_apart 16 = .ok (.iload_n 1, 1) := dk_27 (dk_at dksX0_apart_0 16 rfl rfl)
theorem dX0_apart_17 : decode cX0_apart 17 = .ok (.bipush 10, 2) := dk_16 10 (dk_at dksX0_apart_0 17 rfl rfl)
theorem dX0_apart_19 : decode cX0_apart 19 = .ok (.irem, 1) := dk_112 (dk_at dksX0_apart_0 19 rfl rfl)
theorem dX0_apart_20 : decode cX0_apart 20 = .ok (.isub, 1) := dk_100 (dk_at dksX0_apart_0 20 rfl rfl)
theorem dX0_apart_21 : decode cX0_apart 21 = .ok (.invokestatic 185, 3) := dk_184 0 185 (dk_at dksX0_apart_0 21 rfl rfl)
theorem dX0_apart_24 : decode cX0_apart 24 = .ok (.iadd, 1) := dk_96 (dk_at dksX0_apart_1 0 rfl rfl)
theorem dX0_apart_25 : decode cX0_apart 25 = .ok (.ireturn, 1) := dk_172 (dk_at dksX0_apart_1 1 rfl rfl)
abbrev cX0_decides : ByteArray := prog_1_method_37_code
def yX0_decides : MethodName := ⟨RX0, "decides", "(I)I"⟩
def dkwX0_decides_2 : List UInt8 := [167, 255, 221, 28, 154, 0, 8, 16, 247, 167, 0, 7, 29, 16, 10, 112, 172]
abbrev dktX0_decides_2 : List UInt8 := dkwX0_decides_2 ++ []
def dkwX0_decides_1 : List UInt8 := [184, 0, 204, 153, 0, 13, 42, 180, 0, 62, 21, 4, 46, 167, 0, 4, 3, 96, 62, 132, 4, 1]
abbrev dktX0_decides_1 : List UInt8 := dkwX0_decides_1 ++ dktX0_decides_2
def dkwX0_decides_0 : List UInt8 := [42, 27, 182, 0, 213, 61, 3, 62, 3, 54, 4, 21, 4, 42, 180, 0, 172, 162, 0, 32, 29, 28, 21, 4]
abbrev dktX0_decides_0 : List UInt8 := dkwX0_decides_0 ++ dktX0_decides_1
theorem dksX0_decides_0 : cX0_decides.data.toList.drop 0 = dktX0_decides_0 := by decide +kernel
theorem dksX0_decides_1 : cX0_decides.data.toList.drop 24 = dktX0_decides_1 := dk_seg dksX0_decides_0 24 rfl rfl
theorem dksX0_decides_2 : cX0_decides.data.toList.drop 46 = dktX0_decides_2 := dk_seg dksX0_decides_1 22 rfl rfl
theorem dX0_decides_0 : decode cX0_decides 0 = .ok (.aload_n 0, 1) := dk_42 (dk_at dksX0_decides_0 0 rfl rfl)
theorem dX0_decides_1 : decode cX0_decides 1 = .ok (.iload_n 1, 1) := dk_27 (dk_at dksX0_decides_0 1 rfl rfl)
theorem dX0_decides_2 : decode cX0_decides 2 = .ok (.invokevirtual 213, 3) := dk_182 0 213 (dk_at dksX0_decides_0 2 rfl rfl)
theorem dX0_decides_5 : decode cX0_decides 5 = .ok (.istore_n 2, 1) := dk_61 (dk_at dksX0_decides_0 5 rfl rfl)
theorem dX0_decides_6 : decode cX0_decides 6 = .ok (.iconst 0, 1) := dk_3 (dk_at dksX0_decides_0 6 rfl rfl)
theorem dX0_decides_7 : decode cX0_decides 7 = .ok (.istore_n 3, 1) := dk_62 (dk_at dksX0_decides_0 7 rfl rfl)
theorem dX0_decides_8 : decode cX0_decides 8 = .ok (.iconst 0, 1) := dk_3 (dk_at dksX0_decides_0 8 rfl rfl)
theorem dX0_decides_9 : decode cX0_decides 9 = .ok (.istore 4, 2) := dk_54 4 (dk_at dksX0_decides_0 9 rfl rfl)
theorem dX0_decides_11 : decode cX0_decides 11 = .ok (.iload 4, 2) := dk_21 4 (dk_at dksX0_decides_0 11 rfl rfl)
theorem dX0_decides_13 : decode cX0_decides 13 = .ok (.aload_n 0, 1) := dk_42 (dk_at dksX0_decides_0 13 rfl rfl)
theorem dX0_decides_14 : decode cX0_decides 14 = .ok (.getfield 172, 3) := dk_180 0 172 (dk_at dksX0_decides_0 14 rfl rfl)
theorem dX0_decides_17 : decode cX0_decides 17 = .ok (.if_icmp .ge 32, 3) := dk_162 0 32 (dk_at dksX0_decides_0 17 rfl rfl)
theorem dX0_decides_20 : decode cX0_decides 20 = .ok (.iload_n 3, 1) := dk_29 (dk_at dksX0_decides_0 20 rfl rfl)
theorem dX0_decides_21 : decode cX0_decides 21 = .ok (.iload_n 2, 1) := dk_28 (dk_at dksX0_decides_0 21 rfl rfl)
theorem dX0_decides_22 : decode cX0_decides 22 = .ok (.iload 4, 2) := dk_21 4 (dk_at dksX0_decides_0 22 rfl rfl)
theorem dX0_decides_24 : decode cX0_decides 24 = .ok (.invokestatic 204, 3) := dk_184 0 204 (dk_at dksX0_decides_1 0 rfl rfl)
theorem dX0_decides_27 : decode cX0_decides 27 = .ok (.ifCond .eq 13, 3) := dk_153 0 13 (dk_at dksX0_decides_1 3 rfl rfl)
theorem dX0_decides_30 : decode cX0_decides 30 = .ok (.aload_n 0, 1) := dk_42 (dk_at dksX0_decides_1 6 rfl rfl)
theorem dX0_decides_31 : decode cX0_decides 31 = .ok (.getfield 62, 3) := dk_180 0 62 (dk_at dksX0_decides_1 7 rfl rfl)
theorem dX0_decides_34 : decode cX0_decides 34 = .ok (.iload 4, 2) := dk_21 4 (dk_at dksX0_decides_1 10 rfl rfl)
theorem dX0_decides_36 : decode cX0_decides 36 = .ok (.iaload, 1) := dk_46 (dk_at dksX0_decides_1 12 rfl rfl)
theorem dX0_decides_37 : decode cX0_decides 37 = .ok (.goto 4, 3) := dk_167 0 4 (dk_at dksX0_decides_1 13 rfl rfl)
theorem dX0_decides_40 : decode cX0_decides 40 = .ok (.iconst 0, 1) := dk_3 (dk_at dksX0_decides_1 16 rfl rfl)
theorem dX0_decides_41 : decode cX0_decides 41 = .ok (.iadd, 1) := dk_96 (dk_at dksX0_decides_1 17 rfl rfl)
theorem dX0_decides_42 : decode cX0_decides 42 = .ok (.istore_n 3, 1) := dk_62 (dk_at dksX0_decides_1 18 rfl rfl)
theorem dX0_decides_43 : decode cX0_decides 43 = .ok (.iinc 4 1, 3) := dk_132 4 1 (dk_at dksX0_decides_1 19 rfl rfl)
theorem dX0_decides_46 : decode cX0_decides 46 = .ok (.goto (-35), 3) := dk_167 255 221 (dk_at dksX0_decides_2 0 rfl rfl)
theorem dX0_decides_49 : decode cX0_decides 49 = .ok (.iload_n 2, 1) := dk_28 (dk_at dksX0_decides_2 3 rfl rfl)
theorem dX0_decides_50 : decode cX0_decides 50 = .ok (.ifCond .ne 8, 3) := dk_154 0 8 (dk_at dksX0_decides_2 4 rfl rfl)
theorem dX0_decides_53 : decode cX0_decides 53 = .ok (.bipush (-9), 2) := dk_16 247 (dk_at dksX0_decides_2 7 rfl rfl)
theorem dX0_decides_55 : decode cX0_decides 55 = .ok (.goto 7, 3) := dk_167 0 7 (dk_at dksX0_decides_2 9 rfl rfl)
theorem dX0_decides_58 : decode cX0_decides 58 = .ok (.iload_n 3, 1) := dk_29 (dk_at dksX0_decides_2 12 rfl rfl)
theorem dX0_decides_59 : decode cX0_decides 59 = .ok (.bipush 10, 2) := dk_16 10 (dk_at dksX0_decides_2 13 rfl rfl)
theorem dX0_decides_61 : decode cX0_decides 61 = .ok (.irem, 1) := dk_112 (dk_at dksX0_decides_2 15 rfl rfl)
theorem dX0_decides_62 : decode cX0_decides 62 = .ok (.ireturn, 1) := dk_172 (dk_at dksX0_decides_2 16 rfl rfl)
abbrev cX0_bed : ByteArray := prog_1_method_43_code
def yX0_bed : MethodName := ⟨RX0, "bed", "(II)I"⟩
def dkwX0_bed_1 : List UInt8 := [4, 182, 0, 95, 167, 0, 4, 2, 172]
abbrev dktX0_bed_1 : List UInt8 := dkwX0_bed_1 ++ []
def dkwX0_bed_0 : List UInt8 := [42, 27, 182, 0, 234, 153, 0, 26, 28, 3, 5, 184, 0, 77, 153, 0, 17, 42, 42, 27, 28, 182, 0, 237]
abbrev dktX0_bed_0 : List UInt8 := dkwX0_bed_0 ++ dktX0_bed_1
theorem dksX0_bed_0 : cX0_bed.data.toList.drop 0 = dktX0_bed_0 := by decide +kernel
theorem dksX0_bed_1 : cX0_bed.data.toList.drop 24 = dktX0_bed_1 := dk_seg dksX0_bed_0 24 rfl rfl
theorem dX0_bed_0 : decode cX0_bed 0 = .ok (.aload_n 0, 1) := dk_42 (dk_at dksX0_bed_0 0 rfl rfl)
theorem dX0_bed_1 : decode cX0_bed 1 = .ok (.iload_n 1, 1) := dk_27 (dk_at dksX0_bed_0 1 rfl rfl)
theorem dX0_bed_2 : decode cX0_bed 2 = .ok (.invokevirtual 234, 3) := dk_182 0 234 (dk_at dksX0_bed_0 2 rfl rfl)
theorem dX0_bed_5 : decode cX0_bed 5 = .ok (.ifCond .eq 26, 3) := dk_153 0 26 (dk_at dksX0_bed_0 5 rfl rfl)
theorem dX0_bed_8 : decode cX0_bed 8 = .ok (.iload_n 2, 1) := dk_28 (dk_at dksX0_bed_0 8 rfl rfl)
theorem dX0_bed_9 : decode cX0_bed 9 = .ok (.iconst 0, 1) := dk_3 (dk_at dksX0_bed_0 9 rfl rfl)
theorem dX0_bed_10 : decode cX0_bed 10 = .ok (.iconst 2, 1) := dk_5 (dk_at dksX0_bed_0 10 rfl rfl)
theorem dX0_bed_11 : decode cX0_bed 11 = .ok (.invokestatic 77, 3) := dk_184 0 77 (dk_at dksX0_bed_0 11 rfl rfl)
theorem dX0_bed_14 : decode cX0_bed 14 = .ok (.ifCond .eq 17, 3) := dk_153 0 17 (dk_at dksX0_bed_0 14 rfl rfl)
theorem dX0_bed_17 : decode cX0_bed 17 = .ok (.aload_n 0, 1) := dk_42 (dk_at dksX0_bed_0 17 rfl rfl)
theorem dX0_bed_18 : decode cX0_bed 18 = .ok (.aload_n 0, 1) := dk_42 (dk_at dksX0_bed_0 18 rfl rfl)
theorem dX0_bed_19 : decode cX0_bed 19 = .ok (.iload_n 1, 1) := dk_27 (dk_at dksX0_bed_0 19 rfl rfl)
theorem dX0_bed_20 : decode cX0_bed 20 = .ok (.iload_n 2, 1) := dk_28 (dk_at dksX0_bed_0 20 rfl rfl)
theorem dX0_bed_21 : decode cX0_bed 21 = .ok (.invokevirtual 237, 3) := dk_182 0 237 (dk_at dksX0_bed_0 21 rfl rfl)
theorem dX0_bed_24 : decode cX0_bed 24 = .ok (.iconst 1, 1) := dk_4 (dk_at dksX0_bed_1 0 rfl rfl)
theorem dX0_bed_25 : decode cX0_bed 25 = .ok (.invokevirtual 95, 3) := dk_182 0 95 (dk_at dksX0_bed_1 1 rfl rfl)
theorem dX0_bed_28 : decode cX0_bed 28 = .ok (.goto 4, 3) := dk_167 0 4 (dk_at dksX0_bed_1 4 rfl rfl)
theorem dX0_bed_31 : decode cX0_bed 31 = .ok (.iconst (-1), 1) := dk_2 (dk_at dksX0_bed_1 7 rfl rfl)
theorem dX0_bed_32 : decode cX0_bed 32 = .ok (.ireturn, 1) := dk_172 (dk_at dksX0_bed_1 8 rfl rfl)
abbrev cX0_isBed : ByteArray := prog_1_method_28_code
def yX0_isBed : MethodName := ⟨RX0, "isBed", "(I)Z"⟩
def dkwX0_isBed_0 : List UInt8 := [27, 3, 42, 180, 0, 172, 4, 100, 184, 0, 77, 172]
abbrev dktX0_isBed_0 : List UInt8 := dkwX0_isBed_0 ++ []
theorem dksX0_isBed_0 : cX0_isBed.data.toList.drop 0 = dktX0_isBed_0 := by decide +kernel
theorem dX0_isBed_0 : decode cX0_isBed 0 = .ok (.iload_n 1, 1) := dk_27 (dk_at dksX0_isBed_0 0 rfl rfl)
theorem dX0_isBed_1 : decode cX0_isBed 1 = .ok (.iconst 0, 1) := dk_3 (dk_at dksX0_isBed_0 1 rfl rfl)
theorem dX0_isBed_2 : decode cX0_isBed 2 = .ok (.aload_n 0, 1) := dk_42 (dk_at dksX0_isBed_0 2 rfl rfl)
theorem dX0_isBed_3 : decode cX0_isBed 3 = .ok (.getfield 172, 3) := dk_180 0 172 (dk_at dksX0_isBed_0 3 rfl rfl)
theorem dX0_isBed_6 : decode cX0_isBed 6 = .ok (.iconst 1, 1) := dk_4 (dk_at dksX0_isBed_0 6 rfl rfl)
theorem dX0_isBed_7 : decode cX0_isBed 7 = .ok (.isub, 1) := dk_100 (dk_at dksX0_isBed_0 7 rfl rfl)
theorem dX0_isBed_8 : decode cX0_isBed 8 = .ok (.invokestatic 77, 3) := dk_184 0 77 (dk_at dksX0_isBed_0 8 rfl rfl)
theorem dX0_isBed_11 : decode cX0_isBed 11 = .ok (.ireturn, 1) := dk_172 (dk_at dksX0_isBed_0 11 rfl rfl)
abbrev cX0_bedTells : ByteArray := prog_1_method_41_code
def yX0_bedTells : MethodName := ⟨RX0, "bedTells", "(II)I"⟩
def dkwX0_bedTells_1 : List UInt8 := [167, 0, 13, 42, 42, 180, 0, 59, 27, 46, 182, 0, 210, 172]
abbrev dktX0_bedTells_1 : List UInt8 := dkwX0_bedTells_1 ++ []
def dkwX0_bedTells_0 : List UInt8 := [28, 154, 0, 12, 42, 180, 0, 59, 27, 46, 167, 0, 27, 28, 4, 160, 0, 12, 42, 180, 0, 62, 27, 46]
abbrev dktX0_bedTells_0 : List UInt8 := dkwX0_bedTells_0 ++ dktX0_bedTells_1
theorem dksX0_bedTells_0 : cX0_bedTells.data.toList.drop 0 = dktX0_bedTells_0 := by decide +kernel
theorem dksX0_bedTells_1 : cX0_bedTells.data.toList.drop 24 = dktX0_bedTells_1 := dk_seg dksX0_bedTells_0 24 rfl rfl
theorem dX0_bedTells_0 : decode cX0_bedTells 0 = .ok (.iload_n 2, 1) := dk_28 (dk_at dksX0_bedTells_0 0 rfl rfl)
theorem dX0_bedTells_1 : decode cX0_bedTells 1 = .ok (.ifCond .ne 12, 3) := dk_154 0 12 (dk_at dksX0_bedTells_0 1 rfl rfl)
theorem dX0_bedTells_4 : decode cX0_bedTells 4 = .ok (.aload_n 0, 1) := dk_42 (dk_at dksX0_bedTells_0 4 rfl rfl)
theorem dX0_bedTells_5 : decode cX0_bedTells 5 = .ok (.getfield 59, 3) := dk_180 0 59 (dk_at dksX0_bedTells_0 5 rfl rfl)
theorem dX0_bedTells_8 : decode cX0_bedTells 8 = .ok (.iload_n 1, 1) := dk_27 (dk_at dksX0_bedTells_0 8 rfl rfl)
theorem dX0_bedTells_9 : decode cX0_bedTells 9 = .ok (.iaload, 1) := dk_46 (dk_at dksX0_bedTells_0 9 rfl rfl)
theorem dX0_bedTells_10 : decode cX0_bedTells 10 = .ok (.goto 27, 3) := dk_167 0 27 (dk_at dksX0_bedTells_0 10 rfl rfl)
theorem dX0_bedTells_13 : decode cX0_bedTells 13 = .ok (.iload_n 2, 1) := dk_28 (dk_at dksX0_bedTells_0 13 rfl rfl)
theorem dX0_bedTells_14 : decode cX0_bedTells 14 = .ok (.iconst 1, 1) := dk_4 (dk_at dksX0_bedTells_0 14 rfl rfl)
theorem dX0_bedTells_15 : decode cX0_bedTells 15 = .ok (.if_icmp .ne 12, 3) := dk_160 0 12 (dk_at dksX0_bedTells_0 15 rfl rfl)
theorem dX0_bedTells_18 : decode cX0_bedTells 18 = .ok (.aload_n 0, 1) := dk_42 (dk_at dksX0_bedTells_0 18 rfl rfl)
theorem dX0_bedTells_19 : decode cX0_bedTells 19 = .ok (.getfield 62, 3) := dk_180 0 62 (dk_at dksX0_bedTells_0 19 rfl rfl)
theorem dX0_bedTells_22 : decode cX0_bedTells 22 = .ok (.iload_n 1, 1) := dk_27 (dk_at dksX0_bedTells_0 22 rfl rfl)
theorem dX0_bedTells_23 : decode cX0_bedTells 23 = .ok (.iaload, 1) := dk_46 (dk_at dksX0_bedTells_0 23 rfl rfl)
theorem dX0_bedTells_24 : decode cX0_bedTells 24 = .ok (.goto 13, 3) := dk_167 0 13 (dk_at dksX0_bedTells_1 0 rfl rfl)
theorem dX0_bedTells_27 : decode cX0_bedTells 27 = .ok (.aload_n 0, 1) := dk_42 (dk_at dksX0_bedTells_1 3 rfl rfl)
theorem dX0_bedTells_28 : decode cX0_bedTells 28 = .ok (.aload_n 0, 1) := dk_42 (dk_at dksX0_bedTells_1 4 rfl rfl)
theorem dX0_bedTells_29 : decode cX0_bedTells 29 = .ok (.getfield 59, 3) := dk_180 0 59 (dk_at dksX0_bedTells_1 5 rfl rfl)
theorem dX0_bedTells_32 : decode cX0_bedTells 32 = .ok (.iload_n 1, 1) := dk_27 (dk_at dksX0_bedTells_1 8 rfl rfl)
theorem dX0_bedTells_33 : decode cX0_bedTells 33 = .ok (.iaload, 1) := dk_46 (dk_at dksX0_bedTells_1 9 rfl rfl)
theorem dX0_bedTells_34 : decode cX0_bedTells 34 = .ok (.invokevirtual 210, 3) := dk_182 0 210 (dk_at dksX0_bedTells_1 10 rfl rfl)
theorem dX0_bedTells_37 : decode cX0_bedTells 37 = .ok (.ireturn, 1) := dk_172 (dk_at dksX0_bedTells_1 13 rfl rfl)
abbrev cX0_ringsAt : ByteArray := prog_1_method_34_code
def yX0_ringsAt : MethodName := ⟨RX0, "ringsAt", "(I)I"⟩
def dkwX0_ringsAt_2 : List UInt8 := [132, 3, 1, 167, 255, 211, 28, 172]
abbrev dktX0_ringsAt_2 : List UInt8 := dkwX0_ringsAt_2 ++ []
def dkwX0_ringsAt_1 : List UInt8 := [42, 29, 27, 42, 180, 0, 179, 182, 0, 207, 153, 0, 9, 4, 29, 120, 167, 0, 4, 3, 128, 61]
abbrev dktX0_ringsAt_1 : List UInt8 := dkwX0_ringsAt_1 ++ dktX0_ringsAt_2
def dkwX0_ringsAt_0 : List UInt8 := [3, 61, 3, 62, 29, 42, 180, 0, 169, 162, 0, 43, 28, 42, 180, 0, 182, 29, 184, 0, 204, 153, 0, 22]
abbrev dktX0_ringsAt_0 : List UInt8 := dkwX0_ringsAt_0 ++ dktX0_ringsAt_1
theorem dksX0_ringsAt_0 : cX0_ringsAt.data.toList.drop 0 = dktX0_ringsAt_0 := by decide +kernel
theorem dksX0_ringsAt_1 : cX0_ringsAt.data.toList.drop 24 = dktX0_ringsAt_1 := dk_seg dksX0_ringsAt_0 24 rfl rfl
theorem dksX0_ringsAt_2 : cX0_ringsAt.data.toList.drop 46 = dktX0_ringsAt_2 := dk_seg dksX0_ringsAt_1 22 rfl rfl
theorem dX0_ringsAt_0 : decode cX0_ringsAt 0 = .ok (.iconst 0, 1) := dk_3 (dk_at dksX0_ringsAt_0 0 rfl rfl)
theorem dX0_ringsAt_1 : decode cX0_ringsAt 1 = .ok (.istore_n 2, 1) := dk_61 (dk_at dksX0_ringsAt_0 1 rfl rfl)
theorem dX0_ringsAt_2 : decode cX0_ringsAt 2 = .ok (.iconst 0, 1) := dk_3 (dk_at dksX0_ringsAt_0 2 rfl rfl)
theorem dX0_ringsAt_3 : decode cX0_ringsAt 3 = .ok (.istore_n 3, 1) := dk_62 (dk_at dksX0_ringsAt_0 3 rfl rfl)
theorem dX0_ringsAt_4 : decode cX0_ringsAt 4 = .ok (.iload_n 3, 1) := dk_29 (dk_at dksX0_ringsAt_0 4 rfl rfl)
theorem dX0_ringsAt_5 : decode cX0_ringsAt 5 = .ok (.aload_n 0, 1) := dk_42 (dk_at dksX0_ringsAt_0 5 rfl rfl)
theorem dX0_ringsAt_6 : decode cX0_ringsAt 6 = .ok (.getfield 169, 3) := dk_180 0 169 (dk_at dksX0_ringsAt_0 6 rfl rfl)
theorem dX0_ringsAt_9 : decode cX0_ringsAt 9 = .ok (.if_icmp .ge 43, 3) := dk_162 0 43 (dk_at dksX0_ringsAt_0 9 rfl rfl)
theorem dX0_ringsAt_12 : decode cX0_ringsAt 12 = .ok (.iload_n 2, 1) := dk_28 (dk_at dksX0_ringsAt_0 12 rfl rfl)
theorem dX0_ringsAt_13 : decode cX0_ringsAt 13 = .ok (.aload_n 0, 1) := dk_42 (dk_at dksX0_ringsAt_0 13 rfl rfl)
theorem dX0_ringsAt_14 : decode cX0_ringsAt 14 = .ok (.getfield 182, 3) := dk_180 0 182 (dk_at dksX0_ringsAt_0 14 rfl rfl)
theorem dX0_ringsAt_17 : decode cX0_ringsAt 17 = .ok (.iload_n 3, 1) := dk_29 (dk_at dksX0_ringsAt_0 17 rfl rfl)
theorem dX0_ringsAt_18 : decode cX0_ringsAt 18 = .ok (.invokestatic 204, 3) := dk_184 0 204 (dk_at dksX0_ringsAt_0 18 rfl rfl)
theorem dX0_ringsAt_21 : decode cX0_ringsAt 21 = .ok (.ifCond .eq 22, 3) := dk_153 0 22 (dk_at dksX0_ringsAt_0 21 rfl rfl)
theorem dX0_ringsAt_24 : decode cX0_ringsAt 24 = .ok (.aload_n 0, 1) := dk_42 (dk_at dksX0_ringsAt_1 0 rfl rfl)
theorem dX0_ringsAt_25 : decode cX0_ringsAt 25 = .ok (.iload_n 3, 1) := dk_29 (dk_at dksX0_ringsAt_1 1 rfl rfl)
theorem dX0_ringsAt_26 : decode cX0_ringsAt 26 = .ok (.iload_n 1, 1) := dk_27 (dk_at dksX0_ringsAt_1 2 rfl rfl)
theorem dX0_ringsAt_27 : decode cX0_ringsAt 27 = .ok (.aload_n 0, 1) := dk_42 (dk_at dksX0_ringsAt_1 3 rfl rfl)
theorem dX0_ringsAt_28 : decode cX0_ringsAt 28 = .ok (.getfield 179, 3) := dk_180 0 179 (dk_at dksX0_ringsAt_1 4 rfl rfl)
theorem dX0_ringsAt_31 : decode cX0_ringsAt 31 = .ok (.invokevirtual 207, 3) := dk_182 0 207 (dk_at dksX0_ringsAt_1 7 rfl rfl)
theorem dX0_ringsAt_34 : decode cX0_ringsAt 34 = .ok (.ifCond .eq 9, 3) := dk_153 0 9 (dk_at dksX0_ringsAt_1 10 rfl rfl)
theorem dX0_ringsAt_37 : decode cX0_ringsAt 37 = .ok (.iconst 1, 1) := dk_4 (dk_at dksX0_ringsAt_1 13 rfl rfl)
theorem dX0_ringsAt_38 : decode cX0_ringsAt 38 = .ok (.iload_n 3, 1) := dk_29 (dk_at dksX0_ringsAt_1 14 rfl rfl)
theorem dX0_ringsAt_39 : decode cX0_ringsAt 39 = .ok (.ishl, 1) := dk_120 (dk_at dksX0_ringsAt_1 15 rfl rfl)
theorem dX0_ringsAt_40 : decode cX0_ringsAt 40 = .ok (.goto 4, 3) := dk_167 0 4 (dk_at dksX0_ringsAt_1 16 rfl rfl)
theorem dX0_ringsAt_43 : decode cX0_ringsAt 43 = .ok (.iconst 0, 1) := dk_3 (dk_at dksX0_ringsAt_1 19 rfl rfl)
theorem dX0_ringsAt_44 : decode cX0_ringsAt 44 = .ok (.ior, 1) := dk_128 (dk_at dksX0_ringsAt_1 20 rfl rfl)
theorem dX0_ringsAt_45 : decode cX0_ringsAt 45 = .ok (.istore_n 2, 1) := dk_61 (dk_at dksX0_ringsAt_1 21 rfl rfl)
theorem dX0_ringsAt_46 : decode cX0_ringsAt 46 = .ok (.iinc 3 1, 3) := dk_132 3 1 (dk_at dksX0_ringsAt_2 0 rfl rfl)
theorem dX0_ringsAt_49 : decode cX0_ringsAt 49 = .ok (.goto (-45), 3) := dk_167 255 211 (dk_at dksX0_ringsAt_2 3 rfl rfl)
theorem dX0_ringsAt_52 : decode cX0_ringsAt 52 = .ok (.iload_n 2, 1) := dk_28 (dk_at dksX0_ringsAt_2 6 rfl rfl)
theorem dX0_ringsAt_53 : decode cX0_ringsAt 53 = .ok (.ireturn, 1) := dk_172 (dk_at dksX0_ringsAt_2 7 rfl rfl)
abbrev cX0_mark : ByteArray := prog_1_method_44_code
def yX0_mark : MethodName := ⟨RX0, "mark", "(II)I"⟩
def dkwX0_mark_5 : List UInt8 := [42, 6, 182, 0, 87, 172]
abbrev dktX0_mark_5 : List UInt8 := dkwX0_mark_5 ++ []
def dkwX0_mark_4 : List UInt8 := [182, 0, 247, 172, 45, 192, 0, 126, 42, 182, 0, 250, 172, 45, 192, 0, 129, 42, 182, 0, 253, 172, 58, 4]
abbrev dktX0_mark_4 : List UInt8 := dkwX0_mark_4 ++ dktX0_mark_5
def dkwX0_mark_3 : List UInt8 := [45, 192, 0, 115, 42, 182, 0, 240, 172, 45, 192, 0, 120, 42, 182, 0, 244, 172, 45, 192, 0, 123, 42]
abbrev dktX0_mark_3 : List UInt8 := dkwX0_mark_3 ++ dktX0_mark_4
def dkwX0_mark_2 : List UInt8 := [170, 0, 0, 0, 65, 0, 0, 0, 1, 0, 0, 0, 4, 0, 0, 0, 29, 0, 0, 0, 38, 0, 0, 0, 47, 0, 0, 0, 56]
abbrev dktX0_mark_2 : List UInt8 := dkwX0_mark_2 ++ dktX0_mark_3
def dkwX0_mark_1 : List UInt8 := [50, 78, 28]
abbrev dktX0_mark_1 : List UInt8 := dkwX0_mark_1 ++ dktX0_mark_2
def dkwX0_mark_0 : List UInt8 := [42, 27, 182, 0, 228, 153, 0, 12, 28, 4, 8, 184, 0, 77, 154, 0, 5, 2, 172, 42, 180, 0, 44, 27]
abbrev dktX0_mark_0 : List UInt8 := dkwX0_mark_0 ++ dktX0_mark_1
theorem dksX0_mark_0 : cX0_mark.data.toList.drop 0 = dktX0_mark_0 := by decide +kernel
theorem dksX0_mark_1 : cX0_mark.data.toList.drop 24 = dktX0_mark_1 := dk_seg dksX0_mark_0 24 rfl rfl
theorem dksX0_mark_2 : cX0_mark.data.toList.drop 27 = dktX0_mark_2 := dk_seg dksX0_mark_1 3 rfl rfl
theorem dksX0_mark_3 : cX0_mark.data.toList.drop 56 = dktX0_mark_3 := dk_seg dksX0_mark_2 29 rfl rfl
theorem dksX0_mark_4 : cX0_mark.data.toList.drop 79 = dktX0_mark_4 := dk_seg dksX0_mark_3 23 rfl rfl
theorem dksX0_mark_5 : cX0_mark.data.toList.drop 103 = dktX0_mark_5 := dk_seg dksX0_mark_4 24 rfl rfl
theorem dX0_mark_0 : decode cX0_mark 0 = .ok (.aload_n 0, 1) := dk_42 (dk_at dksX0_mark_0 0 rfl rfl)
theorem dX0_mark_1 : decode cX0_mark 1 = .ok (.iload_n 1, 1) := dk_27 (dk_at dksX0_mark_0 1 rfl rfl)
theorem dX0_mark_2 : decode cX0_mark 2 = .ok (.invokevirtual 228, 3) := dk_182 0 228 (dk_at dksX0_mark_0 2 rfl rfl)
theorem dX0_mark_5 : decode cX0_mark 5 = .ok (.ifCond .eq 12, 3) := dk_153 0 12 (dk_at dksX0_mark_0 5 rfl rfl)
theorem dX0_mark_8 : decode cX0_mark 8 = .ok (.iload_n 2, 1) := dk_28 (dk_at dksX0_mark_0 8 rfl rfl)
theorem dX0_mark_9 : decode cX0_mark 9 = .ok (.iconst 1, 1) := dk_4 (dk_at dksX0_mark_0 9 rfl rfl)
theorem dX0_mark_10 : decode cX0_mark 10 = .ok (.iconst 5, 1) := dk_8 (dk_at dksX0_mark_0 10 rfl rfl)
theorem dX0_mark_11 : decode cX0_mark 11 = .ok (.invokestatic 77, 3) := dk_184 0 77 (dk_at dksX0_mark_0 11 rfl rfl)
theorem dX0_mark_14 : decode cX0_mark 14 = .ok (.ifCond .ne 5, 3) := dk_154 0 5 (dk_at dksX0_mark_0 14 rfl rfl)
theorem dX0_mark_17 : decode cX0_mark 17 = .ok (.iconst (-1), 1) := dk_2 (dk_at dksX0_mark_0 17 rfl rfl)
theorem dX0_mark_18 : decode cX0_mark 18 = .ok (.ireturn, 1) := dk_172 (dk_at dksX0_mark_0 18 rfl rfl)
theorem dX0_mark_19 : decode cX0_mark 19 = .ok (.aload_n 0, 1) := dk_42 (dk_at dksX0_mark_0 19 rfl rfl)
theorem dX0_mark_20 : decode cX0_mark 20 = .ok (.getfield 44, 3) := dk_180 0 44 (dk_at dksX0_mark_0 20 rfl rfl)
theorem dX0_mark_23 : decode cX0_mark 23 = .ok (.iload_n 1, 1) := dk_27 (dk_at dksX0_mark_0 23 rfl rfl)
theorem dX0_mark_24 : decode cX0_mark 24 = .ok (.aaload, 1) := dk_50 (dk_at dksX0_mark_1 0 rfl rfl)
theorem dX0_mark_25 : decode cX0_mark 25 = .ok (.astore_n 3, 1) := dk_78 (dk_at dksX0_mark_1 1 rfl rfl)
theorem dX0_mark_26 : decode cX0_mark 26 = .ok (.iload_n 2, 1) := dk_28 (dk_at dksX0_mark_1 2 rfl rfl)
theorem dX0_mark_27 : decode cX0_mark 27 = .ok (.tableswitch 65 1 4 #[29, 38, 47, 56], 29) := by decide +kernel
theorem dX0_mark_56 : decode cX0_mark 56 = .ok (.aload_n 3, 1) := dk_45 (dk_at dksX0_mark_3 0 rfl rfl)
theorem dX0_mark_57 : decode cX0_mark 57 = .ok (.checkcast 115, 3) := dk_192 0 115 (dk_at dksX0_mark_3 1 rfl rfl)
theorem dX0_mark_60 : decode cX0_mark 60 = .ok (.aload_n 0, 1) := dk_42 (dk_at dksX0_mark_3 4 rfl rfl)
theorem dX0_mark_61 : decode cX0_mark 61 = .ok (.invokevirtual 240, 3) := dk_182 0 240 (dk_at dksX0_mark_3 5 rfl rfl)
theorem dX0_mark_64 : decode cX0_mark 64 = .ok (.ireturn, 1) := dk_172 (dk_at dksX0_mark_3 8 rfl rfl)
theorem dX0_mark_65 : decode cX0_mark 65 = .ok (.aload_n 3, 1) := dk_45 (dk_at dksX0_mark_3 9 rfl rfl)
theorem dX0_mark_66 : decode cX0_mark 66 = .ok (.checkcast 120, 3) := dk_192 0 120 (dk_at dksX0_mark_3 10 rfl rfl)
theorem dX0_mark_69 : decode cX0_mark 69 = .ok (.aload_n 0, 1) := dk_42 (dk_at dksX0_mark_3 13 rfl rfl)
theorem dX0_mark_70 : decode cX0_mark 70 = .ok (.invokevirtual 244, 3) := dk_182 0 244 (dk_at dksX0_mark_3 14 rfl rfl)
theorem dX0_mark_73 : decode cX0_mark 73 = .ok (.ireturn, 1) := dk_172 (dk_at dksX0_mark_3 17 rfl rfl)
theorem dX0_mark_74 : decode cX0_mark 74 = .ok (.aload_n 3, 1) := dk_45 (dk_at dksX0_mark_3 18 rfl rfl)
theorem dX0_mark_75 : decode cX0_mark 75 = .ok (.checkcast 123, 3) := dk_192 0 123 (dk_at dksX0_mark_3 19 rfl rfl)
theorem dX0_mark_78 : decode cX0_mark 78 = .ok (.aload_n 0, 1) := dk_42 (dk_at dksX0_mark_3 22 rfl rfl)
theorem dX0_mark_79 : decode cX0_mark 79 = .ok (.invokevirtual 247, 3) := dk_182 0 247 (dk_at dksX0_mark_4 0 rfl rfl)
theorem dX0_mark_82 : decode cX0_mark 82 = .ok (.ireturn, 1) := dk_172 (dk_at dksX0_mark_4 3 rfl rfl)
theorem dX0_mark_83 : decode cX0_mark 83 = .ok (.aload_n 3, 1) := dk_45 (dk_at dksX0_mark_4 4 rfl rfl)
theorem dX0_mark_84 : decode cX0_mark 84 = .ok (.checkcast 126, 3) := dk_192 0 126 (dk_at dksX0_mark_4 5 rfl rfl)
theorem dX0_mark_87 : decode cX0_mark 87 = .ok (.aload_n 0, 1) := dk_42 (dk_at dksX0_mark_4 8 rfl rfl)
theorem dX0_mark_88 : decode cX0_mark 88 = .ok (.invokevirtual 250, 3) := dk_182 0 250 (dk_at dksX0_mark_4 9 rfl rfl)
theorem dX0_mark_91 : decode cX0_mark 91 = .ok (.ireturn, 1) := dk_172 (dk_at dksX0_mark_4 12 rfl rfl)
theorem dX0_mark_92 : decode cX0_mark 92 = .ok (.aload_n 3, 1) := dk_45 (dk_at dksX0_mark_4 13 rfl rfl)
theorem dX0_mark_93 : decode cX0_mark 93 = .ok (.checkcast 129, 3) := dk_192 0 129 (dk_at dksX0_mark_4 14 rfl rfl)
theorem dX0_mark_96 : decode cX0_mark 96 = .ok (.aload_n 0, 1) := dk_42 (dk_at dksX0_mark_4 17 rfl rfl)
theorem dX0_mark_97 : decode cX0_mark 97 = .ok (.invokevirtual 253, 3) := dk_182 0 253 (dk_at dksX0_mark_4 18 rfl rfl)
theorem dX0_mark_100 : decode cX0_mark 100 = .ok (.ireturn, 1) := dk_172 (dk_at dksX0_mark_4 21 rfl rfl)
theorem dX0_mark_101 : decode cX0_mark 101 = .ok (.astore 4, 2) := dk_58 4 (dk_at dksX0_mark_4 22 rfl rfl)
theorem dX0_mark_103 : decode cX0_mark 103 = .ok (.aload_n 0, 1) := dk_42 (dk_at dksX0_mark_5 0 rfl rfl)
theorem dX0_mark_104 : decode cX0_mark 104 = .ok (.iconst 3, 1) := dk_6 (dk_at dksX0_mark_5 1 rfl rfl)
theorem dX0_mark_105 : decode cX0_mark 105 = .ok (.invokevirtual 87, 3) := dk_182 0 87 (dk_at dksX0_mark_5 2 rfl rfl)
theorem dX0_mark_108 : decode cX0_mark 108 = .ok (.ireturn, 1) := dk_172 (dk_at dksX0_mark_5 5 rfl rfl)
abbrev cX0_holds : ByteArray := prog_1_method_32_code
def yX0_holds : MethodName := ⟨RX0, "holds", "(IIII)Z"⟩
def dkwX0_holds_1 : List UInt8 := [172]
abbrev dktX0_holds_1 : List UInt8 := dkwX0_holds_1 ++ []
def dkwX0_holds_0 : List UInt8 := [42, 180, 0, 40, 28, 50, 42, 180, 0, 47, 27, 46, 42, 180, 0, 50, 27, 46, 29, 21, 4, 184, 0, 200]
abbrev dktX0_holds_0 : List UInt8 := dkwX0_holds_0 ++ dktX0_holds_1
theorem dksX0_holds_0 : cX0_holds.data.toList.drop 0 = dktX0_holds_0 := by decide +kernel
theorem dksX0_holds_1 : cX0_holds.data.toList.drop 24 = dktX0_holds_1 := dk_seg dksX0_holds_0 24 rfl rfl
theorem dX0_holds_0 : decode cX0_holds 0 = .ok (.aload_n 0, 1) := dk_42 (dk_at dksX0_holds_0 0 rfl rfl)
theorem dX0_holds_1 : decode cX0_holds 1 = .ok (.getfield 40, 3) := dk_180 0 40 (dk_at dksX0_holds_0 1 rfl rfl)
theorem dX0_holds_4 : decode cX0_holds 4 = .ok (.iload_n 2, 1) := dk_28 (dk_at dksX0_holds_0 4 rfl rfl)
theorem dX0_holds_5 : decode cX0_holds 5 = .ok (.aaload, 1) := dk_50 (dk_at dksX0_holds_0 5 rfl rfl)
theorem dX0_holds_6 : decode cX0_holds 6 = .ok (.aload_n 0, 1) := dk_42 (dk_at dksX0_holds_0 6 rfl rfl)
theorem dX0_holds_7 : decode cX0_holds 7 = .ok (.getfield 47, 3) := dk_180 0 47 (dk_at dksX0_holds_0 7 rfl rfl)
theorem dX0_holds_10 : decode cX0_holds 10 = .ok (.iload_n 1, 1) := dk_27 (dk_at dksX0_holds_0 10 rfl rfl)
theorem dX0_holds_11 : decode cX0_holds 11 = .ok (.iaload, 1) := dk_46 (dk_at dksX0_holds_0 11 rfl rfl)
theorem dX0_holds_12 : decode cX0_holds 12 = .ok (.aload_n 0, 1) := dk_42 (dk_at dksX0_holds_0 12 rfl rfl)
theorem dX0_holds_13 : decode cX0_holds 13 = .ok (.getfield 50, 3) := dk_180 0 50 (dk_at dksX0_holds_0 13 rfl rfl)
theorem dX0_holds_16 : decode cX0_holds 16 = .ok (.iload_n 1, 1) := dk_27 (dk_at dksX0_holds_0 16 rfl rfl)
theorem dX0_holds_17 : decode cX0_holds 17 = .ok (.iaload, 1) := dk_46 (dk_at dksX0_holds_0 17 rfl rfl)
theorem dX0_holds_18 : decode cX0_holds 18 = .ok (.iload_n 3, 1) := dk_29 (dk_at dksX0_holds_0 18 rfl rfl)
theorem dX0_holds_19 : decode cX0_holds 19 = .ok (.iload 4, 2) := dk_21 4 (dk_at dksX0_holds_0 19 rfl rfl)
theorem dX0_holds_21 : decode cX0_holds 21 = .ok (.invokestatic 200, 3) := dk_184 0 200 (dk_at dksX0_holds_0 21 rfl rfl)
theorem dX0_holds_24 : decode cX0_holds 24 = .ok (.ireturn, 1) := dk_172 (dk_at dksX0_holds_1 0 rfl rfl)
abbrev cX0_within : ByteArray := prog_1_method_45_code
def yX0_within : MethodName := ⟨RX0, "within", "(III)I"⟩
def dkwX0_within_1 : List UInt8 := [154, 0, 5, 2, 172, 42, 27, 28, 29, 182, 0, 207, 153, 0, 7, 4, 167, 0, 4, 3, 172]
abbrev dktX0_within_1 : List UInt8 := dkwX0_within_1 ++ []
def dkwX0_within_0 : List UInt8 := [42, 27, 182, 0, 228, 153, 0, 20, 28, 184, 1, 2, 153, 0, 13, 29, 3, 16, 99, 184, 0, 77]
abbrev dktX0_within_0 : List UInt8 := dkwX0_within_0 ++ dktX0_within_1
theorem dksX0_within_0 : cX0_within.data.toList.drop 0 = dktX0_within_0 := by decide +kernel
theorem dksX0_within_1 : cX0_within.data.toList.drop 22 = dktX0_within_1 := dk_seg dksX0_within_0 22 rfl rfl
theorem dX0_within_0 : decode cX0_within 0 = .ok (.aload_n 0, 1) := dk_42 (dk_at dksX0_within_0 0 rfl rfl)
theorem dX0_within_1 : decode cX0_within 1 = .ok (.iload_n 1, 1) := dk_27 (dk_at dksX0_within_0 1 rfl rfl)
theorem dX0_within_2 : decode cX0_within 2 = .ok (.invokevirtual 228, 3) := dk_182 0 228 (dk_at dksX0_within_0 2 rfl rfl)
theorem dX0_within_5 : decode cX0_within 5 = .ok (.ifCond .eq 20, 3) := dk_153 0 20 (dk_at dksX0_within_0 5 rfl rfl)
theorem dX0_within_8 : decode cX0_within 8 = .ok (.iload_n 2, 1) := dk_28 (dk_at dksX0_within_0 8 rfl rfl)
theorem dX0_within_9 : decode cX0_within 9 = .ok (.invokestatic 258, 3) := dk_184 1 2 (dk_at dksX0_within_0 9 rfl rfl)
theorem dX0_within_12 : decode cX0_within 12 = .ok (.ifCond .eq 13, 3) := dk_153 0 13 (dk_at dksX0_within_0 12 rfl rfl)
theorem dX0_within_15 : decode cX0_within 15 = .ok (.iload_n 3, 1) := dk_29 (dk_at dksX0_within_0 15 rfl rfl)
theorem dX0_within_16 : decode cX0_within 16 = .ok (.iconst 0, 1) := dk_3 (dk_at dksX0_within_0 16 rfl rfl)
theorem dX0_within_17 : decode cX0_within 17 = .ok (.bipush 99, 2) := dk_16 99 (dk_at dksX0_within_0 17 rfl rfl)
theorem dX0_within_19 : decode cX0_within 19 = .ok (.invokestatic 77, 3) := dk_184 0 77 (dk_at dksX0_within_0 19 rfl rfl)
theorem dX0_within_22 : decode cX0_within 22 = .ok (.ifCond .ne 5, 3) := dk_154 0 5 (dk_at dksX0_within_1 0 rfl rfl)
theorem dX0_within_25 : decode cX0_within 25 = .ok (.iconst (-1), 1) := dk_2 (dk_at dksX0_within_1 3 rfl rfl)
theorem dX0_within_26 : decode cX0_within 26 = .ok (.ireturn, 1) := dk_172 (dk_at dksX0_within_1 4 rfl rfl)
theorem dX0_within_27 : decode cX0_within 27 = .ok (.aload_n 0, 1) := dk_42 (dk_at dksX0_within_1 5 rfl rfl)
theorem dX0_within_28 : decode cX0_within 28 = .ok (.iload_n 1, 1) := dk_27 (dk_at dksX0_within_1 6 rfl rfl)
theorem dX0_within_29 : decode cX0_within 29 = .ok (.iload_n 2, 1) := dk_28 (dk_at dksX0_within_1 7 rfl rfl)
theorem dX0_within_30 : decode cX0_within 30 = .ok (.iload_n 3, 1) := dk_29 (dk_at dksX0_within_1 8 rfl rfl)
theorem dX0_within_31 : decode cX0_within 31 = .ok (.invokevirtual 207, 3) := dk_182 0 207 (dk_at dksX0_within_1 9 rfl rfl)
theorem dX0_within_34 : decode cX0_within 34 = .ok (.ifCond .eq 7, 3) := dk_153 0 7 (dk_at dksX0_within_1 12 rfl rfl)
theorem dX0_within_37 : decode cX0_within 37 = .ok (.iconst 1, 1) := dk_4 (dk_at dksX0_within_1 15 rfl rfl)
theorem dX0_within_38 : decode cX0_within 38 = .ok (.goto 4, 3) := dk_167 0 4 (dk_at dksX0_within_1 16 rfl rfl)
theorem dX0_within_41 : decode cX0_within 41 = .ok (.iconst 0, 1) := dk_3 (dk_at dksX0_within_1 19 rfl rfl)
theorem dX0_within_42 : decode cX0_within 42 = .ok (.ireturn, 1) := dk_172 (dk_at dksX0_within_1 20 rfl rfl)
abbrev cX0_isCell : ByteArray := prog_1_method_29_code
def yX0_isCell : MethodName := ⟨RX0, "isCell", "(I)Z"⟩
def dkwX0_isCell_0 : List UInt8 := [26, 3, 16, 99, 184, 0, 77, 172]
abbrev dktX0_isCell_0 : List UInt8 := dkwX0_isCell_0 ++ []
theorem dksX0_isCell_0 : cX0_isCell.data.toList.drop 0 = dktX0_isCell_0 := by decide +kernel
theorem dX0_isCell_0 : decode cX0_isCell 0 = .ok (.iload_n 0, 1) := dk_26 (dk_at dksX0_isCell_0 0 rfl rfl)
theorem dX0_isCell_1 : decode cX0_isCell 1 = .ok (.iconst 0, 1) := dk_3 (dk_at dksX0_isCell_0 1 rfl rfl)
theorem dX0_isCell_2 : decode cX0_isCell 2 = .ok (.bipush 99, 2) := dk_16 99 (dk_at dksX0_isCell_0 2 rfl rfl)
theorem dX0_isCell_4 : decode cX0_isCell 4 = .ok (.invokestatic 77, 3) := dk_184 0 77 (dk_at dksX0_isCell_0 4 rfl rfl)
theorem dX0_isCell_7 : decode cX0_isCell 7 = .ok (.ireturn, 1) := dk_172 (dk_at dksX0_isCell_0 7 rfl rfl)
abbrev cX0_year : ByteArray := prog_1_method_49_code
def yX0_year : MethodName := ⟨RX0, "year", "()I"⟩
def dkwX0_year_2 : List UInt8 := [182, 1, 12, 184, 1, 15, 172]
abbrev dktX0_year_2 : List UInt8 := dkwX0_year_2 ++ []
def dkwX0_year_1 : List UInt8 := [16, 40, 160, 0, 6, 16, 254, 172, 42, 182, 1, 9, 42, 89, 180, 0, 179, 4, 96, 181, 0, 179, 42]
abbrev dktX0_year_1 : List UInt8 := dkwX0_year_1 ++ dktX0_year_2
def dkwX0_year_0 : List UInt8 := [42, 180, 0, 169, 153, 0, 12, 42, 180, 0, 179, 16, 40, 160, 0, 6, 16, 252, 172, 42, 180, 0, 74]
abbrev dktX0_year_0 : List UInt8 := dkwX0_year_0 ++ dktX0_year_1
theorem dksX0_year_0 : cX0_year.data.toList.drop 0 = dktX0_year_0 := by decide +kernel
theorem dksX0_year_1 : cX0_year.data.toList.drop 23 = dktX0_year_1 := dk_seg dksX0_year_0 23 rfl rfl
theorem dksX0_year_2 : cX0_year.data.toList.drop 46 = dktX0_year_2 := dk_seg dksX0_year_1 23 rfl rfl
theorem dX0_year_0 : decode cX0_year 0 = .ok (.aload_n 0, 1) := dk_42 (dk_at dksX0_year_0 0 rfl rfl)
theorem dX0_year_1 : decode cX0_year 1 = .ok (.getfield 169, 3) := dk_180 0 169 (dk_at dksX0_year_0 1 rfl rfl)
theorem dX0_year_4 : decode cX0_year 4 = .ok (.ifCond .eq 12, 3) := dk_153 0 12 (dk_at dksX0_year_0 4 rfl rfl)
theorem dX0_year_7 : decode cX0_year 7 = .ok (.aload_n 0, 1) := dk_42 (dk_at dksX0_year_0 7 rfl rfl)
theorem dX0_year_8 : decode cX0_year 8 = .ok (.getfield 179, 3) := dk_180 0 179 (dk_at dksX0_year_0 8 rfl rfl)
theorem dX0_year_11 : decode cX0_year 11 = .ok (.bipush 40, 2) := dk_16 40 (dk_at dksX0_year_0 11 rfl rfl)
theorem dX0_year_13 : decode cX0_year 13 = .ok (.if_icmp .ne 6, 3) := dk_160 0 6 (dk_at dksX0_year_0 13 rfl rfl)
theorem dX0_year_16 : decode cX0_year 16 = .ok (.bipush (-4), 2) := dk_16 252 (dk_at dksX0_year_0 16 rfl rfl)
theorem dX0_year_18 : decode cX0_year 18 = .ok (.ireturn, 1) := dk_172 (dk_at dksX0_year_0 18 rfl rfl)
theorem dX0_year_19 : decode cX0_year 19 = .ok (.aload_n 0, 1) := dk_42 (dk_at dksX0_year_0 19 rfl rfl)
theorem dX0_year_20 : decode cX0_year 20 = .ok (.getfield 74, 3) := dk_180 0 74 (dk_at dksX0_year_0 20 rfl rfl)
theorem dX0_year_23 : decode cX0_year 23 = .ok (.bipush 40, 2) := dk_16 40 (dk_at dksX0_year_1 0 rfl rfl)
theorem dX0_year_25 : decode cX0_year 25 = .ok (.if_icmp .ne 6, 3) := dk_160 0 6 (dk_at dksX0_year_1 2 rfl rfl)
theorem dX0_year_28 : decode cX0_year 28 = .ok (.bipush (-2), 2) := dk_16 254 (dk_at dksX0_year_1 5 rfl rfl)
theorem dX0_year_30 : decode cX0_year 30 = .ok (.ireturn, 1) := dk_172 (dk_at dksX0_year_1 7 rfl rfl)
theorem dX0_year_31 : decode cX0_year 31 = .ok (.aload_n 0, 1) := dk_42 (dk_at dksX0_year_1 8 rfl rfl)
theorem dX0_year_32 : decode cX0_year 32 = .ok (.invokevirtual 265, 3) := dk_182 1 9 (dk_at dksX0_year_1 9 rfl rfl)
theorem dX0_year_35 : decode cX0_year 35 = .ok (.aload_n 0, 1) := dk_42 (dk_at dksX0_year_1 12 rfl rfl)
theorem dX0_year_36 : decode cX0_year 36 = .ok (.dup, 1) := dk_89 (dk_at dksX0_year_1 13 rfl rfl)
theorem dX0_year_37 : decode cX0_year 37 = .ok (.getfield 179, 3) := dk_180 0 179 (dk_at dksX0_year_1 14 rfl rfl)
theorem dX0_year_40 : decode cX0_year 40 = .ok (.iconst 1, 1) := dk_4 (dk_at dksX0_year_1 17 rfl rfl)
theorem dX0_year_41 : decode cX0_year 41 = .ok (.iadd, 1) := dk_96 (dk_at dksX0_year_1 18 rfl rfl)
theorem dX0_year_42 : decode cX0_year 42 = .ok (.putfield 179, 3) := dk_181 0 179 (dk_at dksX0_year_1 19 rfl rfl)
theorem dX0_year_45 : decode cX0_year 45 = .ok (.aload_n 0, 1) := dk_42 (dk_at dksX0_year_1 22 rfl rfl)
theorem dX0_year_46 : decode cX0_year 46 = .ok (.invokevirtual 268, 3) := dk_182 1 12 (dk_at dksX0_year_2 0 rfl rfl)
theorem dX0_year_49 : decode cX0_year 49 = .ok (.invokestatic 271, 3) := dk_184 1 15 (dk_at dksX0_year_2 3 rfl rfl)
theorem dX0_year_52 : decode cX0_year 52 = .ok (.ireturn, 1) := dk_172 (dk_at dksX0_year_2 6 rfl rfl)
abbrev cX0_note : ByteArray := prog_1_method_48_code
def yX0_note : MethodName := ⟨RX0, "note", "()V"⟩
def dkwX0_note_1 : List UInt8 := [181, 0, 74, 177]
abbrev dktX0_note_1 : List UInt8 := dkwX0_note_1 ++ []
def dkwX0_note_0 : List UInt8 := [42, 42, 180, 0, 65, 16, 14, 42, 180, 0, 74, 104, 182, 1, 5, 42, 89, 180, 0, 74, 4, 96]
abbrev dktX0_note_0 : List UInt8 := dkwX0_note_0 ++ dktX0_note_1
theorem dksX0_note_0 : cX0_note.data.toList.drop 0 = dktX0_note_0 := by decide +kernel
theorem dksX0_note_1 : cX0_note.data.toList.drop 22 = dktX0_note_1 := dk_seg dksX0_note_0 22 rfl rfl
theorem dX0_note_0 : decode cX0_note 0 = .ok (.aload_n 0, 1) := dk_42 (dk_at dksX0_note_0 0 rfl rfl)
theorem dX0_note_1 : decode cX0_note 1 = .ok (.aload_n 0, 1) := dk_42 (dk_at dksX0_note_0 1 rfl rfl)
theorem dX0_note_2 : decode cX0_note 2 = .ok (.getfield 65, 3) := dk_180 0 65 (dk_at dksX0_note_0 2 rfl rfl)
theorem dX0_note_5 : decode cX0_note 5 = .ok (.bipush 14, 2) := dk_16 14 (dk_at dksX0_note_0 5 rfl rfl)
theorem dX0_note_7 : decode cX0_note 7 = .ok (.aload_n 0, 1) := dk_42 (dk_at dksX0_note_0 7 rfl rfl)
theorem dX0_note_8 : decode cX0_note 8 = .ok (.getfield 74, 3) := dk_180 0 74 (dk_at dksX0_note_0 8 rfl rfl)
theorem dX0_note_11 : decode cX0_note 11 = .ok (.imul, 1) := dk_104 (dk_at dksX0_note_0 11 rfl rfl)
theorem dX0_note_12 : decode cX0_note 12 = .ok (.invokevirtual 261, 3) := dk_182 1 5 (dk_at dksX0_note_0 12 rfl rfl)
theorem dX0_note_15 : decode cX0_note 15 = .ok (.aload_n 0, 1) := dk_42 (dk_at dksX0_note_0 15 rfl rfl)
theorem dX0_note_16 : decode cX0_note 16 = .ok (.dup, 1) := dk_89 (dk_at dksX0_note_0 16 rfl rfl)
theorem dX0_note_17 : decode cX0_note 17 = .ok (.getfield 74, 3) := dk_180 0 74 (dk_at dksX0_note_0 17 rfl rfl)
theorem dX0_note_20 : decode cX0_note 20 = .ok (.iconst 1, 1) := dk_4 (dk_at dksX0_note_0 20 rfl rfl)
theorem dX0_note_21 : decode cX0_note 21 = .ok (.iadd, 1) := dk_96 (dk_at dksX0_note_0 21 rfl rfl)
theorem dX0_note_22 : decode cX0_note 22 = .ok (.putfield 74, 3) := dk_181 0 74 (dk_at dksX0_note_1 0 rfl rfl)
theorem dX0_note_25 : decode cX0_note 25 = .ok (.return_, 1) := dk_177 (dk_at dksX0_note_1 3 rfl rfl)
abbrev cX0_write : ByteArray := prog_1_method_46_code
def yX0_write : MethodName := ⟨RX0, "write", "([II)V"⟩
def dkwX0_write_1 : List UInt8 := [96, 16, 6, 184, 0, 102, 42, 180, 0, 62, 3, 43, 28, 16, 8, 96, 16, 6, 184, 0, 102, 177]
abbrev dktX0_write_1 : List UInt8 := dkwX0_write_1 ++ []
def dkwX0_write_0 : List UInt8 := [43, 28, 42, 180, 0, 179, 79, 43, 28, 4, 96, 42, 180, 0, 182, 79, 42, 180, 0, 59, 3, 43, 28, 5]
abbrev dktX0_write_0 : List UInt8 := dkwX0_write_0 ++ dktX0_write_1
theorem dksX0_write_0 : cX0_write.data.toList.drop 0 = dktX0_write_0 := by decide +kernel
theorem dksX0_write_1 : cX0_write.data.toList.drop 24 = dktX0_write_1 := dk_seg dksX0_write_0 24 rfl rfl
theorem dX0_write_0 : decode cX0_write 0 = .ok (.aload_n 1, 1) := dk_43 (dk_at dksX0_write_0 0 rfl rfl)
theorem dX0_write_1 : decode cX0_write 1 = .ok (.iload_n 2, 1) := dk_28 (dk_at dksX0_write_0 1 rfl rfl)
theorem dX0_write_2 : decode cX0_write 2 = .ok (.aload_n 0, 1) := dk_42 (dk_at dksX0_write_0 2 rfl rfl)
theorem dX0_write_3 : decode cX0_write 3 = .ok (.getfield 179, 3) := dk_180 0 179 (dk_at dksX0_write_0 3 rfl rfl)
theorem dX0_write_6 : decode cX0_write 6 = .ok (.iastore, 1) := dk_79 (dk_at dksX0_write_0 6 rfl rfl)
theorem dX0_write_7 : decode cX0_write 7 = .ok (.aload_n 1, 1) := dk_43 (dk_at dksX0_write_0 7 rfl rfl)
theorem dX0_write_8 : decode cX0_write 8 = .ok (.iload_n 2, 1) := dk_28 (dk_at dksX0_write_0 8 rfl rfl)
theorem dX0_write_9 : decode cX0_write 9 = .ok (.iconst 1, 1) := dk_4 (dk_at dksX0_write_0 9 rfl rfl)
theorem dX0_write_10 : decode cX0_write 10 = .ok (.iadd, 1) := dk_96 (dk_at dksX0_write_0 10 rfl rfl)
theorem dX0_write_11 : decode cX0_write 11 = .ok (.aload_n 0, 1) := dk_42 (dk_at dksX0_write_0 11 rfl rfl)
theorem dX0_write_12 : decode cX0_write 12 = .ok (.getfield 182, 3) := dk_180 0 182 (dk_at dksX0_write_0 12 rfl rfl)
theorem dX0_write_15 : decode cX0_write 15 = .ok (.iastore, 1) := dk_79 (dk_at dksX0_write_0 15 rfl rfl)
theorem dX0_write_16 : decode cX0_write 16 = .ok (.aload_n 0, 1) := dk_42 (dk_at dksX0_write_0 16 rfl rfl)
theorem dX0_write_17 : decode cX0_write 17 = .ok (.getfield 59, 3) := dk_180 0 59 (dk_at dksX0_write_0 17 rfl rfl)
theorem dX0_write_20 : decode cX0_write 20 = .ok (.iconst 0, 1) := dk_3 (dk_at dksX0_write_0 20 rfl rfl)
theorem dX0_write_21 : decode cX0_write 21 = .ok (.aload_n 1, 1) := dk_43 (dk_at dksX0_write_0 21 rfl rfl)
theorem dX0_write_22 : decode cX0_write 22 = .ok (.iload_n 2, 1) := dk_28 (dk_at dksX0_write_0 22 rfl rfl)
theorem dX0_write_23 : decode cX0_write 23 = .ok (.iconst 2, 1) := dk_5 (dk_at dksX0_write_0 23 rfl rfl)
theorem dX0_write_24 : decode cX0_write 24 = .ok (.iadd, 1) := dk_96 (dk_at dksX0_write_1 0 rfl rfl)
theorem dX0_write_25 : decode cX0_write 25 = .ok (.bipush 6, 2) := dk_16 6 (dk_at dksX0_write_1 1 rfl rfl)
theorem dX0_write_27 : decode cX0_write 27 = .ok (.invokestatic 102, 3) := dk_184 0 102 (dk_at dksX0_write_1 3 rfl rfl)
theorem dX0_write_30 : decode cX0_write 30 = .ok (.aload_n 0, 1) := dk_42 (dk_at dksX0_write_1 6 rfl rfl)
theorem dX0_write_31 : decode cX0_write 31 = .ok (.getfield 62, 3) := dk_180 0 62 (dk_at dksX0_write_1 7 rfl rfl)
theorem dX0_write_34 : decode cX0_write 34 = .ok (.iconst 0, 1) := dk_3 (dk_at dksX0_write_1 10 rfl rfl)
theorem dX0_write_35 : decode cX0_write 35 = .ok (.aload_n 1, 1) := dk_43 (dk_at dksX0_write_1 11 rfl rfl)
theorem dX0_write_36 : decode cX0_write 36 = .ok (.iload_n 2, 1) := dk_28 (dk_at dksX0_write_1 12 rfl rfl)
theorem dX0_write_37 : decode cX0_write 37 = .ok (.bipush 8, 2) := dk_16 8 (dk_at dksX0_write_1 13 rfl rfl)
theorem dX0_write_39 : decode cX0_write 39 = .ok (.iadd, 1) := dk_96 (dk_at dksX0_write_1 15 rfl rfl)
theorem dX0_write_40 : decode cX0_write 40 = .ok (.bipush 6, 2) := dk_16 6 (dk_at dksX0_write_1 16 rfl rfl)
theorem dX0_write_42 : decode cX0_write 42 = .ok (.invokestatic 102, 3) := dk_184 0 102 (dk_at dksX0_write_1 18 rfl rfl)
theorem dX0_write_45 : decode cX0_write 45 = .ok (.return_, 1) := dk_177 (dk_at dksX0_write_1 21 rfl rfl)
abbrev cX0_seated : ByteArray := prog_1_method_36_code
def yX0_seated : MethodName := ⟨RX0, "seated", "()I"⟩
def dkwX0_seated_1 : List UInt8 := [153, 0, 9, 4, 28, 120, 167, 0, 4, 3, 128, 60, 132, 2, 1, 167, 255, 222, 27, 172]
abbrev dktX0_seated_1 : List UInt8 := dkwX0_seated_1 ++ []
def dkwX0_seated_0 : List UInt8 := [3, 60, 3, 61, 28, 42, 180, 0, 172, 162, 0, 32, 27, 42, 42, 180, 0, 59, 28, 46, 182, 0, 210]
abbrev dktX0_seated_0 : List UInt8 := dkwX0_seated_0 ++ dktX0_seated_1
theorem dksX0_seated_0 : cX0_seated.data.toList.drop 0 = dktX0_seated_0 := by decide +kernel
theorem dksX0_seated_1 : cX0_seated.data.toList.drop 23 = dktX0_seated_1 := dk_seg dksX0_seated_0 23 rfl rfl
theorem dX0_seated_0 : decode cX0_seated 0 = .ok (.iconst 0, 1) := dk_3 (dk_at dksX0_seated_0 0 rfl rfl)
theorem dX0_seated_1 : decode cX0_seated 1 = .ok (.istore_n 1, 1) := dk_60 (dk_at dksX0_seated_0 1 rfl rfl)
theorem dX0_seated_2 : decode cX0_seated 2 = .ok (.iconst 0, 1) := dk_3 (dk_at dksX0_seated_0 2 rfl rfl)
theorem dX0_seated_3 : decode cX0_seated 3 = .ok (.istore_n 2, 1) := dk_61 (dk_at dksX0_seated_0 3 rfl rfl)
theorem dX0_seated_4 : decode cX0_seated 4 = .ok (.iload_n 2, 1) := dk_28 (dk_at dksX0_seated_0 4 rfl rfl)
theorem dX0_seated_5 : decode cX0_seated 5 = .ok (.aload_n 0, 1) := dk_42 (dk_at dksX0_seated_0 5 rfl rfl)
theorem dX0_seated_6 : decode cX0_seated 6 = .ok (.getfield 172, 3) := dk_180 0 172 (dk_at dksX0_seated_0 6 rfl rfl)
theorem dX0_seated_9 : decode cX0_seated 9 = .ok (.if_icmp .ge 32, 3) := dk_162 0 32 (dk_at dksX0_seated_0 9 rfl rfl)
theorem dX0_seated_12 : decode cX0_seated 12 = .ok (.iload_n 1, 1) := dk_27 (dk_at dksX0_seated_0 12 rfl rfl)
theorem dX0_seated_13 : decode cX0_seated 13 = .ok (.aload_n 0, 1) := dk_42 (dk_at dksX0_seated_0 13 rfl rfl)
theorem dX0_seated_14 : decode cX0_seated 14 = .ok (.aload_n 0, 1) := dk_42 (dk_at dksX0_seated_0 14 rfl rfl)
theorem dX0_seated_15 : decode cX0_seated 15 = .ok (.getfield 59, 3) := dk_180 0 59 (dk_at dksX0_seated_0 15 rfl rfl)
theorem dX0_seated_18 : decode cX0_seated 18 = .ok (.iload_n 2, 1) := dk_28 (dk_at dksX0_seated_0 18 rfl rfl)
theorem dX0_seated_19 : decode cX0_seated 19 = .ok (.iaload, 1) := dk_46 (dk_at dksX0_seated_0 19 rfl rfl)
theorem dX0_seated_20 : decode cX0_seated 20 = .ok (.invokevirtual 210, 3) := dk_182 0 210 (dk_at dksX0_seated_0 20 rfl rfl)
theorem dX0_seated_23 : decode cX0_seated 23 = .ok (.ifCond .eq 9, 3) := dk_153 0 9 (dk_at dksX0_seated_1 0 rfl rfl)
theorem dX0_seated_26 : decode cX0_seated 26 = .ok (.iconst 1, 1) := dk_4 (dk_at dksX0_seated_1 3 rfl rfl)
theorem dX0_seated_27 : decode cX0_seated 27 = .ok (.iload_n 2, 1) := dk_28 (dk_at dksX0_seated_1 4 rfl rfl)
theorem dX0_seated_28 : decode cX0_seated 28 = .ok (.ishl, 1) := dk_120 (dk_at dksX0_seated_1 5 rfl rfl)
theorem dX0_seated_29 : decode cX0_seated 29 = .ok (.goto 4, 3) := dk_167 0 4 (dk_at dksX0_seated_1 6 rfl rfl)
theorem dX0_seated_32 : decode cX0_seated 32 = .ok (.iconst 0, 1) := dk_3 (dk_at dksX0_seated_1 9 rfl rfl)
theorem dX0_seated_33 : decode cX0_seated 33 = .ok (.ior, 1) := dk_128 (dk_at dksX0_seated_1 10 rfl rfl)
theorem dX0_seated_34 : decode cX0_seated 34 = .ok (.istore_n 1, 1) := dk_60 (dk_at dksX0_seated_1 11 rfl rfl)
theorem dX0_seated_35 : decode cX0_seated 35 = .ok (.iinc 2 1, 3) := dk_132 2 1 (dk_at dksX0_seated_1 12 rfl rfl)
theorem dX0_seated_38 : decode cX0_seated 38 = .ok (.goto (-34), 3) := dk_167 255 222 (dk_at dksX0_seated_1 15 rfl rfl)
theorem dX0_seated_41 : decode cX0_seated 41 = .ok (.iload_n 1, 1) := dk_27 (dk_at dksX0_seated_1 18 rfl rfl)
theorem dX0_seated_42 : decode cX0_seated 42 = .ok (.ireturn, 1) := dk_172 (dk_at dksX0_seated_1 19 rfl rfl)
abbrev cX0_move : ByteArray := prog_1_method_50_code
def yX0_move : MethodName := ⟨RX0, "move", "(II)I"⟩
def dkwX0_move_2 : List UInt8 := [180, 0, 59, 27, 28, 79, 42, 28, 182, 0, 210, 172]
abbrev dktX0_move_2 : List UInt8 := dkwX0_move_2 ++ []
def dkwX0_move_1 : List UInt8 := [160, 0, 6, 16, 252, 172, 42, 180, 0, 74, 16, 40, 160, 0, 6, 16, 254, 172, 42, 182, 1, 9, 42]
abbrev dktX0_move_1 : List UInt8 := dkwX0_move_1 ++ dktX0_move_2
def dkwX0_move_0 : List UInt8 := [42, 27, 182, 0, 234, 153, 0, 10, 28, 184, 1, 2, 154, 0, 5, 2, 172, 42, 180, 0, 59, 27, 46, 28]
abbrev dktX0_move_0 : List UInt8 := dkwX0_move_0 ++ dktX0_move_1
theorem dksX0_move_0 : cX0_move.data.toList.drop 0 = dktX0_move_0 := by decide +kernel
theorem dksX0_move_1 : cX0_move.data.toList.drop 24 = dktX0_move_1 := dk_seg dksX0_move_0 24 rfl rfl
theorem dksX0_move_2 : cX0_move.data.toList.drop 47 = dktX0_move_2 := dk_seg dksX0_move_1 23 rfl rfl
theorem dX0_move_0 : decode cX0_move 0 = .ok (.aload_n 0, 1) := dk_42 (dk_at dksX0_move_0 0 rfl rfl)
theorem dX0_move_1 : decode cX0_move 1 = .ok (.iload_n 1, 1) := dk_27 (dk_at dksX0_move_0 1 rfl rfl)
theorem dX0_move_2 : decode cX0_move 2 = .ok (.invokevirtual 234, 3) := dk_182 0 234 (dk_at dksX0_move_0 2 rfl rfl)
theorem dX0_move_5 : decode cX0_move 5 = .ok (.ifCond .eq 10, 3) := dk_153 0 10 (dk_at dksX0_move_0 5 rfl rfl)
theorem dX0_move_8 : decode cX0_move 8 = .ok (.iload_n 2, 1) := dk_28 (dk_at dksX0_move_0 8 rfl rfl)
theorem dX0_move_9 : decode cX0_move 9 = .ok (.invokestatic 258, 3) := dk_184 1 2 (dk_at dksX0_move_0 9 rfl rfl)
theorem dX0_move_12 : decode cX0_move 12 = .ok (.ifCond .ne 5, 3) := dk_154 0 5 (dk_at dksX0_move_0 12 rfl rfl)
theorem dX0_move_15 : decode cX0_move 15 = .ok (.iconst (-1), 1) := dk_2 (dk_at dksX0_move_0 15 rfl rfl)
theorem dX0_move_16 : decode cX0_move 16 = .ok (.ireturn, 1) := dk_172 (dk_at dksX0_move_0 16 rfl rfl)
theorem dX0_move_17 : decode cX0_move 17 = .ok (.aload_n 0, 1) := dk_42 (dk_at dksX0_move_0 17 rfl rfl)
theorem dX0_move_18 : decode cX0_move 18 = .ok (.getfield 59, 3) := dk_180 0 59 (dk_at dksX0_move_0 18 rfl rfl)
theorem dX0_move_21 : decode cX0_move 21 = .ok (.iload_n 1, 1) := dk_27 (dk_at dksX0_move_0 21 rfl rfl)
theorem dX0_move_22 : decode cX0_move 22 = .ok (.iaload, 1) := dk_46 (dk_at dksX0_move_0 22 rfl rfl)
theorem dX0_move_23 : decode cX0_move 23 = .ok (.iload_n 2, 1) := dk_28 (dk_at dksX0_move_0 23 rfl rfl)
theorem dX0_move_24 : decode cX0_move 24 = .ok (.if_icmp .ne 6, 3) := dk_160 0 6 (dk_at dksX0_move_1 0 rfl rfl)
theorem dX0_move_27 : decode cX0_move 27 = .ok (.bipush (-4), 2) := dk_16 252 (dk_at dksX0_move_1 3 rfl rfl)
theorem dX0_move_29 : decode cX0_move 29 = .ok (.ireturn, 1) := dk_172 (dk_at dksX0_move_1 5 rfl rfl)
theorem dX0_move_30 : decode cX0_move 30 = .ok (.aload_n 0, 1) := dk_42 (dk_at dksX0_move_1 6 rfl rfl)
theorem dX0_move_31 : decode cX0_move 31 = .ok (.getfield 74, 3) := dk_180 0 74 (dk_at dksX0_move_1 7 rfl rfl)
theorem dX0_move_34 : decode cX0_move 34 = .ok (.bipush 40, 2) := dk_16 40 (dk_at dksX0_move_1 10 rfl rfl)
theorem dX0_move_36 : decode cX0_move 36 = .ok (.if_icmp .ne 6, 3) := dk_160 0 6 (dk_at dksX0_move_1 12 rfl rfl)
theorem dX0_move_39 : decode cX0_move 39 = .ok (.bipush (-2), 2) := dk_16 254 (dk_at dksX0_move_1 15 rfl rfl)
theorem dX0_move_41 : decode cX0_move 41 = .ok (.ireturn, 1) := dk_172 (dk_at dksX0_move_1 17 rfl rfl)
theorem dX0_move_42 : decode cX0_move 42 = .ok (.aload_n 0, 1) := dk_42 (dk_at dksX0_move_1 18 rfl rfl)
theorem dX0_move_43 : decode cX0_move 43 = .ok (.invokevirtual 265, 3) := dk_182 1 9 (dk_at dksX0_move_1 19 rfl rfl)
theorem dX0_move_46 : decode cX0_move 46 = .ok (.aload_n 0, 1) := dk_42 (dk_at dksX0_move_1 22 rfl rfl)
theorem dX0_move_47 : decode cX0_move 47 = .ok (.getfield 59, 3) := dk_180 0 59 (dk_at dksX0_move_2 0 rfl rfl)
theorem dX0_move_50 : decode cX0_move 50 = .ok (.iload_n 1, 1) := dk_27 (dk_at dksX0_move_2 3 rfl rfl)
theorem dX0_move_51 : decode cX0_move 51 = .ok (.iload_n 2, 1) := dk_28 (dk_at dksX0_move_2 4 rfl rfl)
theorem dX0_move_52 : decode cX0_move 52 = .ok (.iastore, 1) := dk_79 (dk_at dksX0_move_2 5 rfl rfl)
theorem dX0_move_53 : decode cX0_move 53 = .ok (.aload_n 0, 1) := dk_42 (dk_at dksX0_move_2 6 rfl rfl)
theorem dX0_move_54 : decode cX0_move 54 = .ok (.iload_n 2, 1) := dk_28 (dk_at dksX0_move_2 7 rfl rfl)
theorem dX0_move_55 : decode cX0_move 55 = .ok (.invokevirtual 210, 3) := dk_182 0 210 (dk_at dksX0_move_2 8 rfl rfl)
theorem dX0_move_58 : decode cX0_move 58 = .ok (.ireturn, 1) := dk_172 (dk_at dksX0_move_2 11 rfl rfl)
abbrev cX0_gather : ByteArray := prog_1_method_51_code
def yX0_gather : MethodName := ⟨RX0, "gather", "(I)I"⟩
def dkwX0_gather_2 : List UInt8 := [180, 0, 182, 4, 27, 120, 2, 130, 126, 181, 0, 182, 28, 172]
abbrev dktX0_gather_2 : List UInt8 := dkwX0_gather_2 ++ []
def dkwX0_gather_1 : List UInt8 := [42, 180, 0, 74, 16, 40, 160, 0, 6, 16, 254, 172, 42, 182, 1, 9, 42, 27, 182, 0, 213, 61, 42, 89]
abbrev dktX0_gather_1 : List UInt8 := dkwX0_gather_1 ++ dktX0_gather_2
def dkwX0_gather_0 : List UInt8 := [42, 27, 182, 0, 228, 154, 0, 5, 2, 172, 42, 180, 0, 182, 27, 184, 0, 204, 154, 0, 6, 16, 252, 172]
abbrev dktX0_gather_0 : List UInt8 := dkwX0_gather_0 ++ dktX0_gather_1
theorem dksX0_gather_0 : cX0_gather.data.toList.drop 0 = dktX0_gather_0 := by decide +kernel
theorem dksX0_gather_1 : cX0_gather.data.toList.drop 24 = dktX0_gather_1 := dk_seg dksX0_gather_0 24 rfl rfl
theorem dksX0_gather_2 : cX0_gather.data.toList.drop 48 = dktX0_gather_2 := dk_seg dksX0_gather_1 24 rfl rfl
theorem dX0_gather_0 : decode cX0_gather 0 = .ok (.aload_n 0, 1) := dk_42 (dk_at dksX0_gather_0 0 rfl rfl)
theorem dX0_gather_1 : decode cX0_gather 1 = .ok (.iload_n 1, 1) := dk_27 (dk_at dksX0_gather_0 1 rfl rfl)
theorem dX0_gather_2 : decode cX0_gather 2 = .ok (.invokevirtual 228, 3) := dk_182 0 228 (dk_at dksX0_gather_0 2 rfl rfl)
theorem dX0_gather_5 : decode cX0_gather 5 = .ok (.ifCond .ne 5, 3) := dk_154 0 5 (dk_at dksX0_gather_0 5 rfl rfl)
theorem dX0_gather_8 : decode cX0_gather 8 = .ok (.iconst (-1), 1) := dk_2 (dk_at dksX0_gather_0 8 rfl rfl)
theorem dX0_gather_9 : decode cX0_gather 9 = .ok (.ireturn, 1) := dk_172 (dk_at dksX0_gather_0 9 rfl rfl)
theorem dX0_gather_10 : decode cX0_gather 10 = .ok (.aload_n 0, 1) := dk_42 (dk_at dksX0_gather_0 10 rfl rfl)
theorem dX0_gather_11 : decode cX0_gather 11 = .ok (.getfield 182, 3) := dk_180 0 182 (dk_at dksX0_gather_0 11 rfl rfl)
theorem dX0_gather_14 : decode cX0_gather 14 = .ok (.iload_n 1, 1) := dk_27 (dk_at dksX0_gather_0 14 rfl rfl)
theorem dX0_gather_15 : decode cX0_gather 15 = .ok (.invokestatic 204, 3) := dk_184 0 204 (dk_at dksX0_gather_0 15 rfl rfl)
theorem dX0_gather_18 : decode cX0_gather 18 = .ok (.ifCond .ne 6, 3) := dk_154 0 6 (dk_at dksX0_gather_0 18 rfl rfl)
theorem dX0_gather_21 : decode cX0_gather 21 = .ok (.bipush (-4), 2) := dk_16 252 (dk_at dksX0_gather_0 21 rfl rfl)
theorem dX0_gather_23 : decode cX0_gather 23 = .ok (.ireturn, 1) := dk_172 (dk_at dksX0_gather_0 23 rfl rfl)
theorem dX0_gather_24 : decode cX0_gather 24 = .ok (.aload_n 0, 1) := dk_42 (dk_at dksX0_gather_1 0 rfl rfl)
theorem dX0_gather_25 : decode cX0_gather 25 = .ok (.getfield 74, 3) := dk_180 0 74 (dk_at dksX0_gather_1 1 rfl rfl)
theorem dX0_gather_28 : decode cX0_gather 28 = .ok (.bipush 40, 2) := dk_16 40 (dk_at dksX0_gather_1 4 rfl rfl)
theorem dX0_gather_30 : decode cX0_gather 30 = .ok (.if_icmp .ne 6, 3) := dk_160 0 6 (dk_at dksX0_gather_1 6 rfl rfl)
theorem dX0_gather_33 : decode cX0_gather 33 = .ok (.bipush (-2), 2) := dk_16 254 (dk_at dksX0_gather_1 9 rfl rfl)
theorem dX0_gather_35 : decode cX0_gather 35 = .ok (.ireturn, 1) := dk_172 (dk_at dksX0_gather_1 11 rfl rfl)
theorem dX0_gather_36 : decode cX0_gather 36 = .ok (.aload_n 0, 1) := dk_42 (dk_at dksX0_gather_1 12 rfl rfl)
theorem dX0_gather_37 : decode cX0_gather 37 = .ok (.invokevirtual 265, 3) := dk_182 1 9 (dk_at dksX0_gather_1 13 rfl rfl)
theorem dX0_gather_40 : decode cX0_gather 40 = .ok (.aload_n 0, 1) := dk_42 (dk_at dksX0_gather_1 16 rfl rfl)
theorem dX0_gather_41 : decode cX0_gather 41 = .ok (.iload_n 1, 1) := dk_27 (dk_at dksX0_gather_1 17 rfl rfl)
theorem dX0_gather_42 : decode cX0_gather 42 = .ok (.invokevirtual 213, 3) := dk_182 0 213 (dk_at dksX0_gather_1 18 rfl rfl)
theorem dX0_gather_45 : decode cX0_gather 45 = .ok (.istore_n 2, 1) := dk_61 (dk_at dksX0_gather_1 21 rfl rfl)
theorem dX0_gather_46 : decode cX0_gather 46 = .ok (.aload_n 0, 1) := dk_42 (dk_at dksX0_gather_1 22 rfl rfl)
theorem dX0_gather_47 : decode cX0_gather 47 = .ok (.dup, 1) := dk_89 (dk_at dksX0_gather_1 23 rfl rfl)
theorem dX0_gather_48 : decode cX0_gather 48 = .ok (.getfield 182, 3) := dk_180 0 182 (dk_at dksX0_gather_2 0 rfl rfl)
theorem dX0_gather_51 : decode cX0_gather 51 = .ok (.iconst 1, 1) := dk_4 (dk_at dksX0_gather_2 3 rfl rfl)
theorem dX0_gather_52 : decode cX0_gather 52 = .ok (.iload_n 1, 1) := dk_27 (dk_at dksX0_gather_2 4 rfl rfl)
theorem dX0_gather_53 : decode cX0_gather 53 = .ok (.ishl, 1) := dk_120 (dk_at dksX0_gather_2 5 rfl rfl)
theorem dX0_gather_54 : decode cX0_gather 54 = .ok (.iconst (-1), 1) := dk_2 (dk_at dksX0_gather_2 6 rfl rfl)
theorem dX0_gather_55 : decode cX0_gather 55 = .ok (.ixor, 1) := dk_130 (dk_at dksX0_gather_2 7 rfl rfl)
theorem dX0_gather_56 : decode cX0_gather 56 = .ok (.iand, 1) := dk_126 (dk_at dksX0_gather_2 8 rfl rfl)
theorem dX0_gather_57 : decode cX0_gather 57 = .ok (.putfield 182, 3) := dk_181 0 182 (dk_at dksX0_gather_2 9 rfl rfl)
theorem dX0_gather_60 : decode cX0_gather 60 = .ok (.iload_n 2, 1) := dk_28 (dk_at dksX0_gather_2 12 rfl rfl)
theorem dX0_gather_61 : decode cX0_gather 61 = .ok (.ireturn, 1) := dk_172 (dk_at dksX0_gather_2 13 rfl rfl)
abbrev cX0_make : ByteArray := prog_1_method_52_code
def yX0_make : MethodName := ⟨RX0, "make", "(I)I"⟩
def dkwX0_make_2 : List UInt8 := [128, 181, 0, 182, 42, 27, 182, 0, 213, 172]
abbrev dktX0_make_2 : List UInt8 := dkwX0_make_2 ++ []
def dkwX0_make_1 : List UInt8 := [42, 180, 0, 74, 16, 40, 160, 0, 6, 16, 254, 172, 42, 182, 1, 9, 42, 89, 180, 0, 182, 4, 27, 120]
abbrev dktX0_make_1 : List UInt8 := dkwX0_make_1 ++ dktX0_make_2
def dkwX0_make_0 : List UInt8 := [42, 27, 182, 0, 228, 154, 0, 5, 2, 172, 42, 180, 0, 182, 27, 184, 0, 204, 153, 0, 6, 16, 252, 172]
abbrev dktX0_make_0 : List UInt8 := dkwX0_make_0 ++ dktX0_make_1
theorem dksX0_make_0 : cX0_make.data.toList.drop 0 = dktX0_make_0 := by decide +kernel
theorem dksX0_make_1 : cX0_make.data.toList.drop 24 = dktX0_make_1 := dk_seg dksX0_make_0 24 rfl rfl
theorem dksX0_make_2 : cX0_make.data.toList.drop 48 = dktX0_make_2 := dk_seg dksX0_make_1 24 rfl rfl
theorem dX0_make_0 : decode cX0_make 0 = .ok (.aload_n 0, 1) := dk_42 (dk_at dksX0_make_0 0 rfl rfl)
theorem dX0_make_1 : decode cX0_make 1 = .ok (.iload_n 1, 1) := dk_27 (dk_at dksX0_make_0 1 rfl rfl)
theorem dX0_make_2 : decode cX0_make 2 = .ok (.invokevirtual 228, 3) := dk_182 0 228 (dk_at dksX0_make_0 2 rfl rfl)
theorem dX0_make_5 : decode cX0_make 5 = .ok (.ifCond .ne 5, 3) := dk_154 0 5 (dk_at dksX0_make_0 5 rfl rfl)
theorem dX0_make_8 : decode cX0_make 8 = .ok (.iconst (-1), 1) := dk_2 (dk_at dksX0_make_0 8 rfl rfl)
theorem dX0_make_9 : decode cX0_make 9 = .ok (.ireturn, 1) := dk_172 (dk_at dksX0_make_0 9 rfl rfl)
theorem dX0_make_10 : decode cX0_make 10 = .ok (.aload_n 0, 1) := dk_42 (dk_at dksX0_make_0 10 rfl rfl)
theorem dX0_make_11 : decode cX0_make 11 = .ok (.getfield 182, 3) := dk_180 0 182 (dk_at dksX0_make_0 11 rfl rfl)
theorem dX0_make_14 : decode cX0_make 14 = .ok (.iload_n 1, 1) := dk_27 (dk_at dksX0_make_0 14 rfl rfl)
theorem dX0_make_15 : decode cX0_make 15 = .ok (.invokestatic 204, 3) := dk_184 0 204 (dk_at dksX0_make_0 15 rfl rfl)
theorem dX0_make_18 : decode cX0_make 18 = .ok (.ifCond .eq 6, 3) := dk_153 0 6 (dk_at dksX0_make_0 18 rfl rfl)
theorem dX0_make_21 : decode cX0_make 21 = .ok (.bipush (-4), 2) := dk_16 252 (dk_at dksX0_make_0 21 rfl rfl)
theorem dX0_make_23 : decode cX0_make 23 = .ok (.ireturn, 1) := dk_172 (dk_at dksX0_make_0 23 rfl rfl)
theorem dX0_make_24 : decode cX0_make 24 = .ok (.aload_n 0, 1) := dk_42 (dk_at dksX0_make_1 0 rfl rfl)
theorem dX0_make_25 : decode cX0_make 25 = .ok (.getfield 74, 3) := dk_180 0 74 (dk_at dksX0_make_1 1 rfl rfl)
theorem dX0_make_28 : decode cX0_make 28 = .ok (.bipush 40, 2) := dk_16 40 (dk_at dksX0_make_1 4 rfl rfl)
theorem dX0_make_30 : decode cX0_make 30 = .ok (.if_icmp .ne 6, 3) := dk_160 0 6 (dk_at dksX0_make_1 6 rfl rfl)
theorem dX0_make_33 : decode cX0_make 33 = .ok (.bipush (-2), 2) := dk_16 254 (dk_at dksX0_make_1 9 rfl rfl)
theorem dX0_make_35 : decode cX0_make 35 = .ok (.ireturn, 1) := dk_172 (dk_at dksX0_make_1 11 rfl rfl)
theorem dX0_make_36 : decode cX0_make 36 = .ok (.aload_n 0, 1) := dk_42 (dk_at dksX0_make_1 12 rfl rfl)
theorem dX0_make_37 : decode cX0_make 37 = .ok (.invokevirtual 265, 3) := dk_182 1 9 (dk_at dksX0_make_1 13 rfl rfl)
theorem dX0_make_40 : decode cX0_make 40 = .ok (.aload_n 0, 1) := dk_42 (dk_at dksX0_make_1 16 rfl rfl)
theorem dX0_make_41 : decode cX0_make 41 = .ok (.dup, 1) := dk_89 (dk_at dksX0_make_1 17 rfl rfl)
theorem dX0_make_42 : decode cX0_make 42 = .ok (.getfield 182, 3) := dk_180 0 182 (dk_at dksX0_make_1 18 rfl rfl)
theorem dX0_make_45 : decode cX0_make 45 = .ok (.iconst 1, 1) := dk_4 (dk_at dksX0_make_1 21 rfl rfl)
theorem dX0_make_46 : decode cX0_make 46 = .ok (.iload_n 1, 1) := dk_27 (dk_at dksX0_make_1 22 rfl rfl)
theorem dX0_make_47 : decode cX0_make 47 = .ok (.ishl, 1) := dk_120 (dk_at dksX0_make_1 23 rfl rfl)
theorem dX0_make_48 : decode cX0_make 48 = .ok (.ior, 1) := dk_128 (dk_at dksX0_make_2 0 rfl rfl)
theorem dX0_make_49 : decode cX0_make 49 = .ok (.putfield 182, 3) := dk_181 0 182 (dk_at dksX0_make_2 1 rfl rfl)
theorem dX0_make_52 : decode cX0_make 52 = .ok (.aload_n 0, 1) := dk_42 (dk_at dksX0_make_2 4 rfl rfl)
theorem dX0_make_53 : decode cX0_make 53 = .ok (.iload_n 1, 1) := dk_27 (dk_at dksX0_make_2 5 rfl rfl)
theorem dX0_make_54 : decode cX0_make 54 = .ok (.invokevirtual 213, 3) := dk_182 0 213 (dk_at dksX0_make_2 6 rfl rfl)
theorem dX0_make_57 : decode cX0_make 57 = .ok (.ireturn, 1) := dk_172 (dk_at dksX0_make_2 9 rfl rfl)
abbrev cX0_think : ByteArray := prog_1_method_53_code
def yX0_think : MethodName := ⟨RX0, "think", "(II)I"⟩
def dkwX0_think_2 : List UInt8 := [28, 79, 29, 172]
abbrev dktX0_think_2 : List UInt8 := dkwX0_think_2 ++ []
def dkwX0_think_1 : List UInt8 := [16, 40, 160, 0, 6, 16, 254, 172, 42, 182, 1, 9, 42, 180, 0, 62, 27, 46, 62, 42, 180, 0, 62, 27]
abbrev dktX0_think_1 : List UInt8 := dkwX0_think_1 ++ dktX0_think_2
def dkwX0_think_0 : List UInt8 := [42, 27, 182, 0, 234, 153, 0, 13, 28, 3, 16, 9, 184, 0, 77, 154, 0, 5, 2, 172, 42, 180, 0, 74]
abbrev dktX0_think_0 : List UInt8 := dkwX0_think_0 ++ dktX0_think_1
theorem dksX0_think_0 : cX0_think.data.toList.drop 0 = dktX0_think_0 := by decide +kernel
theorem dksX0_think_1 : cX0_think.data.toList.drop 24 = dktX0_think_1 := dk_seg dksX0_think_0 24 rfl rfl
theorem dksX0_think_2 : cX0_think.data.toList.drop 48 = dktX0_think_2 := dk_seg dksX0_think_1 24 rfl rfl
theorem dX0_think_0 : decode cX0_think 0 = .ok (.aload_n 0, 1) := dk_42 (dk_at dksX0_think_0 0 rfl rfl)
theorem dX0_think_1 : decode cX0_think 1 = .ok (.iload_n 1, 1) := dk_27 (dk_at dksX0_think_0 1 rfl rfl)
theorem dX0_think_2 : decode cX0_think 2 = .ok (.invokevirtual 234, 3) := dk_182 0 234 (dk_at dksX0_think_0 2 rfl rfl)
theorem dX0_think_5 : decode cX0_think 5 = .ok (.ifCond .eq 13, 3) := dk_153 0 13 (dk_at dksX0_think_0 5 rfl rfl)
theorem dX0_think_8 : decode cX0_think 8 = .ok (.iload_n 2, 1) := dk_28 (dk_at dksX0_think_0 8 rfl rfl)
theorem dX0_think_9 : decode cX0_think 9 = .ok (.iconst 0, 1) := dk_3 (dk_at dksX0_think_0 9 rfl rfl)
theorem dX0_think_10 : decode cX0_think 10 = .ok (.bipush 9, 2) := dk_16 9 (dk_at dksX0_think_0 10 rfl rfl)
theorem dX0_think_12 : decode cX0_think 12 = .ok (.invokestatic 77, 3) := dk_184 0 77 (dk_at dksX0_think_0 12 rfl rfl)
theorem dX0_think_15 : decode cX0_think 15 = .ok (.ifCond .ne 5, 3) := dk_154 0 5 (dk_at dksX0_think_0 15 rfl rfl)
theorem dX0_think_18 : decode cX0_think 18 = .ok (.iconst (-1), 1) := dk_2 (dk_at dksX0_think_0 18 rfl rfl)
theorem dX0_think_19 : decode cX0_think 19 = .ok (.ireturn, 1) := dk_172 (dk_at dksX0_think_0 19 rfl rfl)
theorem dX0_think_20 : decode cX0_think 20 = .ok (.aload_n 0, 1) := dk_42 (dk_at dksX0_think_0 20 rfl rfl)
theorem dX0_think_21 : decode cX0_think 21 = .ok (.getfield 74, 3) := dk_180 0 74 (dk_at dksX0_think_0 21 rfl rfl)
theorem dX0_think_24 : decode cX0_think 24 = .ok (.bipush 40, 2) := dk_16 40 (dk_at dksX0_think_1 0 rfl rfl)
theorem dX0_think_26 : decode cX0_think 26 = .ok (.if_icmp .ne 6, 3) := dk_160 0 6 (dk_at dksX0_think_1 2 rfl rfl)
theorem dX0_think_29 : decode cX0_think 29 = .ok (.bipush (-2), 2) := dk_16 254 (dk_at dksX0_think_1 5 rfl rfl)
theorem dX0_think_31 : decode cX0_think 31 = .ok (.ireturn, 1) := dk_172 (dk_at dksX0_think_1 7 rfl rfl)
theorem dX0_think_32 : decode cX0_think 32 = .ok (.aload_n 0, 1) := dk_42 (dk_at dksX0_think_1 8 rfl rfl)
theorem dX0_think_33 : decode cX0_think 33 = .ok (.invokevirtual 265, 3) := dk_182 1 9 (dk_at dksX0_think_1 9 rfl rfl)
theorem dX0_think_36 : decode cX0_think 36 = .ok (.aload_n 0, 1) := dk_42 (dk_at dksX0_think_1 12 rfl rfl)
theorem dX0_think_37 : decode cX0_think 37 = .ok (.getfield 62, 3) := dk_180 0 62 (dk_at dksX0_think_1 13 rfl rfl)
theorem dX0_think_40 : decode cX0_think 40 = .ok (.iload_n 1, 1) := dk_27 (dk_at dksX0_think_1 16 rfl rfl)
theorem dX0_think_41 : decode cX0_think 41 = .ok (.iaload, 1) := dk_46 (dk_at dksX0_think_1 17 rfl rfl)
theorem dX0_think_42 : decode cX0_think 42 = .ok (.istore_n 3, 1) := dk_62 (dk_at dksX0_think_1 18 rfl rfl)
theorem dX0_think_43 : decode cX0_think 43 = .ok (.aload_n 0, 1) := dk_42 (dk_at dksX0_think_1 19 rfl rfl)
theorem dX0_think_44 : decode cX0_think 44 = .ok (.getfield 62, 3) := dk_180 0 62 (dk_at dksX0_think_1 20 rfl rfl)
theorem dX0_think_47 : decode cX0_think 47 = .ok (.iload_n 1, 1) := dk_27 (dk_at dksX0_think_1 23 rfl rfl)
theorem dX0_think_48 : decode cX0_think 48 = .ok (.iload_n 2, 1) := dk_28 (dk_at dksX0_think_2 0 rfl rfl)
theorem dX0_think_49 : decode cX0_think 49 = .ok (.iastore, 1) := dk_79 (dk_at dksX0_think_2 1 rfl rfl)
theorem dX0_think_50 : decode cX0_think 50 = .ok (.iload_n 3, 1) := dk_29 (dk_at dksX0_think_2 2 rfl rfl)
theorem dX0_think_51 : decode cX0_think 51 = .ok (.ireturn, 1) := dk_172 (dk_at dksX0_think_2 3 rfl rfl)
abbrev cX0_undo : ByteArray := prog_1_method_54_code
def yX0_undo : MethodName := ⟨RX0, "undo", "(I)I"⟩
def dkwX0_undo_1 : List UInt8 := [158, 0, 20, 42, 42, 180, 0, 65, 16, 14, 27, 104, 182, 1, 20, 42, 27, 181, 0, 74, 28, 172]
abbrev dktX0_undo_1 : List UInt8 := dkwX0_undo_1 ++ []
def dkwX0_undo_0 : List UInt8 := [27, 3, 42, 180, 0, 74, 184, 0, 77, 154, 0, 5, 2, 172, 42, 180, 0, 74, 27, 100, 61, 28]
abbrev dktX0_undo_0 : List UInt8 := dkwX0_undo_0 ++ dktX0_undo_1
theorem dksX0_undo_0 : cX0_undo.data.toList.drop 0 = dktX0_undo_0 := by decide +kernel
theorem dksX0_undo_1 : cX0_undo.data.toList.drop 22 = dktX0_undo_1 := dk_seg dksX0_undo_0 22 rfl rfl
theorem dX0_undo_0 : decode cX0_undo 0 = .ok (.iload_n 1, 1) := dk_27 (dk_at dksX0_undo_0 0 rfl rfl)
theorem dX0_undo_1 : decode cX0_undo 1 = .ok (.iconst 0, 1) := dk_3 (dk_at dksX0_undo_0 1 rfl rfl)
theorem dX0_undo_2 : decode cX0_undo 2 = .ok (.aload_n 0, 1) := dk_42 (dk_at dksX0_undo_0 2 rfl rfl)
theorem dX0_undo_3 : decode cX0_undo 3 = .ok (.getfield 74, 3) := dk_180 0 74 (dk_at dksX0_undo_0 3 rfl rfl)
theorem dX0_undo_6 : decode cX0_undo 6 = .ok (.invokestatic 77, 3) := dk_184 0 77 (dk_at dksX0_undo_0 6 rfl rfl)
theorem dX0_undo_9 : decode cX0_undo 9 = .ok (.ifCond .ne 5, 3) := dk_154 0 5 (dk_at dksX0_undo_0 9 rfl rfl)
theorem dX0_undo_12 : decode cX0_undo 12 = .ok (.iconst (-1), 1) := dk_2 (dk_at dksX0_undo_0 12 rfl rfl)
theorem dX0_undo_13 : decode cX0_undo 13 = .ok (.ireturn, 1) := dk_172 (dk_at dksX0_undo_0 13 rfl rfl)
theorem dX0_undo_14 : decode cX0_undo 14 = .ok (.aload_n 0, 1) := dk_42 (dk_at dksX0_undo_0 14 rfl rfl)
theorem dX0_undo_15 : decode cX0_undo 15 = .ok (.getfield 74, 3) := dk_180 0 74 (dk_at dksX0_undo_0 15 rfl rfl)
theorem dX0_undo_18 : decode cX0_undo 18 = .ok (.iload_n 1, 1) := dk_27 (dk_at dksX0_undo_0 18 rfl rfl)
theorem dX0_undo_19 : decode cX0_undo 19 = .ok (.isub, 1) := dk_100 (dk_at dksX0_undo_0 19 rfl rfl)
theorem dX0_undo_20 : decode cX0_undo 20 = .ok (.istore_n 2, 1) := dk_61 (dk_at dksX0_undo_0 20 rfl rfl)
theorem dX0_undo_21 : decode cX0_undo 21 = .ok (.iload_n 2, 1) := dk_28 (dk_at dksX0_undo_0 21 rfl rfl)
theorem dX0_undo_22 : decode cX0_undo 22 = .ok (.ifCond .le 20, 3) := dk_158 0 20 (dk_at dksX0_undo_1 0 rfl rfl)
theorem dX0_undo_25 : decode cX0_undo 25 = .ok (.aload_n 0, 1) := dk_42 (dk_at dksX0_undo_1 3 rfl rfl)
theorem dX0_undo_26 : decode cX0_undo 26 = .ok (.aload_n 0, 1) := dk_42 (dk_at dksX0_undo_1 4 rfl rfl)
theorem dX0_undo_27 : decode cX0_undo 27 = .ok (.getfield 65, 3) := dk_180 0 65 (dk_at dksX0_undo_1 5 rfl rfl)
theorem dX0_undo_30 : decode cX0_undo 30 = .ok (.bipush 14, 2) := dk_16 14 (dk_at dksX0_undo_1 8 rfl rfl)
theorem dX0_undo_32 : decode cX0_undo 32 = .ok (.iload_n 1, 1) := dk_27 (dk_at dksX0_undo_1 10 rfl rfl)
theorem dX0_undo_33 : decode cX0_undo 33 = .ok (.imul, 1) := dk_104 (dk_at dksX0_undo_1 11 rfl rfl)
theorem dX0_undo_34 : decode cX0_undo 34 = .ok (.invokevirtual 276, 3) := dk_182 1 20 (dk_at dksX0_undo_1 12 rfl rfl)
theorem dX0_undo_37 : decode cX0_undo 37 = .ok (.aload_n 0, 1) := dk_42 (dk_at dksX0_undo_1 15 rfl rfl)
theorem dX0_undo_38 : decode cX0_undo 38 = .ok (.iload_n 1, 1) := dk_27 (dk_at dksX0_undo_1 16 rfl rfl)
theorem dX0_undo_39 : decode cX0_undo 39 = .ok (.putfield 74, 3) := dk_181 0 74 (dk_at dksX0_undo_1 17 rfl rfl)
theorem dX0_undo_42 : decode cX0_undo 42 = .ok (.iload_n 2, 1) := dk_28 (dk_at dksX0_undo_1 20 rfl rfl)
theorem dX0_undo_43 : decode cX0_undo 43 = .ok (.ireturn, 1) := dk_172 (dk_at dksX0_undo_1 21 rfl rfl)
abbrev cX0_readBack : ByteArray := prog_1_method_47_code
def yX0_readBack : MethodName := ⟨RX0, "readBack", "([II)V"⟩
def dkwX0_readBack_1 : List UInt8 := [3, 16, 6, 184, 0, 102, 43, 28, 16, 8, 96, 42, 180, 0, 62, 3, 16, 6, 184, 0, 102, 177]
abbrev dktX0_readBack_1 : List UInt8 := dkwX0_readBack_1 ++ []
def dkwX0_readBack_0 : List UInt8 := [42, 43, 28, 46, 181, 0, 179, 42, 43, 28, 4, 96, 46, 181, 0, 182, 43, 28, 5, 96, 42, 180, 0, 59]
abbrev dktX0_readBack_0 : List UInt8 := dkwX0_readBack_0 ++ dktX0_readBack_1
theorem dksX0_readBack_0 : cX0_readBack.data.toList.drop 0 = dktX0_readBack_0 := by decide +kernel
theorem dksX0_readBack_1 : cX0_readBack.data.toList.drop 24 = dktX0_readBack_1 := dk_seg dksX0_readBack_0 24 rfl rfl
theorem dX0_readBack_0 : decode cX0_readBack 0 = .ok (.aload_n 0, 1) := dk_42 (dk_at dksX0_readBack_0 0 rfl rfl)
theorem dX0_readBack_1 : decode cX0_readBack 1 = .ok (.aload_n 1, 1) := dk_43 (dk_at dksX0_readBack_0 1 rfl rfl)
theorem dX0_readBack_2 : decode cX0_readBack 2 = .ok (.iload_n 2, 1) := dk_28 (dk_at dksX0_readBack_0 2 rfl rfl)
theorem dX0_readBack_3 : decode cX0_readBack 3 = .ok (.iaload, 1) := dk_46 (dk_at dksX0_readBack_0 3 rfl rfl)
theorem dX0_readBack_4 : decode cX0_readBack 4 = .ok (.putfield 179, 3) := dk_181 0 179 (dk_at dksX0_readBack_0 4 rfl rfl)
theorem dX0_readBack_7 : decode cX0_readBack 7 = .ok (.aload_n 0, 1) := dk_42 (dk_at dksX0_readBack_0 7 rfl rfl)
theorem dX0_readBack_8 : decode cX0_readBack 8 = .ok (.aload_n 1, 1) := dk_43 (dk_at dksX0_readBack_0 8 rfl rfl)
theorem dX0_readBack_9 : decode cX0_readBack 9 = .ok (.iload_n 2, 1) := dk_28 (dk_at dksX0_readBack_0 9 rfl rfl)
theorem dX0_readBack_10 : decode cX0_readBack 10 = .ok (.iconst 1, 1) := dk_4 (dk_at dksX0_readBack_0 10 rfl rfl)
theorem dX0_readBack_11 : decode cX0_readBack 11 = .ok (.iadd, 1) := dk_96 (dk_at dksX0_readBack_0 11 rfl rfl)
theorem dX0_readBack_12 : decode cX0_readBack 12 = .ok (.iaload, 1) := dk_46 (dk_at dksX0_readBack_0 12 rfl rfl)
theorem dX0_readBack_13 : decode cX0_readBack 13 = .ok (.putfield 182, 3) := dk_181 0 182 (dk_at dksX0_readBack_0 13 rfl rfl)
theorem dX0_readBack_16 : decode cX0_readBack 16 = .ok (.aload_n 1, 1) := dk_43 (dk_at dksX0_readBack_0 16 rfl rfl)
theorem dX0_readBack_17 : decode cX0_readBack 17 = .ok (.iload_n 2, 1) := dk_28 (dk_at dksX0_readBack_0 17 rfl rfl)
theorem dX0_readBack_18 : decode cX0_readBack 18 = .ok (.iconst 2, 1) := dk_5 (dk_at dksX0_readBack_0 18 rfl rfl)
theorem dX0_readBack_19 : decode cX0_readBack 19 = .ok (.iadd, 1) := dk_96 (dk_at dksX0_readBack_0 19 rfl rfl)
theorem dX0_readBack_20 : decode cX0_readBack 20 = .ok (.aload_n 0, 1) := dk_42 (dk_at dksX0_readBack_0 20 rfl rfl)
theorem dX0_readBack_21 : decode cX0_readBack 21 = .ok (.getfield 59, 3) := dk_180 0 59 (dk_at dksX0_readBack_0 21 rfl rfl)
theorem dX0_readBack_24 : decode cX0_readBack 24 = .ok (.iconst 0, 1) := dk_3 (dk_at dksX0_readBack_1 0 rfl rfl)
theorem dX0_readBack_25 : decode cX0_readBack 25 = .ok (.bipush 6, 2) := dk_16 6 (dk_at dksX0_readBack_1 1 rfl rfl)
theorem dX0_readBack_27 : decode cX0_readBack 27 = .ok (.invokestatic 102, 3) := dk_184 0 102 (dk_at dksX0_readBack_1 3 rfl rfl)
theorem dX0_readBack_30 : decode cX0_readBack 30 = .ok (.aload_n 1, 1) := dk_43 (dk_at dksX0_readBack_1 6 rfl rfl)
theorem dX0_readBack_31 : decode cX0_readBack 31 = .ok (.iload_n 2, 1) := dk_28 (dk_at dksX0_readBack_1 7 rfl rfl)
theorem dX0_readBack_32 : decode cX0_readBack 32 = .ok (.bipush 8, 2) := dk_16 8 (dk_at dksX0_readBack_1 8 rfl rfl)
theorem dX0_readBack_34 : decode cX0_readBack 34 = .ok (.iadd, 1) := dk_96 (dk_at dksX0_readBack_1 10 rfl rfl)
theorem dX0_readBack_35 : decode cX0_readBack 35 = .ok (.aload_n 0, 1) := dk_42 (dk_at dksX0_readBack_1 11 rfl rfl)
theorem dX0_readBack_36 : decode cX0_readBack 36 = .ok (.getfield 62, 3) := dk_180 0 62 (dk_at dksX0_readBack_1 12 rfl rfl)
theorem dX0_readBack_39 : decode cX0_readBack 39 = .ok (.iconst 0, 1) := dk_3 (dk_at dksX0_readBack_1 15 rfl rfl)
theorem dX0_readBack_40 : decode cX0_readBack 40 = .ok (.bipush 6, 2) := dk_16 6 (dk_at dksX0_readBack_1 16 rfl rfl)
theorem dX0_readBack_42 : decode cX0_readBack 42 = .ok (.invokestatic 102, 3) := dk_184 0 102 (dk_at dksX0_readBack_1 18 rfl rfl)
theorem dX0_readBack_45 : decode cX0_readBack 45 = .ok (.return_, 1) := dk_177 (dk_at dksX0_readBack_1 21 rfl rfl)
abbrev cX0_keep : ByteArray := prog_1_method_56_code
def yX0_keep : MethodName := ⟨RX0, "keep", "(I)I"⟩
def dkwX0_keep_3 : List UInt8 := [104, 184, 0, 102, 42, 44, 180, 1, 29, 3, 182, 1, 5, 42, 180, 0, 74, 172]
abbrev dktX0_keep_3 : List UInt8 := dkwX0_keep_3 ++ []
def dkwX0_keep_2 : List UInt8 := [44, 42, 180, 0, 74, 181, 1, 27, 42, 180, 0, 65, 3, 44, 180, 1, 28, 3, 16, 14, 42, 180, 0, 74]
abbrev dktX0_keep_2 : List UInt8 := dkwX0_keep_2 ++ dktX0_keep_3
def dkwX0_keep_1 : List UInt8 := [50, 199, 0, 16, 42, 180, 0, 70, 27, 187, 0, 68, 89, 183, 1, 26, 83, 42, 180, 0, 70, 27, 50, 77]
abbrev dktX0_keep_1 : List UInt8 := dkwX0_keep_1 ++ dktX0_keep_2
def dkwX0_keep_0 : List UInt8 := [27, 184, 1, 23, 154, 0, 5, 2, 172, 42, 180, 0, 169, 154, 0, 6, 16, 252, 172, 42, 180, 0, 70, 27]
abbrev dktX0_keep_0 : List UInt8 := dkwX0_keep_0 ++ dktX0_keep_1
theorem dksX0_keep_0 : cX0_keep.data.toList.drop 0 = dktX0_keep_0 := by decide +kernel
theorem dksX0_keep_1 : cX0_keep.data.toList.drop 24 = dktX0_keep_1 := dk_seg dksX0_keep_0 24 rfl rfl
theorem dksX0_keep_2 : cX0_keep.data.toList.drop 48 = dktX0_keep_2 := dk_seg dksX0_keep_1 24 rfl rfl
theorem dksX0_keep_3 : cX0_keep.data.toList.drop 72 = dktX0_keep_3 := dk_seg dksX0_keep_2 24 rfl rfl
theorem dX0_keep_0 : decode cX0_keep 0 = .ok (.iload_n 1, 1) := dk_27 (dk_at dksX0_keep_0 0 rfl rfl)
theorem dX0_keep_1 : decode cX0_keep 1 = .ok (.invokestatic 279, 3) := dk_184 1 23 (dk_at dksX0_keep_0 1 rfl rfl)
theorem dX0_keep_4 : decode cX0_keep 4 = .ok (.ifCond .ne 5, 3) := dk_154 0 5 (dk_at dksX0_keep_0 4 rfl rfl)
theorem dX0_keep_7 : decode cX0_keep 7 = .ok (.iconst (-1), 1) := dk_2 (dk_at dksX0_keep_0 7 rfl rfl)
theorem dX0_keep_8 : decode cX0_keep 8 = .ok (.ireturn, 1) := dk_172 (dk_at dksX0_keep_0 8 rfl rfl)
theorem dX0_keep_9 : decode cX0_keep 9 = .ok (.aload_n 0, 1) := dk_42 (dk_at dksX0_keep_0 9 rfl rfl)
theorem dX0_keep_10 : decode cX0_keep 10 = .ok (.getfield 169, 3) := dk_180 0 169 (dk_at dksX0_keep_0 10 rfl rfl)
theorem dX0_keep_13 : decode cX0_keep 13 = .ok (.ifCond .ne 6, 3) := dk_154 0 6 (dk_at dksX0_keep_0 13 rfl rfl)
theorem dX0_keep_16 : decode cX0_keep 16 = .ok (.bipush (-4), 2) := dk_16 252 (dk_at dksX0_keep_0 16 rfl rfl)
theorem dX0_keep_18 : decode cX0_keep 18 = .ok (.ireturn, 1) := dk_172 (dk_at dksX0_keep_0 18 rfl rfl)
theorem dX0_keep_19 : decode cX0_keep 19 = .ok (.aload_n 0, 1) := dk_42 (dk_at dksX0_keep_0 19 rfl rfl)
theorem dX0_keep_20 : decode cX0_keep 20 = .ok (.getfield 70, 3) := dk_180 0 70 (dk_at dksX0_keep_0 20 rfl rfl)
theorem dX0_keep_23 : decode cX0_keep 23 = .ok (.iload_n 1, 1) := dk_27 (dk_at dksX0_keep_0 23 rfl rfl)
theorem dX0_keep_24 : decode cX0_keep 24 = .ok (.aaload, 1) := dk_50 (dk_at dksX0_keep_1 0 rfl rfl)
theorem dX0_keep_25 : decode cX0_keep 25 = .ok (.ifnonnull 16, 3) := dk_199 0 16 (dk_at dksX0_keep_1 1 rfl rfl)
theorem dX0_keep_28 : decode cX0_keep 28 = .ok (.aload_n 0, 1) := dk_42 (dk_at dksX0_keep_1 4 rfl rfl)
theorem dX0_keep_29 : decode cX0_keep 29 = .ok (.getfield 70, 3) := dk_180 0 70 (dk_at dksX0_keep_1 5 rfl rfl)
theorem dX0_keep_32 : decode cX0_keep 32 = .ok (.iload_n 1, 1) := dk_27 (dk_at dksX0_keep_1 8 rfl rfl)
theorem dX0_keep_33 : decode cX0_keep 33 = .ok (.new 68, 3) := dk_187 0 68 (dk_at dksX0_keep_1 9 rfl rfl)
theorem dX0_keep_36 : decode cX0_keep 36 = .ok (.dup, 1) := dk_89 (dk_at dksX0_keep_1 12 rfl rfl)
theorem dX0_keep_37 : decode cX0_keep 37 = .ok (.invokespecial 282, 3) := dk_183 1 26 (dk_at dksX0_keep_1 13 rfl rfl)
theorem dX0_keep_40 : decode cX0_keep 40 = .ok (.aastore, 1) := dk_83 (dk_at dksX0_keep_1 16 rfl rfl)
theorem dX0_keep_41 : decode cX0_keep 41 = .ok (.aload_n 0, 1) := dk_42 (dk_at dksX0_keep_1 17 rfl rfl)
theorem dX0_keep_42 : decode cX0_keep 42 = .ok (.getfield 70, 3) := dk_180 0 70 (dk_at dksX0_keep_1 18 rfl rfl)
theorem dX0_keep_45 : decode cX0_keep 45 = .ok (.iload_n 1, 1) := dk_27 (dk_at dksX0_keep_1 21 rfl rfl)
theorem dX0_keep_46 : decode cX0_keep 46 = .ok (.aaload, 1) := dk_50 (dk_at dksX0_keep_1 22 rfl rfl)
theorem dX0_keep_47 : decode cX0_keep 47 = .ok (.astore_n 2, 1) := dk_77 (dk_at dksX0_keep_1 23 rfl rfl)
theorem dX0_keep_48 : decode cX0_keep 48 = .ok (.aload_n 2, 1) := dk_44 (dk_at dksX0_keep_2 0 rfl rfl)
theorem dX0_keep_49 : decode cX0_keep 49 = .ok (.aload_n 0, 1) := dk_42 (dk_at dksX0_keep_2 1 rfl rfl)
theorem dX0_keep_50 : decode cX0_keep 50 = .ok (.getfield 74, 3) := dk_180 0 74 (dk_at dksX0_keep_2 2 rfl rfl)
theorem dX0_keep_53 : decode cX0_keep 53 = .ok (.putfield 283, 3) := dk_181 1 27 (dk_at dksX0_keep_2 5 rfl rfl)
theorem dX0_keep_56 : decode cX0_keep 56 = .ok (.aload_n 0, 1) := dk_42 (dk_at dksX0_keep_2 8 rfl rfl)
theorem dX0_keep_57 : decode cX0_keep 57 = .ok (.getfield 65, 3) := dk_180 0 65 (dk_at dksX0_keep_2 9 rfl rfl)
theorem dX0_keep_60 : decode cX0_keep 60 = .ok (.iconst 0, 1) := dk_3 (dk_at dksX0_keep_2 12 rfl rfl)
theorem dX0_keep_61 : decode cX0_keep 61 = .ok (.aload_n 2, 1) := dk_44 (dk_at dksX0_keep_2 13 rfl rfl)
theorem dX0_keep_62 : decode cX0_keep 62 = .ok (.getfield 284, 3) := dk_180 1 28 (dk_at dksX0_keep_2 14 rfl rfl)
theorem dX0_keep_65 : decode cX0_keep 65 = .ok (.iconst 0, 1) := dk_3 (dk_at dksX0_keep_2 17 rfl rfl)
theorem dX0_keep_66 : decode cX0_keep 66 = .ok (.bipush 14, 2) := dk_16 14 (dk_at dksX0_keep_2 18 rfl rfl)
theorem dX0_keep_68 : decode cX0_keep 68 = .ok (.aload_n 0, 1) := dk_42 (dk_at dksX0_keep_2 20 rfl rfl)
theorem dX0_keep_69 : decode cX0_keep 69 = .ok (.getfield 74, 3) := dk_180 0 74 (dk_at dksX0_keep_2 21 rfl rfl)
theorem dX0_keep_72 : decode cX0_keep 72 = .ok (.imul, 1) := dk_104 (dk_at dksX0_keep_3 0 rfl rfl)
theorem dX0_keep_73 : decode cX0_keep 73 = .ok (.invokestatic 102, 3) := dk_184 0 102 (dk_at dksX0_keep_3 1 rfl rfl)
theorem dX0_keep_76 : decode cX0_keep 76 = .ok (.aload_n 0, 1) := dk_42 (dk_at dksX0_keep_3 4 rfl rfl)
theorem dX0_keep_77 : decode cX0_keep 77 = .ok (.aload_n 2, 1) := dk_44 (dk_at dksX0_keep_3 5 rfl rfl)
theorem dX0_keep_78 : decode cX0_keep 78 = .ok (.getfield 285, 3) := dk_180 1 29 (dk_at dksX0_keep_3 6 rfl rfl)
theorem dX0_keep_81 : decode cX0_keep 81 = .ok (.iconst 0, 1) := dk_3 (dk_at dksX0_keep_3 9 rfl rfl)
theorem dX0_keep_82 : decode cX0_keep 82 = .ok (.invokevirtual 261, 3) := dk_182 1 5 (dk_at dksX0_keep_3 10 rfl rfl)
theorem dX0_keep_85 : decode cX0_keep 85 = .ok (.aload_n 0, 1) := dk_42 (dk_at dksX0_keep_3 13 rfl rfl)
theorem dX0_keep_86 : decode cX0_keep 86 = .ok (.getfield 74, 3) := dk_180 0 74 (dk_at dksX0_keep_3 14 rfl rfl)
theorem dX0_keep_89 : decode cX0_keep 89 = .ok (.ireturn, 1) := dk_172 (dk_at dksX0_keep_3 17 rfl rfl)
abbrev cX0_isKept : ByteArray := prog_1_method_55_code
def yX0_isKept : MethodName := ⟨RX0, "isKept", "(I)Z"⟩
def dkwX0_isKept_0 : List UInt8 := [26, 3, 5, 184, 0, 77, 172]
abbrev dktX0_isKept_0 : List UInt8 := dkwX0_isKept_0 ++ []
theorem dksX0_isKept_0 : cX0_isKept.data.toList.drop 0 = dktX0_isKept_0 := by decide +kernel
theorem dX0_isKept_0 : decode cX0_isKept 0 = .ok (.iload_n 0, 1) := dk_26 (dk_at dksX0_isKept_0 0 rfl rfl)
theorem dX0_isKept_1 : decode cX0_isKept 1 = .ok (.iconst 0, 1) := dk_3 (dk_at dksX0_isKept_0 1 rfl rfl)
theorem dX0_isKept_2 : decode cX0_isKept 2 = .ok (.iconst 2, 1) := dk_5 (dk_at dksX0_isKept_0 2 rfl rfl)
theorem dX0_isKept_3 : decode cX0_isKept 3 = .ok (.invokestatic 77, 3) := dk_184 0 77 (dk_at dksX0_isKept_0 3 rfl rfl)
theorem dX0_isKept_6 : decode cX0_isKept 6 = .ok (.ireturn, 1) := dk_172 (dk_at dksX0_isKept_0 6 rfl rfl)
abbrev cX0_on : ByteArray := prog_1_method_57_code
def yX0_on : MethodName := ⟨RX0, "on", "(I)I"⟩
def dkwX0_on_3 : List UInt8 := [172]
abbrev dktX0_on_3 : List UInt8 := dkwX0_on_3 ++ []
def dkwX0_on_2 : List UInt8 := [3, 16, 14, 42, 180, 0, 74, 104, 184, 0, 102, 42, 44, 180, 1, 29, 3, 182, 1, 20, 42, 180, 0, 74]
abbrev dktX0_on_2 : List UInt8 := dkwX0_on_2 ++ dktX0_on_3
def dkwX0_on_1 : List UInt8 := [42, 180, 0, 70, 27, 50, 77, 42, 44, 180, 1, 27, 181, 0, 74, 44, 180, 1, 28, 3, 42, 180, 0, 65]
abbrev dktX0_on_1 : List UInt8 := dkwX0_on_1 ++ dktX0_on_2
def dkwX0_on_0 : List UInt8 := [27, 184, 1, 23, 154, 0, 5, 2, 172, 42, 180, 0, 70, 27, 50, 199, 0, 9, 42, 4, 182, 0, 87, 172]
abbrev dktX0_on_0 : List UInt8 := dkwX0_on_0 ++ dktX0_on_1
theorem dksX0_on_0 : cX0_on.data.toList.drop 0 = dktX0_on_0 := by decide +kernel
theorem dksX0_on_1 : cX0_on.data.toList.drop 24 = dktX0_on_1 := dk_seg dksX0_on_0 24 rfl rfl
theorem dksX0_on_2 : cX0_on.data.toList.drop 48 = dktX0_on_2 := dk_seg dksX0_on_1 24 rfl rfl
theorem dksX0_on_3 : cX0_on.data.toList.drop 72 = dktX0_on_3 := dk_seg dksX0_on_2 24 rfl rfl
theorem dX0_on_0 : decode cX0_on 0 = .ok (.iload_n 1, 1) := dk_27 (dk_at dksX0_on_0 0 rfl rfl)
theorem dX0_on_1 : decode cX0_on 1 = .ok (.invokestatic 279, 3) := dk_184 1 23 (dk_at dksX0_on_0 1 rfl rfl)
theorem dX0_on_4 : decode cX0_on 4 = .ok (.ifCond .ne 5, 3) := dk_154 0 5 (dk_at dksX0_on_0 4 rfl rfl)
theorem dX0_on_7 : decode cX0_on 7 = .ok (.iconst (-1), 1) := dk_2 (dk_at dksX0_on_0 7 rfl rfl)
theorem dX0_on_8 : decode cX0_on 8 = .ok (.ireturn, 1) := dk_172 (dk_at dksX0_on_0 8 rfl rfl)
theorem dX0_on_9 : decode cX0_on 9 = .ok (.aload_n 0, 1) := dk_42 (dk_at dksX0_on_0 9 rfl rfl)
theorem dX0_on_10 : decode cX0_on 10 = .ok (.getfield 70, 3) := dk_180 0 70 (dk_at dksX0_on_0 10 rfl rfl)
theorem dX0_on_13 : decode cX0_on 13 = .ok (.iload_n 1, 1) := dk_27 (dk_at dksX0_on_0 13 rfl rfl)
theorem dX0_on_14 : decode cX0_on 14 = .ok (.aaload, 1) := dk_50 (dk_at dksX0_on_0 14 rfl rfl)
theorem dX0_on_15 : decode cX0_on 15 = .ok (.ifnonnull 9, 3) := dk_199 0 9 (dk_at dksX0_on_0 15 rfl rfl)
theorem dX0_on_18 : decode cX0_on 18 = .ok (.aload_n 0, 1) := dk_42 (dk_at dksX0_on_0 18 rfl rfl)
theorem dX0_on_19 : decode cX0_on 19 = .ok (.iconst 1, 1) := dk_4 (dk_at dksX0_on_0 19 rfl rfl)
theorem dX0_on_20 : decode cX0_on 20 = .ok (.invokevirtual 87, 3) := dk_182 0 87 (dk_at dksX0_on_0 20 rfl rfl)
theorem dX0_on_23 : decode cX0_on 23 = .ok (.ireturn, 1) := dk_172 (dk_at dksX0_on_0 23 rfl rfl)
theorem dX0_on_24 : decode cX0_on 24 = .ok (.aload_n 0, 1) := dk_42 (dk_at dksX0_on_1 0 rfl rfl)
theorem dX0_on_25 : decode cX0_on 25 = .ok (.getfield 70, 3) := dk_180 0 70 (dk_at dksX0_on_1 1 rfl rfl)
theorem dX0_on_28 : decode cX0_on 28 = .ok (.iload_n 1, 1) := dk_27 (dk_at dksX0_on_1 4 rfl rfl)
theorem dX0_on_29 : decode cX0_on 29 = .ok (.aaload, 1) := dk_50 (dk_at dksX0_on_1 5 rfl rfl)
theorem dX0_on_30 : decode cX0_on 30 = .ok (.astore_n 2, 1) := dk_77 (dk_at dksX0_on_1 6 rfl rfl)
theorem dX0_on_31 : decode cX0_on 31 = .ok (.aload_n 0, 1) := dk_42 (dk_at dksX0_on_1 7 rfl rfl)
theorem dX0_on_32 : decode cX0_on 32 = .ok (.aload_n 2, 1) := dk_44 (dk_at dksX0_on_1 8 rfl rfl)
theorem dX0_on_33 : decode cX0_on 33 = .ok (.getfield 283, 3) := dk_180 1 27 (dk_at dksX0_on_1 9 rfl rfl)
theorem dX0_on_36 : decode cX0_on 36 = .ok (.putfield 74, 3) := dk_181 0 74 (dk_at dksX0_on_1 12 rfl rfl)
theorem dX0_on_39 : decode cX0_on 39 = .ok (.aload_n 2, 1) := dk_44 (dk_at dksX0_on_1 15 rfl rfl)
theorem dX0_on_40 : decode cX0_on 40 = .ok (.getfield 284, 3) := dk_180 1 28 (dk_at dksX0_on_1 16 rfl rfl)
theorem dX0_on_43 : decode cX0_on 43 = .ok (.iconst 0, 1) := dk_3 (dk_at dksX0_on_1 19 rfl rfl)
theorem dX0_on_44 : decode cX0_on 44 = .ok (.aload_n 0, 1) := dk_42 (dk_at dksX0_on_1 20 rfl rfl)
theorem dX0_on_45 : decode cX0_on 45 = .ok (.getfield 65, 3) := dk_180 0 65 (dk_at dksX0_on_1 21 rfl rfl)
theorem dX0_on_48 : decode cX0_on 48 = .ok (.iconst 0, 1) := dk_3 (dk_at dksX0_on_2 0 rfl rfl)
theorem dX0_on_49 : decode cX0_on 49 = .ok (.bipush 14, 2) := dk_16 14 (dk_at dksX0_on_2 1 rfl rfl)
theorem dX0_on_51 : decode cX0_on 51 = .ok (.aload_n 0, 1) := dk_42 (dk_at dksX0_on_2 3 rfl rfl)
theorem dX0_on_52 : decode cX0_on 52 = .ok (.getfield 74, 3) := dk_180 0 74 (dk_at dksX0_on_2 4 rfl rfl)
theorem dX0_on_55 : decode cX0_on 55 = .ok (.imul, 1) := dk_104 (dk_at dksX0_on_2 7 rfl rfl)
theorem dX0_on_56 : decode cX0_on 56 = .ok (.invokestatic 102, 3) := dk_184 0 102 (dk_at dksX0_on_2 8 rfl rfl)
theorem dX0_on_59 : decode cX0_on 59 = .ok (.aload_n 0, 1) := dk_42 (dk_at dksX0_on_2 11 rfl rfl)
theorem dX0_on_60 : decode cX0_on 60 = .ok (.aload_n 2, 1) := dk_44 (dk_at dksX0_on_2 12 rfl rfl)
theorem dX0_on_61 : decode cX0_on 61 = .ok (.getfield 285, 3) := dk_180 1 29 (dk_at dksX0_on_2 13 rfl rfl)
theorem dX0_on_64 : decode cX0_on 64 = .ok (.iconst 0, 1) := dk_3 (dk_at dksX0_on_2 16 rfl rfl)
theorem dX0_on_65 : decode cX0_on 65 = .ok (.invokevirtual 276, 3) := dk_182 1 20 (dk_at dksX0_on_2 17 rfl rfl)
theorem dX0_on_68 : decode cX0_on 68 = .ok (.aload_n 0, 1) := dk_42 (dk_at dksX0_on_2 20 rfl rfl)
theorem dX0_on_69 : decode cX0_on 69 = .ok (.getfield 74, 3) := dk_180 0 74 (dk_at dksX0_on_2 21 rfl rfl)
theorem dX0_on_72 : decode cX0_on 72 = .ok (.ireturn, 1) := dk_172 (dk_at dksX0_on_3 0 rfl rfl)
abbrev cX0_sits : ByteArray := prog_1_method_58_code
def yX0_sits : MethodName := ⟨RX0, "sits", "(I)I"⟩
def dkwX0_sits_2 : List UInt8 := [161, 0, 9, 4, 29, 120, 167, 0, 4, 3, 128, 61, 132, 3, 1, 167, 255, 218, 28, 172]
abbrev dktX0_sits_2 : List UInt8 := dkwX0_sits_2 ++ []
def dkwX0_sits_1 : List UInt8 := [62, 29, 42, 180, 0, 172, 162, 0, 36, 28, 42, 42, 180, 0, 59, 29, 46, 182, 0, 210, 184, 1, 15, 27]
abbrev dktX0_sits_1 : List UInt8 := dkwX0_sits_1 ++ dktX0_sits_2
def dkwX0_sits_0 : List UInt8 := [27, 3, 8, 184, 0, 77, 154, 0, 5, 2, 172, 42, 180, 0, 169, 154, 0, 6, 16, 252, 172, 3, 61, 3]
abbrev dktX0_sits_0 : List UInt8 := dkwX0_sits_0 ++ dktX0_sits_1
theorem dksX0_sits_0 : cX0_sits.data.toList.drop 0 = dktX0_sits_0 := by decide +kernel
theorem dksX0_sits_1 : cX0_sits.data.toList.drop 24 = dktX0_sits_1 := dk_seg dksX0_sits_0 24 rfl rfl
theorem dksX0_sits_2 : cX0_sits.data.toList.drop 48 = dktX0_sits_2 := dk_seg dksX0_sits_1 24 rfl rfl
theorem dX0_sits_0 : decode cX0_sits 0 = .ok (.iload_n 1, 1) := dk_27 (dk_at dksX0_sits_0 0 rfl rfl)
theorem dX0_sits_1 : decode cX0_sits 1 = .ok (.iconst 0, 1) := dk_3 (dk_at dksX0_sits_0 1 rfl rfl)
theorem dX0_sits_2 : decode cX0_sits 2 = .ok (.iconst 5, 1) := dk_8 (dk_at dksX0_sits_0 2 rfl rfl)
theorem dX0_sits_3 : decode cX0_sits 3 = .ok (.invokestatic 77, 3) := dk_184 0 77 (dk_at dksX0_sits_0 3 rfl rfl)
theorem dX0_sits_6 : decode cX0_sits 6 = .ok (.ifCond .ne 5, 3) := dk_154 0 5 (dk_at dksX0_sits_0 6 rfl rfl)
theorem dX0_sits_9 : decode cX0_sits 9 = .ok (.iconst (-1), 1) := dk_2 (dk_at dksX0_sits_0 9 rfl rfl)
theorem dX0_sits_10 : decode cX0_sits 10 = .ok (.ireturn, 1) := dk_172 (dk_at dksX0_sits_0 10 rfl rfl)
theorem dX0_sits_11 : decode cX0_sits 11 = .ok (.aload_n 0, 1) := dk_42 (dk_at dksX0_sits_0 11 rfl rfl)
theorem dX0_sits_12 : decode cX0_sits 12 = .ok (.getfield 169, 3) := dk_180 0 169 (dk_at dksX0_sits_0 12 rfl rfl)
theorem dX0_sits_15 : decode cX0_sits 15 = .ok (.ifCond .ne 6, 3) := dk_154 0 6 (dk_at dksX0_sits_0 15 rfl rfl)
theorem dX0_sits_18 : decode cX0_sits 18 = .ok (.bipush (-4), 2) := dk_16 252 (dk_at dksX0_sits_0 18 rfl rfl)
theorem dX0_sits_20 : decode cX0_sits 20 = .ok (.ireturn, 1) := dk_172 (dk_at dksX0_sits_0 20 rfl rfl)
theorem dX0_sits_21 : decode cX0_sits 21 = .ok (.iconst 0, 1) := dk_3 (dk_at dksX0_sits_0 21 rfl rfl)
theorem dX0_sits_22 : decode cX0_sits 22 = .ok (.istore_n 2, 1) := dk_61 (dk_at dksX0_sits_0 22 rfl rfl)
theorem dX0_sits_23 : decode cX0_sits 23 = .ok (.iconst 0, 1) := dk_3 (dk_at dksX0_sits_0 23 rfl rfl)
theorem dX0_sits_24 : decode cX0_sits 24 = .ok (.istore_n 3, 1) := dk_62 (dk_at dksX0_sits_1 0 rfl rfl)
theorem dX0_sits_25 : decode cX0_sits 25 = .ok (.iload_n 3, 1) := dk_29 (dk_at dksX0_sits_1 1 rfl rfl)
theorem dX0_sits_26 : decode cX0_sits 26 = .ok (.aload_n 0, 1) := dk_42 (dk_at dksX0_sits_1 2 rfl rfl)
theorem dX0_sits_27 : decode cX0_sits 27 = .ok (.getfield 172, 3) := dk_180 0 172 (dk_at dksX0_sits_1 3 rfl rfl)
theorem dX0_sits_30 : decode cX0_sits 30 = .ok (.if_icmp .ge 36, 3) := dk_162 0 36 (dk_at dksX0_sits_1 6 rfl rfl)
theorem dX0_sits_33 : decode cX0_sits 33 = .ok (.iload_n 2, 1) := dk_28 (dk_at dksX0_sits_1 9 rfl rfl)
theorem dX0_sits_34 : decode cX0_sits 34 = .ok (.aload_n 0, 1) := dk_42 (dk_at dksX0_sits_1 10 rfl rfl)
theorem dX0_sits_35 : decode cX0_sits 35 = .ok (.aload_n 0, 1) := dk_42 (dk_at dksX0_sits_1 11 rfl rfl)
theorem dX0_sits_36 : decode cX0_sits 36 = .ok (.getfield 59, 3) := dk_180 0 59 (dk_at dksX0_sits_1 12 rfl rfl)
theorem dX0_sits_39 : decode cX0_sits 39 = .ok (.iload_n 3, 1) := dk_29 (dk_at dksX0_sits_1 15 rfl rfl)
theorem dX0_sits_40 : decode cX0_sits 40 = .ok (.iaload, 1) := dk_46 (dk_at dksX0_sits_1 16 rfl rfl)
theorem dX0_sits_41 : decode cX0_sits 41 = .ok (.invokevirtual 210, 3) := dk_182 0 210 (dk_at dksX0_sits_1 17 rfl rfl)
theorem dX0_sits_44 : decode cX0_sits 44 = .ok (.invokestatic 271, 3) := dk_184 1 15 (dk_at dksX0_sits_1 20 rfl rfl)
theorem dX0_sits_47 : decode cX0_sits 47 = .ok (.iload_n 1, 1) := dk_27 (dk_at dksX0_sits_1 23 rfl rfl)
theorem dX0_sits_48 : decode cX0_sits 48 = .ok (.if_icmp .lt 9, 3) := dk_161 0 9 (dk_at dksX0_sits_2 0 rfl rfl)
theorem dX0_sits_51 : decode cX0_sits 51 = .ok (.iconst 1, 1) := dk_4 (dk_at dksX0_sits_2 3 rfl rfl)
theorem dX0_sits_52 : decode cX0_sits 52 = .ok (.iload_n 3, 1) := dk_29 (dk_at dksX0_sits_2 4 rfl rfl)
theorem dX0_sits_53 : decode cX0_sits 53 = .ok (.ishl, 1) := dk_120 (dk_at dksX0_sits_2 5 rfl rfl)
theorem dX0_sits_54 : decode cX0_sits 54 = .ok (.goto 4, 3) := dk_167 0 4 (dk_at dksX0_sits_2 6 rfl rfl)
theorem dX0_sits_57 : decode cX0_sits 57 = .ok (.iconst 0, 1) := dk_3 (dk_at dksX0_sits_2 9 rfl rfl)
theorem dX0_sits_58 : decode cX0_sits 58 = .ok (.ior, 1) := dk_128 (dk_at dksX0_sits_2 10 rfl rfl)
theorem dX0_sits_59 : decode cX0_sits 59 = .ok (.istore_n 2, 1) := dk_61 (dk_at dksX0_sits_2 11 rfl rfl)
theorem dX0_sits_60 : decode cX0_sits 60 = .ok (.iinc 3 1, 3) := dk_132 3 1 (dk_at dksX0_sits_2 12 rfl rfl)
theorem dX0_sits_63 : decode cX0_sits 63 = .ok (.goto (-38), 3) := dk_167 255 218 (dk_at dksX0_sits_2 15 rfl rfl)
theorem dX0_sits_66 : decode cX0_sits 66 = .ok (.iload_n 2, 1) := dk_28 (dk_at dksX0_sits_2 18 rfl rfl)
theorem dX0_sits_67 : decode cX0_sits 67 = .ok (.ireturn, 1) := dk_172 (dk_at dksX0_sits_2 19 rfl rfl)
abbrev cX0_common : ByteArray := prog_1_method_59_code
def yX0_common : MethodName := ⟨RX0, "common", "(I)I"⟩
def dkwX0_common_5 : List UInt8 := [132, 4, 1, 167, 255, 160, 28, 154, 0, 7, 3, 167, 0, 9, 42, 29, 28, 182, 0, 95, 172]
abbrev dktX0_common_5 : List UInt8 := dkwX0_common_5 ++ []
def dkwX0_common_4 : List UInt8 := [28, 154, 0, 8, 21, 4, 167, 0, 4, 29, 62, 28, 21, 5, 153, 0, 7, 4, 167, 0, 4, 3, 96, 61]
abbrev dktX0_common_4 : List UInt8 := dkwX0_common_4 ++ dktX0_common_5
def dkwX0_common_3 : List UInt8 := [182, 0, 207, 153, 0, 7, 4, 167, 0, 4, 3, 54, 5, 132, 6, 1, 167, 255, 208, 21, 5, 153, 0, 12]
abbrev dktX0_common_3 : List UInt8 := dkwX0_common_3 ++ dktX0_common_4
def dkwX0_common_2 : List UInt8 := [21, 5, 153, 0, 31, 27, 21, 6, 184, 0, 204, 153, 0, 18, 42, 21, 6, 21, 4, 42, 180, 0, 179]
abbrev dktX0_common_2 : List UInt8 := dkwX0_common_2 ++ dktX0_common_3
def dkwX0_common_1 : List UInt8 := [54, 4, 21, 4, 16, 100, 162, 0, 95, 4, 54, 5, 3, 54, 6, 21, 6, 42, 180, 0, 169, 162, 0, 45]
abbrev dktX0_common_1 : List UInt8 := dkwX0_common_1 ++ dktX0_common_2
def dkwX0_common_0 : List UInt8 := [27, 3, 4, 42, 180, 0, 169, 120, 4, 100, 184, 0, 77, 154, 0, 5, 2, 172, 3, 61, 16, 247, 62, 3]
abbrev dktX0_common_0 : List UInt8 := dkwX0_common_0 ++ dktX0_common_1
theorem dksX0_common_0 : cX0_common.data.toList.drop 0 = dktX0_common_0 := by decide +kernel
theorem dksX0_common_1 : cX0_common.data.toList.drop 24 = dktX0_common_1 := dk_seg dksX0_common_0 24 rfl rfl
theorem dksX0_common_2 : cX0_common.data.toList.drop 48 = dktX0_common_2 := dk_seg dksX0_common_1 24 rfl rfl
theorem dksX0_common_3 : cX0_common.data.toList.drop 71 = dktX0_common_3 := dk_seg dksX0_common_2 23 rfl rfl
theorem dksX0_common_4 : cX0_common.data.toList.drop 95 = dktX0_common_4 := dk_seg dksX0_common_3 24 rfl rfl
theorem dksX0_common_5 : cX0_common.data.toList.drop 119 = dktX0_common_5 := dk_seg dksX0_common_4 24 rfl rfl
theorem dX0_common_0 : decode cX0_common 0 = .ok (.iload_n 1, 1) := dk_27 (dk_at dksX0_common_0 0 rfl rfl)
theorem dX0_common_1 : decode cX0_common 1 = .ok (.iconst 0, 1) := dk_3 (dk_at dksX0_common_0 1 rfl rfl)
theorem dX0_common_2 : decode cX0_common 2 = .ok (.iconst 1, 1) := dk_4 (dk_at dksX0_common_0 2 rfl rfl)
theorem dX0_common_3 : decode cX0_common 3 = .ok (.aload_n 0, 1) := dk_42 (dk_at dksX0_common_0 3 rfl rfl)
theorem dX0_common_4 : decode cX0_common 4 = .ok (.getfield 169, 3) := dk_180 0 169 (dk_at dksX0_common_0 4 rfl rfl)
theorem dX0_common_7 : decode cX0_common 7 = .ok (.ishl, 1) := dk_120 (dk_at dksX0_common_0 7 rfl rfl)
theorem dX0_common_8 : decode cX0_common 8 = .ok (.iconst 1, 1) := dk_4 (dk_at dksX0_common_0 8 rfl rfl)
theorem dX0_common_9 : decode cX0_common 9 = .ok (.isub, 1) := dk_100 (dk_at dksX0_common_0 9 rfl rfl)
theorem dX0_common_10 : decode cX0_common 10 = .ok (.invokestatic 77, 3) := dk_184 0 77 (dk_at dksX0_common_0 10 rfl rfl)
theorem dX0_common_13 : decode cX0_common 13 = .ok (.ifCond .ne 5, 3) := dk_154 0 5 (dk_at dksX0_common_0 13 rfl rfl)
theorem dX0_common_16 : decode cX0_common 16 = .ok (.iconst (-1), 1) := dk_2 (dk_at dksX0_common_0 16 rfl rfl)
theorem dX0_common_17 : decode cX0_common 17 = .ok (.ireturn, 1) := dk_172 (dk_at dksX0_common_0 17 rfl rfl)
theorem dX0_common_18 : decode cX0_common 18 = .ok (.iconst 0, 1) := dk_3 (dk_at dksX0_common_0 18 rfl rfl)
theorem dX0_common_19 : decode cX0_common 19 = .ok (.istore_n 2, 1) := dk_61 (dk_at dksX0_common_0 19 rfl rfl)
theorem dX0_common_20 : decode cX0_common 20 = .ok (.bipush (-9), 2) := dk_16 247 (dk_at dksX0_common_0 20 rfl rfl)
theorem dX0_common_22 : decode cX0_common 22 = .ok (.istore_n 3, 1) := dk_62 (dk_at dksX0_common_0 22 rfl rfl)
theorem dX0_common_23 : decode cX0_common 23 = .ok (.iconst 0, 1) := dk_3 (dk_at dksX0_common_0 23 rfl rfl)
theorem dX0_common_24 : decode cX0_common 24 = .ok (.istore 4, 2) := dk_54 4 (dk_at dksX0_common_1 0 rfl rfl)
theorem dX0_common_26 : decode cX0_common 26 = .ok (.iload 4, 2) := dk_21 4 (dk_at dksX0_common_1 2 rfl rfl)
theorem dX0_common_28 : decode cX0_common 28 = .ok (.bipush 100, 2) := dk_16 100 (dk_at dksX0_common_1 4 rfl rfl)
theorem dX0_common_30 : decode cX0_common 30 = .ok (.if_icmp .ge 95, 3) := dk_162 0 95 (dk_at dksX0_common_1 6 rfl rfl)
theorem dX0_common_33 : decode cX0_common 33 = .ok (.iconst 1, 1) := dk_4 (dk_at dksX0_common_1 9 rfl rfl)
theorem dX0_common_34 : decode cX0_common 34 = .ok (.istore 5, 2) := dk_54 5 (dk_at dksX0_common_1 10 rfl rfl)
theorem dX0_common_36 : decode cX0_common 36 = .ok (.iconst 0, 1) := dk_3 (dk_at dksX0_common_1 12 rfl rfl)
theorem dX0_common_37 : decode cX0_common 37 = .ok (.istore 6, 2) := dk_54 6 (dk_at dksX0_common_1 13 rfl rfl)
theorem dX0_common_39 : decode cX0_common 39 = .ok (.iload 6, 2) := dk_21 6 (dk_at dksX0_common_1 15 rfl rfl)
theorem dX0_common_41 : decode cX0_common 41 = .ok (.aload_n 0, 1) := dk_42 (dk_at dksX0_common_1 17 rfl rfl)
theorem dX0_common_42 : decode cX0_common 42 = .ok (.getfield 169, 3) := dk_180 0 169 (dk_at dksX0_common_1 18 rfl rfl)
theorem dX0_common_45 : decode cX0_common 45 = .ok (.if_icmp .ge 45, 3) := dk_162 0 45 (dk_at dksX0_common_1 21 rfl rfl)
theorem dX0_common_48 : decode cX0_common 48 = .ok (.iload 5, 2) := dk_21 5 (dk_at dksX0_common_2 0 rfl rfl)
theorem dX0_common_50 : decode cX0_common 50 = .ok (.ifCond .eq 31, 3) := dk_153 0 31 (dk_at dksX0_common_2 2 rfl rfl)
theorem dX0_common_53 : decode cX0_common 53 = .ok (.iload_n 1, 1) := dk_27 (dk_at dksX0_common_2 5 rfl rfl)
theorem dX0_common_54 : decode cX0_common 54 = .ok (.iload 6, 2) := dk_21 6 (dk_at dksX0_common_2 6 rfl rfl)
theorem dX0_common_56 : decode cX0_common 56 = .ok (.invokestatic 204, 3) := dk_184 0 204 (dk_at dksX0_common_2 8 rfl rfl)
theorem dX0_common_59 : decode cX0_common 59 = .ok (.ifCond .eq 18, 3) := dk_153 0 18 (dk_at dksX0_common_2 11 rfl rfl)
theorem dX0_common_62 : decode cX0_common 62 = .ok (.aload_n 0, 1) := dk_42 (dk_at dksX0_common_2 14 rfl rfl)
theorem dX0_common_63 : decode cX0_common 63 = .ok (.iload 6, 2) := dk_21 6 (dk_at dksX0_common_2 15 rfl rfl)
theorem dX0_common_65 : decode cX0_common 65 = .ok (.iload 4, 2) := dk_21 4 (dk_at dksX0_common_2 17 rfl rfl)
theorem dX0_common_67 : decode cX0_common 67 = .ok (.aload_n 0, 1) := dk_42 (dk_at dksX0_common_2 19 rfl rfl)
theorem dX0_common_68 : decode cX0_common 68 = .ok (.getfield 179, 3) := dk_180 0 179 (dk_at dksX0_common_2 20 rfl rfl)
theorem dX0_common_71 : decode cX0_common 71 = .ok (.invokevirtual 207, 3) := dk_182 0 207 (dk_at dksX0_common_3 0 rfl rfl)
theorem dX0_common_74 : decode cX0_common 74 = .ok (.ifCond .eq 7, 3) := dk_153 0 7 (dk_at dksX0_common_3 3 rfl rfl)
theorem dX0_common_77 : decode cX0_common 77 = .ok (.iconst 1, 1) := dk_4 (dk_at dksX0_common_3 6 rfl rfl)
theorem dX0_common_78 : decode cX0_common 78 = .ok (.goto 4, 3) := dk_167 0 4 (dk_at dksX0_common_3 7 rfl rfl)
theorem dX0_common_81 : decode cX0_common 81 = .ok (.iconst 0, 1) := dk_3 (dk_at dksX0_common_3 10 rfl rfl)
theorem dX0_common_82 : decode cX0_common 82 = .ok (.istore 5, 2) := dk_54 5 (dk_at dksX0_common_3 11 rfl rfl)
theorem dX0_common_84 : decode cX0_common 84 = .ok (.iinc 6 1, 3) := dk_132 6 1 (dk_at dksX0_common_3 13 rfl rfl)
theorem dX0_common_87 : decode cX0_common 87 = .ok (.goto (-48), 3) := dk_167 255 208 (dk_at dksX0_common_3 16 rfl rfl)
theorem dX0_common_90 : decode cX0_common 90 = .ok (.iload 5, 2) := dk_21 5 (dk_at dksX0_common_3 19 rfl rfl)
theorem dX0_common_92 : decode cX0_common 92 = .ok (.ifCond .eq 12, 3) := dk_153 0 12 (dk_at dksX0_common_3 21 rfl rfl)
theorem dX0_common_95 : decode cX0_common 95 = .ok (.iload_n 2, 1) := dk_28 (dk_at dksX0_common_4 0 rfl rfl)
theorem dX0_common_96 : decode cX0_common 96 = .ok (.ifCond .ne 8, 3) := dk_154 0 8 (dk_at dksX0_common_4 1 rfl rfl)
theorem dX0_common_99 : decode cX0_common 99 = .ok (.iload 4, 2) := dk_21 4 (dk_at dksX0_common_4 4 rfl rfl)
theorem dX0_common_101 : decode cX0_common 101 = .ok (.goto 4, 3) := dk_167 0 4 (dk_at dksX0_common_4 6 rfl rfl)
theorem dX0_common_104 : decode cX0_common 104 = .ok (.iload_n 3, 1) := dk_29 (dk_at dksX0_common_4 9 rfl rfl)
theorem dX0_common_105 : decode cX0_common 105 = .ok (.istore_n 3, 1) := dk_62 (dk_at dksX0_common_4 10 rfl rfl)
theorem dX0_common_106 : decode cX0_common 106 = .ok (.iload_n 2, 1) := dk_28 (dk_at dksX0_common_4 11 rfl rfl)
theorem dX0_common_107 : decode cX0_common 107 = .ok (.iload 5, 2) := dk_21 5 (dk_at dksX0_common_4 12 rfl rfl)
theorem dX0_common_109 : decode cX0_common 109 = .ok (.ifCond .eq 7, 3) := dk_153 0 7 (dk_at dksX0_common_4 14 rfl rfl)
theorem dX0_common_112 : decode cX0_common 112 = .ok (.iconst 1, 1) := dk_4 (dk_at dksX0_common_4 17 rfl rfl)
theorem dX0_common_113 : decode cX0_common 113 = .ok (.goto 4, 3) := dk_167 0 4 (dk_at dksX0_common_4 18 rfl rfl)
theorem dX0_common_116 : decode cX0_common 116 = .ok (.iconst 0, 1) := dk_3 (dk_at dksX0_common_4 21 rfl rfl)
theorem dX0_common_117 : decode cX0_common 117 = .ok (.iadd, 1) := dk_96 (dk_at dksX0_common_4 22 rfl rfl)
theorem dX0_common_118 : decode cX0_common 118 = .ok (.istore_n 2, 1) := dk_61 (dk_at dksX0_common_4 23 rfl rfl)
theorem dX0_common_119 : decode cX0_common 119 = .ok (.iinc 4 1, 3) := dk_132 4 1 (dk_at dksX0_common_5 0 rfl rfl)
theorem dX0_common_122 : decode cX0_common 122 = .ok (.goto (-96), 3) := dk_167 255 160 (dk_at dksX0_common_5 3 rfl rfl)
theorem dX0_common_125 : decode cX0_common 125 = .ok (.iload_n 2, 1) := dk_28 (dk_at dksX0_common_5 6 rfl rfl)
theorem dX0_common_126 : decode cX0_common 126 = .ok (.ifCond .ne 7, 3) := dk_154 0 7 (dk_at dksX0_common_5 7 rfl rfl)
theorem dX0_common_129 : decode cX0_common 129 = .ok (.iconst 0, 1) := dk_3 (dk_at dksX0_common_5 10 rfl rfl)
theorem dX0_common_130 : decode cX0_common 130 = .ok (.goto 9, 3) := dk_167 0 9 (dk_at dksX0_common_5 11 rfl rfl)
theorem dX0_common_133 : decode cX0_common 133 = .ok (.aload_n 0, 1) := dk_42 (dk_at dksX0_common_5 14 rfl rfl)
theorem dX0_common_134 : decode cX0_common 134 = .ok (.iload_n 3, 1) := dk_29 (dk_at dksX0_common_5 15 rfl rfl)
theorem dX0_common_135 : decode cX0_common 135 = .ok (.iload_n 2, 1) := dk_28 (dk_at dksX0_common_5 16 rfl rfl)
theorem dX0_common_136 : decode cX0_common 136 = .ok (.invokevirtual 95, 3) := dk_182 0 95 (dk_at dksX0_common_5 17 rfl rfl)
theorem dX0_common_139 : decode cX0_common 139 = .ok (.ireturn, 1) := dk_172 (dk_at dksX0_common_5 20 rfl rfl)
abbrev cX0_best : ByteArray := prog_1_method_60_code
def yX0_best : MethodName := ⟨RX0, "best", "(I)I"⟩
def dkwX0_best_3 : List UInt8 := [172]
abbrev dktX0_best_3 : List UInt8 := dkwX0_best_3 ++ []
def dkwX0_best_2 : List UInt8 := [167, 0, 4, 28, 61, 29, 21, 5, 184, 0, 219, 62, 132, 4, 1, 167, 255, 215, 42, 29, 28, 182, 0, 95]
abbrev dktX0_best_2 : List UInt8 := dkwX0_best_2 ++ dktX0_best_3
def dkwX0_best_1 : List UInt8 := [162, 0, 40, 42, 21, 4, 182, 0, 210, 184, 1, 15, 54, 5, 21, 5, 29, 164, 0, 8, 21, 4]
abbrev dktX0_best_1 : List UInt8 := dkwX0_best_1 ++ dktX0_best_2
def dkwX0_best_0 : List UInt8 := [42, 27, 182, 0, 234, 154, 0, 5, 2, 172, 3, 61, 16, 247, 62, 3, 54, 4, 21, 4, 16, 100]
abbrev dktX0_best_0 : List UInt8 := dkwX0_best_0 ++ dktX0_best_1
theorem dksX0_best_0 : cX0_best.data.toList.drop 0 = dktX0_best_0 := by decide +kernel
theorem dksX0_best_1 : cX0_best.data.toList.drop 22 = dktX0_best_1 := dk_seg dksX0_best_0 22 rfl rfl
theorem dksX0_best_2 : cX0_best.data.toList.drop 44 = dktX0_best_2 := dk_seg dksX0_best_1 22 rfl rfl
theorem dksX0_best_3 : cX0_best.data.toList.drop 68 = dktX0_best_3 := dk_seg dksX0_best_2 24 rfl rfl
theorem dX0_best_0 : decode cX0_best 0 = .ok (.aload_n 0, 1) := dk_42 (dk_at dksX0_best_0 0 rfl rfl)
theorem dX0_best_1 : decode cX0_best 1 = .ok (.iload_n 1, 1) := dk_27 (dk_at dksX0_best_0 1 rfl rfl)
theorem dX0_best_2 : decode cX0_best 2 = .ok (.invokevirtual 234, 3) := dk_182 0 234 (dk_at dksX0_best_0 2 rfl rfl)
theorem dX0_best_5 : decode cX0_best 5 = .ok (.ifCond .ne 5, 3) := dk_154 0 5 (dk_at dksX0_best_0 5 rfl rfl)
theorem dX0_best_8 : decode cX0_best 8 = .ok (.iconst (-1), 1) := dk_2 (dk_at dksX0_best_0 8 rfl rfl)
theorem dX0_best_9 : decode cX0_best 9 = .ok (.ireturn, 1) := dk_172 (dk_at dksX0_best_0 9 rfl rfl)
theorem dX0_best_10 : decode cX0_best 10 = .ok (.iconst 0, 1) := dk_3 (dk_at dksX0_best_0 10 rfl rfl)
theorem dX0_best_11 : decode cX0_best 11 = .ok (.istore_n 2, 1) := dk_61 (dk_at dksX0_best_0 11 rfl rfl)
theorem dX0_best_12 : decode cX0_best 12 = .ok (.bipush (-9), 2) := dk_16 247 (dk_at dksX0_best_0 12 rfl rfl)
theorem dX0_best_14 : decode cX0_best 14 = .ok (.istore_n 3, 1) := dk_62 (dk_at dksX0_best_0 14 rfl rfl)
theorem dX0_best_15 : decode cX0_best 15 = .ok (.iconst 0, 1) := dk_3 (dk_at dksX0_best_0 15 rfl rfl)
theorem dX0_best_16 : decode cX0_best 16 = .ok (.istore 4, 2) := dk_54 4 (dk_at dksX0_best_0 16 rfl rfl)
theorem dX0_best_18 : decode cX0_best 18 = .ok (.iload 4, 2) := dk_21 4 (dk_at dksX0_best_0 18 rfl rfl)
theorem dX0_best_20 : decode cX0_best 20 = .ok (.bipush 100, 2) := dk_16 100 (dk_at dksX0_best_0 20 rfl rfl)
theorem dX0_best_22 : decode cX0_best 22 = .ok (.if_icmp .ge 40, 3) := dk_162 0 40 (dk_at dksX0_best_1 0 rfl rfl)
theorem dX0_best_25 : decode cX0_best 25 = .ok (.aload_n 0, 1) := dk_42 (dk_at dksX0_best_1 3 rfl rfl)
theorem dX0_best_26 : decode cX0_best 26 = .ok (.iload 4, 2) := dk_21 4 (dk_at dksX0_best_1 4 rfl rfl)
theorem dX0_best_28 : decode cX0_best 28 = .ok (.invokevirtual 210, 3) := dk_182 0 210 (dk_at dksX0_best_1 6 rfl rfl)
theorem dX0_best_31 : decode cX0_best 31 = .ok (.invokestatic 271, 3) := dk_184 1 15 (dk_at dksX0_best_1 9 rfl rfl)
theorem dX0_best_34 : decode cX0_best 34 = .ok (.istore 5, 2) := dk_54 5 (dk_at dksX0_best_1 12 rfl rfl)
theorem dX0_best_36 : decode cX0_best 36 = .ok (.iload 5, 2) := dk_21 5 (dk_at dksX0_best_1 14 rfl rfl)
theorem dX0_best_38 : decode cX0_best 38 = .ok (.iload_n 3, 1) := dk_29 (dk_at dksX0_best_1 16 rfl rfl)
theorem dX0_best_39 : decode cX0_best 39 = .ok (.if_icmp .le 8, 3) := dk_164 0 8 (dk_at dksX0_best_1 17 rfl rfl)
theorem dX0_best_42 : decode cX0_best 42 = .ok (.iload 4, 2) := dk_21 4 (dk_at dksX0_best_1 20 rfl rfl)
theorem dX0_best_44 : decode cX0_best 44 = .ok (.goto 4, 3) := dk_167 0 4 (dk_at dksX0_best_2 0 rfl rfl)
theorem dX0_best_47 : decode cX0_best 47 = .ok (.iload_n 2, 1) := dk_28 (dk_at dksX0_best_2 3 rfl rfl)
theorem dX0_best_48 : decode cX0_best 48 = .ok (.istore_n 2, 1) := dk_61 (dk_at dksX0_best_2 4 rfl rfl)
theorem dX0_best_49 : decode cX0_best 49 = .ok (.iload_n 3, 1) := dk_29 (dk_at dksX0_best_2 5 rfl rfl)
theorem dX0_best_50 : decode cX0_best 50 = .ok (.iload 5, 2) := dk_21 5 (dk_at dksX0_best_2 6 rfl rfl)
theorem dX0_best_52 : decode cX0_best 52 = .ok (.invokestatic 219, 3) := dk_184 0 219 (dk_at dksX0_best_2 8 rfl rfl)
theorem dX0_best_55 : decode cX0_best 55 = .ok (.istore_n 3, 1) := dk_62 (dk_at dksX0_best_2 11 rfl rfl)
theorem dX0_best_56 : decode cX0_best 56 = .ok (.iinc 4 1, 3) := dk_132 4 1 (dk_at dksX0_best_2 12 rfl rfl)
theorem dX0_best_59 : decode cX0_best 59 = .ok (.goto (-41), 3) := dk_167 255 215 (dk_at dksX0_best_2 15 rfl rfl)
theorem dX0_best_62 : decode cX0_best 62 = .ok (.aload_n 0, 1) := dk_42 (dk_at dksX0_best_2 18 rfl rfl)
theorem dX0_best_63 : decode cX0_best 63 = .ok (.iload_n 3, 1) := dk_29 (dk_at dksX0_best_2 19 rfl rfl)
theorem dX0_best_64 : decode cX0_best 64 = .ok (.iload_n 2, 1) := dk_28 (dk_at dksX0_best_2 20 rfl rfl)
theorem dX0_best_65 : decode cX0_best 65 = .ok (.invokevirtual 95, 3) := dk_182 0 95 (dk_at dksX0_best_2 21 rfl rfl)
theorem dX0_best_68 : decode cX0_best 68 = .ok (.ireturn, 1) := dk_172 (dk_at dksX0_best_3 0 rfl rfl)
abbrev cX0_when : ByteArray := prog_1_method_61_code
def yX0_when : MethodName := ⟨RX0, "when", "(I)I"⟩
def dkwX0_when_3 : List UInt8 := [21, 4, 154, 0, 8, 16, 247, 167, 0, 10, 42, 21, 4, 29, 182, 0, 95, 172]
abbrev dktX0_when_3 : List UInt8 := dkwX0_when_3 ++ []
def dkwX0_when_2 : List UInt8 := [181, 0, 179, 167, 255, 224, 42, 42, 180, 0, 59, 27, 46, 182, 0, 210, 54, 4, 42, 28, 181, 0, 179]
abbrev dktX0_when_2 : List UInt8 := dkwX0_when_2 ++ dktX0_when_3
def dkwX0_when_1 : List UInt8 := [42, 180, 0, 59, 27, 46, 182, 0, 210, 154, 0, 19, 132, 3, 1, 42, 89, 180, 0, 179, 4, 96]
abbrev dktX0_when_1 : List UInt8 := dkwX0_when_1 ++ dktX0_when_2
def dkwX0_when_0 : List UInt8 := [42, 27, 182, 0, 234, 154, 0, 5, 2, 172, 42, 180, 0, 179, 61, 3, 62, 29, 16, 40, 162, 0, 32, 42]
abbrev dktX0_when_0 : List UInt8 := dkwX0_when_0 ++ dktX0_when_1
theorem dksX0_when_0 : cX0_when.data.toList.drop 0 = dktX0_when_0 := by decide +kernel
theorem dksX0_when_1 : cX0_when.data.toList.drop 24 = dktX0_when_1 := dk_seg dksX0_when_0 24 rfl rfl
theorem dksX0_when_2 : cX0_when.data.toList.drop 46 = dktX0_when_2 := dk_seg dksX0_when_1 22 rfl rfl
theorem dksX0_when_3 : cX0_when.data.toList.drop 69 = dktX0_when_3 := dk_seg dksX0_when_2 23 rfl rfl
theorem dX0_when_0 : decode cX0_when 0 = .ok (.aload_n 0, 1) := dk_42 (dk_at dksX0_when_0 0 rfl rfl)
theorem dX0_when_1 : decode cX0_when 1 = .ok (.iload_n 1, 1) := dk_27 (dk_at dksX0_when_0 1 rfl rfl)
theorem dX0_when_2 : decode cX0_when 2 = .ok (.invokevirtual 234, 3) := dk_182 0 234 (dk_at dksX0_when_0 2 rfl rfl)
theorem dX0_when_5 : decode cX0_when 5 = .ok (.ifCond .ne 5, 3) := dk_154 0 5 (dk_at dksX0_when_0 5 rfl rfl)
theorem dX0_when_8 : decode cX0_when 8 = .ok (.iconst (-1), 1) := dk_2 (dk_at dksX0_when_0 8 rfl rfl)
theorem dX0_when_9 : decode cX0_when 9 = .ok (.ireturn, 1) := dk_172 (dk_at dksX0_when_0 9 rfl rfl)
theorem dX0_when_10 : decode cX0_when 10 = .ok (.aload_n 0, 1) := dk_42 (dk_at dksX0_when_0 10 rfl rfl)
theorem dX0_when_11 : decode cX0_when 11 = .ok (.getfield 179, 3) := dk_180 0 179 (dk_at dksX0_when_0 11 rfl rfl)
theorem dX0_when_14 : decode cX0_when 14 = .ok (.istore_n 2, 1) := dk_61 (dk_at dksX0_when_0 14 rfl rfl)
theorem dX0_when_15 : decode cX0_when 15 = .ok (.iconst 0, 1) := dk_3 (dk_at dksX0_when_0 15 rfl rfl)
theorem dX0_when_16 : decode cX0_when 16 = .ok (.istore_n 3, 1) := dk_62 (dk_at dksX0_when_0 16 rfl rfl)
theorem dX0_when_17 : decode cX0_when 17 = .ok (.iload_n 3, 1) := dk_29 (dk_at dksX0_when_0 17 rfl rfl)
theorem dX0_when_18 : decode cX0_when 18 = .ok (.bipush 40, 2) := dk_16 40 (dk_at dksX0_when_0 18 rfl rfl)
theorem dX0_when_20 : decode cX0_when 20 = .ok (.if_icmp .ge 32, 3) := dk_162 0 32 (dk_at dksX0_when_0 20 rfl rfl)
theorem dX0_when_23 : decode cX0_when 23 = .ok (.aload_n 0, 1) := dk_42 (dk_at dksX0_when_0 23 rfl rfl)
theorem dX0_when_24 : decode cX0_when 24 = .ok (.aload_n 0, 1) := dk_42 (dk_at dksX0_when_1 0 rfl rfl)
theorem dX0_when_25 : decode cX0_when 25 = .ok (.getfield 59, 3) := dk_180 0 59 (dk_at dksX0_when_1 1 rfl rfl)
theorem dX0_when_28 : decode cX0_when 28 = .ok (.iload_n 1, 1) := dk_27 (dk_at dksX0_when_1 4 rfl rfl)
theorem dX0_when_29 : decode cX0_when 29 = .ok (.iaload, 1) := dk_46 (dk_at dksX0_when_1 5 rfl rfl)
theorem dX0_when_30 : decode cX0_when 30 = .ok (.invokevirtual 210, 3) := dk_182 0 210 (dk_at dksX0_when_1 6 rfl rfl)
theorem dX0_when_33 : decode cX0_when 33 = .ok (.ifCond .ne 19, 3) := dk_154 0 19 (dk_at dksX0_when_1 9 rfl rfl)
theorem dX0_when_36 : decode cX0_when 36 = .ok (.iinc 3 1, 3) := dk_132 3 1 (dk_at dksX0_when_1 12 rfl rfl)
theorem dX0_when_39 : decode cX0_when 39 = .ok (.aload_n 0, 1) := dk_42 (dk_at dksX0_when_1 15 rfl rfl)
theorem dX0_when_40 : decode cX0_when 40 = .ok (.dup, 1) := dk_89 (dk_at dksX0_when_1 16 rfl rfl)
theorem dX0_when_41 : decode cX0_when 41 = .ok (.getfield 179, 3) := dk_180 0 179 (dk_at dksX0_when_1 17 rfl rfl)
theorem dX0_when_44 : decode cX0_when 44 = .ok (.iconst 1, 1) := dk_4 (dk_at dksX0_when_1 20 rfl rfl)
theorem dX0_when_45 : decode cX0_when 45 = .ok (.iadd, 1) := dk_96 (dk_at dksX0_when_1 21 rfl rfl)
theorem dX0_when_46 : decode cX0_when 46 = .ok (.putfield 179, 3) := dk_181 0 179 (dk_at dksX0_when_2 0 rfl rfl)
theorem dX0_when_49 : decode cX0_when 49 = .ok (.goto (-32), 3) := dk_167 255 224 (dk_at dksX0_when_2 3 rfl rfl)
theorem dX0_when_52 : decode cX0_when 52 = .ok (.aload_n 0, 1) := dk_42 (dk_at dksX0_when_2 6 rfl rfl)
theorem dX0_when_53 : decode cX0_when 53 = .ok (.aload_n 0, 1) := dk_42 (dk_at dksX0_when_2 7 rfl rfl)
theorem dX0_when_54 : decode cX0_when 54 = .ok (.getfield 59, 3) := dk_180 0 59 (dk_at dksX0_when_2 8 rfl rfl)
theorem dX0_when_57 : decode cX0_when 57 = .ok (.iload_n 1, 1) := dk_27 (dk_at dksX0_when_2 11 rfl rfl)
theorem dX0_when_58 : decode cX0_when 58 = .ok (.iaload, 1) := dk_46 (dk_at dksX0_when_2 12 rfl rfl)
theorem dX0_when_59 : decode cX0_when 59 = .ok (.invokevirtual 210, 3) := dk_182 0 210 (dk_at dksX0_when_2 13 rfl rfl)
theorem dX0_when_62 : decode cX0_when 62 = .ok (.istore 4, 2) := dk_54 4 (dk_at dksX0_when_2 16 rfl rfl)
theorem dX0_when_64 : decode cX0_when 64 = .ok (.aload_n 0, 1) := dk_42 (dk_at dksX0_when_2 18 rfl rfl)
theorem dX0_when_65 : decode cX0_when 65 = .ok (.iload_n 2, 1) := dk_28 (dk_at dksX0_when_2 19 rfl rfl)
theorem dX0_when_66 : decode cX0_when 66 = .ok (.putfield 179, 3) := dk_181 0 179 (dk_at dksX0_when_2 20 rfl rfl)
theorem dX0_when_69 : decode cX0_when 69 = .ok (.iload 4, 2) := dk_21 4 (dk_at dksX0_when_3 0 rfl rfl)
theorem dX0_when_71 : decode cX0_when 71 = .ok (.ifCond .ne 8, 3) := dk_154 0 8 (dk_at dksX0_when_3 2 rfl rfl)
theorem dX0_when_74 : decode cX0_when 74 = .ok (.bipush (-9), 2) := dk_16 247 (dk_at dksX0_when_3 5 rfl rfl)
theorem dX0_when_76 : decode cX0_when 76 = .ok (.goto 10, 3) := dk_167 0 10 (dk_at dksX0_when_3 7 rfl rfl)
theorem dX0_when_79 : decode cX0_when 79 = .ok (.aload_n 0, 1) := dk_42 (dk_at dksX0_when_3 10 rfl rfl)
theorem dX0_when_80 : decode cX0_when 80 = .ok (.iload 4, 2) := dk_21 4 (dk_at dksX0_when_3 11 rfl rfl)
theorem dX0_when_82 : decode cX0_when 82 = .ok (.iload_n 3, 1) := dk_29 (dk_at dksX0_when_3 13 rfl rfl)
theorem dX0_when_83 : decode cX0_when 83 = .ok (.invokevirtual 95, 3) := dk_182 0 95 (dk_at dksX0_when_3 14 rfl rfl)
theorem dX0_when_86 : decode cX0_when 86 = .ok (.ireturn, 1) := dk_172 (dk_at dksX0_when_3 17 rfl rfl)
abbrev cX0_years : ByteArray := prog_1_method_62_code
def yX0_years : MethodName := ⟨RX0, "years", "(II)I"⟩
def dkwX0_years_4 : List UInt8 := [167, 255, 198, 42, 29, 181, 0, 179, 42, 21, 5, 21, 4, 182, 0, 95, 172]
abbrev dktX0_years_4 : List UInt8 := dkwX0_years_4 ++ []
def dkwX0_years_3 : List UInt8 := [21, 5, 21, 7, 184, 0, 219, 54, 5, 42, 89, 180, 0, 179, 4, 96, 181, 0, 179, 132, 6, 1]
abbrev dktX0_years_3 : List UInt8 := dkwX0_years_3 ++ dktX0_years_4
def dkwX0_years_2 : List UInt8 := [182, 0, 210, 184, 1, 15, 54, 7, 21, 4, 21, 7, 158, 0, 7, 4, 167, 0, 4, 3, 96, 54, 4]
abbrev dktX0_years_2 : List UInt8 := dkwX0_years_2 ++ dktX0_years_3
def dkwX0_years_1 : List UInt8 := [62, 3, 54, 4, 3, 54, 5, 3, 54, 6, 21, 6, 28, 162, 0, 58, 42, 42, 180, 0, 59, 27, 46]
abbrev dktX0_years_1 : List UInt8 := dkwX0_years_1 ++ dktX0_years_2
def dkwX0_years_0 : List UInt8 := [42, 27, 182, 0, 234, 153, 0, 13, 28, 3, 16, 40, 184, 0, 77, 154, 0, 5, 2, 172, 42, 180, 0, 179]
abbrev dktX0_years_0 : List UInt8 := dkwX0_years_0 ++ dktX0_years_1
theorem dksX0_years_0 : cX0_years.data.toList.drop 0 = dktX0_years_0 := by decide +kernel
theorem dksX0_years_1 : cX0_years.data.toList.drop 24 = dktX0_years_1 := dk_seg dksX0_years_0 24 rfl rfl
theorem dksX0_years_2 : cX0_years.data.toList.drop 47 = dktX0_years_2 := dk_seg dksX0_years_1 23 rfl rfl
theorem dksX0_years_3 : cX0_years.data.toList.drop 70 = dktX0_years_3 := dk_seg dksX0_years_2 23 rfl rfl
theorem dksX0_years_4 : cX0_years.data.toList.drop 92 = dktX0_years_4 := dk_seg dksX0_years_3 22 rfl rfl
theorem dX0_years_0 : decode cX0_years 0 = .ok (.aload_n 0, 1) := dk_42 (dk_at dksX0_years_0 0 rfl rfl)
theorem dX0_years_1 : decode cX0_years 1 = .ok (.iload_n 1, 1) := dk_27 (dk_at dksX0_years_0 1 rfl rfl)
theorem dX0_years_2 : decode cX0_years 2 = .ok (.invokevirtual 234, 3) := dk_182 0 234 (dk_at dksX0_years_0 2 rfl rfl)
theorem dX0_years_5 : decode cX0_years 5 = .ok (.ifCond .eq 13, 3) := dk_153 0 13 (dk_at dksX0_years_0 5 rfl rfl)
theorem dX0_years_8 : decode cX0_years 8 = .ok (.iload_n 2, 1) := dk_28 (dk_at dksX0_years_0 8 rfl rfl)
theorem dX0_years_9 : decode cX0_years 9 = .ok (.iconst 0, 1) := dk_3 (dk_at dksX0_years_0 9 rfl rfl)
theorem dX0_years_10 : decode cX0_years 10 = .ok (.bipush 40, 2) := dk_16 40 (dk_at dksX0_years_0 10 rfl rfl)
theorem dX0_years_12 : decode cX0_years 12 = .ok (.invokestatic 77, 3) := dk_184 0 77 (dk_at dksX0_years_0 12 rfl rfl)
theorem dX0_years_15 : decode cX0_years 15 = .ok (.ifCond .ne 5, 3) := dk_154 0 5 (dk_at dksX0_years_0 15 rfl rfl)
theorem dX0_years_18 : decode cX0_years 18 = .ok (.iconst (-1), 1) := dk_2 (dk_at dksX0_years_0 18 rfl rfl)
theorem dX0_years_19 : decode cX0_years 19 = .ok (.ireturn, 1) := dk_172 (dk_at dksX0_years_0 19 rfl rfl)
theorem dX0_years_20 : decode cX0_years 20 = .ok (.aload_n 0, 1) := dk_42 (dk_at dksX0_years_0 20 rfl rfl)
theorem dX0_years_21 : decode cX0_years 21 = .ok (.getfield 179, 3) := dk_180 0 179 (dk_at dksX0_years_0 21 rfl rfl)
theorem dX0_years_24 : decode cX0_years 24 = .ok (.istore_n 3, 1) := dk_62 (dk_at dksX0_years_1 0 rfl rfl)
theorem dX0_years_25 : decode cX0_years 25 = .ok (.iconst 0, 1) := dk_3 (dk_at dksX0_years_1 1 rfl rfl)
theorem dX0_years_26 : decode cX0_years 26 = .ok (.istore 4, 2) := dk_54 4 (dk_at dksX0_years_1 2 rfl rfl)
theorem dX0_years_28 : decode cX0_years 28 = .ok (.iconst 0, 1) := dk_3 (dk_at dksX0_years_1 4 rfl rfl)
theorem dX0_years_29 : decode cX0_years 29 = .ok (.istore 5, 2) := dk_54 5 (dk_at dksX0_years_1 5 rfl rfl)
theorem dX0_years_31 : decode cX0_years 31 = .ok (.iconst 0, 1) := dk_3 (dk_at dksX0_years_1 7 rfl rfl)
theorem dX0_years_32 : decode cX0_years 32 = .ok (.istore 6, 2) := dk_54 6 (dk_at dksX0_years_1 8 rfl rfl)
theorem dX0_years_34 : decode cX0_years 34 = .ok (.iload 6, 2) := dk_21 6 (dk_at dksX0_years_1 10 rfl rfl)
theorem dX0_years_36 : decode cX0_years 36 = .ok (.iload_n 2, 1) := dk_28 (dk_at dksX0_years_1 12 rfl rfl)
theorem dX0_years_37 : decode cX0_years 37 = .ok (.if_icmp .ge 58, 3) := dk_162 0 58 (dk_at dksX0_years_1 13 rfl rfl)
theorem dX0_years_40 : decode cX0_years 40 = .ok (.aload_n 0, 1) := dk_42 (dk_at dksX0_years_1 16 rfl rfl)
theorem dX0_years_41 : decode cX0_years 41 = .ok (.aload_n 0, 1) := dk_42 (dk_at dksX0_years_1 17 rfl rfl)
theorem dX0_years_42 : decode cX0_years 42 = .ok (.getfield 59, 3) := dk_180 0 59 (dk_at dksX0_years_1 18 rfl rfl)
theorem dX0_years_45 : decode cX0_years 45 = .ok (.iload_n 1, 1) := dk_27 (dk_at dksX0_years_1 21 rfl rfl)
theorem dX0_years_46 : decode cX0_years 46 = .ok (.iaload, 1) := dk_46 (dk_at dksX0_years_1 22 rfl rfl)
theorem dX0_years_47 : decode cX0_years 47 = .ok (.invokevirtual 210, 3) := dk_182 0 210 (dk_at dksX0_years_2 0 rfl rfl)
theorem dX0_years_50 : decode cX0_years 50 = .ok (.invokestatic 271, 3) := dk_184 1 15 (dk_at dksX0_years_2 3 rfl rfl)
theorem dX0_years_53 : decode cX0_years 53 = .ok (.istore 7, 2) := dk_54 7 (dk_at dksX0_years_2 6 rfl rfl)
theorem dX0_years_55 : decode cX0_years 55 = .ok (.iload 4, 2) := dk_21 4 (dk_at dksX0_years_2 8 rfl rfl)
theorem dX0_years_57 : decode cX0_years 57 = .ok (.iload 7, 2) := dk_21 7 (dk_at dksX0_years_2 10 rfl rfl)
theorem dX0_years_59 : decode cX0_years 59 = .ok (.ifCond .le 7, 3) := dk_158 0 7 (dk_at dksX0_years_2 12 rfl rfl)
theorem dX0_years_62 : decode cX0_years 62 = .ok (.iconst 1, 1) := dk_4 (dk_at dksX0_years_2 15 rfl rfl)
theorem dX0_years_63 : decode cX0_years 63 = .ok (.goto 4, 3) := dk_167 0 4 (dk_at dksX0_years_2 16 rfl rfl)
theorem dX0_years_66 : decode cX0_years 66 = .ok (.iconst 0, 1) := dk_3 (dk_at dksX0_years_2 19 rfl rfl)
theorem dX0_years_67 : decode cX0_years 67 = .ok (.iadd, 1) := dk_96 (dk_at dksX0_years_2 20 rfl rfl)
theorem dX0_years_68 : decode cX0_years 68 = .ok (.istore 4, 2) := dk_54 4 (dk_at dksX0_years_2 21 rfl rfl)
theorem dX0_years_70 : decode cX0_years 70 = .ok (.iload 5, 2) := dk_21 5 (dk_at dksX0_years_3 0 rfl rfl)
theorem dX0_years_72 : decode cX0_years 72 = .ok (.iload 7, 2) := dk_21 7 (dk_at dksX0_years_3 2 rfl rfl)
theorem dX0_years_74 : decode cX0_years 74 = .ok (.invokestatic 219, 3) := dk_184 0 219 (dk_at dksX0_years_3 4 rfl rfl)
theorem dX0_years_77 : decode cX0_years 77 = .ok (.istore 5, 2) := dk_54 5 (dk_at dksX0_years_3 7 rfl rfl)
theorem dX0_years_79 : decode cX0_years 79 = .ok (.aload_n 0, 1) := dk_42 (dk_at dksX0_years_3 9 rfl rfl)
theorem dX0_years_80 : decode cX0_years 80 = .ok (.dup, 1) := dk_89 (dk_at dksX0_years_3 10 rfl rfl)
theorem dX0_years_81 : decode cX0_years 81 = .ok (.getfield 179, 3) := dk_180 0 179 (dk_at dksX0_years_3 11 rfl rfl)
theorem dX0_years_84 : decode cX0_years 84 = .ok (.iconst 1, 1) := dk_4 (dk_at dksX0_years_3 14 rfl rfl)
theorem dX0_years_85 : decode cX0_years 85 = .ok (.iadd, 1) := dk_96 (dk_at dksX0_years_3 15 rfl rfl)
theorem dX0_years_86 : decode cX0_years 86 = .ok (.putfield 179, 3) := dk_181 0 179 (dk_at dksX0_years_3 16 rfl rfl)
theorem dX0_years_89 : decode cX0_years 89 = .ok (.iinc 6 1, 3) := dk_132 6 1 (dk_at dksX0_years_3 19 rfl rfl)
theorem dX0_years_92 : decode cX0_years 92 = .ok (.goto (-58), 3) := dk_167 255 198 (dk_at dksX0_years_4 0 rfl rfl)
theorem dX0_years_95 : decode cX0_years 95 = .ok (.aload_n 0, 1) := dk_42 (dk_at dksX0_years_4 3 rfl rfl)
theorem dX0_years_96 : decode cX0_years 96 = .ok (.iload_n 3, 1) := dk_29 (dk_at dksX0_years_4 4 rfl rfl)
theorem dX0_years_97 : decode cX0_years 97 = .ok (.putfield 179, 3) := dk_181 0 179 (dk_at dksX0_years_4 5 rfl rfl)
theorem dX0_years_100 : decode cX0_years 100 = .ok (.aload_n 0, 1) := dk_42 (dk_at dksX0_years_4 8 rfl rfl)
theorem dX0_years_101 : decode cX0_years 101 = .ok (.iload 5, 2) := dk_21 5 (dk_at dksX0_years_4 9 rfl rfl)
theorem dX0_years_103 : decode cX0_years 103 = .ok (.iload 4, 2) := dk_21 4 (dk_at dksX0_years_4 11 rfl rfl)
theorem dX0_years_105 : decode cX0_years 105 = .ok (.invokevirtual 95, 3) := dk_182 0 95 (dk_at dksX0_years_4 13 rfl rfl)
theorem dX0_years_108 : decode cX0_years 108 = .ok (.ireturn, 1) := dk_172 (dk_at dksX0_years_4 16 rfl rfl)
abbrev cX0_near : ByteArray := prog_1_method_63_code
def yX0_near : MethodName := ⟨RX0, "near", "(II)I"⟩
def dkwX0_near_5 : List UInt8 := [42, 29, 21, 4, 182, 0, 95, 172]
abbrev dktX0_near_5 : List UInt8 := dkwX0_near_5 ++ []
def dkwX0_near_4 : List UInt8 := [21, 6, 184, 0, 193, 54, 4, 132, 5, 1, 167, 255, 179, 29, 16, 247, 160, 0, 8, 16, 247, 167, 0, 10]
abbrev dktX0_near_4 : List UInt8 := dkwX0_near_4 ++ dktX0_near_5
def dkwX0_near_3 : List UInt8 := [167, 0, 6, 19, 1, 32, 54, 6, 21, 6, 21, 4, 162, 0, 8, 21, 5, 167, 0, 4, 29, 62, 21, 4]
abbrev dktX0_near_3 : List UInt8 := dkwX0_near_3 ++ dktX0_near_4
def dkwX0_near_2 : List UInt8 := [28, 21, 5, 42, 180, 0, 179, 182, 0, 207, 153, 0, 17, 21, 5, 42, 180, 0, 59, 27, 46, 184, 0, 190]
abbrev dktX0_near_2 : List UInt8 := dkwX0_near_2 ++ dktX0_near_3
def dkwX0_near_1 : List UInt8 := [54, 4, 3, 54, 5, 21, 5, 16, 100, 162, 0, 76, 42, 180, 0, 182, 28, 184, 0, 204, 153, 0, 31, 42]
abbrev dktX0_near_1 : List UInt8 := dkwX0_near_1 ++ dktX0_near_2
def dkwX0_near_0 : List UInt8 := [42, 27, 182, 0, 234, 153, 0, 11, 42, 28, 182, 0, 228, 154, 0, 5, 2, 172, 16, 247, 62, 19, 1, 32]
abbrev dktX0_near_0 : List UInt8 := dkwX0_near_0 ++ dktX0_near_1
theorem dksX0_near_0 : cX0_near.data.toList.drop 0 = dktX0_near_0 := by decide +kernel
theorem dksX0_near_1 : cX0_near.data.toList.drop 24 = dktX0_near_1 := dk_seg dksX0_near_0 24 rfl rfl
theorem dksX0_near_2 : cX0_near.data.toList.drop 48 = dktX0_near_2 := dk_seg dksX0_near_1 24 rfl rfl
theorem dksX0_near_3 : cX0_near.data.toList.drop 72 = dktX0_near_3 := dk_seg dksX0_near_2 24 rfl rfl
theorem dksX0_near_4 : cX0_near.data.toList.drop 96 = dktX0_near_4 := dk_seg dksX0_near_3 24 rfl rfl
theorem dksX0_near_5 : cX0_near.data.toList.drop 120 = dktX0_near_5 := dk_seg dksX0_near_4 24 rfl rfl
theorem dX0_near_0 : decode cX0_near 0 = .ok (.aload_n 0, 1) := dk_42 (dk_at dksX0_near_0 0 rfl rfl)
theorem dX0_near_1 : decode cX0_near 1 = .ok (.iload_n 1, 1) := dk_27 (dk_at dksX0_near_0 1 rfl rfl)
theorem dX0_near_2 : decode cX0_near 2 = .ok (.invokevirtual 234, 3) := dk_182 0 234 (dk_at dksX0_near_0 2 rfl rfl)
theorem dX0_near_5 : decode cX0_near 5 = .ok (.ifCond .eq 11, 3) := dk_153 0 11 (dk_at dksX0_near_0 5 rfl rfl)
theorem dX0_near_8 : decode cX0_near 8 = .ok (.aload_n 0, 1) := dk_42 (dk_at dksX0_near_0 8 rfl rfl)
theorem dX0_near_9 : decode cX0_near 9 = .ok (.iload_n 2, 1) := dk_28 (dk_at dksX0_near_0 9 rfl rfl)
theorem dX0_near_10 : decode cX0_near 10 = .ok (.invokevirtual 228, 3) := dk_182 0 228 (dk_at dksX0_near_0 10 rfl rfl)
theorem dX0_near_13 : decode cX0_near 13 = .ok (.ifCond .ne 5, 3) := dk_154 0 5 (dk_at dksX0_near_0 13 rfl rfl)
theorem dX0_near_16 : decode cX0_near 16 = .ok (.iconst (-1), 1) := dk_2 (dk_at dksX0_near_0 16 rfl rfl)
theorem dX0_near_17 : decode cX0_near 17 = .ok (.ireturn, 1) := dk_172 (dk_at dksX0_near_0 17 rfl rfl)
theorem dX0_near_18 : decode cX0_near 18 = .ok (.bipush (-9), 2) := dk_16 247 (dk_at dksX0_near_0 18 rfl rfl)
theorem dX0_near_20 : decode cX0_near 20 = .ok (.istore_n 3, 1) := dk_62 (dk_at dksX0_near_0 20 rfl rfl)
theorem dX0_near_21 : decode cX0_near 21 = .ok (.ldc_w 288, 3) := dk_19 1 32 (dk_at dksX0_near_0 21 rfl rfl)
theorem dX0_near_24 : decode cX0_near 24 = .ok (.istore 4, 2) := dk_54 4 (dk_at dksX0_near_1 0 rfl rfl)
theorem dX0_near_26 : decode cX0_near 26 = .ok (.iconst 0, 1) := dk_3 (dk_at dksX0_near_1 2 rfl rfl)
theorem dX0_near_27 : decode cX0_near 27 = .ok (.istore 5, 2) := dk_54 5 (dk_at dksX0_near_1 3 rfl rfl)
theorem dX0_near_29 : decode cX0_near 29 = .ok (.iload 5, 2) := dk_21 5 (dk_at dksX0_near_1 5 rfl rfl)
theorem dX0_near_31 : decode cX0_near 31 = .ok (.bipush 100, 2) := dk_16 100 (dk_at dksX0_near_1 7 rfl rfl)
theorem dX0_near_33 : decode cX0_near 33 = .ok (.if_icmp .ge 76, 3) := dk_162 0 76 (dk_at dksX0_near_1 9 rfl rfl)
theorem dX0_near_36 : decode cX0_near 36 = .ok (.aload_n 0, 1) := dk_42 (dk_at dksX0_near_1 12 rfl rfl)
theorem dX0_near_37 : decode cX0_near 37 = .ok (.getfield 182, 3) := dk_180 0 182 (dk_at dksX0_near_1 13 rfl rfl)
theorem dX0_near_40 : decode cX0_near 40 = .ok (.iload_n 2, 1) := dk_28 (dk_at dksX0_near_1 16 rfl rfl)
theorem dX0_near_41 : decode cX0_near 41 = .ok (.invokestatic 204, 3) := dk_184 0 204 (dk_at dksX0_near_1 17 rfl rfl)
theorem dX0_near_44 : decode cX0_near 44 = .ok (.ifCond .eq 31, 3) := dk_153 0 31 (dk_at dksX0_near_1 20 rfl rfl)
theorem dX0_near_47 : decode cX0_near 47 = .ok (.aload_n 0, 1) := dk_42 (dk_at dksX0_near_1 23 rfl rfl)
theorem dX0_near_48 : decode cX0_near 48 = .ok (.iload_n 2, 1) := dk_28 (dk_at dksX0_near_2 0 rfl rfl)
theorem dX0_near_49 : decode cX0_near 49 = .ok (.iload 5, 2) := dk_21 5 (dk_at dksX0_near_2 1 rfl rfl)
theorem dX0_near_51 : decode cX0_near 51 = .ok (.aload_n 0, 1) := dk_42 (dk_at dksX0_near_2 3 rfl rfl)
theorem dX0_near_52 : decode cX0_near 52 = .ok (.getfield 179, 3) := dk_180 0 179 (dk_at dksX0_near_2 4 rfl rfl)
theorem dX0_near_55 : decode cX0_near 55 = .ok (.invokevirtual 207, 3) := dk_182 0 207 (dk_at dksX0_near_2 7 rfl rfl)
theorem dX0_near_58 : decode cX0_near 58 = .ok (.ifCond .eq 17, 3) := dk_153 0 17 (dk_at dksX0_near_2 10 rfl rfl)
theorem dX0_near_61 : decode cX0_near 61 = .ok (.iload 5, 2) := dk_21 5 (dk_at dksX0_near_2 13 rfl rfl)
theorem dX0_near_63 : decode cX0_near 63 = .ok (.aload_n 0, 1) := dk_42 (dk_at dksX0_near_2 15 rfl rfl)
theorem dX0_near_64 : decode cX0_near 64 = .ok (.getfield 59, 3) := dk_180 0 59 (dk_at dksX0_near_2 16 rfl rfl)
theorem dX0_near_67 : decode cX0_near 67 = .ok (.iload_n 1, 1) := dk_27 (dk_at dksX0_near_2 19 rfl rfl)
theorem dX0_near_68 : decode cX0_near 68 = .ok (.iaload, 1) := dk_46 (dk_at dksX0_near_2 20 rfl rfl)
theorem dX0_near_69 : decode cX0_near 69 = .ok (.invokestatic 190, 3) := dk_184 0 190 (dk_at dksX0_near_2 21 rfl rfl)
theorem dX0_near_72 : decode cX0_near 72 = .ok (.goto 6, 3) := dk_167 0 6 (dk_at dksX0_near_3 0 rfl rfl)
theorem dX0_near_75 : decode cX0_near 75 = .ok (.ldc_w 288, 3) := dk_19 1 32 (dk_at dksX0_near_3 3 rfl rfl)
theorem dX0_near_78 : decode cX0_near 78 = .ok (.istore 6, 2) := dk_54 6 (dk_at dksX0_near_3 6 rfl rfl)
theorem dX0_near_80 : decode cX0_near 80 = .ok (.iload 6, 2) := dk_21 6 (dk_at dksX0_near_3 8 rfl rfl)
theorem dX0_near_82 : decode cX0_near 82 = .ok (.iload 4, 2) := dk_21 4 (dk_at dksX0_near_3 10 rfl rfl)
theorem dX0_near_84 : decode cX0_near 84 = .ok (.if_icmp .ge 8, 3) := dk_162 0 8 (dk_at dksX0_near_3 12 rfl rfl)
theorem dX0_near_87 : decode cX0_near 87 = .ok (.iload 5, 2) := dk_21 5 (dk_at dksX0_near_3 15 rfl rfl)
theorem dX0_near_89 : decode cX0_near 89 = .ok (.goto 4, 3) := dk_167 0 4 (dk_at dksX0_near_3 17 rfl rfl)
theorem dX0_near_92 : decode cX0_near 92 = .ok (.iload_n 3, 1) := dk_29 (dk_at dksX0_near_3 20 rfl rfl)
theorem dX0_near_93 : decode cX0_near 93 = .ok (.istore_n 3, 1) := dk_62 (dk_at dksX0_near_3 21 rfl rfl)
theorem dX0_near_94 : decode cX0_near 94 = .ok (.iload 4, 2) := dk_21 4 (dk_at dksX0_near_3 22 rfl rfl)
theorem dX0_near_96 : decode cX0_near 96 = .ok (.iload 6, 2) := dk_21 6 (dk_at dksX0_near_4 0 rfl rfl)
theorem dX0_near_98 : decode cX0_near 98 = .ok (.invokestatic 193, 3) := dk_184 0 193 (dk_at dksX0_near_4 2 rfl rfl)
theorem dX0_near_101 : decode cX0_near 101 = .ok (.istore 4, 2) := dk_54 4 (dk_at dksX0_near_4 5 rfl rfl)
theorem dX0_near_103 : decode cX0_near 103 = .ok (.iinc 5 1, 3) := dk_132 5 1 (dk_at dksX0_near_4 7 rfl rfl)
theorem dX0_near_106 : decode cX0_near 106 = .ok (.goto (-77), 3) := dk_167 255 179 (dk_at dksX0_near_4 10 rfl rfl)
theorem dX0_near_109 : decode cX0_near 109 = .ok (.iload_n 3, 1) := dk_29 (dk_at dksX0_near_4 13 rfl rfl)
theorem dX0_near_110 : decode cX0_near 110 = .ok (.bipush (-9), 2) := dk_16 247 (dk_at dksX0_near_4 14 rfl rfl)
theorem dX0_near_112 : decode cX0_near 112 = .ok (.if_icmp .ne 8, 3) := dk_160 0 8 (dk_at dksX0_near_4 16 rfl rfl)
theorem dX0_near_115 : decode cX0_near 115 = .ok (.bipush (-9), 2) := dk_16 247 (dk_at dksX0_near_4 19 rfl rfl)
theorem dX0_near_117 : decode cX0_near 117 = .ok (.goto 10, 3) := dk_167 0 10 (dk_at dksX0_near_4 21 rfl rfl)
theorem dX0_near_120 : decode cX0_near 120 = .ok (.aload_n 0, 1) := dk_42 (dk_at dksX0_near_5 0 rfl rfl)
theorem dX0_near_121 : decode cX0_near 121 = .ok (.iload_n 3, 1) := dk_29 (dk_at dksX0_near_5 1 rfl rfl)
theorem dX0_near_122 : decode cX0_near 122 = .ok (.iload 4, 2) := dk_21 4 (dk_at dksX0_near_5 2 rfl rfl)
theorem dX0_near_124 : decode cX0_near 124 = .ok (.invokevirtual 95, 3) := dk_182 0 95 (dk_at dksX0_near_5 4 rfl rfl)
theorem dX0_near_127 : decode cX0_near 127 = .ok (.ireturn, 1) := dk_172 (dk_at dksX0_near_5 7 rfl rfl)
abbrev cX0_unmake : ByteArray := prog_1_method_64_code
def yX0_unmake : MethodName := ⟨RX0, "unmake", "(II)I"⟩
def dkwX0_unmake_7 : List UInt8 := [21, 5, 184, 1, 15, 182, 0, 95, 172]
abbrev dktX0_unmake_7 : List UInt8 := dkwX0_unmake_7 ++ []
def dkwX0_unmake_6 : List UInt8 := [167, 255, 162, 42, 21, 4, 181, 0, 182, 21, 5, 16, 247, 160, 0, 8, 16, 247, 167, 0, 14, 42, 21, 5]
abbrev dktX0_unmake_6 : List UInt8 := dkwX0_unmake_6 ++ dktX0_unmake_7
def dkwX0_unmake_5 : List UInt8 := [130, 126, 154, 0, 15, 28, 21, 8, 126, 154, 0, 8, 21, 6, 167, 0, 5, 21, 5, 54, 5, 132, 6, 1]
abbrev dktX0_unmake_5 : List UInt8 := dkwX0_unmake_5 ++ dktX0_unmake_6
def dkwX0_unmake_4 : List UInt8 := [153, 0, 45, 42, 21, 4, 21, 6, 2, 130, 126, 181, 0, 182, 42, 182, 1, 12, 54, 8, 27, 21, 8, 2]
abbrev dktX0_unmake_4 : List UInt8 := dkwX0_unmake_4 ++ dktX0_unmake_5
def dkwX0_unmake_3 : List UInt8 := [162, 0, 7, 4, 167, 0, 4, 3, 54, 7, 21, 6, 21, 4, 2, 130, 126, 154, 0, 50, 21, 7]
abbrev dktX0_unmake_3 : List UInt8 := dkwX0_unmake_3 ++ dktX0_unmake_4
def dkwX0_unmake_2 : List UInt8 := [21, 6, 21, 4, 163, 0, 93, 21, 5, 16, 247, 159, 0, 16, 21, 6, 184, 1, 15, 21, 5, 184, 1, 15]
abbrev dktX0_unmake_2 : List UInt8 := dkwX0_unmake_2 ++ dktX0_unmake_3
def dkwX0_unmake_1 : List UInt8 := [153, 0, 9, 27, 28, 126, 153, 0, 5, 2, 172, 42, 180, 0, 182, 54, 4, 16, 247, 54, 5, 3, 54, 6]
abbrev dktX0_unmake_1 : List UInt8 := dkwX0_unmake_1 ++ dktX0_unmake_2
def dkwX0_unmake_0 : List UInt8 := [4, 42, 180, 0, 172, 120, 4, 100, 62, 27, 3, 29, 184, 0, 77, 153, 0, 18, 28, 3, 29, 184, 0, 77]
abbrev dktX0_unmake_0 : List UInt8 := dkwX0_unmake_0 ++ dktX0_unmake_1
theorem dksX0_unmake_0 : cX0_unmake.data.toList.drop 0 = dktX0_unmake_0 := by decide +kernel
theorem dksX0_unmake_1 : cX0_unmake.data.toList.drop 24 = dktX0_unmake_1 := dk_seg dksX0_unmake_0 24 rfl rfl
theorem dksX0_unmake_2 : cX0_unmake.data.toList.drop 48 = dktX0_unmake_2 := dk_seg dksX0_unmake_1 24 rfl rfl
theorem dksX0_unmake_3 : cX0_unmake.data.toList.drop 72 = dktX0_unmake_3 := dk_seg dksX0_unmake_2 24 rfl rfl
theorem dksX0_unmake_4 : cX0_unmake.data.toList.drop 94 = dktX0_unmake_4 := dk_seg dksX0_unmake_3 22 rfl rfl
theorem dksX0_unmake_5 : cX0_unmake.data.toList.drop 118 = dktX0_unmake_5 := dk_seg dksX0_unmake_4 24 rfl rfl
theorem dksX0_unmake_6 : cX0_unmake.data.toList.drop 142 = dktX0_unmake_6 := dk_seg dksX0_unmake_5 24 rfl rfl
theorem dksX0_unmake_7 : cX0_unmake.data.toList.drop 166 = dktX0_unmake_7 := dk_seg dksX0_unmake_6 24 rfl rfl
theorem dX0_unmake_0 : decode cX0_unmake 0 = .ok (.iconst 1, 1) := dk_4 (dk_at dksX0_unmake_0 0 rfl rfl)
theorem dX0_unmake_1 : decode cX0_unmake 1 = .ok (.aload_n 0, 1) := dk_42 (dk_at dksX0_unmake_0 1 rfl rfl)
theorem dX0_unmake_2 : decode cX0_unmake 2 = .ok (.getfield 172, 3) := dk_180 0 172 (dk_at dksX0_unmake_0 2 rfl rfl)
theorem dX0_unmake_5 : decode cX0_unmake 5 = .ok (.ishl, 1) := dk_120 (dk_at dksX0_unmake_0 5 rfl rfl)
theorem dX0_unmake_6 : decode cX0_unmake 6 = .ok (.iconst 1, 1) := dk_4 (dk_at dksX0_unmake_0 6 rfl rfl)
theorem dX0_unmake_7 : decode cX0_unmake 7 = .ok (.isub, 1) := dk_100 (dk_at dksX0_unmake_0 7 rfl rfl)
theorem dX0_unmake_8 : decode cX0_unmake 8 = .ok (.istore_n 3, 1) := dk_62 (dk_at dksX0_unmake_0 8 rfl rfl)
theorem dX0_unmake_9 : decode cX0_unmake 9 = .ok (.iload_n 1, 1) := dk_27 (dk_at dksX0_unmake_0 9 rfl rfl)
theorem dX0_unmake_10 : decode cX0_unmake 10 = .ok (.iconst 0, 1) := dk_3 (dk_at dksX0_unmake_0 10 rfl rfl)
theorem dX0_unmake_11 : decode cX0_unmake 11 = .ok (.iload_n 3, 1) := dk_29 (dk_at dksX0_unmake_0 11 rfl rfl)
theorem dX0_unmake_12 : decode cX0_unmake 12 = .ok (.invokestatic 77, 3) := dk_184 0 77 (dk_at dksX0_unmake_0 12 rfl rfl)
theorem dX0_unmake_15 : decode cX0_unmake 15 = .ok (.ifCond .eq 18, 3) := dk_153 0 18 (dk_at dksX0_unmake_0 15 rfl rfl)
theorem dX0_unmake_18 : decode cX0_unmake 18 = .ok (.iload_n 2, 1) := dk_28 (dk_at dksX0_unmake_0 18 rfl rfl)
theorem dX0_unmake_19 : decode cX0_unmake 19 = .ok (.iconst 0, 1) := dk_3 (dk_at dksX0_unmake_0 19 rfl rfl)
theorem dX0_unmake_20 : decode cX0_unmake 20 = .ok (.iload_n 3, 1) := dk_29 (dk_at dksX0_unmake_0 20 rfl rfl)
theorem dX0_unmake_21 : decode cX0_unmake 21 = .ok (.invokestatic 77, 3) := dk_184 0 77 (dk_at dksX0_unmake_0 21 rfl rfl)
theorem dX0_unmake_24 : decode cX0_unmake 24 = .ok (.ifCond .eq 9, 3) := dk_153 0 9 (dk_at dksX0_unmake_1 0 rfl rfl)
theorem dX0_unmake_27 : decode cX0_unmake 27 = .ok (.iload_n 1, 1) := dk_27 (dk_at dksX0_unmake_1 3 rfl rfl)
theorem dX0_unmake_28 : decode cX0_unmake 28 = .ok (.iload_n 2, 1) := dk_28 (dk_at dksX0_unmake_1 4 rfl rfl)
theorem dX0_unmake_29 : decode cX0_unmake 29 = .ok (.iand, 1) := dk_126 (dk_at dksX0_unmake_1 5 rfl rfl)
theorem dX0_unmake_30 : decode cX0_unmake 30 = .ok (.ifCond .eq 5, 3) := dk_153 0 5 (dk_at dksX0_unmake_1 6 rfl rfl)
theorem dX0_unmake_33 : decode cX0_unmake 33 = .ok (.iconst (-1), 1) := dk_2 (dk_at dksX0_unmake_1 9 rfl rfl)
theorem dX0_unmake_34 : decode cX0_unmake 34 = .ok (.ireturn, 1) := dk_172 (dk_at dksX0_unmake_1 10 rfl rfl)
theorem dX0_unmake_35 : decode cX0_unmake 35 = .ok (.aload_n 0, 1) := dk_42 (dk_at dksX0_unmake_1 11 rfl rfl)
theorem dX0_unmake_36 : decode cX0_unmake 36 = .ok (.getfield 182, 3) := dk_180 0 182 (dk_at dksX0_unmake_1 12 rfl rfl)
theorem dX0_unmake_39 : decode cX0_unmake 39 = .ok (.istore 4, 2) := dk_54 4 (dk_at dksX0_unmake_1 15 rfl rfl)
theorem dX0_unmake_41 : decode cX0_unmake 41 = .ok (.bipush (-9), 2) := dk_16 247 (dk_at dksX0_unmake_1 17 rfl rfl)
theorem dX0_unmake_43 : decode cX0_unmake 43 = .ok (.istore 5, 2) := dk_54 5 (dk_at dksX0_unmake_1 19 rfl rfl)
theorem dX0_unmake_45 : decode cX0_unmake 45 = .ok (.iconst 0, 1) := dk_3 (dk_at dksX0_unmake_1 21 rfl rfl)
theorem dX0_unmake_46 : decode cX0_unmake 46 = .ok (.istore 6, 2) := dk_54 6 (dk_at dksX0_unmake_1 22 rfl rfl)
theorem dX0_unmake_48 : decode cX0_unmake 48 = .ok (.iload 6, 2) := dk_21 6 (dk_at dksX0_unmake_2 0 rfl rfl)
theorem dX0_unmake_50 : decode cX0_unmake 50 = .ok (.iload 4, 2) := dk_21 4 (dk_at dksX0_unmake_2 2 rfl rfl)
theorem dX0_unmake_52 : decode cX0_unmake 52 = .ok (.if_icmp .gt 93, 3) := dk_163 0 93 (dk_at dksX0_unmake_2 4 rfl rfl)
theorem dX0_unmake_55 : decode cX0_unmake 55 = .ok (.iload 5, 2) := dk_21 5 (dk_at dksX0_unmake_2 7 rfl rfl)
theorem dX0_unmake_57 : decode cX0_unmake 57 = .ok (.bipush (-9), 2) := dk_16 247 (dk_at dksX0_unmake_2 9 rfl rfl)
theorem dX0_unmake_59 : decode cX0_unmake 59 = .ok (.if_icmp .eq 16, 3) := dk_159 0 16 (dk_at dksX0_unmake_2 11 rfl rfl)
theorem dX0_unmake_62 : decode cX0_unmake 62 = .ok (.iload 6, 2) := dk_21 6 (dk_at dksX0_unmake_2 14 rfl rfl)
theorem dX0_unmake_64 : decode cX0_unmake 64 = .ok (.invokestatic 271, 3) := dk_184 1 15 (dk_at dksX0_unmake_2 16 rfl rfl)
theorem dX0_unmake_67 : decode cX0_unmake 67 = .ok (.iload 5, 2) := dk_21 5 (dk_at dksX0_unmake_2 19 rfl rfl)
theorem dX0_unmake_69 : decode cX0_unmake 69 = .ok (.invokestatic 271, 3) := dk_184 1 15 (dk_at dksX0_unmake_2 21 rfl rfl)
theorem dX0_unmake_72 : decode cX0_unmake 72 = .ok (.if_icmp .ge 7, 3) := dk_162 0 7 (dk_at dksX0_unmake_3 0 rfl rfl)
theorem dX0_unmake_75 : decode cX0_unmake 75 = .ok (.iconst 1, 1) := dk_4 (dk_at dksX0_unmake_3 3 rfl rfl)
theorem dX0_unmake_76 : decode cX0_unmake 76 = .ok (.goto 4, 3) := dk_167 0 4 (dk_at dksX0_unmake_3 4 rfl rfl)
theorem dX0_unmake_79 : decode cX0_unmake 79 = .ok (.iconst 0, 1) := dk_3 (dk_at dksX0_unmake_3 7 rfl rfl)
theorem dX0_unmake_80 : decode cX0_unmake 80 = .ok (.istore 7, 2) := dk_54 7 (dk_at dksX0_unmake_3 8 rfl rfl)
theorem dX0_unmake_82 : decode cX0_unmake 82 = .ok (.iload 6, 2) := dk_21 6 (dk_at dksX0_unmake_3 10 rfl rfl)
theorem dX0_unmake_84 : decode cX0_unmake 84 = .ok (.iload 4, 2) := dk_21 4 (dk_at dksX0_unmake_3 12 rfl rfl)
theorem dX0_unmake_86 : decode cX0_unmake 86 = .ok (.iconst (-1), 1) := dk_2 (dk_at dksX0_unmake_3 14 rfl rfl)
theorem dX0_unmake_87 : decode cX0_unmake 87 = .ok (.ixor, 1) := dk_130 (dk_at dksX0_unmake_3 15 rfl rfl)
theorem dX0_unmake_88 : decode cX0_unmake 88 = .ok (.iand, 1) := dk_126 (dk_at dksX0_unmake_3 16 rfl rfl)
theorem dX0_unmake_89 : decode cX0_unmake 89 = .ok (.ifCond .ne 50, 3) := dk_154 0 50 (dk_at dksX0_unmake_3 17 rfl rfl)
theorem dX0_unmake_92 : decode cX0_unmake 92 = .ok (.iload 7, 2) := dk_21 7 (dk_at dksX0_unmake_3 20 rfl rfl)
theorem dX0_unmake_94 : decode cX0_unmake 94 = .ok (.ifCond .eq 45, 3) := dk_153 0 45 (dk_at dksX0_unmake_4 0 rfl rfl)
theorem dX0_unmake_97 : decode cX0_unmake 97 = .ok (.aload_n 0, 1) := dk_42 (dk_at dksX0_unmake_4 3 rfl rfl)
theorem dX0_unmake_98 : decode cX0_unmake 98 = .ok (.iload 4, 2) := dk_21 4 (dk_at dksX0_unmake_4 4 rfl rfl)
theorem dX0_unmake_100 : decode cX0_unmake 100 = .ok (.iload 6, 2) := dk_21 6 (dk_at dksX0_unmake_4 6 rfl rfl)
theorem dX0_unmake_102 : decode cX0_unmake 102 = .ok (.iconst (-1), 1) := dk_2 (dk_at dksX0_unmake_4 8 rfl rfl)
theorem dX0_unmake_103 : decode cX0_unmake 103 = .ok (.ixor, 1) := dk_130 (dk_at dksX0_unmake_4 9 rfl rfl)
theorem dX0_unmake_104 : decode cX0_unmake 104 = .ok (.iand, 1) := dk_126 (dk_at dksX0_unmake_4 10 rfl rfl)
theorem dX0_unmake_105 : decode cX0_unmake 105 = .ok (.putfield 182, 3) := dk_181 0 182 (dk_at dksX0_unmake_4 11 rfl rfl)
theorem dX0_unmake_108 : decode cX0_unmake 108 = .ok (.aload_n 0, 1) := dk_42 (dk_at dksX0_unmake_4 14 rfl rfl)
theorem dX0_unmake_109 : decode cX0_unmake 109 = .ok (.invokevirtual 268, 3) := dk_182 1 12 (dk_at dksX0_unmake_4 15 rfl rfl)
theorem dX0_unmake_112 : decode cX0_unmake 112 = .ok (.istore 8, 2) := dk_54 8 (dk_at dksX0_unmake_4 18 rfl rfl)
theorem dX0_unmake_114 : decode cX0_unmake 114 = .ok (.iload_n 1, 1) := dk_27 (dk_at dksX0_unmake_4 20 rfl rfl)
theorem dX0_unmake_115 : decode cX0_unmake 115 = .ok (.iload 8, 2) := dk_21 8 (dk_at dksX0_unmake_4 21 rfl rfl)
theorem dX0_unmake_117 : decode cX0_unmake 117 = .ok (.iconst (-1), 1) := dk_2 (dk_at dksX0_unmake_4 23 rfl rfl)
theorem dX0_unmake_118 : decode cX0_unmake 118 = .ok (.ixor, 1) := dk_130 (dk_at dksX0_unmake_5 0 rfl rfl)
theorem dX0_unmake_119 : decode cX0_unmake 119 = .ok (.iand, 1) := dk_126 (dk_at dksX0_unmake_5 1 rfl rfl)
theorem dX0_unmake_120 : decode cX0_unmake 120 = .ok (.ifCond .ne 15, 3) := dk_154 0 15 (dk_at dksX0_unmake_5 2 rfl rfl)
theorem dX0_unmake_123 : decode cX0_unmake 123 = .ok (.iload_n 2, 1) := dk_28 (dk_at dksX0_unmake_5 5 rfl rfl)
theorem dX0_unmake_124 : decode cX0_unmake 124 = .ok (.iload 8, 2) := dk_21 8 (dk_at dksX0_unmake_5 6 rfl rfl)
theorem dX0_unmake_126 : decode cX0_unmake 126 = .ok (.iand, 1) := dk_126 (dk_at dksX0_unmake_5 8 rfl rfl)
theorem dX0_unmake_127 : decode cX0_unmake 127 = .ok (.ifCond .ne 8, 3) := dk_154 0 8 (dk_at dksX0_unmake_5 9 rfl rfl)
theorem dX0_unmake_130 : decode cX0_unmake 130 = .ok (.iload 6, 2) := dk_21 6 (dk_at dksX0_unmake_5 12 rfl rfl)
theorem dX0_unmake_132 : decode cX0_unmake 132 = .ok (.goto 5, 3) := dk_167 0 5 (dk_at dksX0_unmake_5 14 rfl rfl)
theorem dX0_unmake_135 : decode cX0_unmake 135 = .ok (.iload 5, 2) := dk_21 5 (dk_at dksX0_unmake_5 17 rfl rfl)
theorem dX0_unmake_137 : decode cX0_unmake 137 = .ok (.istore 5, 2) := dk_54 5 (dk_at dksX0_unmake_5 19 rfl rfl)
theorem dX0_unmake_139 : decode cX0_unmake 139 = .ok (.iinc 6 1, 3) := dk_132 6 1 (dk_at dksX0_unmake_5 21 rfl rfl)
theorem dX0_unmake_142 : decode cX0_unmake 142 = .ok (.goto (-94), 3) := dk_167 255 162 (dk_at dksX0_unmake_6 0 rfl rfl)
theorem dX0_unmake_145 : decode cX0_unmake 145 = .ok (.aload_n 0, 1) := dk_42 (dk_at dksX0_unmake_6 3 rfl rfl)
theorem dX0_unmake_146 : decode cX0_unmake 146 = .ok (.iload 4, 2) := dk_21 4 (dk_at dksX0_unmake_6 4 rfl rfl)
theorem dX0_unmake_148 : decode cX0_unmake 148 = .ok (.putfield 182, 3) := dk_181 0 182 (dk_at dksX0_unmake_6 6 rfl rfl)
theorem dX0_unmake_151 : decode cX0_unmake 151 = .ok (.iload 5, 2) := dk_21 5 (dk_at dksX0_unmake_6 9 rfl rfl)
theorem dX0_unmake_153 : decode cX0_unmake 153 = .ok (.bipush (-9), 2) := dk_16 247 (dk_at dksX0_unmake_6 11 rfl rfl)
theorem dX0_unmake_155 : decode cX0_unmake 155 = .ok (.if_icmp .ne 8, 3) := dk_160 0 8 (dk_at dksX0_unmake_6 13 rfl rfl)
theorem dX0_unmake_158 : decode cX0_unmake 158 = .ok (.bipush (-9), 2) := dk_16 247 (dk_at dksX0_unmake_6 16 rfl rfl)
theorem dX0_unmake_160 : decode cX0_unmake 160 = .ok (.goto 14, 3) := dk_167 0 14 (dk_at dksX0_unmake_6 18 rfl rfl)
theorem dX0_unmake_163 : decode cX0_unmake 163 = .ok (.aload_n 0, 1) := dk_42 (dk_at dksX0_unmake_6 21 rfl rfl)
theorem dX0_unmake_164 : decode cX0_unmake 164 = .ok (.iload 5, 2) := dk_21 5 (dk_at dksX0_unmake_6 22 rfl rfl)
theorem dX0_unmake_166 : decode cX0_unmake 166 = .ok (.iload 5, 2) := dk_21 5 (dk_at dksX0_unmake_7 0 rfl rfl)
theorem dX0_unmake_168 : decode cX0_unmake 168 = .ok (.invokestatic 271, 3) := dk_184 1 15 (dk_at dksX0_unmake_7 2 rfl rfl)
theorem dX0_unmake_171 : decode cX0_unmake 171 = .ok (.invokevirtual 95, 3) := dk_182 0 95 (dk_at dksX0_unmake_7 5 rfl rfl)
theorem dX0_unmake_174 : decode cX0_unmake 174 = .ok (.ireturn, 1) := dk_172 (dk_at dksX0_unmake_7 8 rfl rfl)
abbrev cX0_sway : ByteArray := prog_1_method_65_code
def yX0_sway : MethodName := ⟨RX0, "sway", "(I)I"⟩
def dkwX0_sway_5 : List UInt8 := [16, 247, 167, 0, 14, 42, 29, 29, 28, 130, 184, 1, 15, 182, 0, 95, 172]
abbrev dktX0_sway_5 : List UInt8 := dkwX0_sway_5 ++ []
def dkwX0_sway_4 : List UInt8 := [21, 4, 167, 0, 4, 29, 62, 132, 4, 1, 167, 255, 187, 42, 28, 181, 0, 182, 29, 16, 247, 160, 0, 8]
abbrev dktX0_sway_4 : List UInt8 := dkwX0_sway_4 ++ dktX0_sway_5
def dkwX0_sway_3 : List UInt8 := [162, 0, 7, 4, 167, 0, 4, 3, 54, 5, 21, 5, 153, 0, 16, 42, 182, 1, 33, 27, 160, 0, 8]
abbrev dktX0_sway_3 : List UInt8 := dkwX0_sway_3 ++ dktX0_sway_4
def dkwX0_sway_2 : List UInt8 := [181, 0, 182, 29, 16, 247, 159, 0, 19, 21, 4, 28, 130, 184, 1, 15, 29, 28, 130, 184, 1, 15]
abbrev dktX0_sway_2 : List UInt8 := dkwX0_sway_2 ++ dktX0_sway_3
def dkwX0_sway_1 : List UInt8 := [180, 0, 182, 61, 16, 247, 62, 3, 54, 4, 21, 4, 4, 42, 180, 0, 169, 120, 162, 0, 64, 42, 21, 4]
abbrev dktX0_sway_1 : List UInt8 := dkwX0_sway_1 ++ dktX0_sway_2
def dkwX0_sway_0 : List UInt8 := [27, 3, 16, 45, 184, 0, 77, 154, 0, 5, 2, 172, 42, 180, 0, 169, 154, 0, 6, 16, 252, 172, 42]
abbrev dktX0_sway_0 : List UInt8 := dkwX0_sway_0 ++ dktX0_sway_1
theorem dksX0_sway_0 : cX0_sway.data.toList.drop 0 = dktX0_sway_0 := by decide +kernel
theorem dksX0_sway_1 : cX0_sway.data.toList.drop 23 = dktX0_sway_1 := dk_seg dksX0_sway_0 23 rfl rfl
theorem dksX0_sway_2 : cX0_sway.data.toList.drop 47 = dktX0_sway_2 := dk_seg dksX0_sway_1 24 rfl rfl
theorem dksX0_sway_3 : cX0_sway.data.toList.drop 69 = dktX0_sway_3 := dk_seg dksX0_sway_2 22 rfl rfl
theorem dksX0_sway_4 : cX0_sway.data.toList.drop 92 = dktX0_sway_4 := dk_seg dksX0_sway_3 23 rfl rfl
theorem dksX0_sway_5 : cX0_sway.data.toList.drop 116 = dktX0_sway_5 := dk_seg dksX0_sway_4 24 rfl rfl
theorem dX0_sway_0 : decode cX0_sway 0 = .ok (.iload_n 1, 1) := dk_27 (dk_at dksX0_sway_0 0 rfl rfl)
theorem dX0_sway_1 : decode cX0_sway 1 = .ok (.iconst 0, 1) := dk_3 (dk_at dksX0_sway_0 1 rfl rfl)
theorem dX0_sway_2 : decode cX0_sway 2 = .ok (.bipush 45, 2) := dk_16 45 (dk_at dksX0_sway_0 2 rfl rfl)
theorem dX0_sway_4 : decode cX0_sway 4 = .ok (.invokestatic 77, 3) := dk_184 0 77 (dk_at dksX0_sway_0 4 rfl rfl)
theorem dX0_sway_7 : decode cX0_sway 7 = .ok (.ifCond .ne 5, 3) := dk_154 0 5 (dk_at dksX0_sway_0 7 rfl rfl)
theorem dX0_sway_10 : decode cX0_sway 10 = .ok (.iconst (-1), 1) := dk_2 (dk_at dksX0_sway_0 10 rfl rfl)
theorem dX0_sway_11 : decode cX0_sway 11 = .ok (.ireturn, 1) := dk_172 (dk_at dksX0_sway_0 11 rfl rfl)
theorem dX0_sway_12 : decode cX0_sway 12 = .ok (.aload_n 0, 1) := dk_42 (dk_at dksX0_sway_0 12 rfl rfl)
theorem dX0_sway_13 : decode cX0_sway 13 = .ok (.getfield 169, 3) := dk_180 0 169 (dk_at dksX0_sway_0 13 rfl rfl)
theorem dX0_sway_16 : decode cX0_sway 16 = .ok (.ifCond .ne 6, 3) := dk_154 0 6 (dk_at dksX0_sway_0 16 rfl rfl)
theorem dX0_sway_19 : decode cX0_sway 19 = .ok (.bipush (-4), 2) := dk_16 252 (dk_at dksX0_sway_0 19 rfl rfl)
theorem dX0_sway_21 : decode cX0_sway 21 = .ok (.ireturn, 1) := dk_172 (dk_at dksX0_sway_0 21 rfl rfl)
theorem dX0_sway_22 : decode cX0_sway 22 = .ok (.aload_n 0, 1) := dk_42 (dk_at dksX0_sway_0 22 rfl rfl)
theorem dX0_sway_23 : decode cX0_sway 23 = .ok (.getfield 182, 3) := dk_180 0 182 (dk_at dksX0_sway_1 0 rfl rfl)
theorem dX0_sway_26 : decode cX0_sway 26 = .ok (.istore_n 2, 1) := dk_61 (dk_at dksX0_sway_1 3 rfl rfl)
theorem dX0_sway_27 : decode cX0_sway 27 = .ok (.bipush (-9), 2) := dk_16 247 (dk_at dksX0_sway_1 4 rfl rfl)
theorem dX0_sway_29 : decode cX0_sway 29 = .ok (.istore_n 3, 1) := dk_62 (dk_at dksX0_sway_1 6 rfl rfl)
theorem dX0_sway_30 : decode cX0_sway 30 = .ok (.iconst 0, 1) := dk_3 (dk_at dksX0_sway_1 7 rfl rfl)
theorem dX0_sway_31 : decode cX0_sway 31 = .ok (.istore 4, 2) := dk_54 4 (dk_at dksX0_sway_1 8 rfl rfl)
theorem dX0_sway_33 : decode cX0_sway 33 = .ok (.iload 4, 2) := dk_21 4 (dk_at dksX0_sway_1 10 rfl rfl)
theorem dX0_sway_35 : decode cX0_sway 35 = .ok (.iconst 1, 1) := dk_4 (dk_at dksX0_sway_1 12 rfl rfl)
theorem dX0_sway_36 : decode cX0_sway 36 = .ok (.aload_n 0, 1) := dk_42 (dk_at dksX0_sway_1 13 rfl rfl)
theorem dX0_sway_37 : decode cX0_sway 37 = .ok (.getfield 169, 3) := dk_180 0 169 (dk_at dksX0_sway_1 14 rfl rfl)
theorem dX0_sway_40 : decode cX0_sway 40 = .ok (.ishl, 1) := dk_120 (dk_at dksX0_sway_1 17 rfl rfl)
theorem dX0_sway_41 : decode cX0_sway 41 = .ok (.if_icmp .ge 64, 3) := dk_162 0 64 (dk_at dksX0_sway_1 18 rfl rfl)
theorem dX0_sway_44 : decode cX0_sway 44 = .ok (.aload_n 0, 1) := dk_42 (dk_at dksX0_sway_1 21 rfl rfl)
theorem dX0_sway_45 : decode cX0_sway 45 = .ok (.iload 4, 2) := dk_21 4 (dk_at dksX0_sway_1 22 rfl rfl)
theorem dX0_sway_47 : decode cX0_sway 47 = .ok (.putfield 182, 3) := dk_181 0 182 (dk_at dksX0_sway_2 0 rfl rfl)
theorem dX0_sway_50 : decode cX0_sway 50 = .ok (.iload_n 3, 1) := dk_29 (dk_at dksX0_sway_2 3 rfl rfl)
theorem dX0_sway_51 : decode cX0_sway 51 = .ok (.bipush (-9), 2) := dk_16 247 (dk_at dksX0_sway_2 4 rfl rfl)
theorem dX0_sway_53 : decode cX0_sway 53 = .ok (.if_icmp .eq 19, 3) := dk_159 0 19 (dk_at dksX0_sway_2 6 rfl rfl)
theorem dX0_sway_56 : decode cX0_sway 56 = .ok (.iload 4, 2) := dk_21 4 (dk_at dksX0_sway_2 9 rfl rfl)
theorem dX0_sway_58 : decode cX0_sway 58 = .ok (.iload_n 2, 1) := dk_28 (dk_at dksX0_sway_2 11 rfl rfl)
theorem dX0_sway_59 : decode cX0_sway 59 = .ok (.ixor, 1) := dk_130 (dk_at dksX0_sway_2 12 rfl rfl)
theorem dX0_sway_60 : decode cX0_sway 60 = .ok (.invokestatic 271, 3) := dk_184 1 15 (dk_at dksX0_sway_2 13 rfl rfl)
theorem dX0_sway_63 : decode cX0_sway 63 = .ok (.iload_n 3, 1) := dk_29 (dk_at dksX0_sway_2 16 rfl rfl)
theorem dX0_sway_64 : decode cX0_sway 64 = .ok (.iload_n 2, 1) := dk_28 (dk_at dksX0_sway_2 17 rfl rfl)
theorem dX0_sway_65 : decode cX0_sway 65 = .ok (.ixor, 1) := dk_130 (dk_at dksX0_sway_2 18 rfl rfl)
theorem dX0_sway_66 : decode cX0_sway 66 = .ok (.invokestatic 271, 3) := dk_184 1 15 (dk_at dksX0_sway_2 19 rfl rfl)
theorem dX0_sway_69 : decode cX0_sway 69 = .ok (.if_icmp .ge 7, 3) := dk_162 0 7 (dk_at dksX0_sway_3 0 rfl rfl)
theorem dX0_sway_72 : decode cX0_sway 72 = .ok (.iconst 1, 1) := dk_4 (dk_at dksX0_sway_3 3 rfl rfl)
theorem dX0_sway_73 : decode cX0_sway 73 = .ok (.goto 4, 3) := dk_167 0 4 (dk_at dksX0_sway_3 4 rfl rfl)
theorem dX0_sway_76 : decode cX0_sway 76 = .ok (.iconst 0, 1) := dk_3 (dk_at dksX0_sway_3 7 rfl rfl)
theorem dX0_sway_77 : decode cX0_sway 77 = .ok (.istore 5, 2) := dk_54 5 (dk_at dksX0_sway_3 8 rfl rfl)
theorem dX0_sway_79 : decode cX0_sway 79 = .ok (.iload 5, 2) := dk_21 5 (dk_at dksX0_sway_3 10 rfl rfl)
theorem dX0_sway_81 : decode cX0_sway 81 = .ok (.ifCond .eq 16, 3) := dk_153 0 16 (dk_at dksX0_sway_3 12 rfl rfl)
theorem dX0_sway_84 : decode cX0_sway 84 = .ok (.aload_n 0, 1) := dk_42 (dk_at dksX0_sway_3 15 rfl rfl)
theorem dX0_sway_85 : decode cX0_sway 85 = .ok (.invokevirtual 289, 3) := dk_182 1 33 (dk_at dksX0_sway_3 16 rfl rfl)
theorem dX0_sway_88 : decode cX0_sway 88 = .ok (.iload_n 1, 1) := dk_27 (dk_at dksX0_sway_3 19 rfl rfl)
theorem dX0_sway_89 : decode cX0_sway 89 = .ok (.if_icmp .ne 8, 3) := dk_160 0 8 (dk_at dksX0_sway_3 20 rfl rfl)
theorem dX0_sway_92 : decode cX0_sway 92 = .ok (.iload 4, 2) := dk_21 4 (dk_at dksX0_sway_4 0 rfl rfl)
theorem dX0_sway_94 : decode cX0_sway 94 = .ok (.goto 4, 3) := dk_167 0 4 (dk_at dksX0_sway_4 2 rfl rfl)
theorem dX0_sway_97 : decode cX0_sway 97 = .ok (.iload_n 3, 1) := dk_29 (dk_at dksX0_sway_4 5 rfl rfl)
theorem dX0_sway_98 : decode cX0_sway 98 = .ok (.istore_n 3, 1) := dk_62 (dk_at dksX0_sway_4 6 rfl rfl)
theorem dX0_sway_99 : decode cX0_sway 99 = .ok (.iinc 4 1, 3) := dk_132 4 1 (dk_at dksX0_sway_4 7 rfl rfl)
theorem dX0_sway_102 : decode cX0_sway 102 = .ok (.goto (-69), 3) := dk_167 255 187 (dk_at dksX0_sway_4 10 rfl rfl)
theorem dX0_sway_105 : decode cX0_sway 105 = .ok (.aload_n 0, 1) := dk_42 (dk_at dksX0_sway_4 13 rfl rfl)
theorem dX0_sway_106 : decode cX0_sway 106 = .ok (.iload_n 2, 1) := dk_28 (dk_at dksX0_sway_4 14 rfl rfl)
theorem dX0_sway_107 : decode cX0_sway 107 = .ok (.putfield 182, 3) := dk_181 0 182 (dk_at dksX0_sway_4 15 rfl rfl)
theorem dX0_sway_110 : decode cX0_sway 110 = .ok (.iload_n 3, 1) := dk_29 (dk_at dksX0_sway_4 18 rfl rfl)
theorem dX0_sway_111 : decode cX0_sway 111 = .ok (.bipush (-9), 2) := dk_16 247 (dk_at dksX0_sway_4 19 rfl rfl)
theorem dX0_sway_113 : decode cX0_sway 113 = .ok (.if_icmp .ne 8, 3) := dk_160 0 8 (dk_at dksX0_sway_4 21 rfl rfl)
theorem dX0_sway_116 : decode cX0_sway 116 = .ok (.bipush (-9), 2) := dk_16 247 (dk_at dksX0_sway_5 0 rfl rfl)
theorem dX0_sway_118 : decode cX0_sway 118 = .ok (.goto 14, 3) := dk_167 0 14 (dk_at dksX0_sway_5 2 rfl rfl)
theorem dX0_sway_121 : decode cX0_sway 121 = .ok (.aload_n 0, 1) := dk_42 (dk_at dksX0_sway_5 5 rfl rfl)
theorem dX0_sway_122 : decode cX0_sway 122 = .ok (.iload_n 3, 1) := dk_29 (dk_at dksX0_sway_5 6 rfl rfl)
theorem dX0_sway_123 : decode cX0_sway 123 = .ok (.iload_n 3, 1) := dk_29 (dk_at dksX0_sway_5 7 rfl rfl)
theorem dX0_sway_124 : decode cX0_sway 124 = .ok (.iload_n 2, 1) := dk_28 (dk_at dksX0_sway_5 8 rfl rfl)
theorem dX0_sway_125 : decode cX0_sway 125 = .ok (.ixor, 1) := dk_130 (dk_at dksX0_sway_5 9 rfl rfl)
theorem dX0_sway_126 : decode cX0_sway 126 = .ok (.invokestatic 271, 3) := dk_184 1 15 (dk_at dksX0_sway_5 10 rfl rfl)
theorem dX0_sway_129 : decode cX0_sway 129 = .ok (.invokevirtual 95, 3) := dk_182 0 95 (dk_at dksX0_sway_5 13 rfl rfl)
theorem dX0_sway_132 : decode cX0_sway 132 = .ok (.ireturn, 1) := dk_172 (dk_at dksX0_sway_5 16 rfl rfl)
abbrev cX0_decideAll : ByteArray := prog_1_method_38_code
def yX0_decideAll : MethodName := ⟨RX0, "decideAll", "()I"⟩
def dkwX0_decideAll_1 : List UInt8 := [132, 2, 1, 167, 255, 233, 27, 172]
abbrev dktX0_decideAll_1 : List UInt8 := dkwX0_decideAll_1 ++ []
def dkwX0_decideAll_0 : List UInt8 := [3, 60, 3, 61, 28, 42, 180, 0, 169, 162, 0, 21, 27, 3, 42, 28, 182, 0, 216, 184, 0, 219, 96, 60]
abbrev dktX0_decideAll_0 : List UInt8 := dkwX0_decideAll_0 ++ dktX0_decideAll_1
theorem dksX0_decideAll_0 : cX0_decideAll.data.toList.drop 0 = dktX0_decideAll_0 := by decide +kernel
theorem dksX0_decideAll_1 : cX0_decideAll.data.toList.drop 24 = dktX0_decideAll_1 := dk_seg dksX0_decideAll_0 24 rfl rfl
theorem dX0_decideAll_0 : decode cX0_decideAll 0 = .ok (.iconst 0, 1) := dk_3 (dk_at dksX0_decideAll_0 0 rfl rfl)
theorem dX0_decideAll_1 : decode cX0_decideAll 1 = .ok (.istore_n 1, 1) := dk_60 (dk_at dksX0_decideAll_0 1 rfl rfl)
theorem dX0_decideAll_2 : decode cX0_decideAll 2 = .ok (.iconst 0, 1) := dk_3 (dk_at dksX0_decideAll_0 2 rfl rfl)
theorem dX0_decideAll_3 : decode cX0_decideAll 3 = .ok (.istore_n 2, 1) := dk_61 (dk_at dksX0_decideAll_0 3 rfl rfl)
theorem dX0_decideAll_4 : decode cX0_decideAll 4 = .ok (.iload_n 2, 1) := dk_28 (dk_at dksX0_decideAll_0 4 rfl rfl)
theorem dX0_decideAll_5 : decode cX0_decideAll 5 = .ok (.aload_n 0, 1) := dk_42 (dk_at dksX0_decideAll_0 5 rfl rfl)
theorem dX0_decideAll_6 : decode cX0_decideAll 6 = .ok (.getfield 169, 3) := dk_180 0 169 (dk_at dksX0_decideAll_0 6 rfl rfl)
theorem dX0_decideAll_9 : decode cX0_decideAll 9 = .ok (.if_icmp .ge 21, 3) := dk_162 0 21 (dk_at dksX0_decideAll_0 9 rfl rfl)
theorem dX0_decideAll_12 : decode cX0_decideAll 12 = .ok (.iload_n 1, 1) := dk_27 (dk_at dksX0_decideAll_0 12 rfl rfl)
theorem dX0_decideAll_13 : decode cX0_decideAll 13 = .ok (.iconst 0, 1) := dk_3 (dk_at dksX0_decideAll_0 13 rfl rfl)
theorem dX0_decideAll_14 : decode cX0_decideAll 14 = .ok (.aload_n 0, 1) := dk_42 (dk_at dksX0_decideAll_0 14 rfl rfl)
theorem dX0_decideAll_15 : decode cX0_decideAll 15 = .ok (.iload_n 2, 1) := dk_28 (dk_at dksX0_decideAll_0 15 rfl rfl)
theorem dX0_decideAll_16 : decode cX0_decideAll 16 = .ok (.invokevirtual 216, 3) := dk_182 0 216 (dk_at dksX0_decideAll_0 16 rfl rfl)
theorem dX0_decideAll_19 : decode cX0_decideAll 19 = .ok (.invokestatic 219, 3) := dk_184 0 219 (dk_at dksX0_decideAll_0 19 rfl rfl)
theorem dX0_decideAll_22 : decode cX0_decideAll 22 = .ok (.iadd, 1) := dk_96 (dk_at dksX0_decideAll_0 22 rfl rfl)
theorem dX0_decideAll_23 : decode cX0_decideAll 23 = .ok (.istore_n 1, 1) := dk_60 (dk_at dksX0_decideAll_0 23 rfl rfl)
theorem dX0_decideAll_24 : decode cX0_decideAll 24 = .ok (.iinc 2 1, 3) := dk_132 2 1 (dk_at dksX0_decideAll_1 0 rfl rfl)
theorem dX0_decideAll_27 : decode cX0_decideAll 27 = .ok (.goto (-23), 3) := dk_167 255 233 (dk_at dksX0_decideAll_1 3 rfl rfl)
theorem dX0_decideAll_30 : decode cX0_decideAll 30 = .ok (.iload_n 1, 1) := dk_27 (dk_at dksX0_decideAll_1 6 rfl rfl)
theorem dX0_decideAll_31 : decode cX0_decideAll 31 = .ok (.ireturn, 1) := dk_172 (dk_at dksX0_decideAll_1 7 rfl rfl)
abbrev cX0_middles : ByteArray := prog_1_method_68_code
def yX0_middles : MethodName := ⟨RX0, "middles", "(II)I"⟩
def dkwX0_middles_5 : List UInt8 := [172]
abbrev dktX0_middles_5 : List UInt8 := dkwX0_middles_5 ++ []
def dkwX0_middles_4 : List UInt8 := [132, 6, 1, 167, 255, 186, 21, 4, 154, 0, 8, 16, 247, 167, 0, 11, 42, 21, 5, 21, 4, 182, 0, 95]
abbrev dktX0_middles_4 : List UInt8 := dkwX0_middles_4 ++ dktX0_middles_5
def dkwX0_middles_3 : List UInt8 := [167, 0, 5, 21, 5, 54, 5, 21, 4, 21, 7, 153, 0, 7, 4, 167, 0, 4, 3, 96, 54, 4]
abbrev dktX0_middles_3 : List UInt8 := dkwX0_middles_3 ++ dktX0_middles_4
def dkwX0_middles_2 : List UInt8 := [180, 0, 28, 28, 50, 182, 1, 39, 54, 7, 21, 7, 153, 0, 13, 21, 4, 154, 0, 8, 21, 6]
abbrev dktX0_middles_2 : List UInt8 := dkwX0_middles_2 ++ dktX0_middles_3
def dkwX0_middles_1 : List UInt8 := [21, 6, 16, 100, 162, 0, 69, 42, 42, 180, 0, 44, 27, 50, 21, 6, 42, 180, 0, 50, 27, 46, 42]
abbrev dktX0_middles_1 : List UInt8 := dkwX0_middles_1 ++ dktX0_middles_2
def dkwX0_middles_0 : List UInt8 := [42, 27, 28, 182, 1, 36, 62, 29, 156, 0, 5, 29, 172, 3, 54, 4, 16, 247, 54, 5, 3, 54, 6]
abbrev dktX0_middles_0 : List UInt8 := dkwX0_middles_0 ++ dktX0_middles_1
theorem dksX0_middles_0 : cX0_middles.data.toList.drop 0 = dktX0_middles_0 := by decide +kernel
theorem dksX0_middles_1 : cX0_middles.data.toList.drop 23 = dktX0_middles_1 := dk_seg dksX0_middles_0 23 rfl rfl
theorem dksX0_middles_2 : cX0_middles.data.toList.drop 46 = dktX0_middles_2 := dk_seg dksX0_middles_1 23 rfl rfl
theorem dksX0_middles_3 : cX0_middles.data.toList.drop 68 = dktX0_middles_3 := dk_seg dksX0_middles_2 22 rfl rfl
theorem dksX0_middles_4 : cX0_middles.data.toList.drop 90 = dktX0_middles_4 := dk_seg dksX0_middles_3 22 rfl rfl
theorem dksX0_middles_5 : cX0_middles.data.toList.drop 114 = dktX0_middles_5 := dk_seg dksX0_middles_4 24 rfl rfl
theorem dX0_middles_0 : decode cX0_middles 0 = .ok (.aload_n 0, 1) := dk_42 (dk_at dksX0_middles_0 0 rfl rfl)
theorem dX0_middles_1 : decode cX0_middles 1 = .ok (.iload_n 1, 1) := dk_27 (dk_at dksX0_middles_0 1 rfl rfl)
theorem dX0_middles_2 : decode cX0_middles 2 = .ok (.iload_n 2, 1) := dk_28 (dk_at dksX0_middles_0 2 rfl rfl)
theorem dX0_middles_3 : decode cX0_middles 3 = .ok (.invokevirtual 292, 3) := dk_182 1 36 (dk_at dksX0_middles_0 3 rfl rfl)
theorem dX0_middles_6 : decode cX0_middles 6 = .ok (.istore_n 3, 1) := dk_62 (dk_at dksX0_middles_0 6 rfl rfl)
theorem dX0_middles_7 : decode cX0_middles 7 = .ok (.iload_n 3, 1) := dk_29 (dk_at dksX0_middles_0 7 rfl rfl)
theorem dX0_middles_8 : decode cX0_middles 8 = .ok (.ifCond .ge 5, 3) := dk_156 0 5 (dk_at dksX0_middles_0 8 rfl rfl)
theorem dX0_middles_11 : decode cX0_middles 11 = .ok (.iload_n 3, 1) := dk_29 (dk_at dksX0_middles_0 11 rfl rfl)
theorem dX0_middles_12 : decode cX0_middles 12 = .ok (.ireturn, 1) := dk_172 (dk_at dksX0_middles_0 12 rfl rfl)
theorem dX0_middles_13 : decode cX0_middles 13 = .ok (.iconst 0, 1) := dk_3 (dk_at dksX0_middles_0 13 rfl rfl)
theorem dX0_middles_14 : decode cX0_middles 14 = .ok (.istore 4, 2) := dk_54 4 (dk_at dksX0_middles_0 14 rfl rfl)
theorem dX0_middles_16 : decode cX0_middles 16 = .ok (.bipush (-9), 2) := dk_16 247 (dk_at dksX0_middles_0 16 rfl rfl)
theorem dX0_middles_18 : decode cX0_middles 18 = .ok (.istore 5, 2) := dk_54 5 (dk_at dksX0_middles_0 18 rfl rfl)
theorem dX0_middles_20 : decode cX0_middles 20 = .ok (.iconst 0, 1) := dk_3 (dk_at dksX0_middles_0 20 rfl rfl)
theorem dX0_middles_21 : decode cX0_middles 21 = .ok (.istore 6, 2) := dk_54 6 (dk_at dksX0_middles_0 21 rfl rfl)
theorem dX0_middles_23 : decode cX0_middles 23 = .ok (.iload 6, 2) := dk_21 6 (dk_at dksX0_middles_1 0 rfl rfl)
theorem dX0_middles_25 : decode cX0_middles 25 = .ok (.bipush 100, 2) := dk_16 100 (dk_at dksX0_middles_1 2 rfl rfl)
theorem dX0_middles_27 : decode cX0_middles 27 = .ok (.if_icmp .ge 69, 3) := dk_162 0 69 (dk_at dksX0_middles_1 4 rfl rfl)
theorem dX0_middles_30 : decode cX0_middles 30 = .ok (.aload_n 0, 1) := dk_42 (dk_at dksX0_middles_1 7 rfl rfl)
theorem dX0_middles_31 : decode cX0_middles 31 = .ok (.aload_n 0, 1) := dk_42 (dk_at dksX0_middles_1 8 rfl rfl)
theorem dX0_middles_32 : decode cX0_middles 32 = .ok (.getfield 44, 3) := dk_180 0 44 (dk_at dksX0_middles_1 9 rfl rfl)
theorem dX0_middles_35 : decode cX0_middles 35 = .ok (.iload_n 1, 1) := dk_27 (dk_at dksX0_middles_1 12 rfl rfl)
theorem dX0_middles_36 : decode cX0_middles 36 = .ok (.aaload, 1) := dk_50 (dk_at dksX0_middles_1 13 rfl rfl)
theorem dX0_middles_37 : decode cX0_middles 37 = .ok (.iload 6, 2) := dk_21 6 (dk_at dksX0_middles_1 14 rfl rfl)
theorem dX0_middles_39 : decode cX0_middles 39 = .ok (.aload_n 0, 1) := dk_42 (dk_at dksX0_middles_1 16 rfl rfl)
theorem dX0_middles_40 : decode cX0_middles 40 = .ok (.getfield 50, 3) := dk_180 0 50 (dk_at dksX0_middles_1 17 rfl rfl)
theorem dX0_middles_43 : decode cX0_middles 43 = .ok (.iload_n 1, 1) := dk_27 (dk_at dksX0_middles_1 20 rfl rfl)
theorem dX0_middles_44 : decode cX0_middles 44 = .ok (.iaload, 1) := dk_46 (dk_at dksX0_middles_1 21 rfl rfl)
theorem dX0_middles_45 : decode cX0_middles 45 = .ok (.aload_n 0, 1) := dk_42 (dk_at dksX0_middles_1 22 rfl rfl)
theorem dX0_middles_46 : decode cX0_middles 46 = .ok (.getfield 28, 3) := dk_180 0 28 (dk_at dksX0_middles_2 0 rfl rfl)
theorem dX0_middles_49 : decode cX0_middles 49 = .ok (.iload_n 2, 1) := dk_28 (dk_at dksX0_middles_2 3 rfl rfl)
theorem dX0_middles_50 : decode cX0_middles 50 = .ok (.aaload, 1) := dk_50 (dk_at dksX0_middles_2 4 rfl rfl)
theorem dX0_middles_51 : decode cX0_middles 51 = .ok (.invokevirtual 295, 3) := dk_182 1 39 (dk_at dksX0_middles_2 5 rfl rfl)
theorem dX0_middles_54 : decode cX0_middles 54 = .ok (.istore 7, 2) := dk_54 7 (dk_at dksX0_middles_2 8 rfl rfl)
theorem dX0_middles_56 : decode cX0_middles 56 = .ok (.iload 7, 2) := dk_21 7 (dk_at dksX0_middles_2 10 rfl rfl)
theorem dX0_middles_58 : decode cX0_middles 58 = .ok (.ifCond .eq 13, 3) := dk_153 0 13 (dk_at dksX0_middles_2 12 rfl rfl)
theorem dX0_middles_61 : decode cX0_middles 61 = .ok (.iload 4, 2) := dk_21 4 (dk_at dksX0_middles_2 15 rfl rfl)
theorem dX0_middles_63 : decode cX0_middles 63 = .ok (.ifCond .ne 8, 3) := dk_154 0 8 (dk_at dksX0_middles_2 17 rfl rfl)
theorem dX0_middles_66 : decode cX0_middles 66 = .ok (.iload 6, 2) := dk_21 6 (dk_at dksX0_middles_2 20 rfl rfl)
theorem dX0_middles_68 : decode cX0_middles 68 = .ok (.goto 5, 3) := dk_167 0 5 (dk_at dksX0_middles_3 0 rfl rfl)
theorem dX0_middles_71 : decode cX0_middles 71 = .ok (.iload 5, 2) := dk_21 5 (dk_at dksX0_middles_3 3 rfl rfl)
theorem dX0_middles_73 : decode cX0_middles 73 = .ok (.istore 5, 2) := dk_54 5 (dk_at dksX0_middles_3 5 rfl rfl)
theorem dX0_middles_75 : decode cX0_middles 75 = .ok (.iload 4, 2) := dk_21 4 (dk_at dksX0_middles_3 7 rfl rfl)
theorem dX0_middles_77 : decode cX0_middles 77 = .ok (.iload 7, 2) := dk_21 7 (dk_at dksX0_middles_3 9 rfl rfl)
theorem dX0_middles_79 : decode cX0_middles 79 = .ok (.ifCond .eq 7, 3) := dk_153 0 7 (dk_at dksX0_middles_3 11 rfl rfl)
theorem dX0_middles_82 : decode cX0_middles 82 = .ok (.iconst 1, 1) := dk_4 (dk_at dksX0_middles_3 14 rfl rfl)
theorem dX0_middles_83 : decode cX0_middles 83 = .ok (.goto 4, 3) := dk_167 0 4 (dk_at dksX0_middles_3 15 rfl rfl)
theorem dX0_middles_86 : decode cX0_middles 86 = .ok (.iconst 0, 1) := dk_3 (dk_at dksX0_middles_3 18 rfl rfl)
theorem dX0_middles_87 : decode cX0_middles 87 = .ok (.iadd, 1) := dk_96 (dk_at dksX0_middles_3 19 rfl rfl)
theorem dX0_middles_88 : decode cX0_middles 88 = .ok (.istore 4, 2) := dk_54 4 (dk_at dksX0_middles_3 20 rfl rfl)
theorem dX0_middles_90 : decode cX0_middles 90 = .ok (.iinc 6 1, 3) := dk_132 6 1 (dk_at dksX0_middles_4 0 rfl rfl)
theorem dX0_middles_93 : decode cX0_middles 93 = .ok (.goto (-70), 3) := dk_167 255 186 (dk_at dksX0_middles_4 3 rfl rfl)
theorem dX0_middles_96 : decode cX0_middles 96 = .ok (.iload 4, 2) := dk_21 4 (dk_at dksX0_middles_4 6 rfl rfl)
theorem dX0_middles_98 : decode cX0_middles 98 = .ok (.ifCond .ne 8, 3) := dk_154 0 8 (dk_at dksX0_middles_4 8 rfl rfl)
theorem dX0_middles_101 : decode cX0_middles 101 = .ok (.bipush (-9), 2) := dk_16 247 (dk_at dksX0_middles_4 11 rfl rfl)
theorem dX0_middles_103 : decode cX0_middles 103 = .ok (.goto 11, 3) := dk_167 0 11 (dk_at dksX0_middles_4 13 rfl rfl)
theorem dX0_middles_106 : decode cX0_middles 106 = .ok (.aload_n 0, 1) := dk_42 (dk_at dksX0_middles_4 16 rfl rfl)
theorem dX0_middles_107 : decode cX0_middles 107 = .ok (.iload 5, 2) := dk_21 5 (dk_at dksX0_middles_4 17 rfl rfl)
theorem dX0_middles_109 : decode cX0_middles 109 = .ok (.iload 4, 2) := dk_21 4 (dk_at dksX0_middles_4 19 rfl rfl)
theorem dX0_middles_111 : decode cX0_middles 111 = .ok (.invokevirtual 95, 3) := dk_182 0 95 (dk_at dksX0_middles_4 21 rfl rfl)
theorem dX0_middles_114 : decode cX0_middles 114 = .ok (.ireturn, 1) := dk_172 (dk_at dksX0_middles_5 0 rfl rfl)
abbrev cX0_askedCells : ByteArray := prog_1_method_66_code
def yX0_askedCells : MethodName := ⟨RX0, "askedCells", "(II)I"⟩
def dkwX0_askedCells_4 : List UInt8 := [132, 4, 2, 167, 255, 216, 3, 172]
abbrev dktX0_askedCells_4 : List UInt8 := dkwX0_askedCells_4 ++ []
def dkwX0_askedCells_3 : List UInt8 := [153, 0, 17, 45, 21, 4, 4, 96, 46, 3, 4, 184, 0, 77, 154, 0, 9, 42, 6, 182, 0, 87, 172]
abbrev dktX0_askedCells_3 : List UInt8 := dkwX0_askedCells_3 ++ dktX0_askedCells_4
def dkwX0_askedCells_2 : List UInt8 := [8, 182, 0, 87, 172, 3, 54, 4, 21, 4, 45, 190, 162, 0, 39, 45, 21, 4, 46, 184, 1, 2]
abbrev dktX0_askedCells_2 : List UInt8 := dkwX0_askedCells_2 ++ dktX0_askedCells_3
def dkwX0_askedCells_1 : List UInt8 := [199, 0, 9, 42, 4, 182, 0, 87, 172, 42, 180, 0, 28, 28, 50, 78, 45, 190, 5, 112, 153, 0, 9, 42]
abbrev dktX0_askedCells_1 : List UInt8 := dkwX0_askedCells_1 ++ dktX0_askedCells_2
def dkwX0_askedCells_0 : List UInt8 := [42, 27, 182, 0, 228, 153, 0, 10, 28, 184, 0, 81, 154, 0, 5, 2, 172, 42, 180, 0, 28, 28, 50]
abbrev dktX0_askedCells_0 : List UInt8 := dkwX0_askedCells_0 ++ dktX0_askedCells_1
theorem dksX0_askedCells_0 : cX0_askedCells.data.toList.drop 0 = dktX0_askedCells_0 := by decide +kernel
theorem dksX0_askedCells_1 : cX0_askedCells.data.toList.drop 23 = dktX0_askedCells_1 := dk_seg dksX0_askedCells_0 23 rfl rfl
theorem dksX0_askedCells_2 : cX0_askedCells.data.toList.drop 47 = dktX0_askedCells_2 := dk_seg dksX0_askedCells_1 24 rfl rfl
theorem dksX0_askedCells_3 : cX0_askedCells.data.toList.drop 69 = dktX0_askedCells_3 := dk_seg dksX0_askedCells_2 22 rfl rfl
theorem dksX0_askedCells_4 : cX0_askedCells.data.toList.drop 92 = dktX0_askedCells_4 := dk_seg dksX0_askedCells_3 23 rfl rfl
theorem dX0_askedCells_0 : decode cX0_askedCells 0 = .ok (.aload_n 0, 1) := dk_42 (dk_at dksX0_askedCells_0 0 rfl rfl)
theorem dX0_askedCells_1 : decode cX0_askedCells 1 = .ok (.iload_n 1, 1) := dk_27 (dk_at dksX0_askedCells_0 1 rfl rfl)
theorem dX0_askedCells_2 : decode cX0_askedCells 2 = .ok (.invokevirtual 228, 3) := dk_182 0 228 (dk_at dksX0_askedCells_0 2 rfl rfl)
theorem dX0_askedCells_5 : decode cX0_askedCells 5 = .ok (.ifCond .eq 10, 3) := dk_153 0 10 (dk_at dksX0_askedCells_0 5 rfl rfl)
theorem dX0_askedCells_8 : decode cX0_askedCells 8 = .ok (.iload_n 2, 1) := dk_28 (dk_at dksX0_askedCells_0 8 rfl rfl)
theorem dX0_askedCells_9 : decode cX0_askedCells 9 = .ok (.invokestatic 81, 3) := dk_184 0 81 (dk_at dksX0_askedCells_0 9 rfl rfl)
theorem dX0_askedCells_12 : decode cX0_askedCells 12 = .ok (.ifCond .ne 5, 3) := dk_154 0 5 (dk_at dksX0_askedCells_0 12 rfl rfl)
theorem dX0_askedCells_15 : decode cX0_askedCells 15 = .ok (.iconst (-1), 1) := dk_2 (dk_at dksX0_askedCells_0 15 rfl rfl)
theorem dX0_askedCells_16 : decode cX0_askedCells 16 = .ok (.ireturn, 1) := dk_172 (dk_at dksX0_askedCells_0 16 rfl rfl)
theorem dX0_askedCells_17 : decode cX0_askedCells 17 = .ok (.aload_n 0, 1) := dk_42 (dk_at dksX0_askedCells_0 17 rfl rfl)
theorem dX0_askedCells_18 : decode cX0_askedCells 18 = .ok (.getfield 28, 3) := dk_180 0 28 (dk_at dksX0_askedCells_0 18 rfl rfl)
theorem dX0_askedCells_21 : decode cX0_askedCells 21 = .ok (.iload_n 2, 1) := dk_28 (dk_at dksX0_askedCells_0 21 rfl rfl)
theorem dX0_askedCells_22 : decode cX0_askedCells 22 = .ok (.aaload, 1) := dk_50 (dk_at dksX0_askedCells_0 22 rfl rfl)
theorem dX0_askedCells_23 : decode cX0_askedCells 23 = .ok (.ifnonnull 9, 3) := dk_199 0 9 (dk_at dksX0_askedCells_1 0 rfl rfl)
theorem dX0_askedCells_26 : decode cX0_askedCells 26 = .ok (.aload_n 0, 1) := dk_42 (dk_at dksX0_askedCells_1 3 rfl rfl)
theorem dX0_askedCells_27 : decode cX0_askedCells 27 = .ok (.iconst 1, 1) := dk_4 (dk_at dksX0_askedCells_1 4 rfl rfl)
theorem dX0_askedCells_28 : decode cX0_askedCells 28 = .ok (.invokevirtual 87, 3) := dk_182 0 87 (dk_at dksX0_askedCells_1 5 rfl rfl)
theorem dX0_askedCells_31 : decode cX0_askedCells 31 = .ok (.ireturn, 1) := dk_172 (dk_at dksX0_askedCells_1 8 rfl rfl)
theorem dX0_askedCells_32 : decode cX0_askedCells 32 = .ok (.aload_n 0, 1) := dk_42 (dk_at dksX0_askedCells_1 9 rfl rfl)
theorem dX0_askedCells_33 : decode cX0_askedCells 33 = .ok (.getfield 28, 3) := dk_180 0 28 (dk_at dksX0_askedCells_1 10 rfl rfl)
theorem dX0_askedCells_36 : decode cX0_askedCells 36 = .ok (.iload_n 2, 1) := dk_28 (dk_at dksX0_askedCells_1 13 rfl rfl)
theorem dX0_askedCells_37 : decode cX0_askedCells 37 = .ok (.aaload, 1) := dk_50 (dk_at dksX0_askedCells_1 14 rfl rfl)
theorem dX0_askedCells_38 : decode cX0_askedCells 38 = .ok (.astore_n 3, 1) := dk_78 (dk_at dksX0_askedCells_1 15 rfl rfl)
theorem dX0_askedCells_39 : decode cX0_askedCells 39 = .ok (.aload_n 3, 1) := dk_45 (dk_at dksX0_askedCells_1 16 rfl rfl)
theorem dX0_askedCells_40 : decode cX0_askedCells 40 = .ok (.arraylength, 1) := dk_190 (dk_at dksX0_askedCells_1 17 rfl rfl)
theorem dX0_askedCells_41 : decode cX0_askedCells 41 = .ok (.iconst 2, 1) := dk_5 (dk_at dksX0_askedCells_1 18 rfl rfl)
theorem dX0_askedCells_42 : decode cX0_askedCells 42 = .ok (.irem, 1) := dk_112 (dk_at dksX0_askedCells_1 19 rfl rfl)
theorem dX0_askedCells_43 : decode cX0_askedCells 43 = .ok (.ifCond .eq 9, 3) := dk_153 0 9 (dk_at dksX0_askedCells_1 20 rfl rfl)
theorem dX0_askedCells_46 : decode cX0_askedCells 46 = .ok (.aload_n 0, 1) := dk_42 (dk_at dksX0_askedCells_1 23 rfl rfl)
theorem dX0_askedCells_47 : decode cX0_askedCells 47 = .ok (.iconst 5, 1) := dk_8 (dk_at dksX0_askedCells_2 0 rfl rfl)
theorem dX0_askedCells_48 : decode cX0_askedCells 48 = .ok (.invokevirtual 87, 3) := dk_182 0 87 (dk_at dksX0_askedCells_2 1 rfl rfl)
theorem dX0_askedCells_51 : decode cX0_askedCells 51 = .ok (.ireturn, 1) := dk_172 (dk_at dksX0_askedCells_2 4 rfl rfl)
theorem dX0_askedCells_52 : decode cX0_askedCells 52 = .ok (.iconst 0, 1) := dk_3 (dk_at dksX0_askedCells_2 5 rfl rfl)
theorem dX0_askedCells_53 : decode cX0_askedCells 53 = .ok (.istore 4, 2) := dk_54 4 (dk_at dksX0_askedCells_2 6 rfl rfl)
theorem dX0_askedCells_55 : decode cX0_askedCells 55 = .ok (.iload 4, 2) := dk_21 4 (dk_at dksX0_askedCells_2 8 rfl rfl)
theorem dX0_askedCells_57 : decode cX0_askedCells 57 = .ok (.aload_n 3, 1) := dk_45 (dk_at dksX0_askedCells_2 10 rfl rfl)
theorem dX0_askedCells_58 : decode cX0_askedCells 58 = .ok (.arraylength, 1) := dk_190 (dk_at dksX0_askedCells_2 11 rfl rfl)
theorem dX0_askedCells_59 : decode cX0_askedCells 59 = .ok (.if_icmp .ge 39, 3) := dk_162 0 39 (dk_at dksX0_askedCells_2 12 rfl rfl)
theorem dX0_askedCells_62 : decode cX0_askedCells 62 = .ok (.aload_n 3, 1) := dk_45 (dk_at dksX0_askedCells_2 15 rfl rfl)
theorem dX0_askedCells_63 : decode cX0_askedCells 63 = .ok (.iload 4, 2) := dk_21 4 (dk_at dksX0_askedCells_2 16 rfl rfl)
theorem dX0_askedCells_65 : decode cX0_askedCells 65 = .ok (.iaload, 1) := dk_46 (dk_at dksX0_askedCells_2 18 rfl rfl)
theorem dX0_askedCells_66 : decode cX0_askedCells 66 = .ok (.invokestatic 258, 3) := dk_184 1 2 (dk_at dksX0_askedCells_2 19 rfl rfl)
theorem dX0_askedCells_69 : decode cX0_askedCells 69 = .ok (.ifCond .eq 17, 3) := dk_153 0 17 (dk_at dksX0_askedCells_3 0 rfl rfl)
theorem dX0_askedCells_72 : decode cX0_askedCells 72 = .ok (.aload_n 3, 1) := dk_45 (dk_at dksX0_askedCells_3 3 rfl rfl)
theorem dX0_askedCells_73 : decode cX0_askedCells 73 = .ok (.iload 4, 2) := dk_21 4 (dk_at dksX0_askedCells_3 4 rfl rfl)
theorem dX0_askedCells_75 : decode cX0_askedCells 75 = .ok (.iconst 1, 1) := dk_4 (dk_at dksX0_askedCells_3 6 rfl rfl)
theorem dX0_askedCells_76 : decode cX0_askedCells 76 = .ok (.iadd, 1) := dk_96 (dk_at dksX0_askedCells_3 7 rfl rfl)
theorem dX0_askedCells_77 : decode cX0_askedCells 77 = .ok (.iaload, 1) := dk_46 (dk_at dksX0_askedCells_3 8 rfl rfl)
theorem dX0_askedCells_78 : decode cX0_askedCells 78 = .ok (.iconst 0, 1) := dk_3 (dk_at dksX0_askedCells_3 9 rfl rfl)
theorem dX0_askedCells_79 : decode cX0_askedCells 79 = .ok (.iconst 1, 1) := dk_4 (dk_at dksX0_askedCells_3 10 rfl rfl)
theorem dX0_askedCells_80 : decode cX0_askedCells 80 = .ok (.invokestatic 77, 3) := dk_184 0 77 (dk_at dksX0_askedCells_3 11 rfl rfl)
theorem dX0_askedCells_83 : decode cX0_askedCells 83 = .ok (.ifCond .ne 9, 3) := dk_154 0 9 (dk_at dksX0_askedCells_3 14 rfl rfl)
theorem dX0_askedCells_86 : decode cX0_askedCells 86 = .ok (.aload_n 0, 1) := dk_42 (dk_at dksX0_askedCells_3 17 rfl rfl)
theorem dX0_askedCells_87 : decode cX0_askedCells 87 = .ok (.iconst 3, 1) := dk_6 (dk_at dksX0_askedCells_3 18 rfl rfl)
theorem dX0_askedCells_88 : decode cX0_askedCells 88 = .ok (.invokevirtual 87, 3) := dk_182 0 87 (dk_at dksX0_askedCells_3 19 rfl rfl)
theorem dX0_askedCells_91 : decode cX0_askedCells 91 = .ok (.ireturn, 1) := dk_172 (dk_at dksX0_askedCells_3 22 rfl rfl)
theorem dX0_askedCells_92 : decode cX0_askedCells 92 = .ok (.iinc 4 2, 3) := dk_132 4 2 (dk_at dksX0_askedCells_4 0 rfl rfl)
theorem dX0_askedCells_95 : decode cX0_askedCells 95 = .ok (.goto (-40), 3) := dk_167 255 216 (dk_at dksX0_askedCells_4 3 rfl rfl)
theorem dX0_askedCells_98 : decode cX0_askedCells 98 = .ok (.iconst 0, 1) := dk_3 (dk_at dksX0_askedCells_4 6 rfl rfl)
theorem dX0_askedCells_99 : decode cX0_askedCells 99 = .ok (.ireturn, 1) := dk_172 (dk_at dksX0_askedCells_4 7 rfl rfl)
abbrev cX0_isSo : ByteArray := prog_1_method_67_code
def yX0_isSo : MethodName := ⟨RX0, "isSo", "(LCapCouncil$Ring;II[I)Z"⟩
def dkwX0_isSo_2 : List UInt8 := [167, 0, 4, 3, 160, 0, 7, 4, 167, 0, 4, 3, 54, 5, 132, 6, 2, 167, 255, 199, 21, 5, 172]
abbrev dktX0_isSo_2 : List UInt8 := dkwX0_isSo_2 ++ []
def dkwX0_isSo_1 : List UInt8 := [21, 6, 46, 42, 180, 0, 179, 184, 0, 200, 25, 4, 21, 6, 4, 96, 46, 4, 160, 0, 7, 4]
abbrev dktX0_isSo_1 : List UInt8 := dkwX0_isSo_1 ++ dktX0_isSo_2
def dkwX0_isSo_0 : List UInt8 := [4, 54, 5, 3, 54, 6, 21, 6, 25, 4, 190, 162, 0, 55, 21, 5, 153, 0, 41, 43, 28, 29, 25, 4]
abbrev dktX0_isSo_0 : List UInt8 := dkwX0_isSo_0 ++ dktX0_isSo_1
theorem dksX0_isSo_0 : cX0_isSo.data.toList.drop 0 = dktX0_isSo_0 := by decide +kernel
theorem dksX0_isSo_1 : cX0_isSo.data.toList.drop 24 = dktX0_isSo_1 := dk_seg dksX0_isSo_0 24 rfl rfl
theorem dksX0_isSo_2 : cX0_isSo.data.toList.drop 46 = dktX0_isSo_2 := dk_seg dksX0_isSo_1 22 rfl rfl
theorem dX0_isSo_0 : decode cX0_isSo 0 = .ok (.iconst 1, 1) := dk_4 (dk_at dksX0_isSo_0 0 rfl rfl)
theorem dX0_isSo_1 : decode cX0_isSo 1 = .ok (.istore 5, 2) := dk_54 5 (dk_at dksX0_isSo_0 1 rfl rfl)
theorem dX0_isSo_3 : decode cX0_isSo 3 = .ok (.iconst 0, 1) := dk_3 (dk_at dksX0_isSo_0 3 rfl rfl)
theorem dX0_isSo_4 : decode cX0_isSo 4 = .ok (.istore 6, 2) := dk_54 6 (dk_at dksX0_isSo_0 4 rfl rfl)
theorem dX0_isSo_6 : decode cX0_isSo 6 = .ok (.iload 6, 2) := dk_21 6 (dk_at dksX0_isSo_0 6 rfl rfl)
theorem dX0_isSo_8 : decode cX0_isSo 8 = .ok (.aload 4, 2) := dk_25 4 (dk_at dksX0_isSo_0 8 rfl rfl)
theorem dX0_isSo_10 : decode cX0_isSo 10 = .ok (.arraylength, 1) := dk_190 (dk_at dksX0_isSo_0 10 rfl rfl)
theorem dX0_isSo_11 : decode cX0_isSo 11 = .ok (.if_icmp .ge 55, 3) := dk_162 0 55 (dk_at dksX0_isSo_0 11 rfl rfl)
theorem dX0_isSo_14 : decode cX0_isSo 14 = .ok (.iload 5, 2) := dk_21 5 (dk_at dksX0_isSo_0 14 rfl rfl)
theorem dX0_isSo_16 : decode cX0_isSo 16 = .ok (.ifCond .eq 41, 3) := dk_153 0 41 (dk_at dksX0_isSo_0 16 rfl rfl)
theorem dX0_isSo_19 : decode cX0_isSo 19 = .ok (.aload_n 1, 1) := dk_43 (dk_at dksX0_isSo_0 19 rfl rfl)
theorem dX0_isSo_20 : decode cX0_isSo 20 = .ok (.iload_n 2, 1) := dk_28 (dk_at dksX0_isSo_0 20 rfl rfl)
theorem dX0_isSo_21 : decode cX0_isSo 21 = .ok (.iload_n 3, 1) := dk_29 (dk_at dksX0_isSo_0 21 rfl rfl)
theorem dX0_isSo_22 : decode cX0_isSo 22 = .ok (.aload 4, 2) := dk_25 4 (dk_at dksX0_isSo_0 22 rfl rfl)
theorem dX0_isSo_24 : decode cX0_isSo 24 = .ok (.iload 6, 2) := dk_21 6 (dk_at dksX0_isSo_1 0 rfl rfl)
theorem dX0_isSo_26 : decode cX0_isSo 26 = .ok (.iaload, 1) := dk_46 (dk_at dksX0_isSo_1 2 rfl rfl)
theorem dX0_isSo_27 : decode cX0_isSo 27 = .ok (.aload_n 0, 1) := dk_42 (dk_at dksX0_isSo_1 3 rfl rfl)
theorem dX0_isSo_28 : decode cX0_isSo 28 = .ok (.getfield 179, 3) := dk_180 0 179 (dk_at dksX0_isSo_1 4 rfl rfl)
theorem dX0_isSo_31 : decode cX0_isSo 31 = .ok (.invokestatic 200, 3) := dk_184 0 200 (dk_at dksX0_isSo_1 7 rfl rfl)
theorem dX0_isSo_34 : decode cX0_isSo 34 = .ok (.aload 4, 2) := dk_25 4 (dk_at dksX0_isSo_1 10 rfl rfl)
theorem dX0_isSo_36 : decode cX0_isSo 36 = .ok (.iload 6, 2) := dk_21 6 (dk_at dksX0_isSo_1 12 rfl rfl)
theorem dX0_isSo_38 : decode cX0_isSo 38 = .ok (.iconst 1, 1) := dk_4 (dk_at dksX0_isSo_1 14 rfl rfl)
theorem dX0_isSo_39 : decode cX0_isSo 39 = .ok (.iadd, 1) := dk_96 (dk_at dksX0_isSo_1 15 rfl rfl)
theorem dX0_isSo_40 : decode cX0_isSo 40 = .ok (.iaload, 1) := dk_46 (dk_at dksX0_isSo_1 16 rfl rfl)
theorem dX0_isSo_41 : decode cX0_isSo 41 = .ok (.iconst 1, 1) := dk_4 (dk_at dksX0_isSo_1 17 rfl rfl)
theorem dX0_isSo_42 : decode cX0_isSo 42 = .ok (.if_icmp .ne 7, 3) := dk_160 0 7 (dk_at dksX0_isSo_1 18 rfl rfl)
theorem dX0_isSo_45 : decode cX0_isSo 45 = .ok (.iconst 1, 1) := dk_4 (dk_at dksX0_isSo_1 21 rfl rfl)
theorem dX0_isSo_46 : decode cX0_isSo 46 = .ok (.goto 4, 3) := dk_167 0 4 (dk_at dksX0_isSo_2 0 rfl rfl)
theorem dX0_isSo_49 : decode cX0_isSo 49 = .ok (.iconst 0, 1) := dk_3 (dk_at dksX0_isSo_2 3 rfl rfl)
theorem dX0_isSo_50 : decode cX0_isSo 50 = .ok (.if_icmp .ne 7, 3) := dk_160 0 7 (dk_at dksX0_isSo_2 4 rfl rfl)
theorem dX0_isSo_53 : decode cX0_isSo 53 = .ok (.iconst 1, 1) := dk_4 (dk_at dksX0_isSo_2 7 rfl rfl)
theorem dX0_isSo_54 : decode cX0_isSo 54 = .ok (.goto 4, 3) := dk_167 0 4 (dk_at dksX0_isSo_2 8 rfl rfl)
theorem dX0_isSo_57 : decode cX0_isSo 57 = .ok (.iconst 0, 1) := dk_3 (dk_at dksX0_isSo_2 11 rfl rfl)
theorem dX0_isSo_58 : decode cX0_isSo 58 = .ok (.istore 5, 2) := dk_54 5 (dk_at dksX0_isSo_2 12 rfl rfl)
theorem dX0_isSo_60 : decode cX0_isSo 60 = .ok (.iinc 6 2, 3) := dk_132 6 2 (dk_at dksX0_isSo_2 14 rfl rfl)
theorem dX0_isSo_63 : decode cX0_isSo 63 = .ok (.goto (-57), 3) := dk_167 255 199 (dk_at dksX0_isSo_2 17 rfl rfl)
theorem dX0_isSo_66 : decode cX0_isSo 66 = .ok (.iload 5, 2) := dk_21 5 (dk_at dksX0_isSo_2 20 rfl rfl)
theorem dX0_isSo_68 : decode cX0_isSo 68 = .ok (.ireturn, 1) := dk_172 (dk_at dksX0_isSo_2 22 rfl rfl)
abbrev cX0_wides : ByteArray := prog_1_method_69_code
def yX0_wides : MethodName := ⟨RX0, "wides", "(II)I"⟩
def dkwX0_wides_3 : List UInt8 := [167, 255, 206, 21, 4, 172]
abbrev dktX0_wides_3 : List UInt8 := dkwX0_wides_3 ++ []
def dkwX0_wides_2 : List UInt8 := [28, 50, 182, 1, 39, 153, 0, 10, 4, 21, 5, 120, 167, 0, 4, 3, 128, 54, 4, 132, 5, 1]
abbrev dktX0_wides_2 : List UInt8 := dkwX0_wides_2 ++ dktX0_wides_3
def dkwX0_wides_1 : List UInt8 := [163, 0, 49, 21, 4, 42, 42, 180, 0, 44, 27, 50, 42, 180, 0, 47, 27, 46, 21, 5, 42, 180, 0, 28]
abbrev dktX0_wides_1 : List UInt8 := dkwX0_wides_1 ++ dktX0_wides_2
def dkwX0_wides_0 : List UInt8 := [42, 27, 28, 182, 1, 36, 62, 29, 156, 0, 5, 29, 172, 3, 54, 4, 3, 54, 5, 21, 5, 16, 9]
abbrev dktX0_wides_0 : List UInt8 := dkwX0_wides_0 ++ dktX0_wides_1
theorem dksX0_wides_0 : cX0_wides.data.toList.drop 0 = dktX0_wides_0 := by decide +kernel
theorem dksX0_wides_1 : cX0_wides.data.toList.drop 23 = dktX0_wides_1 := dk_seg dksX0_wides_0 23 rfl rfl
theorem dksX0_wides_2 : cX0_wides.data.toList.drop 47 = dktX0_wides_2 := dk_seg dksX0_wides_1 24 rfl rfl
theorem dksX0_wides_3 : cX0_wides.data.toList.drop 69 = dktX0_wides_3 := dk_seg dksX0_wides_2 22 rfl rfl
theorem dX0_wides_0 : decode cX0_wides 0 = .ok (.aload_n 0, 1) := dk_42 (dk_at dksX0_wides_0 0 rfl rfl)
theorem dX0_wides_1 : decode cX0_wides 1 = .ok (.iload_n 1, 1) := dk_27 (dk_at dksX0_wides_0 1 rfl rfl)
theorem dX0_wides_2 : decode cX0_wides 2 = .ok (.iload_n 2, 1) := dk_28 (dk_at dksX0_wides_0 2 rfl rfl)
theorem dX0_wides_3 : decode cX0_wides 3 = .ok (.invokevirtual 292, 3) := dk_182 1 36 (dk_at dksX0_wides_0 3 rfl rfl)
theorem dX0_wides_6 : decode cX0_wides 6 = .ok (.istore_n 3, 1) := dk_62 (dk_at dksX0_wides_0 6 rfl rfl)
theorem dX0_wides_7 : decode cX0_wides 7 = .ok (.iload_n 3, 1) := dk_29 (dk_at dksX0_wides_0 7 rfl rfl)
theorem dX0_wides_8 : decode cX0_wides 8 = .ok (.ifCond .ge 5, 3) := dk_156 0 5 (dk_at dksX0_wides_0 8 rfl rfl)
theorem dX0_wides_11 : decode cX0_wides 11 = .ok (.iload_n 3, 1) := dk_29 (dk_at dksX0_wides_0 11 rfl rfl)
theorem dX0_wides_12 : decode cX0_wides 12 = .ok (.ireturn, 1) := dk_172 (dk_at dksX0_wides_0 12 rfl rfl)
theorem dX0_wides_13 : decode cX0_wides 13 = .ok (.iconst 0, 1) := dk_3 (dk_at dksX0_wides_0 13 rfl rfl)
theorem dX0_wides_14 : decode cX0_wides 14 = .ok (.istore 4, 2) := dk_54 4 (dk_at dksX0_wides_0 14 rfl rfl)
theorem dX0_wides_16 : decode cX0_wides 16 = .ok (.iconst 0, 1) := dk_3 (dk_at dksX0_wides_0 16 rfl rfl)
theorem dX0_wides_17 : decode cX0_wides 17 = .ok (.istore 5, 2) := dk_54 5 (dk_at dksX0_wides_0 17 rfl rfl)
theorem dX0_wides_19 : decode cX0_wides 19 = .ok (.iload 5, 2) := dk_21 5 (dk_at dksX0_wides_0 19 rfl rfl)
theorem dX0_wides_21 : decode cX0_wides 21 = .ok (.bipush 9, 2) := dk_16 9 (dk_at dksX0_wides_0 21 rfl rfl)
theorem dX0_wides_23 : decode cX0_wides 23 = .ok (.if_icmp .gt 49, 3) := dk_163 0 49 (dk_at dksX0_wides_1 0 rfl rfl)
theorem dX0_wides_26 : decode cX0_wides 26 = .ok (.iload 4, 2) := dk_21 4 (dk_at dksX0_wides_1 3 rfl rfl)
theorem dX0_wides_28 : decode cX0_wides 28 = .ok (.aload_n 0, 1) := dk_42 (dk_at dksX0_wides_1 5 rfl rfl)
theorem dX0_wides_29 : decode cX0_wides 29 = .ok (.aload_n 0, 1) := dk_42 (dk_at dksX0_wides_1 6 rfl rfl)
theorem dX0_wides_30 : decode cX0_wides 30 = .ok (.getfield 44, 3) := dk_180 0 44 (dk_at dksX0_wides_1 7 rfl rfl)
theorem dX0_wides_33 : decode cX0_wides 33 = .ok (.iload_n 1, 1) := dk_27 (dk_at dksX0_wides_1 10 rfl rfl)
theorem dX0_wides_34 : decode cX0_wides 34 = .ok (.aaload, 1) := dk_50 (dk_at dksX0_wides_1 11 rfl rfl)
theorem dX0_wides_35 : decode cX0_wides 35 = .ok (.aload_n 0, 1) := dk_42 (dk_at dksX0_wides_1 12 rfl rfl)
theorem dX0_wides_36 : decode cX0_wides 36 = .ok (.getfield 47, 3) := dk_180 0 47 (dk_at dksX0_wides_1 13 rfl rfl)
theorem dX0_wides_39 : decode cX0_wides 39 = .ok (.iload_n 1, 1) := dk_27 (dk_at dksX0_wides_1 16 rfl rfl)
theorem dX0_wides_40 : decode cX0_wides 40 = .ok (.iaload, 1) := dk_46 (dk_at dksX0_wides_1 17 rfl rfl)
theorem dX0_wides_41 : decode cX0_wides 41 = .ok (.iload 5, 2) := dk_21 5 (dk_at dksX0_wides_1 18 rfl rfl)
theorem dX0_wides_43 : decode cX0_wides 43 = .ok (.aload_n 0, 1) := dk_42 (dk_at dksX0_wides_1 20 rfl rfl)
theorem dX0_wides_44 : decode cX0_wides 44 = .ok (.getfield 28, 3) := dk_180 0 28 (dk_at dksX0_wides_1 21 rfl rfl)
theorem dX0_wides_47 : decode cX0_wides 47 = .ok (.iload_n 2, 1) := dk_28 (dk_at dksX0_wides_2 0 rfl rfl)
theorem dX0_wides_48 : decode cX0_wides 48 = .ok (.aaload, 1) := dk_50 (dk_at dksX0_wides_2 1 rfl rfl)
theorem dX0_wides_49 : decode cX0_wides 49 = .ok (.invokevirtual 295, 3) := dk_182 1 39 (dk_at dksX0_wides_2 2 rfl rfl)
theorem dX0_wides_52 : decode cX0_wides 52 = .ok (.ifCond .eq 10, 3) := dk_153 0 10 (dk_at dksX0_wides_2 5 rfl rfl)
theorem dX0_wides_55 : decode cX0_wides 55 = .ok (.iconst 1, 1) := dk_4 (dk_at dksX0_wides_2 8 rfl rfl)
theorem dX0_wides_56 : decode cX0_wides 56 = .ok (.iload 5, 2) := dk_21 5 (dk_at dksX0_wides_2 9 rfl rfl)
theorem dX0_wides_58 : decode cX0_wides 58 = .ok (.ishl, 1) := dk_120 (dk_at dksX0_wides_2 11 rfl rfl)
theorem dX0_wides_59 : decode cX0_wides 59 = .ok (.goto 4, 3) := dk_167 0 4 (dk_at dksX0_wides_2 12 rfl rfl)
theorem dX0_wides_62 : decode cX0_wides 62 = .ok (.iconst 0, 1) := dk_3 (dk_at dksX0_wides_2 15 rfl rfl)
theorem dX0_wides_63 : decode cX0_wides 63 = .ok (.ior, 1) := dk_128 (dk_at dksX0_wides_2 16 rfl rfl)
theorem dX0_wides_64 : decode cX0_wides 64 = .ok (.istore 4, 2) := dk_54 4 (dk_at dksX0_wides_2 17 rfl rfl)
theorem dX0_wides_66 : decode cX0_wides 66 = .ok (.iinc 5 1, 3) := dk_132 5 1 (dk_at dksX0_wides_2 19 rfl rfl)
theorem dX0_wides_69 : decode cX0_wides 69 = .ok (.goto (-50), 3) := dk_167 255 206 (dk_at dksX0_wides_3 0 rfl rfl)
theorem dX0_wides_72 : decode cX0_wides 72 = .ok (.iload 4, 2) := dk_21 4 (dk_at dksX0_wides_3 3 rfl rfl)
theorem dX0_wides_74 : decode cX0_wides 74 = .ok (.ireturn, 1) := dk_172 (dk_at dksX0_wides_3 5 rfl rfl)
abbrev cX0_kinds : ByteArray := prog_1_method_71_code
def yX0_kinds : MethodName := ⟨RX0, "kinds", "(II)I"⟩
def dkwX0_kinds_1 : List UInt8 := [182, 1, 43, 172]
abbrev dktX0_kinds_1 : List UInt8 := dkwX0_kinds_1 ++ []
def dkwX0_kinds_0 : List UInt8 := [42, 27, 28, 182, 1, 36, 62, 29, 156, 0, 7, 29, 167, 0, 14, 42, 27, 42, 180, 0, 28, 28, 50]
abbrev dktX0_kinds_0 : List UInt8 := dkwX0_kinds_0 ++ dktX0_kinds_1
theorem dksX0_kinds_0 : cX0_kinds.data.toList.drop 0 = dktX0_kinds_0 := by decide +kernel
theorem dksX0_kinds_1 : cX0_kinds.data.toList.drop 23 = dktX0_kinds_1 := dk_seg dksX0_kinds_0 23 rfl rfl
theorem dX0_kinds_0 : decode cX0_kinds 0 = .ok (.aload_n 0, 1) := dk_42 (dk_at dksX0_kinds_0 0 rfl rfl)
theorem dX0_kinds_1 : decode cX0_kinds 1 = .ok (.iload_n 1, 1) := dk_27 (dk_at dksX0_kinds_0 1 rfl rfl)
theorem dX0_kinds_2 : decode cX0_kinds 2 = .ok (.iload_n 2, 1) := dk_28 (dk_at dksX0_kinds_0 2 rfl rfl)
theorem dX0_kinds_3 : decode cX0_kinds 3 = .ok (.invokevirtual 292, 3) := dk_182 1 36 (dk_at dksX0_kinds_0 3 rfl rfl)
theorem dX0_kinds_6 : decode cX0_kinds 6 = .ok (.istore_n 3, 1) := dk_62 (dk_at dksX0_kinds_0 6 rfl rfl)
theorem dX0_kinds_7 : decode cX0_kinds 7 = .ok (.iload_n 3, 1) := dk_29 (dk_at dksX0_kinds_0 7 rfl rfl)
theorem dX0_kinds_8 : decode cX0_kinds 8 = .ok (.ifCond .ge 7, 3) := dk_156 0 7 (dk_at dksX0_kinds_0 8 rfl rfl)
theorem dX0_kinds_11 : decode cX0_kinds 11 = .ok (.iload_n 3, 1) := dk_29 (dk_at dksX0_kinds_0 11 rfl rfl)
theorem dX0_kinds_12 : decode cX0_kinds 12 = .ok (.goto 14, 3) := dk_167 0 14 (dk_at dksX0_kinds_0 12 rfl rfl)
theorem dX0_kinds_15 : decode cX0_kinds 15 = .ok (.aload_n 0, 1) := dk_42 (dk_at dksX0_kinds_0 15 rfl rfl)
theorem dX0_kinds_16 : decode cX0_kinds 16 = .ok (.iload_n 1, 1) := dk_27 (dk_at dksX0_kinds_0 16 rfl rfl)
theorem dX0_kinds_17 : decode cX0_kinds 17 = .ok (.aload_n 0, 1) := dk_42 (dk_at dksX0_kinds_0 17 rfl rfl)
theorem dX0_kinds_18 : decode cX0_kinds 18 = .ok (.getfield 28, 3) := dk_180 0 28 (dk_at dksX0_kinds_0 18 rfl rfl)
theorem dX0_kinds_21 : decode cX0_kinds 21 = .ok (.iload_n 2, 1) := dk_28 (dk_at dksX0_kinds_0 21 rfl rfl)
theorem dX0_kinds_22 : decode cX0_kinds 22 = .ok (.aaload, 1) := dk_50 (dk_at dksX0_kinds_0 22 rfl rfl)
theorem dX0_kinds_23 : decode cX0_kinds 23 = .ok (.invokevirtual 299, 3) := dk_182 1 43 (dk_at dksX0_kinds_1 0 rfl rfl)
theorem dX0_kinds_26 : decode cX0_kinds 26 = .ok (.ireturn, 1) := dk_172 (dk_at dksX0_kinds_1 3 rfl rfl)
abbrev cX0_kindsBy : ByteArray := prog_1_method_70_code
def yX0_kindsBy : MethodName := ⟨RX0, "kindsBy", "(I[I)I"⟩
def dkwX0_kindsBy_2 : List UInt8 := [167, 0, 4, 3, 128, 62, 132, 4, 1, 167, 255, 208, 29, 172]
abbrev dktX0_kindsBy_2 : List UInt8 := dkwX0_kindsBy_2 ++ []
def dkwX0_kindsBy_1 : List UInt8 := [180, 0, 47, 27, 46, 42, 180, 0, 50, 27, 46, 44, 182, 1, 39, 153, 0, 10, 4, 21, 4, 120]
abbrev dktX0_kindsBy_1 : List UInt8 := dkwX0_kindsBy_1 ++ dktX0_kindsBy_2
def dkwX0_kindsBy_0 : List UInt8 := [3, 62, 3, 54, 4, 21, 4, 16, 6, 162, 0, 47, 29, 42, 42, 180, 0, 40, 21, 4, 50, 42]
abbrev dktX0_kindsBy_0 : List UInt8 := dkwX0_kindsBy_0 ++ dktX0_kindsBy_1
theorem dksX0_kindsBy_0 : cX0_kindsBy.data.toList.drop 0 = dktX0_kindsBy_0 := by decide +kernel
theorem dksX0_kindsBy_1 : cX0_kindsBy.data.toList.drop 22 = dktX0_kindsBy_1 := dk_seg dksX0_kindsBy_0 22 rfl rfl
theorem dksX0_kindsBy_2 : cX0_kindsBy.data.toList.drop 44 = dktX0_kindsBy_2 := dk_seg dksX0_kindsBy_1 22 rfl rfl
theorem dX0_kindsBy_0 : decode cX0_kindsBy 0 = .ok (.iconst 0, 1) := dk_3 (dk_at dksX0_kindsBy_0 0 rfl rfl)
theorem dX0_kindsBy_1 : decode cX0_kindsBy 1 = .ok (.istore_n 3, 1) := dk_62 (dk_at dksX0_kindsBy_0 1 rfl rfl)
theorem dX0_kindsBy_2 : decode cX0_kindsBy 2 = .ok (.iconst 0, 1) := dk_3 (dk_at dksX0_kindsBy_0 2 rfl rfl)
theorem dX0_kindsBy_3 : decode cX0_kindsBy 3 = .ok (.istore 4, 2) := dk_54 4 (dk_at dksX0_kindsBy_0 3 rfl rfl)
theorem dX0_kindsBy_5 : decode cX0_kindsBy 5 = .ok (.iload 4, 2) := dk_21 4 (dk_at dksX0_kindsBy_0 5 rfl rfl)
theorem dX0_kindsBy_7 : decode cX0_kindsBy 7 = .ok (.bipush 6, 2) := dk_16 6 (dk_at dksX0_kindsBy_0 7 rfl rfl)
theorem dX0_kindsBy_9 : decode cX0_kindsBy 9 = .ok (.if_icmp .ge 47, 3) := dk_162 0 47 (dk_at dksX0_kindsBy_0 9 rfl rfl)
theorem dX0_kindsBy_12 : decode cX0_kindsBy 12 = .ok (.iload_n 3, 1) := dk_29 (dk_at dksX0_kindsBy_0 12 rfl rfl)
theorem dX0_kindsBy_13 : decode cX0_kindsBy 13 = .ok (.aload_n 0, 1) := dk_42 (dk_at dksX0_kindsBy_0 13 rfl rfl)
theorem dX0_kindsBy_14 : decode cX0_kindsBy 14 = .ok (.aload_n 0, 1) := dk_42 (dk_at dksX0_kindsBy_0 14 rfl rfl)
theorem dX0_kindsBy_15 : decode cX0_kindsBy 15 = .ok (.getfield 40, 3) := dk_180 0 40 (dk_at dksX0_kindsBy_0 15 rfl rfl)
theorem dX0_kindsBy_18 : decode cX0_kindsBy 18 = .ok (.iload 4, 2) := dk_21 4 (dk_at dksX0_kindsBy_0 18 rfl rfl)
theorem dX0_kindsBy_20 : decode cX0_kindsBy 20 = .ok (.aaload, 1) := dk_50 (dk_at dksX0_kindsBy_0 20 rfl rfl)
theorem dX0_kindsBy_21 : decode cX0_kindsBy 21 = .ok (.aload_n 0, 1) := dk_42 (dk_at dksX0_kindsBy_0 21 rfl rfl)
theorem dX0_kindsBy_22 : decode cX0_kindsBy 22 = .ok (.getfield 47, 3) := dk_180 0 47 (dk_at dksX0_kindsBy_1 0 rfl rfl)
theorem dX0_kindsBy_25 : decode cX0_kindsBy 25 = .ok (.iload_n 1, 1) := dk_27 (dk_at dksX0_kindsBy_1 3 rfl rfl)
theorem dX0_kindsBy_26 : decode cX0_kindsBy 26 = .ok (.iaload, 1) := dk_46 (dk_at dksX0_kindsBy_1 4 rfl rfl)
theorem dX0_kindsBy_27 : decode cX0_kindsBy 27 = .ok (.aload_n 0, 1) := dk_42 (dk_at dksX0_kindsBy_1 5 rfl rfl)
theorem dX0_kindsBy_28 : decode cX0_kindsBy 28 = .ok (.getfield 50, 3) := dk_180 0 50 (dk_at dksX0_kindsBy_1 6 rfl rfl)
theorem dX0_kindsBy_31 : decode cX0_kindsBy 31 = .ok (.iload_n 1, 1) := dk_27 (dk_at dksX0_kindsBy_1 9 rfl rfl)
theorem dX0_kindsBy_32 : decode cX0_kindsBy 32 = .ok (.iaload, 1) := dk_46 (dk_at dksX0_kindsBy_1 10 rfl rfl)
theorem dX0_kindsBy_33 : decode cX0_kindsBy 33 = .ok (.aload_n 2, 1) := dk_44 (dk_at dksX0_kindsBy_1 11 rfl rfl)
theorem dX0_kindsBy_34 : decode cX0_kindsBy 34 = .ok (.invokevirtual 295, 3) := dk_182 1 39 (dk_at dksX0_kindsBy_1 12 rfl rfl)
theorem dX0_kindsBy_37 : decode cX0_kindsBy 37 = .ok (.ifCond .eq 10, 3) := dk_153 0 10 (dk_at dksX0_kindsBy_1 15 rfl rfl)
theorem dX0_kindsBy_40 : decode cX0_kindsBy 40 = .ok (.iconst 1, 1) := dk_4 (dk_at dksX0_kindsBy_1 18 rfl rfl)
theorem dX0_kindsBy_41 : decode cX0_kindsBy 41 = .ok (.iload 4, 2) := dk_21 4 (dk_at dksX0_kindsBy_1 19 rfl rfl)
theorem dX0_kindsBy_43 : decode cX0_kindsBy 43 = .ok (.ishl, 1) := dk_120 (dk_at dksX0_kindsBy_1 21 rfl rfl)
theorem dX0_kindsBy_44 : decode cX0_kindsBy 44 = .ok (.goto 4, 3) := dk_167 0 4 (dk_at dksX0_kindsBy_2 0 rfl rfl)
theorem dX0_kindsBy_47 : decode cX0_kindsBy 47 = .ok (.iconst 0, 1) := dk_3 (dk_at dksX0_kindsBy_2 3 rfl rfl)
theorem dX0_kindsBy_48 : decode cX0_kindsBy 48 = .ok (.ior, 1) := dk_128 (dk_at dksX0_kindsBy_2 4 rfl rfl)
theorem dX0_kindsBy_49 : decode cX0_kindsBy 49 = .ok (.istore_n 3, 1) := dk_62 (dk_at dksX0_kindsBy_2 5 rfl rfl)
theorem dX0_kindsBy_50 : decode cX0_kindsBy 50 = .ok (.iinc 4 1, 3) := dk_132 4 1 (dk_at dksX0_kindsBy_2 6 rfl rfl)
theorem dX0_kindsBy_53 : decode cX0_kindsBy 53 = .ok (.goto (-48), 3) := dk_167 255 208 (dk_at dksX0_kindsBy_2 9 rfl rfl)
theorem dX0_kindsBy_56 : decode cX0_kindsBy 56 = .ok (.iload_n 3, 1) := dk_29 (dk_at dksX0_kindsBy_2 12 rfl rfl)
theorem dX0_kindsBy_57 : decode cX0_kindsBy 57 = .ok (.ireturn, 1) := dk_172 (dk_at dksX0_kindsBy_2 13 rfl rfl)
abbrev cX0_test : ByteArray := prog_1_method_72_code
def yX0_test : MethodName := ⟨RX0, "test", "(II)I"⟩
def dkwX0_test_7 : List UInt8 := [167, 0, 11, 42, 21, 7, 21, 6, 182, 0, 95, 172]
abbrev dktX0_test_7 : List UInt8 := dkwX0_test_7 ++ []
def dkwX0_test_6 : List UInt8 := [21, 7, 21, 10, 184, 0, 193, 54, 7, 132, 8, 1, 167, 255, 149, 21, 6, 16, 247, 160, 0, 8, 16, 247]
abbrev dktX0_test_6 : List UInt8 := dkwX0_test_6 ++ dktX0_test_7
def dkwX0_test_5 : List UInt8 := [21, 9, 100, 184, 0, 219, 54, 10, 21, 10, 21, 7, 162, 0, 8, 21, 8, 167, 0, 5, 21, 6, 54, 6]
abbrev dktX0_test_5 : List UInt8 := dkwX0_test_5 ++ dktX0_test_6
def dkwX0_test_4 : List UInt8 := [182, 1, 47, 153, 0, 7, 4, 167, 0, 4, 3, 96, 54, 9, 132, 10, 1, 167, 255, 210, 21, 9, 21, 5]
abbrev dktX0_test_4 : List UInt8 := dkwX0_test_4 ++ dktX0_test_5
def dkwX0_test_3 : List UInt8 := [21, 9, 21, 4, 21, 10, 184, 0, 204, 153, 0, 23, 42, 27, 21, 10, 21, 8, 42, 180, 0, 179]
abbrev dktX0_test_3 : List UInt8 := dkwX0_test_3 ++ dktX0_test_4
def dkwX0_test_2 : List UInt8 := [16, 100, 162, 0, 106, 21, 4, 153, 0, 101, 3, 54, 9, 3, 54, 10, 21, 10, 16, 6, 162, 0, 45]
abbrev dktX0_test_2 : List UInt8 := dkwX0_test_2 ++ dktX0_test_3
def dkwX0_test_1 : List UInt8 := [54, 4, 21, 4, 184, 1, 15, 54, 5, 16, 247, 54, 6, 19, 1, 32, 54, 7, 3, 54, 8, 21, 8]
abbrev dktX0_test_1 : List UInt8 := dkwX0_test_1 ++ dktX0_test_2
def dkwX0_test_0 : List UInt8 := [42, 27, 28, 182, 1, 36, 62, 29, 156, 0, 5, 29, 172, 42, 27, 42, 180, 0, 28, 28, 50, 182, 1, 43]
abbrev dktX0_test_0 : List UInt8 := dkwX0_test_0 ++ dktX0_test_1
theorem dksX0_test_0 : cX0_test.data.toList.drop 0 = dktX0_test_0 := by decide +kernel
theorem dksX0_test_1 : cX0_test.data.toList.drop 24 = dktX0_test_1 := dk_seg dksX0_test_0 24 rfl rfl
theorem dksX0_test_2 : cX0_test.data.toList.drop 47 = dktX0_test_2 := dk_seg dksX0_test_1 23 rfl rfl
theorem dksX0_test_3 : cX0_test.data.toList.drop 70 = dktX0_test_3 := dk_seg dksX0_test_2 23 rfl rfl
theorem dksX0_test_4 : cX0_test.data.toList.drop 92 = dktX0_test_4 := dk_seg dksX0_test_3 22 rfl rfl
theorem dksX0_test_5 : cX0_test.data.toList.drop 116 = dktX0_test_5 := dk_seg dksX0_test_4 24 rfl rfl
theorem dksX0_test_6 : cX0_test.data.toList.drop 140 = dktX0_test_6 := dk_seg dksX0_test_5 24 rfl rfl
theorem dksX0_test_7 : cX0_test.data.toList.drop 164 = dktX0_test_7 := dk_seg dksX0_test_6 24 rfl rfl
theorem dX0_test_0 : decode cX0_test 0 = .ok (.aload_n 0, 1) := dk_42 (dk_at dksX0_test_0 0 rfl rfl)
theorem dX0_test_1 : decode cX0_test 1 = .ok (.iload_n 1, 1) := dk_27 (dk_at dksX0_test_0 1 rfl rfl)
theorem dX0_test_2 : decode cX0_test 2 = .ok (.iload_n 2, 1) := dk_28 (dk_at dksX0_test_0 2 rfl rfl)
theorem dX0_test_3 : decode cX0_test 3 = .ok (.invokevirtual 292, 3) := dk_182 1 36 (dk_at dksX0_test_0 3 rfl rfl)
theorem dX0_test_6 : decode cX0_test 6 = .ok (.istore_n 3, 1) := dk_62 (dk_at dksX0_test_0 6 rfl rfl)
theorem dX0_test_7 : decode cX0_test 7 = .ok (.iload_n 3, 1) := dk_29 (dk_at dksX0_test_0 7 rfl rfl)
theorem dX0_test_8 : decode cX0_test 8 = .ok (.ifCond .ge 5, 3) := dk_156 0 5 (dk_at dksX0_test_0 8 rfl rfl)
theorem dX0_test_11 : decode cX0_test 11 = .ok (.iload_n 3, 1) := dk_29 (dk_at dksX0_test_0 11 rfl rfl)
theorem dX0_test_12 : decode cX0_test 12 = .ok (.ireturn, 1) := dk_172 (dk_at dksX0_test_0 12 rfl rfl)
theorem dX0_test_13 : decode cX0_test 13 = .ok (.aload_n 0, 1) := dk_42 (dk_at dksX0_test_0 13 rfl rfl)
theorem dX0_test_14 : decode cX0_test 14 = .ok (.iload_n 1, 1) := dk_27 (dk_at dksX0_test_0 14 rfl rfl)
theorem dX0_test_15 : decode cX0_test 15 = .ok (.aload_n 0, 1) := dk_42 (dk_at dksX0_test_0 15 rfl rfl)
theorem dX0_test_16 : decode cX0_test 16 = .ok (.getfield 28, 3) := dk_180 0 28 (dk_at dksX0_test_0 16 rfl rfl)
theorem dX0_test_19 : decode cX0_test 19 = .ok (.iload_n 2, 1) := dk_28 (dk_at dksX0_test_0 19 rfl rfl)
theorem dX0_test_20 : decode cX0_test 20 = .ok (.aaload, 1) := dk_50 (dk_at dksX0_test_0 20 rfl rfl)
theorem dX0_test_21 : decode cX0_test 21 = .ok (.invokevirtual 299, 3) := dk_182 1 43 (dk_at dksX0_test_0 21 rfl rfl)
theorem dX0_test_24 : decode cX0_test 24 = .ok (.istore 4, 2) := dk_54 4 (dk_at dksX0_test_1 0 rfl rfl)
theorem dX0_test_26 : decode cX0_test 26 = .ok (.iload 4, 2) := dk_21 4 (dk_at dksX0_test_1 2 rfl rfl)
theorem dX0_test_28 : decode cX0_test 28 = .ok (.invokestatic 271, 3) := dk_184 1 15 (dk_at dksX0_test_1 4 rfl rfl)
theorem dX0_test_31 : decode cX0_test 31 = .ok (.istore 5, 2) := dk_54 5 (dk_at dksX0_test_1 7 rfl rfl)
theorem dX0_test_33 : decode cX0_test 33 = .ok (.bipush (-9), 2) := dk_16 247 (dk_at dksX0_test_1 9 rfl rfl)
theorem dX0_test_35 : decode cX0_test 35 = .ok (.istore 6, 2) := dk_54 6 (dk_at dksX0_test_1 11 rfl rfl)
theorem dX0_test_37 : decode cX0_test 37 = .ok (.ldc_w 288, 3) := dk_19 1 32 (dk_at dksX0_test_1 13 rfl rfl)
theorem dX0_test_40 : decode cX0_test 40 = .ok (.istore 7, 2) := dk_54 7 (dk_at dksX0_test_1 16 rfl rfl)
theorem dX0_test_42 : decode cX0_test 42 = .ok (.iconst 0, 1) := dk_3 (dk_at dksX0_test_1 18 rfl rfl)
theorem dX0_test_43 : decode cX0_test 43 = .ok (.istore 8, 2) := dk_54 8 (dk_at dksX0_test_1 19 rfl rfl)
theorem dX0_test_45 : decode cX0_test 45 = .ok (.iload 8, 2) := dk_21 8 (dk_at dksX0_test_1 21 rfl rfl)
theorem dX0_test_47 : decode cX0_test 47 = .ok (.bipush 100, 2) := dk_16 100 (dk_at dksX0_test_2 0 rfl rfl)
theorem dX0_test_49 : decode cX0_test 49 = .ok (.if_icmp .ge 106, 3) := dk_162 0 106 (dk_at dksX0_test_2 2 rfl rfl)
theorem dX0_test_52 : decode cX0_test 52 = .ok (.iload 4, 2) := dk_21 4 (dk_at dksX0_test_2 5 rfl rfl)
theorem dX0_test_54 : decode cX0_test 54 = .ok (.ifCond .eq 101, 3) := dk_153 0 101 (dk_at dksX0_test_2 7 rfl rfl)
theorem dX0_test_57 : decode cX0_test 57 = .ok (.iconst 0, 1) := dk_3 (dk_at dksX0_test_2 10 rfl rfl)
theorem dX0_test_58 : decode cX0_test 58 = .ok (.istore 9, 2) := dk_54 9 (dk_at dksX0_test_2 11 rfl rfl)
theorem dX0_test_60 : decode cX0_test 60 = .ok (.iconst 0, 1) := dk_3 (dk_at dksX0_test_2 13 rfl rfl)
theorem dX0_test_61 : decode cX0_test 61 = .ok (.istore 10, 2) := dk_54 10 (dk_at dksX0_test_2 14 rfl rfl)
theorem dX0_test_63 : decode cX0_test 63 = .ok (.iload 10, 2) := dk_21 10 (dk_at dksX0_test_2 16 rfl rfl)
theorem dX0_test_65 : decode cX0_test 65 = .ok (.bipush 6, 2) := dk_16 6 (dk_at dksX0_test_2 18 rfl rfl)
theorem dX0_test_67 : decode cX0_test 67 = .ok (.if_icmp .ge 45, 3) := dk_162 0 45 (dk_at dksX0_test_2 20 rfl rfl)
theorem dX0_test_70 : decode cX0_test 70 = .ok (.iload 9, 2) := dk_21 9 (dk_at dksX0_test_3 0 rfl rfl)
theorem dX0_test_72 : decode cX0_test 72 = .ok (.iload 4, 2) := dk_21 4 (dk_at dksX0_test_3 2 rfl rfl)
theorem dX0_test_74 : decode cX0_test 74 = .ok (.iload 10, 2) := dk_21 10 (dk_at dksX0_test_3 4 rfl rfl)
theorem dX0_test_76 : decode cX0_test 76 = .ok (.invokestatic 204, 3) := dk_184 0 204 (dk_at dksX0_test_3 6 rfl rfl)
theorem dX0_test_79 : decode cX0_test 79 = .ok (.ifCond .eq 23, 3) := dk_153 0 23 (dk_at dksX0_test_3 9 rfl rfl)
theorem dX0_test_82 : decode cX0_test 82 = .ok (.aload_n 0, 1) := dk_42 (dk_at dksX0_test_3 12 rfl rfl)
theorem dX0_test_83 : decode cX0_test 83 = .ok (.iload_n 1, 1) := dk_27 (dk_at dksX0_test_3 13 rfl rfl)
theorem dX0_test_84 : decode cX0_test 84 = .ok (.iload 10, 2) := dk_21 10 (dk_at dksX0_test_3 14 rfl rfl)
theorem dX0_test_86 : decode cX0_test 86 = .ok (.iload 8, 2) := dk_21 8 (dk_at dksX0_test_3 16 rfl rfl)
theorem dX0_test_88 : decode cX0_test 88 = .ok (.aload_n 0, 1) := dk_42 (dk_at dksX0_test_3 18 rfl rfl)
theorem dX0_test_89 : decode cX0_test 89 = .ok (.getfield 179, 3) := dk_180 0 179 (dk_at dksX0_test_3 19 rfl rfl)
theorem dX0_test_92 : decode cX0_test 92 = .ok (.invokevirtual 303, 3) := dk_182 1 47 (dk_at dksX0_test_4 0 rfl rfl)
theorem dX0_test_95 : decode cX0_test 95 = .ok (.ifCond .eq 7, 3) := dk_153 0 7 (dk_at dksX0_test_4 3 rfl rfl)
theorem dX0_test_98 : decode cX0_test 98 = .ok (.iconst 1, 1) := dk_4 (dk_at dksX0_test_4 6 rfl rfl)
theorem dX0_test_99 : decode cX0_test 99 = .ok (.goto 4, 3) := dk_167 0 4 (dk_at dksX0_test_4 7 rfl rfl)
theorem dX0_test_102 : decode cX0_test 102 = .ok (.iconst 0, 1) := dk_3 (dk_at dksX0_test_4 10 rfl rfl)
theorem dX0_test_103 : decode cX0_test 103 = .ok (.iadd, 1) := dk_96 (dk_at dksX0_test_4 11 rfl rfl)
theorem dX0_test_104 : decode cX0_test 104 = .ok (.istore 9, 2) := dk_54 9 (dk_at dksX0_test_4 12 rfl rfl)
theorem dX0_test_106 : decode cX0_test 106 = .ok (.iinc 10 1, 3) := dk_132 10 1 (dk_at dksX0_test_4 14 rfl rfl)
theorem dX0_test_109 : decode cX0_test 109 = .ok (.goto (-46), 3) := dk_167 255 210 (dk_at dksX0_test_4 17 rfl rfl)
theorem dX0_test_112 : decode cX0_test 112 = .ok (.iload 9, 2) := dk_21 9 (dk_at dksX0_test_4 20 rfl rfl)
theorem dX0_test_114 : decode cX0_test 114 = .ok (.iload 5, 2) := dk_21 5 (dk_at dksX0_test_4 22 rfl rfl)
theorem dX0_test_116 : decode cX0_test 116 = .ok (.iload 9, 2) := dk_21 9 (dk_at dksX0_test_5 0 rfl rfl)
theorem dX0_test_118 : decode cX0_test 118 = .ok (.isub, 1) := dk_100 (dk_at dksX0_test_5 2 rfl rfl)
theorem dX0_test_119 : decode cX0_test 119 = .ok (.invokestatic 219, 3) := dk_184 0 219 (dk_at dksX0_test_5 3 rfl rfl)
theorem dX0_test_122 : decode cX0_test 122 = .ok (.istore 10, 2) := dk_54 10 (dk_at dksX0_test_5 6 rfl rfl)
theorem dX0_test_124 : decode cX0_test 124 = .ok (.iload 10, 2) := dk_21 10 (dk_at dksX0_test_5 8 rfl rfl)
theorem dX0_test_126 : decode cX0_test 126 = .ok (.iload 7, 2) := dk_21 7 (dk_at dksX0_test_5 10 rfl rfl)
theorem dX0_test_128 : decode cX0_test 128 = .ok (.if_icmp .ge 8, 3) := dk_162 0 8 (dk_at dksX0_test_5 12 rfl rfl)
theorem dX0_test_131 : decode cX0_test 131 = .ok (.iload 8, 2) := dk_21 8 (dk_at dksX0_test_5 15 rfl rfl)
theorem dX0_test_133 : decode cX0_test 133 = .ok (.goto 5, 3) := dk_167 0 5 (dk_at dksX0_test_5 17 rfl rfl)
theorem dX0_test_136 : decode cX0_test 136 = .ok (.iload 6, 2) := dk_21 6 (dk_at dksX0_test_5 20 rfl rfl)
theorem dX0_test_138 : decode cX0_test 138 = .ok (.istore 6, 2) := dk_54 6 (dk_at dksX0_test_5 22 rfl rfl)
theorem dX0_test_140 : decode cX0_test 140 = .ok (.iload 7, 2) := dk_21 7 (dk_at dksX0_test_6 0 rfl rfl)
theorem dX0_test_142 : decode cX0_test 142 = .ok (.iload 10, 2) := dk_21 10 (dk_at dksX0_test_6 2 rfl rfl)
theorem dX0_test_144 : decode cX0_test 144 = .ok (.invokestatic 193, 3) := dk_184 0 193 (dk_at dksX0_test_6 4 rfl rfl)
theorem dX0_test_147 : decode cX0_test 147 = .ok (.istore 7, 2) := dk_54 7 (dk_at dksX0_test_6 7 rfl rfl)
theorem dX0_test_149 : decode cX0_test 149 = .ok (.iinc 8 1, 3) := dk_132 8 1 (dk_at dksX0_test_6 9 rfl rfl)
theorem dX0_test_152 : decode cX0_test 152 = .ok (.goto (-107), 3) := dk_167 255 149 (dk_at dksX0_test_6 12 rfl rfl)
theorem dX0_test_155 : decode cX0_test 155 = .ok (.iload 6, 2) := dk_21 6 (dk_at dksX0_test_6 15 rfl rfl)
theorem dX0_test_157 : decode cX0_test 157 = .ok (.bipush (-9), 2) := dk_16 247 (dk_at dksX0_test_6 17 rfl rfl)
theorem dX0_test_159 : decode cX0_test 159 = .ok (.if_icmp .ne 8, 3) := dk_160 0 8 (dk_at dksX0_test_6 19 rfl rfl)
theorem dX0_test_162 : decode cX0_test 162 = .ok (.bipush (-9), 2) := dk_16 247 (dk_at dksX0_test_6 22 rfl rfl)
theorem dX0_test_164 : decode cX0_test 164 = .ok (.goto 11, 3) := dk_167 0 11 (dk_at dksX0_test_7 0 rfl rfl)
theorem dX0_test_167 : decode cX0_test 167 = .ok (.aload_n 0, 1) := dk_42 (dk_at dksX0_test_7 3 rfl rfl)
theorem dX0_test_168 : decode cX0_test 168 = .ok (.iload 7, 2) := dk_21 7 (dk_at dksX0_test_7 4 rfl rfl)
theorem dX0_test_170 : decode cX0_test 170 = .ok (.iload 6, 2) := dk_21 6 (dk_at dksX0_test_7 6 rfl rfl)
theorem dX0_test_172 : decode cX0_test 172 = .ok (.invokevirtual 95, 3) := dk_182 0 95 (dk_at dksX0_test_7 8 rfl rfl)
theorem dX0_test_175 : decode cX0_test 175 = .ok (.ireturn, 1) := dk_172 (dk_at dksX0_test_7 11 rfl rfl)
abbrev cX0_duel : ByteArray := prog_1_method_74_code
def yX0_duel : MethodName := ⟨RX0, "duel", "(I)I"⟩
def dkwX0_duel_1 : List UInt8 := [3, 27, 182, 1, 50, 172]
abbrev dktX0_duel_1 : List UInt8 := dkwX0_duel_1 ++ []
def dkwX0_duel_0 : List UInt8 := [27, 3, 7, 184, 0, 77, 154, 0, 5, 2, 172, 42, 180, 0, 169, 154, 0, 8, 16, 252, 167, 0, 9, 42]
abbrev dktX0_duel_0 : List UInt8 := dkwX0_duel_0 ++ dktX0_duel_1
theorem dksX0_duel_0 : cX0_duel.data.toList.drop 0 = dktX0_duel_0 := by decide +kernel
theorem dksX0_duel_1 : cX0_duel.data.toList.drop 24 = dktX0_duel_1 := dk_seg dksX0_duel_0 24 rfl rfl
theorem dX0_duel_0 : decode cX0_duel 0 = .ok (.iload_n 1, 1) := dk_27 (dk_at dksX0_duel_0 0 rfl rfl)
theorem dX0_duel_1 : decode cX0_duel 1 = .ok (.iconst 0, 1) := dk_3 (dk_at dksX0_duel_0 1 rfl rfl)
theorem dX0_duel_2 : decode cX0_duel 2 = .ok (.iconst 4, 1) := dk_7 (dk_at dksX0_duel_0 2 rfl rfl)
theorem dX0_duel_3 : decode cX0_duel 3 = .ok (.invokestatic 77, 3) := dk_184 0 77 (dk_at dksX0_duel_0 3 rfl rfl)
theorem dX0_duel_6 : decode cX0_duel 6 = .ok (.ifCond .ne 5, 3) := dk_154 0 5 (dk_at dksX0_duel_0 6 rfl rfl)
theorem dX0_duel_9 : decode cX0_duel 9 = .ok (.iconst (-1), 1) := dk_2 (dk_at dksX0_duel_0 9 rfl rfl)
theorem dX0_duel_10 : decode cX0_duel 10 = .ok (.ireturn, 1) := dk_172 (dk_at dksX0_duel_0 10 rfl rfl)
theorem dX0_duel_11 : decode cX0_duel 11 = .ok (.aload_n 0, 1) := dk_42 (dk_at dksX0_duel_0 11 rfl rfl)
theorem dX0_duel_12 : decode cX0_duel 12 = .ok (.getfield 169, 3) := dk_180 0 169 (dk_at dksX0_duel_0 12 rfl rfl)
theorem dX0_duel_15 : decode cX0_duel 15 = .ok (.ifCond .ne 8, 3) := dk_154 0 8 (dk_at dksX0_duel_0 15 rfl rfl)
theorem dX0_duel_18 : decode cX0_duel 18 = .ok (.bipush (-4), 2) := dk_16 252 (dk_at dksX0_duel_0 18 rfl rfl)
theorem dX0_duel_20 : decode cX0_duel 20 = .ok (.goto 9, 3) := dk_167 0 9 (dk_at dksX0_duel_0 20 rfl rfl)
theorem dX0_duel_23 : decode cX0_duel 23 = .ok (.aload_n 0, 1) := dk_42 (dk_at dksX0_duel_0 23 rfl rfl)
theorem dX0_duel_24 : decode cX0_duel 24 = .ok (.iconst 0, 1) := dk_3 (dk_at dksX0_duel_1 0 rfl rfl)
theorem dX0_duel_25 : decode cX0_duel 25 = .ok (.iload_n 1, 1) := dk_27 (dk_at dksX0_duel_1 1 rfl rfl)
theorem dX0_duel_26 : decode cX0_duel 26 = .ok (.invokevirtual 306, 3) := dk_182 1 50 (dk_at dksX0_duel_1 2 rfl rfl)
theorem dX0_duel_29 : decode cX0_duel 29 = .ok (.ireturn, 1) := dk_172 (dk_at dksX0_duel_1 5 rfl rfl)
abbrev cX0_duelOn : ByteArray := prog_1_method_73_code
def yX0_duelOn : MethodName := ⟨RX0, "duelOn", "(II)I"⟩
def dkwX0_duelOn_5 : List UInt8 := [132, 5, 1, 167, 255, 173, 29, 172]
abbrev dktX0_duelOn_5 : List UInt8 := dkwX0_duelOn_5 ++ []
def dkwX0_duelOn_4 : List UInt8 := [181, 0, 182, 21, 4, 153, 0, 12, 29, 21, 6, 184, 0, 193, 167, 0, 9, 29, 21, 6, 184, 0, 219, 62]
abbrev dktX0_duelOn_4 : List UInt8 := dkwX0_duelOn_4 ++ dktX0_duelOn_5
def dkwX0_duelOn_3 : List UInt8 := [181, 0, 182, 42, 27, 4, 96, 28, 182, 1, 50, 54, 6, 42, 89, 180, 0, 182, 4, 21, 5, 120, 130]
abbrev dktX0_duelOn_3 : List UInt8 := dkwX0_duelOn_3 ++ dktX0_duelOn_4
def dkwX0_duelOn_2 : List UInt8 := [180, 0, 182, 21, 5, 184, 0, 204, 21, 4, 160, 0, 60, 42, 89, 180, 0, 182, 4, 21, 5, 120, 130]
abbrev dktX0_duelOn_2 : List UInt8 := dkwX0_duelOn_2 ++ dktX0_duelOn_3
def dkwX0_duelOn_1 : List UInt8 := [112, 154, 0, 7, 4, 167, 0, 4, 3, 54, 4, 3, 54, 5, 21, 5, 42, 180, 0, 169, 162, 0, 80, 42]
abbrev dktX0_duelOn_1 : List UInt8 := dkwX0_duelOn_1 ++ dktX0_duelOn_2
def dkwX0_duelOn_0 : List UInt8 := [27, 28, 160, 0, 11, 42, 182, 1, 12, 184, 1, 15, 172, 42, 27, 4, 96, 28, 182, 1, 50, 62, 27, 5]
abbrev dktX0_duelOn_0 : List UInt8 := dkwX0_duelOn_0 ++ dktX0_duelOn_1
theorem dksX0_duelOn_0 : cX0_duelOn.data.toList.drop 0 = dktX0_duelOn_0 := by decide +kernel
theorem dksX0_duelOn_1 : cX0_duelOn.data.toList.drop 24 = dktX0_duelOn_1 := dk_seg dksX0_duelOn_0 24 rfl rfl
theorem dksX0_duelOn_2 : cX0_duelOn.data.toList.drop 48 = dktX0_duelOn_2 := dk_seg dksX0_duelOn_1 24 rfl rfl
theorem dksX0_duelOn_3 : cX0_duelOn.data.toList.drop 71 = dktX0_duelOn_3 := dk_seg dksX0_duelOn_2 23 rfl rfl
theorem dksX0_duelOn_4 : cX0_duelOn.data.toList.drop 94 = dktX0_duelOn_4 := dk_seg dksX0_duelOn_3 23 rfl rfl
theorem dksX0_duelOn_5 : cX0_duelOn.data.toList.drop 118 = dktX0_duelOn_5 := dk_seg dksX0_duelOn_4 24 rfl rfl
theorem dX0_duelOn_0 : decode cX0_duelOn 0 = .ok (.iload_n 1, 1) := dk_27 (dk_at dksX0_duelOn_0 0 rfl rfl)
theorem dX0_duelOn_1 : decode cX0_duelOn 1 = .ok (.iload_n 2, 1) := dk_28 (dk_at dksX0_duelOn_0 1 rfl rfl)
theorem dX0_duelOn_2 : decode cX0_duelOn 2 = .ok (.if_icmp .ne 11, 3) := dk_160 0 11 (dk_at dksX0_duelOn_0 2 rfl rfl)
theorem dX0_duelOn_5 : decode cX0_duelOn 5 = .ok (.aload_n 0, 1) := dk_42 (dk_at dksX0_duelOn_0 5 rfl rfl)
theorem dX0_duelOn_6 : decode cX0_duelOn 6 = .ok (.invokevirtual 268, 3) := dk_182 1 12 (dk_at dksX0_duelOn_0 6 rfl rfl)
theorem dX0_duelOn_9 : decode cX0_duelOn 9 = .ok (.invokestatic 271, 3) := dk_184 1 15 (dk_at dksX0_duelOn_0 9 rfl rfl)
theorem dX0_duelOn_12 : decode cX0_duelOn 12 = .ok (.ireturn, 1) := dk_172 (dk_at dksX0_duelOn_0 12 rfl rfl)
theorem dX0_duelOn_13 : decode cX0_duelOn 13 = .ok (.aload_n 0, 1) := dk_42 (dk_at dksX0_duelOn_0 13 rfl rfl)
theorem dX0_duelOn_14 : decode cX0_duelOn 14 = .ok (.iload_n 1, 1) := dk_27 (dk_at dksX0_duelOn_0 14 rfl rfl)
theorem dX0_duelOn_15 : decode cX0_duelOn 15 = .ok (.iconst 1, 1) := dk_4 (dk_at dksX0_duelOn_0 15 rfl rfl)
theorem dX0_duelOn_16 : decode cX0_duelOn 16 = .ok (.iadd, 1) := dk_96 (dk_at dksX0_duelOn_0 16 rfl rfl)
theorem dX0_duelOn_17 : decode cX0_duelOn 17 = .ok (.iload_n 2, 1) := dk_28 (dk_at dksX0_duelOn_0 17 rfl rfl)
theorem dX0_duelOn_18 : decode cX0_duelOn 18 = .ok (.invokevirtual 306, 3) := dk_182 1 50 (dk_at dksX0_duelOn_0 18 rfl rfl)
theorem dX0_duelOn_21 : decode cX0_duelOn 21 = .ok (.istore_n 3, 1) := dk_62 (dk_at dksX0_duelOn_0 21 rfl rfl)
theorem dX0_duelOn_22 : decode cX0_duelOn 22 = .ok (.iload_n 1, 1) := dk_27 (dk_at dksX0_duelOn_0 22 rfl rfl)
theorem dX0_duelOn_23 : decode cX0_duelOn 23 = .ok (.iconst 2, 1) := dk_5 (dk_at dksX0_duelOn_0 23 rfl rfl)
theorem dX0_duelOn_24 : decode cX0_duelOn 24 = .ok (.irem, 1) := dk_112 (dk_at dksX0_duelOn_1 0 rfl rfl)
theorem dX0_duelOn_25 : decode cX0_duelOn 25 = .ok (.ifCond .ne 7, 3) := dk_154 0 7 (dk_at dksX0_duelOn_1 1 rfl rfl)
theorem dX0_duelOn_28 : decode cX0_duelOn 28 = .ok (.iconst 1, 1) := dk_4 (dk_at dksX0_duelOn_1 4 rfl rfl)
theorem dX0_duelOn_29 : decode cX0_duelOn 29 = .ok (.goto 4, 3) := dk_167 0 4 (dk_at dksX0_duelOn_1 5 rfl rfl)
theorem dX0_duelOn_32 : decode cX0_duelOn 32 = .ok (.iconst 0, 1) := dk_3 (dk_at dksX0_duelOn_1 8 rfl rfl)
theorem dX0_duelOn_33 : decode cX0_duelOn 33 = .ok (.istore 4, 2) := dk_54 4 (dk_at dksX0_duelOn_1 9 rfl rfl)
theorem dX0_duelOn_35 : decode cX0_duelOn 35 = .ok (.iconst 0, 1) := dk_3 (dk_at dksX0_duelOn_1 11 rfl rfl)
theorem dX0_duelOn_36 : decode cX0_duelOn 36 = .ok (.istore 5, 2) := dk_54 5 (dk_at dksX0_duelOn_1 12 rfl rfl)
theorem dX0_duelOn_38 : decode cX0_duelOn 38 = .ok (.iload 5, 2) := dk_21 5 (dk_at dksX0_duelOn_1 14 rfl rfl)
theorem dX0_duelOn_40 : decode cX0_duelOn 40 = .ok (.aload_n 0, 1) := dk_42 (dk_at dksX0_duelOn_1 16 rfl rfl)
theorem dX0_duelOn_41 : decode cX0_duelOn 41 = .ok (.getfield 169, 3) := dk_180 0 169 (dk_at dksX0_duelOn_1 17 rfl rfl)
theorem dX0_duelOn_44 : decode cX0_duelOn 44 = .ok (.if_icmp .ge 80, 3) := dk_162 0 80 (dk_at dksX0_duelOn_1 20 rfl rfl)
theorem dX0_duelOn_47 : decode cX0_duelOn 47 = .ok (.aload_n 0, 1) := dk_42 (dk_at dksX0_duelOn_1 23 rfl rfl)
theorem dX0_duelOn_48 : decode cX0_duelOn 48 = .ok (.getfield 182, 3) := dk_180 0 182 (dk_at dksX0_duelOn_2 0 rfl rfl)
theorem dX0_duelOn_51 : decode cX0_duelOn 51 = .ok (.iload 5, 2) := dk_21 5 (dk_at dksX0_duelOn_2 3 rfl rfl)
theorem dX0_duelOn_53 : decode cX0_duelOn 53 = .ok (.invokestatic 204, 3) := dk_184 0 204 (dk_at dksX0_duelOn_2 5 rfl rfl)
theorem dX0_duelOn_56 : decode cX0_duelOn 56 = .ok (.iload 4, 2) := dk_21 4 (dk_at dksX0_duelOn_2 8 rfl rfl)
theorem dX0_duelOn_58 : decode cX0_duelOn 58 = .ok (.if_icmp .ne 60, 3) := dk_160 0 60 (dk_at dksX0_duelOn_2 10 rfl rfl)
theorem dX0_duelOn_61 : decode cX0_duelOn 61 = .ok (.aload_n 0, 1) := dk_42 (dk_at dksX0_duelOn_2 13 rfl rfl)
theorem dX0_duelOn_62 : decode cX0_duelOn 62 = .ok (.dup, 1) := dk_89 (dk_at dksX0_duelOn_2 14 rfl rfl)
theorem dX0_duelOn_63 : decode cX0_duelOn 63 = .ok (.getfield 182, 3) := dk_180 0 182 (dk_at dksX0_duelOn_2 15 rfl rfl)
theorem dX0_duelOn_66 : decode cX0_duelOn 66 = .ok (.iconst 1, 1) := dk_4 (dk_at dksX0_duelOn_2 18 rfl rfl)
theorem dX0_duelOn_67 : decode cX0_duelOn 67 = .ok (.iload 5, 2) := dk_21 5 (dk_at dksX0_duelOn_2 19 rfl rfl)
theorem dX0_duelOn_69 : decode cX0_duelOn 69 = .ok (.ishl, 1) := dk_120 (dk_at dksX0_duelOn_2 21 rfl rfl)
theorem dX0_duelOn_70 : decode cX0_duelOn 70 = .ok (.ixor, 1) := dk_130 (dk_at dksX0_duelOn_2 22 rfl rfl)
theorem dX0_duelOn_71 : decode cX0_duelOn 71 = .ok (.putfield 182, 3) := dk_181 0 182 (dk_at dksX0_duelOn_3 0 rfl rfl)
theorem dX0_duelOn_74 : decode cX0_duelOn 74 = .ok (.aload_n 0, 1) := dk_42 (dk_at dksX0_duelOn_3 3 rfl rfl)
theorem dX0_duelOn_75 : decode cX0_duelOn 75 = .ok (.iload_n 1, 1) := dk_27 (dk_at dksX0_duelOn_3 4 rfl rfl)
theorem dX0_duelOn_76 : decode cX0_duelOn 76 = .ok (.iconst 1, 1) := dk_4 (dk_at dksX0_duelOn_3 5 rfl rfl)
theorem dX0_duelOn_77 : decode cX0_duelOn 77 = .ok (.iadd, 1) := dk_96 (dk_at dksX0_duelOn_3 6 rfl rfl)
theorem dX0_duelOn_78 : decode cX0_duelOn 78 = .ok (.iload_n 2, 1) := dk_28 (dk_at dksX0_duelOn_3 7 rfl rfl)
theorem dX0_duelOn_79 : decode cX0_duelOn 79 = .ok (.invokevirtual 306, 3) := dk_182 1 50 (dk_at dksX0_duelOn_3 8 rfl rfl)
theorem dX0_duelOn_82 : decode cX0_duelOn 82 = .ok (.istore 6, 2) := dk_54 6 (dk_at dksX0_duelOn_3 11 rfl rfl)
theorem dX0_duelOn_84 : decode cX0_duelOn 84 = .ok (.aload_n 0, 1) := dk_42 (dk_at dksX0_duelOn_3 13 rfl rfl)
theorem dX0_duelOn_85 : decode cX0_duelOn 85 = .ok (.dup, 1) := dk_89 (dk_at dksX0_duelOn_3 14 rfl rfl)
theorem dX0_duelOn_86 : decode cX0_duelOn 86 = .ok (.getfield 182, 3) := dk_180 0 182 (dk_at dksX0_duelOn_3 15 rfl rfl)
theorem dX0_duelOn_89 : decode cX0_duelOn 89 = .ok (.iconst 1, 1) := dk_4 (dk_at dksX0_duelOn_3 18 rfl rfl)
theorem dX0_duelOn_90 : decode cX0_duelOn 90 = .ok (.iload 5, 2) := dk_21 5 (dk_at dksX0_duelOn_3 19 rfl rfl)
theorem dX0_duelOn_92 : decode cX0_duelOn 92 = .ok (.ishl, 1) := dk_120 (dk_at dksX0_duelOn_3 21 rfl rfl)
theorem dX0_duelOn_93 : decode cX0_duelOn 93 = .ok (.ixor, 1) := dk_130 (dk_at dksX0_duelOn_3 22 rfl rfl)
theorem dX0_duelOn_94 : decode cX0_duelOn 94 = .ok (.putfield 182, 3) := dk_181 0 182 (dk_at dksX0_duelOn_4 0 rfl rfl)
theorem dX0_duelOn_97 : decode cX0_duelOn 97 = .ok (.iload 4, 2) := dk_21 4 (dk_at dksX0_duelOn_4 3 rfl rfl)
theorem dX0_duelOn_99 : decode cX0_duelOn 99 = .ok (.ifCond .eq 12, 3) := dk_153 0 12 (dk_at dksX0_duelOn_4 5 rfl rfl)
theorem dX0_duelOn_102 : decode cX0_duelOn 102 = .ok (.iload_n 3, 1) := dk_29 (dk_at dksX0_duelOn_4 8 rfl rfl)
theorem dX0_duelOn_103 : decode cX0_duelOn 103 = .ok (.iload 6, 2) := dk_21 6 (dk_at dksX0_duelOn_4 9 rfl rfl)
theorem dX0_duelOn_105 : decode cX0_duelOn 105 = .ok (.invokestatic 193, 3) := dk_184 0 193 (dk_at dksX0_duelOn_4 11 rfl rfl)
theorem dX0_duelOn_108 : decode cX0_duelOn 108 = .ok (.goto 9, 3) := dk_167 0 9 (dk_at dksX0_duelOn_4 14 rfl rfl)
theorem dX0_duelOn_111 : decode cX0_duelOn 111 = .ok (.iload_n 3, 1) := dk_29 (dk_at dksX0_duelOn_4 17 rfl rfl)
theorem dX0_duelOn_112 : decode cX0_duelOn 112 = .ok (.iload 6, 2) := dk_21 6 (dk_at dksX0_duelOn_4 18 rfl rfl)
theorem dX0_duelOn_114 : decode cX0_duelOn 114 = .ok (.invokestatic 219, 3) := dk_184 0 219 (dk_at dksX0_duelOn_4 20 rfl rfl)
theorem dX0_duelOn_117 : decode cX0_duelOn 117 = .ok (.istore_n 3, 1) := dk_62 (dk_at dksX0_duelOn_4 23 rfl rfl)
theorem dX0_duelOn_118 : decode cX0_duelOn 118 = .ok (.iinc 5 1, 3) := dk_132 5 1 (dk_at dksX0_duelOn_5 0 rfl rfl)
theorem dX0_duelOn_121 : decode cX0_duelOn 121 = .ok (.goto (-83), 3) := dk_167 255 173 (dk_at dksX0_duelOn_5 3 rfl rfl)
theorem dX0_duelOn_124 : decode cX0_duelOn 124 = .ok (.iload_n 3, 1) := dk_29 (dk_at dksX0_duelOn_5 6 rfl rfl)
theorem dX0_duelOn_125 : decode cX0_duelOn 125 = .ok (.ireturn, 1) := dk_172 (dk_at dksX0_duelOn_5 7 rfl rfl)
abbrev cX0_odds : ByteArray := prog_1_method_76_code
def yX0_odds : MethodName := ⟨RX0, "odds", "(II)I"⟩
def dkwX0_odds_1 : List UInt8 := [182, 1, 59, 167, 0, 4, 2, 172]
abbrev dktX0_odds_1 : List UInt8 := dkwX0_odds_1 ++ []
def dkwX0_odds_0 : List UInt8 := [42, 27, 182, 0, 234, 153, 0, 24, 28, 3, 16, 12, 184, 0, 77, 153, 0, 14, 42, 4, 27, 120, 28]
abbrev dktX0_odds_0 : List UInt8 := dkwX0_odds_0 ++ dktX0_odds_1
theorem dksX0_odds_0 : cX0_odds.data.toList.drop 0 = dktX0_odds_0 := by decide +kernel
theorem dksX0_odds_1 : cX0_odds.data.toList.drop 23 = dktX0_odds_1 := dk_seg dksX0_odds_0 23 rfl rfl
theorem dX0_odds_0 : decode cX0_odds 0 = .ok (.aload_n 0, 1) := dk_42 (dk_at dksX0_odds_0 0 rfl rfl)
theorem dX0_odds_1 : decode cX0_odds 1 = .ok (.iload_n 1, 1) := dk_27 (dk_at dksX0_odds_0 1 rfl rfl)
theorem dX0_odds_2 : decode cX0_odds 2 = .ok (.invokevirtual 234, 3) := dk_182 0 234 (dk_at dksX0_odds_0 2 rfl rfl)
theorem dX0_odds_5 : decode cX0_odds 5 = .ok (.ifCond .eq 24, 3) := dk_153 0 24 (dk_at dksX0_odds_0 5 rfl rfl)
theorem dX0_odds_8 : decode cX0_odds 8 = .ok (.iload_n 2, 1) := dk_28 (dk_at dksX0_odds_0 8 rfl rfl)
theorem dX0_odds_9 : decode cX0_odds 9 = .ok (.iconst 0, 1) := dk_3 (dk_at dksX0_odds_0 9 rfl rfl)
theorem dX0_odds_10 : decode cX0_odds 10 = .ok (.bipush 12, 2) := dk_16 12 (dk_at dksX0_odds_0 10 rfl rfl)
theorem dX0_odds_12 : decode cX0_odds 12 = .ok (.invokestatic 77, 3) := dk_184 0 77 (dk_at dksX0_odds_0 12 rfl rfl)
theorem dX0_odds_15 : decode cX0_odds 15 = .ok (.ifCond .eq 14, 3) := dk_153 0 14 (dk_at dksX0_odds_0 15 rfl rfl)
theorem dX0_odds_18 : decode cX0_odds 18 = .ok (.aload_n 0, 1) := dk_42 (dk_at dksX0_odds_0 18 rfl rfl)
theorem dX0_odds_19 : decode cX0_odds 19 = .ok (.iconst 1, 1) := dk_4 (dk_at dksX0_odds_0 19 rfl rfl)
theorem dX0_odds_20 : decode cX0_odds 20 = .ok (.iload_n 1, 1) := dk_27 (dk_at dksX0_odds_0 20 rfl rfl)
theorem dX0_odds_21 : decode cX0_odds 21 = .ok (.ishl, 1) := dk_120 (dk_at dksX0_odds_0 21 rfl rfl)
theorem dX0_odds_22 : decode cX0_odds 22 = .ok (.iload_n 2, 1) := dk_28 (dk_at dksX0_odds_0 22 rfl rfl)
theorem dX0_odds_23 : decode cX0_odds 23 = .ok (.invokevirtual 315, 3) := dk_182 1 59 (dk_at dksX0_odds_1 0 rfl rfl)
theorem dX0_odds_26 : decode cX0_odds 26 = .ok (.goto 4, 3) := dk_167 0 4 (dk_at dksX0_odds_1 3 rfl rfl)
theorem dX0_odds_29 : decode cX0_odds 29 = .ok (.iconst (-1), 1) := dk_2 (dk_at dksX0_odds_1 6 rfl rfl)
theorem dX0_odds_30 : decode cX0_odds 30 = .ok (.ireturn, 1) := dk_172 (dk_at dksX0_odds_1 7 rfl rfl)
abbrev cX0_sumsBy : ByteArray := prog_1_method_75_code
def yX0_sumsBy : MethodName := ⟨RX0, "sumsBy", "(II)I"⟩
def dkwX0_sumsBy_7 : List UInt8 := [22, 6, 182, 1, 55, 172]
abbrev dktX0_sumsBy_7 : List UInt8 := dkwX0_sumsBy_7 ++ []
def dkwX0_sumsBy_6 : List UInt8 := [167, 255, 206, 22, 4, 22, 9, 97, 55, 4, 132, 8, 1, 167, 255, 157, 42, 29, 181, 0, 182, 42, 22, 4]
abbrev dktX0_sumsBy_6 : List UInt8 := dkwX0_sumsBy_6 ++ dktX0_sumsBy_7
def dkwX0_sumsBy_5 : List UInt8 := [184, 0, 204, 153, 0, 11, 16, 12, 28, 100, 133, 167, 0, 5, 28, 133, 105, 55, 9, 132, 11, 1]
abbrev dktX0_sumsBy_5 : List UInt8 := dkwX0_sumsBy_5 ++ dktX0_sumsBy_6
def dkwX0_sumsBy_4 : List UInt8 := [162, 0, 47, 22, 9, 29, 21, 11, 184, 0, 204, 154, 0, 7, 10, 167, 0, 23, 21, 8, 21, 11]
abbrev dktX0_sumsBy_4 : List UInt8 := dkwX0_sumsBy_4 ++ dktX0_sumsBy_5
def dkwX0_sumsBy_3 : List UInt8 := [181, 0, 182, 42, 182, 1, 12, 27, 126, 184, 1, 15, 133, 55, 9, 3, 54, 11, 21, 11, 42, 180, 0, 169]
abbrev dktX0_sumsBy_3 : List UInt8 := dkwX0_sumsBy_3 ++ dktX0_sumsBy_4
def dkwX0_sumsBy_2 : List UInt8 := [167, 255, 223, 3, 54, 8, 21, 8, 29, 163, 0, 99, 21, 8, 29, 2, 130, 126, 154, 0, 84, 42, 21, 8]
abbrev dktX0_sumsBy_2 : List UInt8 := dkwX0_sumsBy_2 ++ dktX0_sumsBy_3
def dkwX0_sumsBy_1 : List UInt8 := [22, 6, 29, 21, 8, 184, 0, 204, 153, 0, 9, 20, 1, 53, 167, 0, 4, 10, 105, 55, 6, 132, 8, 1]
abbrev dktX0_sumsBy_1 : List UInt8 := dkwX0_sumsBy_1 ++ dktX0_sumsBy_2
def dkwX0_sumsBy_0 : List UInt8 := [42, 180, 0, 182, 62, 9, 55, 4, 10, 55, 6, 3, 54, 8, 21, 8, 42, 180, 0, 169, 162, 0, 30]
abbrev dktX0_sumsBy_0 : List UInt8 := dkwX0_sumsBy_0 ++ dktX0_sumsBy_1
theorem dksX0_sumsBy_0 : cX0_sumsBy.data.toList.drop 0 = dktX0_sumsBy_0 := by decide +kernel
theorem dksX0_sumsBy_1 : cX0_sumsBy.data.toList.drop 23 = dktX0_sumsBy_1 := dk_seg dksX0_sumsBy_0 23 rfl rfl
theorem dksX0_sumsBy_2 : cX0_sumsBy.data.toList.drop 47 = dktX0_sumsBy_2 := dk_seg dksX0_sumsBy_1 24 rfl rfl
theorem dksX0_sumsBy_3 : cX0_sumsBy.data.toList.drop 71 = dktX0_sumsBy_3 := dk_seg dksX0_sumsBy_2 24 rfl rfl
theorem dksX0_sumsBy_4 : cX0_sumsBy.data.toList.drop 95 = dktX0_sumsBy_4 := dk_seg dksX0_sumsBy_3 24 rfl rfl
theorem dksX0_sumsBy_5 : cX0_sumsBy.data.toList.drop 117 = dktX0_sumsBy_5 := dk_seg dksX0_sumsBy_4 22 rfl rfl
theorem dksX0_sumsBy_6 : cX0_sumsBy.data.toList.drop 139 = dktX0_sumsBy_6 := dk_seg dksX0_sumsBy_5 22 rfl rfl
theorem dksX0_sumsBy_7 : cX0_sumsBy.data.toList.drop 163 = dktX0_sumsBy_7 := dk_seg dksX0_sumsBy_6 24 rfl rfl
theorem dX0_sumsBy_0 : decode cX0_sumsBy 0 = .ok (.aload_n 0, 1) := dk_42 (dk_at dksX0_sumsBy_0 0 rfl rfl)
theorem dX0_sumsBy_1 : decode cX0_sumsBy 1 = .ok (.getfield 182, 3) := dk_180 0 182 (dk_at dksX0_sumsBy_0 1 rfl rfl)
theorem dX0_sumsBy_4 : decode cX0_sumsBy 4 = .ok (.istore_n 3, 1) := dk_62 (dk_at dksX0_sumsBy_0 4 rfl rfl)
theorem dX0_sumsBy_5 : decode cX0_sumsBy 5 = .ok (.lconst 0, 1) := dk_9 (dk_at dksX0_sumsBy_0 5 rfl rfl)
theorem dX0_sumsBy_6 : decode cX0_sumsBy 6 = .ok (.lstore 4, 2) := dk_55 4 (dk_at dksX0_sumsBy_0 6 rfl rfl)
theorem dX0_sumsBy_8 : decode cX0_sumsBy 8 = .ok (.lconst 1, 1) := dk_10 (dk_at dksX0_sumsBy_0 8 rfl rfl)
theorem dX0_sumsBy_9 : decode cX0_sumsBy 9 = .ok (.lstore 6, 2) := dk_55 6 (dk_at dksX0_sumsBy_0 9 rfl rfl)
theorem dX0_sumsBy_11 : decode cX0_sumsBy 11 = .ok (.iconst 0, 1) := dk_3 (dk_at dksX0_sumsBy_0 11 rfl rfl)
theorem dX0_sumsBy_12 : decode cX0_sumsBy 12 = .ok (.istore 8, 2) := dk_54 8 (dk_at dksX0_sumsBy_0 12 rfl rfl)
theorem dX0_sumsBy_14 : decode cX0_sumsBy 14 = .ok (.iload 8, 2) := dk_21 8 (dk_at dksX0_sumsBy_0 14 rfl rfl)
theorem dX0_sumsBy_16 : decode cX0_sumsBy 16 = .ok (.aload_n 0, 1) := dk_42 (dk_at dksX0_sumsBy_0 16 rfl rfl)
theorem dX0_sumsBy_17 : decode cX0_sumsBy 17 = .ok (.getfield 169, 3) := dk_180 0 169 (dk_at dksX0_sumsBy_0 17 rfl rfl)
theorem dX0_sumsBy_20 : decode cX0_sumsBy 20 = .ok (.if_icmp .ge 30, 3) := dk_162 0 30 (dk_at dksX0_sumsBy_0 20 rfl rfl)
theorem dX0_sumsBy_23 : decode cX0_sumsBy 23 = .ok (.lload 6, 2) := dk_22 6 (dk_at dksX0_sumsBy_1 0 rfl rfl)
theorem dX0_sumsBy_25 : decode cX0_sumsBy 25 = .ok (.iload_n 3, 1) := dk_29 (dk_at dksX0_sumsBy_1 2 rfl rfl)
theorem dX0_sumsBy_26 : decode cX0_sumsBy 26 = .ok (.iload 8, 2) := dk_21 8 (dk_at dksX0_sumsBy_1 3 rfl rfl)
theorem dX0_sumsBy_28 : decode cX0_sumsBy 28 = .ok (.invokestatic 204, 3) := dk_184 0 204 (dk_at dksX0_sumsBy_1 5 rfl rfl)
theorem dX0_sumsBy_31 : decode cX0_sumsBy 31 = .ok (.ifCond .eq 9, 3) := dk_153 0 9 (dk_at dksX0_sumsBy_1 8 rfl rfl)
theorem dX0_sumsBy_34 : decode cX0_sumsBy 34 = .ok (.ldc2_w 309, 3) := dk_20 1 53 (dk_at dksX0_sumsBy_1 11 rfl rfl)
theorem dX0_sumsBy_37 : decode cX0_sumsBy 37 = .ok (.goto 4, 3) := dk_167 0 4 (dk_at dksX0_sumsBy_1 14 rfl rfl)
theorem dX0_sumsBy_40 : decode cX0_sumsBy 40 = .ok (.lconst 1, 1) := dk_10 (dk_at dksX0_sumsBy_1 17 rfl rfl)
theorem dX0_sumsBy_41 : decode cX0_sumsBy 41 = .ok (.lmul, 1) := dk_105 (dk_at dksX0_sumsBy_1 18 rfl rfl)
theorem dX0_sumsBy_42 : decode cX0_sumsBy 42 = .ok (.lstore 6, 2) := dk_55 6 (dk_at dksX0_sumsBy_1 19 rfl rfl)
theorem dX0_sumsBy_44 : decode cX0_sumsBy 44 = .ok (.iinc 8 1, 3) := dk_132 8 1 (dk_at dksX0_sumsBy_1 21 rfl rfl)
theorem dX0_sumsBy_47 : decode cX0_sumsBy 47 = .ok (.goto (-33), 3) := dk_167 255 223 (dk_at dksX0_sumsBy_2 0 rfl rfl)
theorem dX0_sumsBy_50 : decode cX0_sumsBy 50 = .ok (.iconst 0, 1) := dk_3 (dk_at dksX0_sumsBy_2 3 rfl rfl)
theorem dX0_sumsBy_51 : decode cX0_sumsBy 51 = .ok (.istore 8, 2) := dk_54 8 (dk_at dksX0_sumsBy_2 4 rfl rfl)
theorem dX0_sumsBy_53 : decode cX0_sumsBy 53 = .ok (.iload 8, 2) := dk_21 8 (dk_at dksX0_sumsBy_2 6 rfl rfl)
theorem dX0_sumsBy_55 : decode cX0_sumsBy 55 = .ok (.iload_n 3, 1) := dk_29 (dk_at dksX0_sumsBy_2 8 rfl rfl)
theorem dX0_sumsBy_56 : decode cX0_sumsBy 56 = .ok (.if_icmp .gt 99, 3) := dk_163 0 99 (dk_at dksX0_sumsBy_2 9 rfl rfl)
theorem dX0_sumsBy_59 : decode cX0_sumsBy 59 = .ok (.iload 8, 2) := dk_21 8 (dk_at dksX0_sumsBy_2 12 rfl rfl)
theorem dX0_sumsBy_61 : decode cX0_sumsBy 61 = .ok (.iload_n 3, 1) := dk_29 (dk_at dksX0_sumsBy_2 14 rfl rfl)
theorem dX0_sumsBy_62 : decode cX0_sumsBy 62 = .ok (.iconst (-1), 1) := dk_2 (dk_at dksX0_sumsBy_2 15 rfl rfl)
theorem dX0_sumsBy_63 : decode cX0_sumsBy 63 = .ok (.ixor, 1) := dk_130 (dk_at dksX0_sumsBy_2 16 rfl rfl)
theorem dX0_sumsBy_64 : decode cX0_sumsBy 64 = .ok (.iand, 1) := dk_126 (dk_at dksX0_sumsBy_2 17 rfl rfl)
theorem dX0_sumsBy_65 : decode cX0_sumsBy 65 = .ok (.ifCond .ne 84, 3) := dk_154 0 84 (dk_at dksX0_sumsBy_2 18 rfl rfl)
theorem dX0_sumsBy_68 : decode cX0_sumsBy 68 = .ok (.aload_n 0, 1) := dk_42 (dk_at dksX0_sumsBy_2 21 rfl rfl)
theorem dX0_sumsBy_69 : decode cX0_sumsBy 69 = .ok (.iload 8, 2) := dk_21 8 (dk_at dksX0_sumsBy_2 22 rfl rfl)
theorem dX0_sumsBy_71 : decode cX0_sumsBy 71 = .ok (.putfield 182, 3) := dk_181 0 182 (dk_at dksX0_sumsBy_3 0 rfl rfl)
theorem dX0_sumsBy_74 : decode cX0_sumsBy 74 = .ok (.aload_n 0, 1) := dk_42 (dk_at dksX0_sumsBy_3 3 rfl rfl)
theorem dX0_sumsBy_75 : decode cX0_sumsBy 75 = .ok (.invokevirtual 268, 3) := dk_182 1 12 (dk_at dksX0_sumsBy_3 4 rfl rfl)
theorem dX0_sumsBy_78 : decode cX0_sumsBy 78 = .ok (.iload_n 1, 1) := dk_27 (dk_at dksX0_sumsBy_3 7 rfl rfl)
theorem dX0_sumsBy_79 : decode cX0_sumsBy 79 = .ok (.iand, 1) := dk_126 (dk_at dksX0_sumsBy_3 8 rfl rfl)
theorem dX0_sumsBy_80 : decode cX0_sumsBy 80 = .ok (.invokestatic 271, 3) := dk_184 1 15 (dk_at dksX0_sumsBy_3 9 rfl rfl)
theorem dX0_sumsBy_83 : decode cX0_sumsBy 83 = .ok (.i2l, 1) := dk_133 (dk_at dksX0_sumsBy_3 12 rfl rfl)
theorem dX0_sumsBy_84 : decode cX0_sumsBy 84 = .ok (.lstore 9, 2) := dk_55 9 (dk_at dksX0_sumsBy_3 13 rfl rfl)
theorem dX0_sumsBy_86 : decode cX0_sumsBy 86 = .ok (.iconst 0, 1) := dk_3 (dk_at dksX0_sumsBy_3 15 rfl rfl)
theorem dX0_sumsBy_87 : decode cX0_sumsBy 87 = .ok (.istore 11, 2) := dk_54 11 (dk_at dksX0_sumsBy_3 16 rfl rfl)
theorem dX0_sumsBy_89 : decode cX0_sumsBy 89 = .ok (.iload 11, 2) := dk_21 11 (dk_at dksX0_sumsBy_3 18 rfl rfl)
theorem dX0_sumsBy_91 : decode cX0_sumsBy 91 = .ok (.aload_n 0, 1) := dk_42 (dk_at dksX0_sumsBy_3 20 rfl rfl)
theorem dX0_sumsBy_92 : decode cX0_sumsBy 92 = .ok (.getfield 169, 3) := dk_180 0 169 (dk_at dksX0_sumsBy_3 21 rfl rfl)
theorem dX0_sumsBy_95 : decode cX0_sumsBy 95 = .ok (.if_icmp .ge 47, 3) := dk_162 0 47 (dk_at dksX0_sumsBy_4 0 rfl rfl)
theorem dX0_sumsBy_98 : decode cX0_sumsBy 98 = .ok (.lload 9, 2) := dk_22 9 (dk_at dksX0_sumsBy_4 3 rfl rfl)
theorem dX0_sumsBy_100 : decode cX0_sumsBy 100 = .ok (.iload_n 3, 1) := dk_29 (dk_at dksX0_sumsBy_4 5 rfl rfl)
theorem dX0_sumsBy_101 : decode cX0_sumsBy 101 = .ok (.iload 11, 2) := dk_21 11 (dk_at dksX0_sumsBy_4 6 rfl rfl)
theorem dX0_sumsBy_103 : decode cX0_sumsBy 103 = .ok (.invokestatic 204, 3) := dk_184 0 204 (dk_at dksX0_sumsBy_4 8 rfl rfl)
theorem dX0_sumsBy_106 : decode cX0_sumsBy 106 = .ok (.ifCond .ne 7, 3) := dk_154 0 7 (dk_at dksX0_sumsBy_4 11 rfl rfl)
theorem dX0_sumsBy_109 : decode cX0_sumsBy 109 = .ok (.lconst 1, 1) := dk_10 (dk_at dksX0_sumsBy_4 14 rfl rfl)
theorem dX0_sumsBy_110 : decode cX0_sumsBy 110 = .ok (.goto 23, 3) := dk_167 0 23 (dk_at dksX0_sumsBy_4 15 rfl rfl)
theorem dX0_sumsBy_113 : decode cX0_sumsBy 113 = .ok (.iload 8, 2) := dk_21 8 (dk_at dksX0_sumsBy_4 18 rfl rfl)
theorem dX0_sumsBy_115 : decode cX0_sumsBy 115 = .ok (.iload 11, 2) := dk_21 11 (dk_at dksX0_sumsBy_4 20 rfl rfl)
theorem dX0_sumsBy_117 : decode cX0_sumsBy 117 = .ok (.invokestatic 204, 3) := dk_184 0 204 (dk_at dksX0_sumsBy_5 0 rfl rfl)
theorem dX0_sumsBy_120 : decode cX0_sumsBy 120 = .ok (.ifCond .eq 11, 3) := dk_153 0 11 (dk_at dksX0_sumsBy_5 3 rfl rfl)
theorem dX0_sumsBy_123 : decode cX0_sumsBy 123 = .ok (.bipush 12, 2) := dk_16 12 (dk_at dksX0_sumsBy_5 6 rfl rfl)
theorem dX0_sumsBy_125 : decode cX0_sumsBy 125 = .ok (.iload_n 2, 1) := dk_28 (dk_at dksX0_sumsBy_5 8 rfl rfl)
theorem dX0_sumsBy_126 : decode cX0_sumsBy 126 = .ok (.isub, 1) := dk_100 (dk_at dksX0_sumsBy_5 9 rfl rfl)
theorem dX0_sumsBy_127 : decode cX0_sumsBy 127 = .ok (.i2l, 1) := dk_133 (dk_at dksX0_sumsBy_5 10 rfl rfl)
theorem dX0_sumsBy_128 : decode cX0_sumsBy 128 = .ok (.goto 5, 3) := dk_167 0 5 (dk_at dksX0_sumsBy_5 11 rfl rfl)
theorem dX0_sumsBy_131 : decode cX0_sumsBy 131 = .ok (.iload_n 2, 1) := dk_28 (dk_at dksX0_sumsBy_5 14 rfl rfl)
theorem dX0_sumsBy_132 : decode cX0_sumsBy 132 = .ok (.i2l, 1) := dk_133 (dk_at dksX0_sumsBy_5 15 rfl rfl)
theorem dX0_sumsBy_133 : decode cX0_sumsBy 133 = .ok (.lmul, 1) := dk_105 (dk_at dksX0_sumsBy_5 16 rfl rfl)
theorem dX0_sumsBy_134 : decode cX0_sumsBy 134 = .ok (.lstore 9, 2) := dk_55 9 (dk_at dksX0_sumsBy_5 17 rfl rfl)
theorem dX0_sumsBy_136 : decode cX0_sumsBy 136 = .ok (.iinc 11 1, 3) := dk_132 11 1 (dk_at dksX0_sumsBy_5 19 rfl rfl)
theorem dX0_sumsBy_139 : decode cX0_sumsBy 139 = .ok (.goto (-50), 3) := dk_167 255 206 (dk_at dksX0_sumsBy_6 0 rfl rfl)
theorem dX0_sumsBy_142 : decode cX0_sumsBy 142 = .ok (.lload 4, 2) := dk_22 4 (dk_at dksX0_sumsBy_6 3 rfl rfl)
theorem dX0_sumsBy_144 : decode cX0_sumsBy 144 = .ok (.lload 9, 2) := dk_22 9 (dk_at dksX0_sumsBy_6 5 rfl rfl)
theorem dX0_sumsBy_146 : decode cX0_sumsBy 146 = .ok (.ladd, 1) := dk_97 (dk_at dksX0_sumsBy_6 7 rfl rfl)
theorem dX0_sumsBy_147 : decode cX0_sumsBy 147 = .ok (.lstore 4, 2) := dk_55 4 (dk_at dksX0_sumsBy_6 8 rfl rfl)
theorem dX0_sumsBy_149 : decode cX0_sumsBy 149 = .ok (.iinc 8 1, 3) := dk_132 8 1 (dk_at dksX0_sumsBy_6 10 rfl rfl)
theorem dX0_sumsBy_152 : decode cX0_sumsBy 152 = .ok (.goto (-99), 3) := dk_167 255 157 (dk_at dksX0_sumsBy_6 13 rfl rfl)
theorem dX0_sumsBy_155 : decode cX0_sumsBy 155 = .ok (.aload_n 0, 1) := dk_42 (dk_at dksX0_sumsBy_6 16 rfl rfl)
theorem dX0_sumsBy_156 : decode cX0_sumsBy 156 = .ok (.iload_n 3, 1) := dk_29 (dk_at dksX0_sumsBy_6 17 rfl rfl)
theorem dX0_sumsBy_157 : decode cX0_sumsBy 157 = .ok (.putfield 182, 3) := dk_181 0 182 (dk_at dksX0_sumsBy_6 18 rfl rfl)
theorem dX0_sumsBy_160 : decode cX0_sumsBy 160 = .ok (.aload_n 0, 1) := dk_42 (dk_at dksX0_sumsBy_6 21 rfl rfl)
theorem dX0_sumsBy_161 : decode cX0_sumsBy 161 = .ok (.lload 4, 2) := dk_22 4 (dk_at dksX0_sumsBy_6 22 rfl rfl)
theorem dX0_sumsBy_163 : decode cX0_sumsBy 163 = .ok (.lload 6, 2) := dk_22 6 (dk_at dksX0_sumsBy_7 0 rfl rfl)
theorem dX0_sumsBy_165 : decode cX0_sumsBy 165 = .ok (.invokevirtual 311, 3) := dk_182 1 55 (dk_at dksX0_sumsBy_7 2 rfl rfl)
theorem dX0_sumsBy_168 : decode cX0_sumsBy 168 = .ok (.ireturn, 1) := dk_172 (dk_at dksX0_sumsBy_7 5 rfl rfl)
abbrev cX0_tell : ByteArray := prog_1_method_5_code
def yX0_tell : MethodName := ⟨RX0, "tell", "(JJ)I"⟩
def dkwX0_tell_2 : List UInt8 := [172]
abbrev dktX0_tell_2 : List UInt8 := dkwX0_tell_2 ++ []
def dkwX0_tell_1 : List UInt8 := [22, 9, 55, 7, 167, 255, 234, 42, 31, 22, 5, 109, 181, 0, 14, 42, 33, 22, 5, 109, 181, 0, 18, 4]
abbrev dktX0_tell_1 : List UInt8 := dkwX0_tell_1 ++ dktX0_tell_2
def dkwX0_tell_0 : List UInt8 := [31, 55, 5, 33, 55, 7, 22, 7, 9, 148, 153, 0, 21, 22, 5, 22, 7, 113, 55, 9, 22, 7, 55, 5]
abbrev dktX0_tell_0 : List UInt8 := dkwX0_tell_0 ++ dktX0_tell_1
theorem dksX0_tell_0 : cX0_tell.data.toList.drop 0 = dktX0_tell_0 := by decide +kernel
theorem dksX0_tell_1 : cX0_tell.data.toList.drop 24 = dktX0_tell_1 := dk_seg dksX0_tell_0 24 rfl rfl
theorem dksX0_tell_2 : cX0_tell.data.toList.drop 48 = dktX0_tell_2 := dk_seg dksX0_tell_1 24 rfl rfl
theorem dX0_tell_0 : decode cX0_tell 0 = .ok (.lload_n 1, 1) := dk_31 (dk_at dksX0_tell_0 0 rfl rfl)
theorem dX0_tell_1 : decode cX0_tell 1 = .ok (.lstore 5, 2) := dk_55 5 (dk_at dksX0_tell_0 1 rfl rfl)
theorem dX0_tell_3 : decode cX0_tell 3 = .ok (.lload_n 3, 1) := dk_33 (dk_at dksX0_tell_0 3 rfl rfl)
theorem dX0_tell_4 : decode cX0_tell 4 = .ok (.lstore 7, 2) := dk_55 7 (dk_at dksX0_tell_0 4 rfl rfl)
theorem dX0_tell_6 : decode cX0_tell 6 = .ok (.lload 7, 2) := dk_22 7 (dk_at dksX0_tell_0 6 rfl rfl)
theorem dX0_tell_8 : decode cX0_tell 8 = .ok (.lconst 0, 1) := dk_9 (dk_at dksX0_tell_0 8 rfl rfl)
theorem dX0_tell_9 : decode cX0_tell 9 = .ok (.lcmp, 1) := dk_148 (dk_at dksX0_tell_0 9 rfl rfl)
theorem dX0_tell_10 : decode cX0_tell 10 = .ok (.ifCond .eq 21, 3) := dk_153 0 21 (dk_at dksX0_tell_0 10 rfl rfl)
theorem dX0_tell_13 : decode cX0_tell 13 = .ok (.lload 5, 2) := dk_22 5 (dk_at dksX0_tell_0 13 rfl rfl)
theorem dX0_tell_15 : decode cX0_tell 15 = .ok (.lload 7, 2) := dk_22 7 (dk_at dksX0_tell_0 15 rfl rfl)
theorem dX0_tell_17 : decode cX0_tell 17 = .ok (.lrem, 1) := dk_113 (dk_at dksX0_tell_0 17 rfl rfl)
theorem dX0_tell_18 : decode cX0_tell 18 = .ok (.lstore 9, 2) := dk_55 9 (dk_at dksX0_tell_0 18 rfl rfl)
theorem dX0_tell_20 : decode cX0_tell 20 = .ok (.lload 7, 2) := dk_22 7 (dk_at dksX0_tell_0 20 rfl rfl)
theorem dX0_tell_22 : decode cX0_tell 22 = .ok (.lstore 5, 2) := dk_55 5 (dk_at dksX0_tell_0 22 rfl rfl)
theorem dX0_tell_24 : decode cX0_tell 24 = .ok (.lload 9, 2) := dk_22 9 (dk_at dksX0_tell_1 0 rfl rfl)
theorem dX0_tell_26 : decode cX0_tell 26 = .ok (.lstore 7, 2) := dk_55 7 (dk_at dksX0_tell_1 2 rfl rfl)
theorem dX0_tell_28 : decode cX0_tell 28 = .ok (.goto (-22), 3) := dk_167 255 234 (dk_at dksX0_tell_1 4 rfl rfl)
theorem dX0_tell_31 : decode cX0_tell 31 = .ok (.aload_n 0, 1) := dk_42 (dk_at dksX0_tell_1 7 rfl rfl)
theorem dX0_tell_32 : decode cX0_tell 32 = .ok (.lload_n 1, 1) := dk_31 (dk_at dksX0_tell_1 8 rfl rfl)
theorem dX0_tell_33 : decode cX0_tell 33 = .ok (.lload 5, 2) := dk_22 5 (dk_at dksX0_tell_1 9 rfl rfl)
theorem dX0_tell_35 : decode cX0_tell 35 = .ok (.ldiv, 1) := dk_109 (dk_at dksX0_tell_1 11 rfl rfl)
theorem dX0_tell_36 : decode cX0_tell 36 = .ok (.putfield 14, 3) := dk_181 0 14 (dk_at dksX0_tell_1 12 rfl rfl)
theorem dX0_tell_39 : decode cX0_tell 39 = .ok (.aload_n 0, 1) := dk_42 (dk_at dksX0_tell_1 15 rfl rfl)
theorem dX0_tell_40 : decode cX0_tell 40 = .ok (.lload_n 3, 1) := dk_33 (dk_at dksX0_tell_1 16 rfl rfl)
theorem dX0_tell_41 : decode cX0_tell 41 = .ok (.lload 5, 2) := dk_22 5 (dk_at dksX0_tell_1 17 rfl rfl)
theorem dX0_tell_43 : decode cX0_tell 43 = .ok (.ldiv, 1) := dk_109 (dk_at dksX0_tell_1 19 rfl rfl)
theorem dX0_tell_44 : decode cX0_tell 44 = .ok (.putfield 18, 3) := dk_181 0 18 (dk_at dksX0_tell_1 20 rfl rfl)
theorem dX0_tell_47 : decode cX0_tell 47 = .ok (.iconst 1, 1) := dk_4 (dk_at dksX0_tell_1 23 rfl rfl)
theorem dX0_tell_48 : decode cX0_tell 48 = .ok (.ireturn, 1) := dk_172 (dk_at dksX0_tell_2 0 rfl rfl)
abbrev cX0_mid : ByteArray := prog_1_method_77_code
def yX0_mid : MethodName := ⟨RX0, "mid", "(I)I"⟩
def dkwX0_mid_1 : List UInt8 := [42, 4, 42, 180, 0, 172, 120, 4, 100, 27, 182, 1, 59, 172]
abbrev dktX0_mid_1 : List UInt8 := dkwX0_mid_1 ++ []
def dkwX0_mid_0 : List UInt8 := [27, 3, 16, 12, 184, 0, 77, 154, 0, 5, 2, 172, 42, 180, 0, 169, 154, 0, 8, 16, 252, 167, 0, 16]
abbrev dktX0_mid_0 : List UInt8 := dkwX0_mid_0 ++ dktX0_mid_1
theorem dksX0_mid_0 : cX0_mid.data.toList.drop 0 = dktX0_mid_0 := by decide +kernel
theorem dksX0_mid_1 : cX0_mid.data.toList.drop 24 = dktX0_mid_1 := dk_seg dksX0_mid_0 24 rfl rfl
theorem dX0_mid_0 : decode cX0_mid 0 = .ok (.iload_n 1, 1) := dk_27 (dk_at dksX0_mid_0 0 rfl rfl)
theorem dX0_mid_1 : decode cX0_mid 1 = .ok (.iconst 0, 1) := dk_3 (dk_at dksX0_mid_0 1 rfl rfl)
theorem dX0_mid_2 : decode cX0_mid 2 = .ok (.bipush 12, 2) := dk_16 12 (dk_at dksX0_mid_0 2 rfl rfl)
theorem dX0_mid_4 : decode cX0_mid 4 = .ok (.invokestatic 77, 3) := dk_184 0 77 (dk_at dksX0_mid_0 4 rfl rfl)
theorem dX0_mid_7 : decode cX0_mid 7 = .ok (.ifCond .ne 5, 3) := dk_154 0 5 (dk_at dksX0_mid_0 7 rfl rfl)
theorem dX0_mid_10 : decode cX0_mid 10 = .ok (.iconst (-1), 1) := dk_2 (dk_at dksX0_mid_0 10 rfl rfl)
theorem dX0_mid_11 : decode cX0_mid 11 = .ok (.ireturn, 1) := dk_172 (dk_at dksX0_mid_0 11 rfl rfl)
theorem dX0_mid_12 : decode cX0_mid 12 = .ok (.aload_n 0, 1) := dk_42 (dk_at dksX0_mid_0 12 rfl rfl)
theorem dX0_mid_13 : decode cX0_mid 13 = .ok (.getfield 169, 3) := dk_180 0 169 (dk_at dksX0_mid_0 13 rfl rfl)
theorem dX0_mid_16 : decode cX0_mid 16 = .ok (.ifCond .ne 8, 3) := dk_154 0 8 (dk_at dksX0_mid_0 16 rfl rfl)
theorem dX0_mid_19 : decode cX0_mid 19 = .ok (.bipush (-4), 2) := dk_16 252 (dk_at dksX0_mid_0 19 rfl rfl)
theorem dX0_mid_21 : decode cX0_mid 21 = .ok (.goto 16, 3) := dk_167 0 16 (dk_at dksX0_mid_0 21 rfl rfl)
theorem dX0_mid_24 : decode cX0_mid 24 = .ok (.aload_n 0, 1) := dk_42 (dk_at dksX0_mid_1 0 rfl rfl)
theorem dX0_mid_25 : decode cX0_mid 25 = .ok (.iconst 1, 1) := dk_4 (dk_at dksX0_mid_1 1 rfl rfl)
theorem dX0_mid_26 : decode cX0_mid 26 = .ok (.aload_n 0, 1) := dk_42 (dk_at dksX0_mid_1 2 rfl rfl)
theorem dX0_mid_27 : decode cX0_mid 27 = .ok (.getfield 172, 3) := dk_180 0 172 (dk_at dksX0_mid_1 3 rfl rfl)
theorem dX0_mid_30 : decode cX0_mid 30 = .ok (.ishl, 1) := dk_120 (dk_at dksX0_mid_1 6 rfl rfl)
theorem dX0_mid_31 : decode cX0_mid 31 = .ok (.iconst 1, 1) := dk_4 (dk_at dksX0_mid_1 7 rfl rfl)
theorem dX0_mid_32 : decode cX0_mid 32 = .ok (.isub, 1) := dk_100 (dk_at dksX0_mid_1 8 rfl rfl)
theorem dX0_mid_33 : decode cX0_mid 33 = .ok (.iload_n 1, 1) := dk_27 (dk_at dksX0_mid_1 9 rfl rfl)
theorem dX0_mid_34 : decode cX0_mid 34 = .ok (.invokevirtual 315, 3) := dk_182 1 59 (dk_at dksX0_mid_1 10 rfl rfl)
theorem dX0_mid_37 : decode cX0_mid 37 = .ok (.ireturn, 1) := dk_172 (dk_at dksX0_mid_1 13 rfl rfl)
abbrev cX0_lots : ByteArray := prog_1_method_78_code
def yX0_lots : MethodName := ⟨RX0, "lots", "(II)I"⟩
def dkwX0_lots_7 : List UInt8 := [20, 1, 73, 113, 136, 79, 132, 5, 1, 167, 255, 138, 42, 182, 1, 12, 184, 1, 15, 172]
abbrev dktX0_lots_7 : List UInt8 := dkwX0_lots_7 ++ []
def dkwX0_lots_6 : List UInt8 := [167, 0, 30, 42, 180, 0, 59, 33, 20, 1, 69, 109, 42, 180, 0, 172, 133, 113, 136, 33, 20, 1, 71, 109]
abbrev dktX0_lots_6 : List UInt8 := dkwX0_lots_6 ++ dktX0_lots_7
def dkwX0_lots_5 : List UInt8 := [154, 0, 25, 42, 180, 0, 179, 16, 40, 162, 0, 16, 42, 89, 180, 0, 179, 4, 96, 181, 0, 179]
abbrev dktX0_lots_5 : List UInt8 := dkwX0_lots_5 ++ dktX0_lots_6
def dkwX0_lots_4 : List UInt8 := [42, 180, 0, 169, 133, 113, 136, 120, 130, 181, 0, 182, 167, 0, 62, 33, 20, 1, 67, 113, 10, 148]
abbrev dktX0_lots_4 : List UInt8 := dkwX0_lots_4 ++ dktX0_lots_5
def dkwX0_lots_3 : List UInt8 := [182, 1, 9, 33, 20, 1, 67, 113, 9, 148, 154, 0, 29, 42, 89, 180, 0, 182, 4, 33, 20, 1, 69, 109]
abbrev dktX0_lots_3 : List UInt8 := dkwX0_lots_3 ++ dktX0_lots_4
def dkwX0_lots_2 : List UInt8 := [133, 66, 3, 54, 5, 21, 5, 27, 162, 0, 118, 20, 1, 63, 33, 105, 20, 1, 65, 113, 66, 42]
abbrev dktX0_lots_2 : List UInt8 := dkwX0_lots_2 ++ dktX0_lots_3
def dkwX0_lots_1 : List UInt8 := [180, 0, 169, 154, 0, 6, 16, 252, 172, 42, 180, 0, 74, 27, 96, 16, 40, 164, 0, 6, 16, 254, 172, 28]
abbrev dktX0_lots_1 : List UInt8 := dkwX0_lots_1 ++ dktX0_lots_2
def dkwX0_lots_0 : List UInt8 := [27, 4, 16, 20, 184, 0, 77, 153, 0, 14, 28, 4, 19, 1, 62, 184, 0, 77, 154, 0, 5, 2, 172, 42]
abbrev dktX0_lots_0 : List UInt8 := dkwX0_lots_0 ++ dktX0_lots_1
theorem dksX0_lots_0 : cX0_lots.data.toList.drop 0 = dktX0_lots_0 := by decide +kernel
theorem dksX0_lots_1 : cX0_lots.data.toList.drop 24 = dktX0_lots_1 := dk_seg dksX0_lots_0 24 rfl rfl
theorem dksX0_lots_2 : cX0_lots.data.toList.drop 48 = dktX0_lots_2 := dk_seg dksX0_lots_1 24 rfl rfl
theorem dksX0_lots_3 : cX0_lots.data.toList.drop 70 = dktX0_lots_3 := dk_seg dksX0_lots_2 22 rfl rfl
theorem dksX0_lots_4 : cX0_lots.data.toList.drop 94 = dktX0_lots_4 := dk_seg dksX0_lots_3 24 rfl rfl
theorem dksX0_lots_5 : cX0_lots.data.toList.drop 116 = dktX0_lots_5 := dk_seg dksX0_lots_4 22 rfl rfl
theorem dksX0_lots_6 : cX0_lots.data.toList.drop 138 = dktX0_lots_6 := dk_seg dksX0_lots_5 22 rfl rfl
theorem dksX0_lots_7 : cX0_lots.data.toList.drop 162 = dktX0_lots_7 := dk_seg dksX0_lots_6 24 rfl rfl
theorem dX0_lots_0 : decode cX0_lots 0 = .ok (.iload_n 1, 1) := dk_27 (dk_at dksX0_lots_0 0 rfl rfl)
theorem dX0_lots_1 : decode cX0_lots 1 = .ok (.iconst 1, 1) := dk_4 (dk_at dksX0_lots_0 1 rfl rfl)
theorem dX0_lots_2 : decode cX0_lots 2 = .ok (.bipush 20, 2) := dk_16 20 (dk_at dksX0_lots_0 2 rfl rfl)
theorem dX0_lots_4 : decode cX0_lots 4 = .ok (.invokestatic 77, 3) := dk_184 0 77 (dk_at dksX0_lots_0 4 rfl rfl)
theorem dX0_lots_7 : decode cX0_lots 7 = .ok (.ifCond .eq 14, 3) := dk_153 0 14 (dk_at dksX0_lots_0 7 rfl rfl)
theorem dX0_lots_10 : decode cX0_lots 10 = .ok (.iload_n 2, 1) := dk_28 (dk_at dksX0_lots_0 10 rfl rfl)
theorem dX0_lots_11 : decode cX0_lots 11 = .ok (.iconst 1, 1) := dk_4 (dk_at dksX0_lots_0 11 rfl rfl)
theorem dX0_lots_12 : decode cX0_lots 12 = .ok (.ldc_w 318, 3) := dk_19 1 62 (dk_at dksX0_lots_0 12 rfl rfl)
theorem dX0_lots_15 : decode cX0_lots 15 = .ok (.invokestatic 77, 3) := dk_184 0 77 (dk_at dksX0_lots_0 15 rfl rfl)
theorem dX0_lots_18 : decode cX0_lots 18 = .ok (.ifCond .ne 5, 3) := dk_154 0 5 (dk_at dksX0_lots_0 18 rfl rfl)
theorem dX0_lots_21 : decode cX0_lots 21 = .ok (.iconst (-1), 1) := dk_2 (dk_at dksX0_lots_0 21 rfl rfl)
theorem dX0_lots_22 : decode cX0_lots 22 = .ok (.ireturn, 1) := dk_172 (dk_at dksX0_lots_0 22 rfl rfl)
theorem dX0_lots_23 : decode cX0_lots 23 = .ok (.aload_n 0, 1) := dk_42 (dk_at dksX0_lots_0 23 rfl rfl)
theorem dX0_lots_24 : decode cX0_lots 24 = .ok (.getfield 169, 3) := dk_180 0 169 (dk_at dksX0_lots_1 0 rfl rfl)
theorem dX0_lots_27 : decode cX0_lots 27 = .ok (.ifCond .ne 6, 3) := dk_154 0 6 (dk_at dksX0_lots_1 3 rfl rfl)
theorem dX0_lots_30 : decode cX0_lots 30 = .ok (.bipush (-4), 2) := dk_16 252 (dk_at dksX0_lots_1 6 rfl rfl)
theorem dX0_lots_32 : decode cX0_lots 32 = .ok (.ireturn, 1) := dk_172 (dk_at dksX0_lots_1 8 rfl rfl)
theorem dX0_lots_33 : decode cX0_lots 33 = .ok (.aload_n 0, 1) := dk_42 (dk_at dksX0_lots_1 9 rfl rfl)
theorem dX0_lots_34 : decode cX0_lots 34 = .ok (.getfield 74, 3) := dk_180 0 74 (dk_at dksX0_lots_1 10 rfl rfl)
theorem dX0_lots_37 : decode cX0_lots 37 = .ok (.iload_n 1, 1) := dk_27 (dk_at dksX0_lots_1 13 rfl rfl)
theorem dX0_lots_38 : decode cX0_lots 38 = .ok (.iadd, 1) := dk_96 (dk_at dksX0_lots_1 14 rfl rfl)
theorem dX0_lots_39 : decode cX0_lots 39 = .ok (.bipush 40, 2) := dk_16 40 (dk_at dksX0_lots_1 15 rfl rfl)
theorem dX0_lots_41 : decode cX0_lots 41 = .ok (.if_icmp .le 6, 3) := dk_164 0 6 (dk_at dksX0_lots_1 17 rfl rfl)
theorem dX0_lots_44 : decode cX0_lots 44 = .ok (.bipush (-2), 2) := dk_16 254 (dk_at dksX0_lots_1 20 rfl rfl)
theorem dX0_lots_46 : decode cX0_lots 46 = .ok (.ireturn, 1) := dk_172 (dk_at dksX0_lots_1 22 rfl rfl)
theorem dX0_lots_47 : decode cX0_lots 47 = .ok (.iload_n 2, 1) := dk_28 (dk_at dksX0_lots_1 23 rfl rfl)
theorem dX0_lots_48 : decode cX0_lots 48 = .ok (.i2l, 1) := dk_133 (dk_at dksX0_lots_2 0 rfl rfl)
theorem dX0_lots_49 : decode cX0_lots 49 = .ok (.lstore_n 3, 1) := dk_66 (dk_at dksX0_lots_2 1 rfl rfl)
theorem dX0_lots_50 : decode cX0_lots 50 = .ok (.iconst 0, 1) := dk_3 (dk_at dksX0_lots_2 2 rfl rfl)
theorem dX0_lots_51 : decode cX0_lots 51 = .ok (.istore 5, 2) := dk_54 5 (dk_at dksX0_lots_2 3 rfl rfl)
theorem dX0_lots_53 : decode cX0_lots 53 = .ok (.iload 5, 2) := dk_21 5 (dk_at dksX0_lots_2 5 rfl rfl)
theorem dX0_lots_55 : decode cX0_lots 55 = .ok (.iload_n 1, 1) := dk_27 (dk_at dksX0_lots_2 7 rfl rfl)
theorem dX0_lots_56 : decode cX0_lots 56 = .ok (.if_icmp .ge 118, 3) := dk_162 0 118 (dk_at dksX0_lots_2 8 rfl rfl)
theorem dX0_lots_59 : decode cX0_lots 59 = .ok (.ldc2_w 319, 3) := dk_20 1 63 (dk_at dksX0_lots_2 11 rfl rfl)
theorem dX0_lots_62 : decode cX0_lots 62 = .ok (.lload_n 3, 1) := dk_33 (dk_at dksX0_lots_2 14 rfl rfl)
theorem dX0_lots_63 : decode cX0_lots 63 = .ok (.lmul, 1) := dk_105 (dk_at dksX0_lots_2 15 rfl rfl)
theorem dX0_lots_64 : decode cX0_lots 64 = .ok (.ldc2_w 321, 3) := dk_20 1 65 (dk_at dksX0_lots_2 16 rfl rfl)
theorem dX0_lots_67 : decode cX0_lots 67 = .ok (.lrem, 1) := dk_113 (dk_at dksX0_lots_2 19 rfl rfl)
theorem dX0_lots_68 : decode cX0_lots 68 = .ok (.lstore_n 3, 1) := dk_66 (dk_at dksX0_lots_2 20 rfl rfl)
theorem dX0_lots_69 : decode cX0_lots 69 = .ok (.aload_n 0, 1) := dk_42 (dk_at dksX0_lots_2 21 rfl rfl)
theorem dX0_lots_70 : decode cX0_lots 70 = .ok (.invokevirtual 265, 3) := dk_182 1 9 (dk_at dksX0_lots_3 0 rfl rfl)
theorem dX0_lots_73 : decode cX0_lots 73 = .ok (.lload_n 3, 1) := dk_33 (dk_at dksX0_lots_3 3 rfl rfl)
theorem dX0_lots_74 : decode cX0_lots 74 = .ok (.ldc2_w 323, 3) := dk_20 1 67 (dk_at dksX0_lots_3 4 rfl rfl)
theorem dX0_lots_77 : decode cX0_lots 77 = .ok (.lrem, 1) := dk_113 (dk_at dksX0_lots_3 7 rfl rfl)
theorem dX0_lots_78 : decode cX0_lots 78 = .ok (.lconst 0, 1) := dk_9 (dk_at dksX0_lots_3 8 rfl rfl)
theorem dX0_lots_79 : decode cX0_lots 79 = .ok (.lcmp, 1) := dk_148 (dk_at dksX0_lots_3 9 rfl rfl)
theorem dX0_lots_80 : decode cX0_lots 80 = .ok (.ifCond .ne 29, 3) := dk_154 0 29 (dk_at dksX0_lots_3 10 rfl rfl)
theorem dX0_lots_83 : decode cX0_lots 83 = .ok (.aload_n 0, 1) := dk_42 (dk_at dksX0_lots_3 13 rfl rfl)
theorem dX0_lots_84 : decode cX0_lots 84 = .ok (.dup, 1) := dk_89 (dk_at dksX0_lots_3 14 rfl rfl)
theorem dX0_lots_85 : decode cX0_lots 85 = .ok (.getfield 182, 3) := dk_180 0 182 (dk_at dksX0_lots_3 15 rfl rfl)
theorem dX0_lots_88 : decode cX0_lots 88 = .ok (.iconst 1, 1) := dk_4 (dk_at dksX0_lots_3 18 rfl rfl)
theorem dX0_lots_89 : decode cX0_lots 89 = .ok (.lload_n 3, 1) := dk_33 (dk_at dksX0_lots_3 19 rfl rfl)
theorem dX0_lots_90 : decode cX0_lots 90 = .ok (.ldc2_w 325, 3) := dk_20 1 69 (dk_at dksX0_lots_3 20 rfl rfl)
theorem dX0_lots_93 : decode cX0_lots 93 = .ok (.ldiv, 1) := dk_109 (dk_at dksX0_lots_3 23 rfl rfl)
theorem dX0_lots_94 : decode cX0_lots 94 = .ok (.aload_n 0, 1) := dk_42 (dk_at dksX0_lots_4 0 rfl rfl)
theorem dX0_lots_95 : decode cX0_lots 95 = .ok (.getfield 169, 3) := dk_180 0 169 (dk_at dksX0_lots_4 1 rfl rfl)
theorem dX0_lots_98 : decode cX0_lots 98 = .ok (.i2l, 1) := dk_133 (dk_at dksX0_lots_4 4 rfl rfl)
theorem dX0_lots_99 : decode cX0_lots 99 = .ok (.lrem, 1) := dk_113 (dk_at dksX0_lots_4 5 rfl rfl)
theorem dX0_lots_100 : decode cX0_lots 100 = .ok (.l2i, 1) := dk_136 (dk_at dksX0_lots_4 6 rfl rfl)
theorem dX0_lots_101 : decode cX0_lots 101 = .ok (.ishl, 1) := dk_120 (dk_at dksX0_lots_4 7 rfl rfl)
theorem dX0_lots_102 : decode cX0_lots 102 = .ok (.ixor, 1) := dk_130 (dk_at dksX0_lots_4 8 rfl rfl)
theorem dX0_lots_103 : decode cX0_lots 103 = .ok (.putfield 182, 3) := dk_181 0 182 (dk_at dksX0_lots_4 9 rfl rfl)
theorem dX0_lots_106 : decode cX0_lots 106 = .ok (.goto 62, 3) := dk_167 0 62 (dk_at dksX0_lots_4 12 rfl rfl)
theorem dX0_lots_109 : decode cX0_lots 109 = .ok (.lload_n 3, 1) := dk_33 (dk_at dksX0_lots_4 15 rfl rfl)
theorem dX0_lots_110 : decode cX0_lots 110 = .ok (.ldc2_w 323, 3) := dk_20 1 67 (dk_at dksX0_lots_4 16 rfl rfl)
theorem dX0_lots_113 : decode cX0_lots 113 = .ok (.lrem, 1) := dk_113 (dk_at dksX0_lots_4 19 rfl rfl)
theorem dX0_lots_114 : decode cX0_lots 114 = .ok (.lconst 1, 1) := dk_10 (dk_at dksX0_lots_4 20 rfl rfl)
theorem dX0_lots_115 : decode cX0_lots 115 = .ok (.lcmp, 1) := dk_148 (dk_at dksX0_lots_4 21 rfl rfl)
theorem dX0_lots_116 : decode cX0_lots 116 = .ok (.ifCond .ne 25, 3) := dk_154 0 25 (dk_at dksX0_lots_5 0 rfl rfl)
theorem dX0_lots_119 : decode cX0_lots 119 = .ok (.aload_n 0, 1) := dk_42 (dk_at dksX0_lots_5 3 rfl rfl)
theorem dX0_lots_120 : decode cX0_lots 120 = .ok (.getfield 179, 3) := dk_180 0 179 (dk_at dksX0_lots_5 4 rfl rfl)
theorem dX0_lots_123 : decode cX0_lots 123 = .ok (.bipush 40, 2) := dk_16 40 (dk_at dksX0_lots_5 7 rfl rfl)
theorem dX0_lots_125 : decode cX0_lots 125 = .ok (.if_icmp .ge 16, 3) := dk_162 0 16 (dk_at dksX0_lots_5 9 rfl rfl)
theorem dX0_lots_128 : decode cX0_lots 128 = .ok (.aload_n 0, 1) := dk_42 (dk_at dksX0_lots_5 12 rfl rfl)
theorem dX0_lots_129 : decode cX0_lots 129 = .ok (.dup, 1) := dk_89 (dk_at dksX0_lots_5 13 rfl rfl)
theorem dX0_lots_130 : decode cX0_lots 130 = .ok (.getfield 179, 3) := dk_180 0 179 (dk_at dksX0_lots_5 14 rfl rfl)
theorem dX0_lots_133 : decode cX0_lots 133 = .ok (.iconst 1, 1) := dk_4 (dk_at dksX0_lots_5 17 rfl rfl)
theorem dX0_lots_134 : decode cX0_lots 134 = .ok (.iadd, 1) := dk_96 (dk_at dksX0_lots_5 18 rfl rfl)
theorem dX0_lots_135 : decode cX0_lots 135 = .ok (.putfield 179, 3) := dk_181 0 179 (dk_at dksX0_lots_5 19 rfl rfl)
theorem dX0_lots_138 : decode cX0_lots 138 = .ok (.goto 30, 3) := dk_167 0 30 (dk_at dksX0_lots_6 0 rfl rfl)
theorem dX0_lots_141 : decode cX0_lots 141 = .ok (.aload_n 0, 1) := dk_42 (dk_at dksX0_lots_6 3 rfl rfl)
theorem dX0_lots_142 : decode cX0_lots 142 = .ok (.getfield 59, 3) := dk_180 0 59 (dk_at dksX0_lots_6 4 rfl rfl)
theorem dX0_lots_145 : decode cX0_lots 145 = .ok (.lload_n 3, 1) := dk_33 (dk_at dksX0_lots_6 7 rfl rfl)
theorem dX0_lots_146 : decode cX0_lots 146 = .ok (.ldc2_w 325, 3) := dk_20 1 69 (dk_at dksX0_lots_6 8 rfl rfl)
theorem dX0_lots_149 : decode cX0_lots 149 = .ok (.ldiv, 1) := dk_109 (dk_at dksX0_lots_6 11 rfl rfl)
theorem dX0_lots_150 : decode cX0_lots 150 = .ok (.aload_n 0, 1) := dk_42 (dk_at dksX0_lots_6 12 rfl rfl)
theorem dX0_lots_151 : decode cX0_lots 151 = .ok (.getfield 172, 3) := dk_180 0 172 (dk_at dksX0_lots_6 13 rfl rfl)
theorem dX0_lots_154 : decode cX0_lots 154 = .ok (.i2l, 1) := dk_133 (dk_at dksX0_lots_6 16 rfl rfl)
theorem dX0_lots_155 : decode cX0_lots 155 = .ok (.lrem, 1) := dk_113 (dk_at dksX0_lots_6 17 rfl rfl)
theorem dX0_lots_156 : decode cX0_lots 156 = .ok (.l2i, 1) := dk_136 (dk_at dksX0_lots_6 18 rfl rfl)
theorem dX0_lots_157 : decode cX0_lots 157 = .ok (.lload_n 3, 1) := dk_33 (dk_at dksX0_lots_6 19 rfl rfl)
theorem dX0_lots_158 : decode cX0_lots 158 = .ok (.ldc2_w 327, 3) := dk_20 1 71 (dk_at dksX0_lots_6 20 rfl rfl)
theorem dX0_lots_161 : decode cX0_lots 161 = .ok (.ldiv, 1) := dk_109 (dk_at dksX0_lots_6 23 rfl rfl)
theorem dX0_lots_162 : decode cX0_lots 162 = .ok (.ldc2_w 329, 3) := dk_20 1 73 (dk_at dksX0_lots_7 0 rfl rfl)
theorem dX0_lots_165 : decode cX0_lots 165 = .ok (.lrem, 1) := dk_113 (dk_at dksX0_lots_7 3 rfl rfl)
theorem dX0_lots_166 : decode cX0_lots 166 = .ok (.l2i, 1) := dk_136 (dk_at dksX0_lots_7 4 rfl rfl)
theorem dX0_lots_167 : decode cX0_lots 167 = .ok (.iastore, 1) := dk_79 (dk_at dksX0_lots_7 5 rfl rfl)
theorem dX0_lots_168 : decode cX0_lots 168 = .ok (.iinc 5 1, 3) := dk_132 5 1 (dk_at dksX0_lots_7 6 rfl rfl)
theorem dX0_lots_171 : decode cX0_lots 171 = .ok (.goto (-118), 3) := dk_167 255 138 (dk_at dksX0_lots_7 9 rfl rfl)
theorem dX0_lots_174 : decode cX0_lots 174 = .ok (.aload_n 0, 1) := dk_42 (dk_at dksX0_lots_7 12 rfl rfl)
theorem dX0_lots_175 : decode cX0_lots 175 = .ok (.invokevirtual 268, 3) := dk_182 1 12 (dk_at dksX0_lots_7 13 rfl rfl)
theorem dX0_lots_178 : decode cX0_lots 178 = .ok (.invokestatic 271, 3) := dk_184 1 15 (dk_at dksX0_lots_7 16 rfl rfl)
theorem dX0_lots_181 : decode cX0_lots 181 = .ok (.ireturn, 1) := dk_172 (dk_at dksX0_lots_7 19 rfl rfl)
abbrev cX0_asked : ByteArray := prog_1_method_79_code
def yX0_asked : MethodName := ⟨RX0, "asked", "()I"⟩
theorem dX0_asked_0 : decode cX0_asked 0 = .ok (.aload_n 0, 1) := by decide +kernel
theorem dX0_asked_1 : decode cX0_asked 1 = .ok (.getfield 11, 3) := by decide +kernel
theorem dX0_asked_4 : decode cX0_asked 4 = .ok (.ireturn, 1) := by decide +kernel
abbrev cX0_upper : ByteArray := prog_1_method_80_code
def yX0_upper : MethodName := ⟨RX0, "upper", "()J"⟩
theorem dX0_upper_0 : decode cX0_upper 0 = .ok (.aload_n 0, 1) := by decide +kernel
theorem dX0_upper_1 : decode cX0_upper 1 = .ok (.getfield 14, 3) := by decide +kernel
theorem dX0_upper_4 : decode cX0_upper 4 = .ok (.lreturn, 1) := by decide +kernel
abbrev cX0_lower : ByteArray := prog_1_method_81_code
def yX0_lower : MethodName := ⟨RX0, "lower", "()J"⟩
theorem dX0_lower_0 : decode cX0_lower 0 = .ok (.aload_n 0, 1) := by decide +kernel
theorem dX0_lower_1 : decode cX0_lower 1 = .ok (.getfield 18, 3) := by decide +kernel
theorem dX0_lower_4 : decode cX0_lower 4 = .ok (.lreturn, 1) := by decide +kernel
abbrev cX0_count : ByteArray := prog_1_method_85_code
def yX0_count : MethodName := ⟨RX0, "count", "(I)I"⟩
def dkwX0_count_0 : List UInt8 := [27, 3, 16, 10, 184, 0, 77, 153, 0, 11, 42, 27, 182, 1, 84, 167, 0, 4, 2, 172]
abbrev dktX0_count_0 : List UInt8 := dkwX0_count_0 ++ []
theorem dksX0_count_0 : cX0_count.data.toList.drop 0 = dktX0_count_0 := by decide +kernel
theorem dX0_count_0 : decode cX0_count 0 = .ok (.iload_n 1, 1) := dk_27 (dk_at dksX0_count_0 0 rfl rfl)
theorem dX0_count_1 : decode cX0_count 1 = .ok (.iconst 0, 1) := dk_3 (dk_at dksX0_count_0 1 rfl rfl)
theorem dX0_count_2 : decode cX0_count 2 = .ok (.bipush 10, 2) := dk_16 10 (dk_at dksX0_count_0 2 rfl rfl)
theorem dX0_count_4 : decode cX0_count 4 = .ok (.invokestatic 77, 3) := dk_184 0 77 (dk_at dksX0_count_0 4 rfl rfl)
theorem dX0_count_7 : decode cX0_count 7 = .ok (.ifCond .eq 11, 3) := dk_153 0 11 (dk_at dksX0_count_0 7 rfl rfl)
theorem dX0_count_10 : decode cX0_count 10 = .ok (.aload_n 0, 1) := dk_42 (dk_at dksX0_count_0 10 rfl rfl)
theorem dX0_count_11 : decode cX0_count 11 = .ok (.iload_n 1, 1) := dk_27 (dk_at dksX0_count_0 11 rfl rfl)
theorem dX0_count_12 : decode cX0_count 12 = .ok (.invokevirtual 340, 3) := dk_182 1 84 (dk_at dksX0_count_0 12 rfl rfl)
theorem dX0_count_15 : decode cX0_count 15 = .ok (.goto 4, 3) := dk_167 0 4 (dk_at dksX0_count_0 15 rfl rfl)
theorem dX0_count_18 : decode cX0_count 18 = .ok (.iconst (-1), 1) := dk_2 (dk_at dksX0_count_0 18 rfl rfl)
theorem dX0_count_19 : decode cX0_count 19 = .ok (.ireturn, 1) := dk_172 (dk_at dksX0_count_0 19 rfl rfl)
abbrev cX0_countOf : ByteArray := prog_1_method_84_code
def yX0_countOf : MethodName := ⟨RX0, "countOf", "(I)I"⟩
def dkwX0_countOf_3 : List UInt8 := [172, 42, 182, 1, 12, 172, 42, 182, 1, 33, 172, 42, 182, 1, 78, 172, 42, 27, 182, 1, 81, 172]
abbrev dktX0_countOf_3 : List UInt8 := dkwX0_countOf_3 ++ []
def dkwX0_countOf_2 : List UInt8 := [42, 180, 0, 169, 172, 42, 180, 0, 172, 172, 42, 180, 0, 74, 172, 42, 180, 0, 179, 172, 42, 180, 0, 182]
abbrev dktX0_countOf_2 : List UInt8 := dkwX0_countOf_2 ++ dktX0_countOf_3
def dkwX0_countOf_1 : List UInt8 := [170, 0, 0, 0, 0, 0, 87, 0, 0, 0, 0, 0, 0, 0, 7, 0, 0, 0, 47, 0, 0, 0, 52, 0, 0, 0, 57, 0, 0, 0, 62, 0, 0, 0, 67, 0, 0, 0, 72, 0, 0, 0, 77, 0, 0, 0, 82]
abbrev dktX0_countOf_1 : List UInt8 := dkwX0_countOf_1 ++ dktX0_countOf_2
def dkwX0_countOf_0 : List UInt8 := [27]
abbrev dktX0_countOf_0 : List UInt8 := dkwX0_countOf_0 ++ dktX0_countOf_1
theorem dksX0_countOf_0 : cX0_countOf.data.toList.drop 0 = dktX0_countOf_0 := by decide +kernel
theorem dksX0_countOf_1 : cX0_countOf.data.toList.drop 1 = dktX0_countOf_1 := dk_seg dksX0_countOf_0 1 rfl rfl
theorem dksX0_countOf_2 : cX0_countOf.data.toList.drop 48 = dktX0_countOf_2 := dk_seg dksX0_countOf_1 47 rfl rfl
theorem dksX0_countOf_3 : cX0_countOf.data.toList.drop 72 = dktX0_countOf_3 := dk_seg dksX0_countOf_2 24 rfl rfl
theorem dX0_countOf_0 : decode cX0_countOf 0 = .ok (.iload_n 1, 1) := dk_27 (dk_at dksX0_countOf_0 0 rfl rfl)
theorem dX0_countOf_1 : decode cX0_countOf 1 = .ok (.tableswitch 87 0 7 #[47, 52, 57, 62, 67, 72, 77, 82], 47) := by decide +kernel
theorem dX0_countOf_48 : decode cX0_countOf 48 = .ok (.aload_n 0, 1) := dk_42 (dk_at dksX0_countOf_2 0 rfl rfl)
theorem dX0_countOf_49 : decode cX0_countOf 49 = .ok (.getfield 169, 3) := dk_180 0 169 (dk_at dksX0_countOf_2 1 rfl rfl)
theorem dX0_countOf_52 : decode cX0_countOf 52 = .ok (.ireturn, 1) := dk_172 (dk_at dksX0_countOf_2 4 rfl rfl)
theorem dX0_countOf_53 : decode cX0_countOf 53 = .ok (.aload_n 0, 1) := dk_42 (dk_at dksX0_countOf_2 5 rfl rfl)
theorem dX0_countOf_54 : decode cX0_countOf 54 = .ok (.getfield 172, 3) := dk_180 0 172 (dk_at dksX0_countOf_2 6 rfl rfl)
theorem dX0_countOf_57 : decode cX0_countOf 57 = .ok (.ireturn, 1) := dk_172 (dk_at dksX0_countOf_2 9 rfl rfl)
theorem dX0_countOf_58 : decode cX0_countOf 58 = .ok (.aload_n 0, 1) := dk_42 (dk_at dksX0_countOf_2 10 rfl rfl)
theorem dX0_countOf_59 : decode cX0_countOf 59 = .ok (.getfield 74, 3) := dk_180 0 74 (dk_at dksX0_countOf_2 11 rfl rfl)
theorem dX0_countOf_62 : decode cX0_countOf 62 = .ok (.ireturn, 1) := dk_172 (dk_at dksX0_countOf_2 14 rfl rfl)
theorem dX0_countOf_63 : decode cX0_countOf 63 = .ok (.aload_n 0, 1) := dk_42 (dk_at dksX0_countOf_2 15 rfl rfl)
theorem dX0_countOf_64 : decode cX0_countOf 64 = .ok (.getfield 179, 3) := dk_180 0 179 (dk_at dksX0_countOf_2 16 rfl rfl)
theorem dX0_countOf_67 : decode cX0_countOf 67 = .ok (.ireturn, 1) := dk_172 (dk_at dksX0_countOf_2 19 rfl rfl)
theorem dX0_countOf_68 : decode cX0_countOf 68 = .ok (.aload_n 0, 1) := dk_42 (dk_at dksX0_countOf_2 20 rfl rfl)
theorem dX0_countOf_69 : decode cX0_countOf 69 = .ok (.getfield 182, 3) := dk_180 0 182 (dk_at dksX0_countOf_2 21 rfl rfl)
theorem dX0_countOf_72 : decode cX0_countOf 72 = .ok (.ireturn, 1) := dk_172 (dk_at dksX0_countOf_3 0 rfl rfl)
theorem dX0_countOf_73 : decode cX0_countOf 73 = .ok (.aload_n 0, 1) := dk_42 (dk_at dksX0_countOf_3 1 rfl rfl)
theorem dX0_countOf_74 : decode cX0_countOf 74 = .ok (.invokevirtual 268, 3) := dk_182 1 12 (dk_at dksX0_countOf_3 2 rfl rfl)
theorem dX0_countOf_77 : decode cX0_countOf 77 = .ok (.ireturn, 1) := dk_172 (dk_at dksX0_countOf_3 5 rfl rfl)
theorem dX0_countOf_78 : decode cX0_countOf 78 = .ok (.aload_n 0, 1) := dk_42 (dk_at dksX0_countOf_3 6 rfl rfl)
theorem dX0_countOf_79 : decode cX0_countOf 79 = .ok (.invokevirtual 289, 3) := dk_182 1 33 (dk_at dksX0_countOf_3 7 rfl rfl)
theorem dX0_countOf_82 : decode cX0_countOf 82 = .ok (.ireturn, 1) := dk_172 (dk_at dksX0_countOf_3 10 rfl rfl)
theorem dX0_countOf_83 : decode cX0_countOf 83 = .ok (.aload_n 0, 1) := dk_42 (dk_at dksX0_countOf_3 11 rfl rfl)
theorem dX0_countOf_84 : decode cX0_countOf 84 = .ok (.invokevirtual 334, 3) := dk_182 1 78 (dk_at dksX0_countOf_3 12 rfl rfl)
theorem dX0_countOf_87 : decode cX0_countOf 87 = .ok (.ireturn, 1) := dk_172 (dk_at dksX0_countOf_3 15 rfl rfl)
theorem dX0_countOf_88 : decode cX0_countOf 88 = .ok (.aload_n 0, 1) := dk_42 (dk_at dksX0_countOf_3 16 rfl rfl)
theorem dX0_countOf_89 : decode cX0_countOf 89 = .ok (.iload_n 1, 1) := dk_27 (dk_at dksX0_countOf_3 17 rfl rfl)
theorem dX0_countOf_90 : decode cX0_countOf 90 = .ok (.invokevirtual 337, 3) := dk_182 1 81 (dk_at dksX0_countOf_3 18 rfl rfl)
theorem dX0_countOf_93 : decode cX0_countOf 93 = .ok (.ireturn, 1) := dk_172 (dk_at dksX0_countOf_3 21 rfl rfl)
abbrev cX0_olds : ByteArray := prog_1_method_82_code
def yX0_olds : MethodName := ⟨RX0, "olds", "()I"⟩
def dkwX0_olds_1 : List UInt8 := [153, 0, 7, 4, 167, 0, 4, 3, 96, 60, 132, 2, 1, 167, 255, 224, 27, 172]
abbrev dktX0_olds_1 : List UInt8 := dkwX0_olds_1 ++ []
def dkwX0_olds_0 : List UInt8 := [3, 60, 3, 61, 28, 42, 180, 0, 169, 162, 0, 30, 27, 42, 180, 0, 44, 28, 50, 4, 182, 1, 75]
abbrev dktX0_olds_0 : List UInt8 := dkwX0_olds_0 ++ dktX0_olds_1
theorem dksX0_olds_0 : cX0_olds.data.toList.drop 0 = dktX0_olds_0 := by decide +kernel
theorem dksX0_olds_1 : cX0_olds.data.toList.drop 23 = dktX0_olds_1 := dk_seg dksX0_olds_0 23 rfl rfl
theorem dX0_olds_0 : decode cX0_olds 0 = .ok (.iconst 0, 1) := dk_3 (dk_at dksX0_olds_0 0 rfl rfl)
theorem dX0_olds_1 : decode cX0_olds 1 = .ok (.istore_n 1, 1) := dk_60 (dk_at dksX0_olds_0 1 rfl rfl)
theorem dX0_olds_2 : decode cX0_olds 2 = .ok (.iconst 0, 1) := dk_3 (dk_at dksX0_olds_0 2 rfl rfl)
theorem dX0_olds_3 : decode cX0_olds 3 = .ok (.istore_n 2, 1) := dk_61 (dk_at dksX0_olds_0 3 rfl rfl)
theorem dX0_olds_4 : decode cX0_olds 4 = .ok (.iload_n 2, 1) := dk_28 (dk_at dksX0_olds_0 4 rfl rfl)
theorem dX0_olds_5 : decode cX0_olds 5 = .ok (.aload_n 0, 1) := dk_42 (dk_at dksX0_olds_0 5 rfl rfl)
theorem dX0_olds_6 : decode cX0_olds 6 = .ok (.getfield 169, 3) := dk_180 0 169 (dk_at dksX0_olds_0 6 rfl rfl)
theorem dX0_olds_9 : decode cX0_olds 9 = .ok (.if_icmp .ge 30, 3) := dk_162 0 30 (dk_at dksX0_olds_0 9 rfl rfl)
theorem dX0_olds_12 : decode cX0_olds 12 = .ok (.iload_n 1, 1) := dk_27 (dk_at dksX0_olds_0 12 rfl rfl)
theorem dX0_olds_13 : decode cX0_olds 13 = .ok (.aload_n 0, 1) := dk_42 (dk_at dksX0_olds_0 13 rfl rfl)
theorem dX0_olds_14 : decode cX0_olds 14 = .ok (.getfield 44, 3) := dk_180 0 44 (dk_at dksX0_olds_0 14 rfl rfl)
theorem dX0_olds_17 : decode cX0_olds 17 = .ok (.iload_n 2, 1) := dk_28 (dk_at dksX0_olds_0 17 rfl rfl)
theorem dX0_olds_18 : decode cX0_olds 18 = .ok (.aaload, 1) := dk_50 (dk_at dksX0_olds_0 18 rfl rfl)
theorem dX0_olds_19 : decode cX0_olds 19 = .ok (.iconst 1, 1) := dk_4 (dk_at dksX0_olds_0 19 rfl rfl)
theorem dX0_olds_20 : decode cX0_olds 20 = .ok (.invokevirtual 331, 3) := dk_182 1 75 (dk_at dksX0_olds_0 20 rfl rfl)
theorem dX0_olds_23 : decode cX0_olds 23 = .ok (.ifCond .eq 7, 3) := dk_153 0 7 (dk_at dksX0_olds_1 0 rfl rfl)
theorem dX0_olds_26 : decode cX0_olds 26 = .ok (.iconst 1, 1) := dk_4 (dk_at dksX0_olds_1 3 rfl rfl)
theorem dX0_olds_27 : decode cX0_olds 27 = .ok (.goto 4, 3) := dk_167 0 4 (dk_at dksX0_olds_1 4 rfl rfl)
theorem dX0_olds_30 : decode cX0_olds 30 = .ok (.iconst 0, 1) := dk_3 (dk_at dksX0_olds_1 7 rfl rfl)
theorem dX0_olds_31 : decode cX0_olds 31 = .ok (.iadd, 1) := dk_96 (dk_at dksX0_olds_1 8 rfl rfl)
theorem dX0_olds_32 : decode cX0_olds 32 = .ok (.istore_n 1, 1) := dk_60 (dk_at dksX0_olds_1 9 rfl rfl)
theorem dX0_olds_33 : decode cX0_olds 33 = .ok (.iinc 2 1, 3) := dk_132 2 1 (dk_at dksX0_olds_1 10 rfl rfl)
theorem dX0_olds_36 : decode cX0_olds 36 = .ok (.goto (-32), 3) := dk_167 255 224 (dk_at dksX0_olds_1 13 rfl rfl)
theorem dX0_olds_39 : decode cX0_olds 39 = .ok (.iload_n 1, 1) := dk_27 (dk_at dksX0_olds_1 16 rfl rfl)
theorem dX0_olds_40 : decode cX0_olds 40 = .ok (.ireturn, 1) := dk_172 (dk_at dksX0_olds_1 17 rfl rfl)
abbrev cX0_thereOf : ByteArray := prog_1_method_83_code
def yX0_thereOf : MethodName := ⟨RX0, "thereOf", "(I)I"⟩
def dkwX0_thereOf_3 : List UInt8 := [96, 61, 132, 3, 1, 167, 255, 184, 28, 172]
abbrev dktX0_thereOf_3 : List UInt8 := dkwX0_thereOf_3 ++ []
def dkwX0_thereOf_2 : List UInt8 := [16, 10, 160, 0, 21, 29, 6, 162, 0, 16, 42, 180, 0, 70, 29, 50, 198, 0, 7, 4, 167, 0, 4, 3]
abbrev dktX0_thereOf_2 : List UInt8 := dkwX0_thereOf_2 ++ dktX0_thereOf_3
def dkwX0_thereOf_1 : List UInt8 := [199, 0, 43, 27, 16, 9, 160, 0, 17, 29, 7, 162, 0, 12, 42, 180, 0, 34, 29, 50, 199, 0, 23, 27]
abbrev dktX0_thereOf_1 : List UInt8 := dkwX0_thereOf_1 ++ dktX0_thereOf_2
def dkwX0_thereOf_0 : List UInt8 := [3, 61, 3, 62, 29, 16, 6, 162, 0, 72, 28, 27, 16, 8, 160, 0, 12, 42, 180, 0, 28, 29, 50]
abbrev dktX0_thereOf_0 : List UInt8 := dkwX0_thereOf_0 ++ dktX0_thereOf_1
theorem dksX0_thereOf_0 : cX0_thereOf.data.toList.drop 0 = dktX0_thereOf_0 := by decide +kernel
theorem dksX0_thereOf_1 : cX0_thereOf.data.toList.drop 23 = dktX0_thereOf_1 := dk_seg dksX0_thereOf_0 23 rfl rfl
theorem dksX0_thereOf_2 : cX0_thereOf.data.toList.drop 47 = dktX0_thereOf_2 := dk_seg dksX0_thereOf_1 24 rfl rfl
theorem dksX0_thereOf_3 : cX0_thereOf.data.toList.drop 71 = dktX0_thereOf_3 := dk_seg dksX0_thereOf_2 24 rfl rfl
theorem dX0_thereOf_0 : decode cX0_thereOf 0 = .ok (.iconst 0, 1) := dk_3 (dk_at dksX0_thereOf_0 0 rfl rfl)
theorem dX0_thereOf_1 : decode cX0_thereOf 1 = .ok (.istore_n 2, 1) := dk_61 (dk_at dksX0_thereOf_0 1 rfl rfl)
theorem dX0_thereOf_2 : decode cX0_thereOf 2 = .ok (.iconst 0, 1) := dk_3 (dk_at dksX0_thereOf_0 2 rfl rfl)
theorem dX0_thereOf_3 : decode cX0_thereOf 3 = .ok (.istore_n 3, 1) := dk_62 (dk_at dksX0_thereOf_0 3 rfl rfl)
theorem dX0_thereOf_4 : decode cX0_thereOf 4 = .ok (.iload_n 3, 1) := dk_29 (dk_at dksX0_thereOf_0 4 rfl rfl)
theorem dX0_thereOf_5 : decode cX0_thereOf 5 = .ok (.bipush 6, 2) := dk_16 6 (dk_at dksX0_thereOf_0 5 rfl rfl)
theorem dX0_thereOf_7 : decode cX0_thereOf 7 = .ok (.if_icmp .ge 72, 3) := dk_162 0 72 (dk_at dksX0_thereOf_0 7 rfl rfl)
theorem dX0_thereOf_10 : decode cX0_thereOf 10 = .ok (.iload_n 2, 1) := dk_28 (dk_at dksX0_thereOf_0 10 rfl rfl)
theorem dX0_thereOf_11 : decode cX0_thereOf 11 = .ok (.iload_n 1, 1) := dk_27 (dk_at dksX0_thereOf_0 11 rfl rfl)
theorem dX0_thereOf_12 : decode cX0_thereOf 12 = .ok (.bipush 8, 2) := dk_16 8 (dk_at dksX0_thereOf_0 12 rfl rfl)
theorem dX0_thereOf_14 : decode cX0_thereOf 14 = .ok (.if_icmp .ne 12, 3) := dk_160 0 12 (dk_at dksX0_thereOf_0 14 rfl rfl)
theorem dX0_thereOf_17 : decode cX0_thereOf 17 = .ok (.aload_n 0, 1) := dk_42 (dk_at dksX0_thereOf_0 17 rfl rfl)
theorem dX0_thereOf_18 : decode cX0_thereOf 18 = .ok (.getfield 28, 3) := dk_180 0 28 (dk_at dksX0_thereOf_0 18 rfl rfl)
theorem dX0_thereOf_21 : decode cX0_thereOf 21 = .ok (.iload_n 3, 1) := dk_29 (dk_at dksX0_thereOf_0 21 rfl rfl)
theorem dX0_thereOf_22 : decode cX0_thereOf 22 = .ok (.aaload, 1) := dk_50 (dk_at dksX0_thereOf_0 22 rfl rfl)
theorem dX0_thereOf_23 : decode cX0_thereOf 23 = .ok (.ifnonnull 43, 3) := dk_199 0 43 (dk_at dksX0_thereOf_1 0 rfl rfl)
theorem dX0_thereOf_26 : decode cX0_thereOf 26 = .ok (.iload_n 1, 1) := dk_27 (dk_at dksX0_thereOf_1 3 rfl rfl)
theorem dX0_thereOf_27 : decode cX0_thereOf 27 = .ok (.bipush 9, 2) := dk_16 9 (dk_at dksX0_thereOf_1 4 rfl rfl)
theorem dX0_thereOf_29 : decode cX0_thereOf 29 = .ok (.if_icmp .ne 17, 3) := dk_160 0 17 (dk_at dksX0_thereOf_1 6 rfl rfl)
theorem dX0_thereOf_32 : decode cX0_thereOf 32 = .ok (.iload_n 3, 1) := dk_29 (dk_at dksX0_thereOf_1 9 rfl rfl)
theorem dX0_thereOf_33 : decode cX0_thereOf 33 = .ok (.iconst 4, 1) := dk_7 (dk_at dksX0_thereOf_1 10 rfl rfl)
theorem dX0_thereOf_34 : decode cX0_thereOf 34 = .ok (.if_icmp .ge 12, 3) := dk_162 0 12 (dk_at dksX0_thereOf_1 11 rfl rfl)
theorem dX0_thereOf_37 : decode cX0_thereOf 37 = .ok (.aload_n 0, 1) := dk_42 (dk_at dksX0_thereOf_1 14 rfl rfl)
theorem dX0_thereOf_38 : decode cX0_thereOf 38 = .ok (.getfield 34, 3) := dk_180 0 34 (dk_at dksX0_thereOf_1 15 rfl rfl)
theorem dX0_thereOf_41 : decode cX0_thereOf 41 = .ok (.iload_n 3, 1) := dk_29 (dk_at dksX0_thereOf_1 18 rfl rfl)
theorem dX0_thereOf_42 : decode cX0_thereOf 42 = .ok (.aaload, 1) := dk_50 (dk_at dksX0_thereOf_1 19 rfl rfl)
theorem dX0_thereOf_43 : decode cX0_thereOf 43 = .ok (.ifnonnull 23, 3) := dk_199 0 23 (dk_at dksX0_thereOf_1 20 rfl rfl)
theorem dX0_thereOf_46 : decode cX0_thereOf 46 = .ok (.iload_n 1, 1) := dk_27 (dk_at dksX0_thereOf_1 23 rfl rfl)
theorem dX0_thereOf_47 : decode cX0_thereOf 47 = .ok (.bipush 10, 2) := dk_16 10 (dk_at dksX0_thereOf_2 0 rfl rfl)
theorem dX0_thereOf_49 : decode cX0_thereOf 49 = .ok (.if_icmp .ne 21, 3) := dk_160 0 21 (dk_at dksX0_thereOf_2 2 rfl rfl)
theorem dX0_thereOf_52 : decode cX0_thereOf 52 = .ok (.iload_n 3, 1) := dk_29 (dk_at dksX0_thereOf_2 5 rfl rfl)
theorem dX0_thereOf_53 : decode cX0_thereOf 53 = .ok (.iconst 3, 1) := dk_6 (dk_at dksX0_thereOf_2 6 rfl rfl)
theorem dX0_thereOf_54 : decode cX0_thereOf 54 = .ok (.if_icmp .ge 16, 3) := dk_162 0 16 (dk_at dksX0_thereOf_2 7 rfl rfl)
theorem dX0_thereOf_57 : decode cX0_thereOf 57 = .ok (.aload_n 0, 1) := dk_42 (dk_at dksX0_thereOf_2 10 rfl rfl)
theorem dX0_thereOf_58 : decode cX0_thereOf 58 = .ok (.getfield 70, 3) := dk_180 0 70 (dk_at dksX0_thereOf_2 11 rfl rfl)
theorem dX0_thereOf_61 : decode cX0_thereOf 61 = .ok (.iload_n 3, 1) := dk_29 (dk_at dksX0_thereOf_2 14 rfl rfl)
theorem dX0_thereOf_62 : decode cX0_thereOf 62 = .ok (.aaload, 1) := dk_50 (dk_at dksX0_thereOf_2 15 rfl rfl)
theorem dX0_thereOf_63 : decode cX0_thereOf 63 = .ok (.ifnull 7, 3) := dk_198 0 7 (dk_at dksX0_thereOf_2 16 rfl rfl)
theorem dX0_thereOf_66 : decode cX0_thereOf 66 = .ok (.iconst 1, 1) := dk_4 (dk_at dksX0_thereOf_2 19 rfl rfl)
theorem dX0_thereOf_67 : decode cX0_thereOf 67 = .ok (.goto 4, 3) := dk_167 0 4 (dk_at dksX0_thereOf_2 20 rfl rfl)
theorem dX0_thereOf_70 : decode cX0_thereOf 70 = .ok (.iconst 0, 1) := dk_3 (dk_at dksX0_thereOf_2 23 rfl rfl)
theorem dX0_thereOf_71 : decode cX0_thereOf 71 = .ok (.iadd, 1) := dk_96 (dk_at dksX0_thereOf_3 0 rfl rfl)
theorem dX0_thereOf_72 : decode cX0_thereOf 72 = .ok (.istore_n 2, 1) := dk_61 (dk_at dksX0_thereOf_3 1 rfl rfl)
theorem dX0_thereOf_73 : decode cX0_thereOf 73 = .ok (.iinc 3 1, 3) := dk_132 3 1 (dk_at dksX0_thereOf_3 2 rfl rfl)
theorem dX0_thereOf_76 : decode cX0_thereOf 76 = .ok (.goto (-72), 3) := dk_167 255 184 (dk_at dksX0_thereOf_3 5 rfl rfl)
theorem dX0_thereOf_79 : decode cX0_thereOf 79 = .ok (.iload_n 2, 1) := dk_28 (dk_at dksX0_thereOf_3 8 rfl rfl)
theorem dX0_thereOf_80 : decode cX0_thereOf 80 = .ok (.ireturn, 1) := dk_172 (dk_at dksX0_thereOf_3 9 rfl rfl)
abbrev cX0_finding : ByteArray := prog_1_method_86_code
def yX0_finding : MethodName := ⟨RX0, "finding", "()I"⟩
theorem dX0_finding_0 : decode cX0_finding 0 = .ok (.aload_n 0, 1) := by decide +kernel
theorem dX0_finding_1 : decode cX0_finding 1 = .ok (.getfield 1, 3) := by decide +kernel
theorem dX0_finding_4 : decode cX0_finding 4 = .ok (.ireturn, 1) := by decide +kernel
abbrev cX0_findings : ByteArray := prog_1_method_87_code
def yX0_findings : MethodName := ⟨RX0, "findings", "(I)I"⟩
def dkwX0_findings_0 : List UInt8 := [27, 4, 8, 184, 0, 77, 153, 0, 12, 42, 180, 0, 7, 27, 46, 167, 0, 4, 2, 172]
abbrev dktX0_findings_0 : List UInt8 := dkwX0_findings_0 ++ []
theorem dksX0_findings_0 : cX0_findings.data.toList.drop 0 = dktX0_findings_0 := by decide +kernel
theorem dX0_findings_0 : decode cX0_findings 0 = .ok (.iload_n 1, 1) := dk_27 (dk_at dksX0_findings_0 0 rfl rfl)
theorem dX0_findings_1 : decode cX0_findings 1 = .ok (.iconst 1, 1) := dk_4 (dk_at dksX0_findings_0 1 rfl rfl)
theorem dX0_findings_2 : decode cX0_findings 2 = .ok (.iconst 5, 1) := dk_8 (dk_at dksX0_findings_0 2 rfl rfl)
theorem dX0_findings_3 : decode cX0_findings 3 = .ok (.invokestatic 77, 3) := dk_184 0 77 (dk_at dksX0_findings_0 3 rfl rfl)
theorem dX0_findings_6 : decode cX0_findings 6 = .ok (.ifCond .eq 12, 3) := dk_153 0 12 (dk_at dksX0_findings_0 6 rfl rfl)
theorem dX0_findings_9 : decode cX0_findings 9 = .ok (.aload_n 0, 1) := dk_42 (dk_at dksX0_findings_0 9 rfl rfl)
theorem dX0_findings_10 : decode cX0_findings 10 = .ok (.getfield 7, 3) := dk_180 0 7 (dk_at dksX0_findings_0 10 rfl rfl)
theorem dX0_findings_13 : decode cX0_findings 13 = .ok (.iload_n 1, 1) := dk_27 (dk_at dksX0_findings_0 13 rfl rfl)
theorem dX0_findings_14 : decode cX0_findings 14 = .ok (.iaload, 1) := dk_46 (dk_at dksX0_findings_0 14 rfl rfl)
theorem dX0_findings_15 : decode cX0_findings 15 = .ok (.goto 4, 3) := dk_167 0 4 (dk_at dksX0_findings_0 15 rfl rfl)
theorem dX0_findings_18 : decode cX0_findings 18 = .ok (.iconst (-1), 1) := dk_2 (dk_at dksX0_findings_0 18 rfl rfl)
theorem dX0_findings_19 : decode cX0_findings 19 = .ok (.ireturn, 1) := dk_172 (dk_at dksX0_findings_0 19 rfl rfl)
abbrev cX0_digest : ByteArray := prog_1_method_90_code
def yX0_digest : MethodName := ⟨RX0, "digest", "()J"⟩
def dkwX0_digest_7 : List UInt8 := [132, 6, 1, 167, 255, 237, 132, 3, 1, 167, 255, 198, 42, 180, 1, 89, 173]
abbrev dktX0_digest_7 : List UInt8 := dkwX0_digest_7 ++ []
def dkwX0_digest_6 : List UInt8 := [21, 5, 182, 1, 92, 3, 54, 6, 21, 6, 21, 5, 162, 0, 18, 42, 25, 4, 21, 6, 51, 182, 1, 92]
abbrev dktX0_digest_6 : List UInt8 := dkwX0_digest_6 ++ dktX0_digest_7
def dkwX0_digest_5 : List UInt8 := [162, 0, 59, 43, 29, 50, 58, 4, 25, 4, 199, 0, 7, 2, 167, 0, 6, 25, 4, 190, 54, 5, 42]
abbrev dktX0_digest_5 : List UInt8 := dkwX0_digest_5 ++ dktX0_digest_6
def dkwX0_digest_4 : List UInt8 := [132, 6, 1, 167, 255, 237, 132, 3, 1, 167, 255, 198, 42, 180, 0, 34, 76, 43, 190, 61, 3, 62, 29, 28]
abbrev dktX0_digest_4 : List UInt8 := dkwX0_digest_4 ++ dktX0_digest_5
def dkwX0_digest_3 : List UInt8 := [21, 5, 182, 1, 92, 3, 54, 6, 21, 6, 21, 5, 162, 0, 18, 42, 25, 4, 21, 6, 46, 182, 1, 92]
abbrev dktX0_digest_3 : List UInt8 := dkwX0_digest_3 ++ dktX0_digest_4
def dkwX0_digest_2 : List UInt8 := [162, 0, 59, 43, 29, 50, 58, 4, 25, 4, 199, 0, 7, 2, 167, 0, 6, 25, 4, 190, 54, 5, 42]
abbrev dktX0_digest_2 : List UInt8 := dkwX0_digest_2 ++ dktX0_digest_3
def dkwX0_digest_1 : List UInt8 := [132, 1, 1, 167, 255, 238, 42, 182, 1, 97, 42, 180, 0, 28, 76, 43, 190, 61, 3, 62, 29, 28]
abbrev dktX0_digest_1 : List UInt8 := dkwX0_digest_1 ++ dktX0_digest_2
def dkwX0_digest_0 : List UInt8 := [42, 20, 1, 95, 181, 1, 89, 3, 60, 27, 16, 10, 163, 0, 18, 42, 42, 27, 182, 1, 84, 182, 1, 92]
abbrev dktX0_digest_0 : List UInt8 := dkwX0_digest_0 ++ dktX0_digest_1
theorem dksX0_digest_0 : cX0_digest.data.toList.drop 0 = dktX0_digest_0 := by decide +kernel
theorem dksX0_digest_1 : cX0_digest.data.toList.drop 24 = dktX0_digest_1 := dk_seg dksX0_digest_0 24 rfl rfl
theorem dksX0_digest_2 : cX0_digest.data.toList.drop 46 = dktX0_digest_2 := dk_seg dksX0_digest_1 22 rfl rfl
theorem dksX0_digest_3 : cX0_digest.data.toList.drop 69 = dktX0_digest_3 := dk_seg dksX0_digest_2 23 rfl rfl
theorem dksX0_digest_4 : cX0_digest.data.toList.drop 93 = dktX0_digest_4 := dk_seg dksX0_digest_3 24 rfl rfl
theorem dksX0_digest_5 : cX0_digest.data.toList.drop 117 = dktX0_digest_5 := dk_seg dksX0_digest_4 24 rfl rfl
theorem dksX0_digest_6 : cX0_digest.data.toList.drop 140 = dktX0_digest_6 := dk_seg dksX0_digest_5 23 rfl rfl
theorem dksX0_digest_7 : cX0_digest.data.toList.drop 164 = dktX0_digest_7 := dk_seg dksX0_digest_6 24 rfl rfl
theorem dX0_digest_0 : decode cX0_digest 0 = .ok (.aload_n 0, 1) := dk_42 (dk_at dksX0_digest_0 0 rfl rfl)
theorem dX0_digest_1 : decode cX0_digest 1 = .ok (.ldc2_w 351, 3) := dk_20 1 95 (dk_at dksX0_digest_0 1 rfl rfl)
theorem dX0_digest_4 : decode cX0_digest 4 = .ok (.putfield 345, 3) := dk_181 1 89 (dk_at dksX0_digest_0 4 rfl rfl)
theorem dX0_digest_7 : decode cX0_digest 7 = .ok (.iconst 0, 1) := dk_3 (dk_at dksX0_digest_0 7 rfl rfl)
theorem dX0_digest_8 : decode cX0_digest 8 = .ok (.istore_n 1, 1) := dk_60 (dk_at dksX0_digest_0 8 rfl rfl)
theorem dX0_digest_9 : decode cX0_digest 9 = .ok (.iload_n 1, 1) := dk_27 (dk_at dksX0_digest_0 9 rfl rfl)
theorem dX0_digest_10 : decode cX0_digest 10 = .ok (.bipush 10, 2) := dk_16 10 (dk_at dksX0_digest_0 10 rfl rfl)
theorem dX0_digest_12 : decode cX0_digest 12 = .ok (.if_icmp .gt 18, 3) := dk_163 0 18 (dk_at dksX0_digest_0 12 rfl rfl)
theorem dX0_digest_15 : decode cX0_digest 15 = .ok (.aload_n 0, 1) := dk_42 (dk_at dksX0_digest_0 15 rfl rfl)
theorem dX0_digest_16 : decode cX0_digest 16 = .ok (.aload_n 0, 1) := dk_42 (dk_at dksX0_digest_0 16 rfl rfl)
theorem dX0_digest_17 : decode cX0_digest 17 = .ok (.iload_n 1, 1) := dk_27 (dk_at dksX0_digest_0 17 rfl rfl)
theorem dX0_digest_18 : decode cX0_digest 18 = .ok (.invokevirtual 340, 3) := dk_182 1 84 (dk_at dksX0_digest_0 18 rfl rfl)
theorem dX0_digest_21 : decode cX0_digest 21 = .ok (.invokevirtual 348, 3) := dk_182 1 92 (dk_at dksX0_digest_0 21 rfl rfl)
theorem dX0_digest_24 : decode cX0_digest 24 = .ok (.iinc 1 1, 3) := dk_132 1 1 (dk_at dksX0_digest_1 0 rfl rfl)
theorem dX0_digest_27 : decode cX0_digest 27 = .ok (.goto (-18), 3) := dk_167 255 238 (dk_at dksX0_digest_1 3 rfl rfl)
theorem dX0_digest_30 : decode cX0_digest 30 = .ok (.aload_n 0, 1) := dk_42 (dk_at dksX0_digest_1 6 rfl rfl)
theorem dX0_digest_31 : decode cX0_digest 31 = .ok (.invokevirtual 353, 3) := dk_182 1 97 (dk_at dksX0_digest_1 7 rfl rfl)
theorem dX0_digest_34 : decode cX0_digest 34 = .ok (.aload_n 0, 1) := dk_42 (dk_at dksX0_digest_1 10 rfl rfl)
theorem dX0_digest_35 : decode cX0_digest 35 = .ok (.getfield 28, 3) := dk_180 0 28 (dk_at dksX0_digest_1 11 rfl rfl)
theorem dX0_digest_38 : decode cX0_digest 38 = .ok (.astore_n 1, 1) := dk_76 (dk_at dksX0_digest_1 14 rfl rfl)
theorem dX0_digest_39 : decode cX0_digest 39 = .ok (.aload_n 1, 1) := dk_43 (dk_at dksX0_digest_1 15 rfl rfl)
theorem dX0_digest_40 : decode cX0_digest 40 = .ok (.arraylength, 1) := dk_190 (dk_at dksX0_digest_1 16 rfl rfl)
theorem dX0_digest_41 : decode cX0_digest 41 = .ok (.istore_n 2, 1) := dk_61 (dk_at dksX0_digest_1 17 rfl rfl)
theorem dX0_digest_42 : decode cX0_digest 42 = .ok (.iconst 0, 1) := dk_3 (dk_at dksX0_digest_1 18 rfl rfl)
theorem dX0_digest_43 : decode cX0_digest 43 = .ok (.istore_n 3, 1) := dk_62 (dk_at dksX0_digest_1 19 rfl rfl)
theorem dX0_digest_44 : decode cX0_digest 44 = .ok (.iload_n 3, 1) := dk_29 (dk_at dksX0_digest_1 20 rfl rfl)
theorem dX0_digest_45 : decode cX0_digest 45 = .ok (.iload_n 2, 1) := dk_28 (dk_at dksX0_digest_1 21 rfl rfl)
theorem dX0_digest_46 : decode cX0_digest 46 = .ok (.if_icmp .ge 59, 3) := dk_162 0 59 (dk_at dksX0_digest_2 0 rfl rfl)
theorem dX0_digest_49 : decode cX0_digest 49 = .ok (.aload_n 1, 1) := dk_43 (dk_at dksX0_digest_2 3 rfl rfl)
theorem dX0_digest_50 : decode cX0_digest 50 = .ok (.iload_n 3, 1) := dk_29 (dk_at dksX0_digest_2 4 rfl rfl)
theorem dX0_digest_51 : decode cX0_digest 51 = .ok (.aaload, 1) := dk_50 (dk_at dksX0_digest_2 5 rfl rfl)
theorem dX0_digest_52 : decode cX0_digest 52 = .ok (.astore 4, 2) := dk_58 4 (dk_at dksX0_digest_2 6 rfl rfl)
theorem dX0_digest_54 : decode cX0_digest 54 = .ok (.aload 4, 2) := dk_25 4 (dk_at dksX0_digest_2 8 rfl rfl)
theorem dX0_digest_56 : decode cX0_digest 56 = .ok (.ifnonnull 7, 3) := dk_199 0 7 (dk_at dksX0_digest_2 10 rfl rfl)
theorem dX0_digest_59 : decode cX0_digest 59 = .ok (.iconst (-1), 1) := dk_2 (dk_at dksX0_digest_2 13 rfl rfl)
theorem dX0_digest_60 : decode cX0_digest 60 = .ok (.goto 6, 3) := dk_167 0 6 (dk_at dksX0_digest_2 14 rfl rfl)
theorem dX0_digest_63 : decode cX0_digest 63 = .ok (.aload 4, 2) := dk_25 4 (dk_at dksX0_digest_2 17 rfl rfl)
theorem dX0_digest_65 : decode cX0_digest 65 = .ok (.arraylength, 1) := dk_190 (dk_at dksX0_digest_2 19 rfl rfl)
theorem dX0_digest_66 : decode cX0_digest 66 = .ok (.istore 5, 2) := dk_54 5 (dk_at dksX0_digest_2 20 rfl rfl)
theorem dX0_digest_68 : decode cX0_digest 68 = .ok (.aload_n 0, 1) := dk_42 (dk_at dksX0_digest_2 22 rfl rfl)
theorem dX0_digest_69 : decode cX0_digest 69 = .ok (.iload 5, 2) := dk_21 5 (dk_at dksX0_digest_3 0 rfl rfl)
theorem dX0_digest_71 : decode cX0_digest 71 = .ok (.invokevirtual 348, 3) := dk_182 1 92 (dk_at dksX0_digest_3 2 rfl rfl)
theorem dX0_digest_74 : decode cX0_digest 74 = .ok (.iconst 0, 1) := dk_3 (dk_at dksX0_digest_3 5 rfl rfl)
theorem dX0_digest_75 : decode cX0_digest 75 = .ok (.istore 6, 2) := dk_54 6 (dk_at dksX0_digest_3 6 rfl rfl)
theorem dX0_digest_77 : decode cX0_digest 77 = .ok (.iload 6, 2) := dk_21 6 (dk_at dksX0_digest_3 8 rfl rfl)
theorem dX0_digest_79 : decode cX0_digest 79 = .ok (.iload 5, 2) := dk_21 5 (dk_at dksX0_digest_3 10 rfl rfl)
theorem dX0_digest_81 : decode cX0_digest 81 = .ok (.if_icmp .ge 18, 3) := dk_162 0 18 (dk_at dksX0_digest_3 12 rfl rfl)
theorem dX0_digest_84 : decode cX0_digest 84 = .ok (.aload_n 0, 1) := dk_42 (dk_at dksX0_digest_3 15 rfl rfl)
theorem dX0_digest_85 : decode cX0_digest 85 = .ok (.aload 4, 2) := dk_25 4 (dk_at dksX0_digest_3 16 rfl rfl)
theorem dX0_digest_87 : decode cX0_digest 87 = .ok (.iload 6, 2) := dk_21 6 (dk_at dksX0_digest_3 18 rfl rfl)
theorem dX0_digest_89 : decode cX0_digest 89 = .ok (.iaload, 1) := dk_46 (dk_at dksX0_digest_3 20 rfl rfl)
theorem dX0_digest_90 : decode cX0_digest 90 = .ok (.invokevirtual 348, 3) := dk_182 1 92 (dk_at dksX0_digest_3 21 rfl rfl)
theorem dX0_digest_93 : decode cX0_digest 93 = .ok (.iinc 6 1, 3) := dk_132 6 1 (dk_at dksX0_digest_4 0 rfl rfl)
theorem dX0_digest_96 : decode cX0_digest 96 = .ok (.goto (-19), 3) := dk_167 255 237 (dk_at dksX0_digest_4 3 rfl rfl)
theorem dX0_digest_99 : decode cX0_digest 99 = .ok (.iinc 3 1, 3) := dk_132 3 1 (dk_at dksX0_digest_4 6 rfl rfl)
theorem dX0_digest_102 : decode cX0_digest 102 = .ok (.goto (-58), 3) := dk_167 255 198 (dk_at dksX0_digest_4 9 rfl rfl)
theorem dX0_digest_105 : decode cX0_digest 105 = .ok (.aload_n 0, 1) := dk_42 (dk_at dksX0_digest_4 12 rfl rfl)
theorem dX0_digest_106 : decode cX0_digest 106 = .ok (.getfield 34, 3) := dk_180 0 34 (dk_at dksX0_digest_4 13 rfl rfl)
theorem dX0_digest_109 : decode cX0_digest 109 = .ok (.astore_n 1, 1) := dk_76 (dk_at dksX0_digest_4 16 rfl rfl)
theorem dX0_digest_110 : decode cX0_digest 110 = .ok (.aload_n 1, 1) := dk_43 (dk_at dksX0_digest_4 17 rfl rfl)
theorem dX0_digest_111 : decode cX0_digest 111 = .ok (.arraylength, 1) := dk_190 (dk_at dksX0_digest_4 18 rfl rfl)
theorem dX0_digest_112 : decode cX0_digest 112 = .ok (.istore_n 2, 1) := dk_61 (dk_at dksX0_digest_4 19 rfl rfl)
theorem dX0_digest_113 : decode cX0_digest 113 = .ok (.iconst 0, 1) := dk_3 (dk_at dksX0_digest_4 20 rfl rfl)
theorem dX0_digest_114 : decode cX0_digest 114 = .ok (.istore_n 3, 1) := dk_62 (dk_at dksX0_digest_4 21 rfl rfl)
theorem dX0_digest_115 : decode cX0_digest 115 = .ok (.iload_n 3, 1) := dk_29 (dk_at dksX0_digest_4 22 rfl rfl)
theorem dX0_digest_116 : decode cX0_digest 116 = .ok (.iload_n 2, 1) := dk_28 (dk_at dksX0_digest_4 23 rfl rfl)
theorem dX0_digest_117 : decode cX0_digest 117 = .ok (.if_icmp .ge 59, 3) := dk_162 0 59 (dk_at dksX0_digest_5 0 rfl rfl)
theorem dX0_digest_120 : decode cX0_digest 120 = .ok (.aload_n 1, 1) := dk_43 (dk_at dksX0_digest_5 3 rfl rfl)
theorem dX0_digest_121 : decode cX0_digest 121 = .ok (.iload_n 3, 1) := dk_29 (dk_at dksX0_digest_5 4 rfl rfl)
theorem dX0_digest_122 : decode cX0_digest 122 = .ok (.aaload, 1) := dk_50 (dk_at dksX0_digest_5 5 rfl rfl)
theorem dX0_digest_123 : decode cX0_digest 123 = .ok (.astore 4, 2) := dk_58 4 (dk_at dksX0_digest_5 6 rfl rfl)
theorem dX0_digest_125 : decode cX0_digest 125 = .ok (.aload 4, 2) := dk_25 4 (dk_at dksX0_digest_5 8 rfl rfl)
theorem dX0_digest_127 : decode cX0_digest 127 = .ok (.ifnonnull 7, 3) := dk_199 0 7 (dk_at dksX0_digest_5 10 rfl rfl)
theorem dX0_digest_130 : decode cX0_digest 130 = .ok (.iconst (-1), 1) := dk_2 (dk_at dksX0_digest_5 13 rfl rfl)
theorem dX0_digest_131 : decode cX0_digest 131 = .ok (.goto 6, 3) := dk_167 0 6 (dk_at dksX0_digest_5 14 rfl rfl)
theorem dX0_digest_134 : decode cX0_digest 134 = .ok (.aload 4, 2) := dk_25 4 (dk_at dksX0_digest_5 17 rfl rfl)
theorem dX0_digest_136 : decode cX0_digest 136 = .ok (.arraylength, 1) := dk_190 (dk_at dksX0_digest_5 19 rfl rfl)
theorem dX0_digest_137 : decode cX0_digest 137 = .ok (.istore 5, 2) := dk_54 5 (dk_at dksX0_digest_5 20 rfl rfl)
theorem dX0_digest_139 : decode cX0_digest 139 = .ok (.aload_n 0, 1) := dk_42 (dk_at dksX0_digest_5 22 rfl rfl)
theorem dX0_digest_140 : decode cX0_digest 140 = .ok (.iload 5, 2) := dk_21 5 (dk_at dksX0_digest_6 0 rfl rfl)
theorem dX0_digest_142 : decode cX0_digest 142 = .ok (.invokevirtual 348, 3) := dk_182 1 92 (dk_at dksX0_digest_6 2 rfl rfl)
theorem dX0_digest_145 : decode cX0_digest 145 = .ok (.iconst 0, 1) := dk_3 (dk_at dksX0_digest_6 5 rfl rfl)
theorem dX0_digest_146 : decode cX0_digest 146 = .ok (.istore 6, 2) := dk_54 6 (dk_at dksX0_digest_6 6 rfl rfl)
theorem dX0_digest_148 : decode cX0_digest 148 = .ok (.iload 6, 2) := dk_21 6 (dk_at dksX0_digest_6 8 rfl rfl)
theorem dX0_digest_150 : decode cX0_digest 150 = .ok (.iload 5, 2) := dk_21 5 (dk_at dksX0_digest_6 10 rfl rfl)
theorem dX0_digest_152 : decode cX0_digest 152 = .ok (.if_icmp .ge 18, 3) := dk_162 0 18 (dk_at dksX0_digest_6 12 rfl rfl)
theorem dX0_digest_155 : decode cX0_digest 155 = .ok (.aload_n 0, 1) := dk_42 (dk_at dksX0_digest_6 15 rfl rfl)
theorem dX0_digest_156 : decode cX0_digest 156 = .ok (.aload 4, 2) := dk_25 4 (dk_at dksX0_digest_6 16 rfl rfl)
theorem dX0_digest_158 : decode cX0_digest 158 = .ok (.iload 6, 2) := dk_21 6 (dk_at dksX0_digest_6 18 rfl rfl)
theorem dX0_digest_160 : decode cX0_digest 160 = .ok (.baload, 1) := dk_51 (dk_at dksX0_digest_6 20 rfl rfl)
theorem dX0_digest_161 : decode cX0_digest 161 = .ok (.invokevirtual 348, 3) := dk_182 1 92 (dk_at dksX0_digest_6 21 rfl rfl)
theorem dX0_digest_164 : decode cX0_digest 164 = .ok (.iinc 6 1, 3) := dk_132 6 1 (dk_at dksX0_digest_7 0 rfl rfl)
theorem dX0_digest_167 : decode cX0_digest 167 = .ok (.goto (-19), 3) := dk_167 255 237 (dk_at dksX0_digest_7 3 rfl rfl)
theorem dX0_digest_170 : decode cX0_digest 170 = .ok (.iinc 3 1, 3) := dk_132 3 1 (dk_at dksX0_digest_7 6 rfl rfl)
theorem dX0_digest_173 : decode cX0_digest 173 = .ok (.goto (-58), 3) := dk_167 255 198 (dk_at dksX0_digest_7 9 rfl rfl)
theorem dX0_digest_176 : decode cX0_digest 176 = .ok (.aload_n 0, 1) := dk_42 (dk_at dksX0_digest_7 12 rfl rfl)
theorem dX0_digest_177 : decode cX0_digest 177 = .ok (.getfield 345, 3) := dk_180 1 89 (dk_at dksX0_digest_7 13 rfl rfl)
theorem dX0_digest_180 : decode cX0_digest 180 = .ok (.lreturn, 1) := dk_173 (dk_at dksX0_digest_7 16 rfl rfl)
abbrev cX0_mix : ByteArray := prog_1_method_88_code
def yX0_mix : MethodName := ⟨RX0, "mix", "(I)V"⟩
def dkwX0_mix_0 : List UInt8 := [42, 20, 1, 87, 42, 180, 1, 89, 105, 27, 133, 97, 181, 1, 89, 177]
abbrev dktX0_mix_0 : List UInt8 := dkwX0_mix_0 ++ []
theorem dksX0_mix_0 : cX0_mix.data.toList.drop 0 = dktX0_mix_0 := by decide +kernel
theorem dX0_mix_0 : decode cX0_mix 0 = .ok (.aload_n 0, 1) := dk_42 (dk_at dksX0_mix_0 0 rfl rfl)
theorem dX0_mix_1 : decode cX0_mix 1 = .ok (.ldc2_w 343, 3) := dk_20 1 87 (dk_at dksX0_mix_0 1 rfl rfl)
theorem dX0_mix_4 : decode cX0_mix 4 = .ok (.aload_n 0, 1) := dk_42 (dk_at dksX0_mix_0 4 rfl rfl)
theorem dX0_mix_5 : decode cX0_mix 5 = .ok (.getfield 345, 3) := dk_180 1 89 (dk_at dksX0_mix_0 5 rfl rfl)
theorem dX0_mix_8 : decode cX0_mix 8 = .ok (.lmul, 1) := dk_105 (dk_at dksX0_mix_0 8 rfl rfl)
theorem dX0_mix_9 : decode cX0_mix 9 = .ok (.iload_n 1, 1) := dk_27 (dk_at dksX0_mix_0 9 rfl rfl)
theorem dX0_mix_10 : decode cX0_mix 10 = .ok (.i2l, 1) := dk_133 (dk_at dksX0_mix_0 10 rfl rfl)
theorem dX0_mix_11 : decode cX0_mix 11 = .ok (.ladd, 1) := dk_97 (dk_at dksX0_mix_0 11 rfl rfl)
theorem dX0_mix_12 : decode cX0_mix 12 = .ok (.putfield 345, 3) := dk_181 1 89 (dk_at dksX0_mix_0 12 rfl rfl)
theorem dX0_mix_15 : decode cX0_mix 15 = .ok (.return_, 1) := dk_177 (dk_at dksX0_mix_0 15 rfl rfl)
abbrev cX0_mixParish : ByteArray := prog_1_method_89_code
def yX0_mixParish : MethodName := ⟨RX0, "mixParish", "()V"⟩
def dkwX0_mixParish_5 : List UInt8 := [182, 1, 92, 132, 3, 1, 167, 255, 225, 177]
abbrev dktX0_mixParish_5 : List UInt8 := dkwX0_mixParish_5 ++ []
def dkwX0_mixParish_4 : List UInt8 := [162, 0, 32, 43, 29, 50, 58, 4, 42, 25, 4, 199, 0, 7, 2, 167, 0, 8, 25, 4, 180, 1, 27]
abbrev dktX0_mixParish_4 : List UInt8 := dkwX0_mixParish_4 ++ dktX0_mixParish_5
def dkwX0_mixParish_3 : List UInt8 := [132, 2, 1, 167, 255, 238, 132, 1, 1, 167, 255, 222, 42, 180, 0, 70, 76, 43, 190, 61, 3, 62, 29, 28]
abbrev dktX0_mixParish_3 : List UInt8 := dkwX0_mixParish_3 ++ dktX0_mixParish_4
def dkwX0_mixParish_2 : List UInt8 := [180, 0, 172, 162, 0, 32, 3, 61, 28, 5, 163, 0, 19, 42, 42, 27, 28, 182, 0, 237, 182, 1, 92]
abbrev dktX0_mixParish_2 : List UInt8 := dkwX0_mixParish_2 ++ dktX0_mixParish_3
def dkwX0_mixParish_1 : List UInt8 := [182, 0, 231, 182, 1, 92, 132, 2, 1, 167, 255, 237, 132, 1, 1, 167, 255, 221, 3, 60, 27, 42]
abbrev dktX0_mixParish_1 : List UInt8 := dkwX0_mixParish_1 ++ dktX0_mixParish_2
def dkwX0_mixParish_0 : List UInt8 := [3, 60, 27, 42, 180, 0, 169, 162, 0, 33, 3, 61, 28, 16, 6, 163, 0, 19, 42, 42, 27, 28]
abbrev dktX0_mixParish_0 : List UInt8 := dkwX0_mixParish_0 ++ dktX0_mixParish_1
theorem dksX0_mixParish_0 : cX0_mixParish.data.toList.drop 0 = dktX0_mixParish_0 := by decide +kernel
theorem dksX0_mixParish_1 : cX0_mixParish.data.toList.drop 22 = dktX0_mixParish_1 := dk_seg dksX0_mixParish_0 22 rfl rfl
theorem dksX0_mixParish_2 : cX0_mixParish.data.toList.drop 44 = dktX0_mixParish_2 := dk_seg dksX0_mixParish_1 22 rfl rfl
theorem dksX0_mixParish_3 : cX0_mixParish.data.toList.drop 67 = dktX0_mixParish_3 := dk_seg dksX0_mixParish_2 23 rfl rfl
theorem dksX0_mixParish_4 : cX0_mixParish.data.toList.drop 91 = dktX0_mixParish_4 := dk_seg dksX0_mixParish_3 24 rfl rfl
theorem dksX0_mixParish_5 : cX0_mixParish.data.toList.drop 114 = dktX0_mixParish_5 := dk_seg dksX0_mixParish_4 23 rfl rfl
theorem dX0_mixParish_0 : decode cX0_mixParish 0 = .ok (.iconst 0, 1) := dk_3 (dk_at dksX0_mixParish_0 0 rfl rfl)
theorem dX0_mixParish_1 : decode cX0_mixParish 1 = .ok (.istore_n 1, 1) := dk_60 (dk_at dksX0_mixParish_0 1 rfl rfl)
theorem dX0_mixParish_2 : decode cX0_mixParish 2 = .ok (.iload_n 1, 1) := dk_27 (dk_at dksX0_mixParish_0 2 rfl rfl)
theorem dX0_mixParish_3 : decode cX0_mixParish 3 = .ok (.aload_n 0, 1) := dk_42 (dk_at dksX0_mixParish_0 3 rfl rfl)
theorem dX0_mixParish_4 : decode cX0_mixParish 4 = .ok (.getfield 169, 3) := dk_180 0 169 (dk_at dksX0_mixParish_0 4 rfl rfl)
theorem dX0_mixParish_7 : decode cX0_mixParish 7 = .ok (.if_icmp .ge 33, 3) := dk_162 0 33 (dk_at dksX0_mixParish_0 7 rfl rfl)
theorem dX0_mixParish_10 : decode cX0_mixParish 10 = .ok (.iconst 0, 1) := dk_3 (dk_at dksX0_mixParish_0 10 rfl rfl)
theorem dX0_mixParish_11 : decode cX0_mixParish 11 = .ok (.istore_n 2, 1) := dk_61 (dk_at dksX0_mixParish_0 11 rfl rfl)
theorem dX0_mixParish_12 : decode cX0_mixParish 12 = .ok (.iload_n 2, 1) := dk_28 (dk_at dksX0_mixParish_0 12 rfl rfl)
theorem dX0_mixParish_13 : decode cX0_mixParish 13 = .ok (.bipush 6, 2) := dk_16 6 (dk_at dksX0_mixParish_0 13 rfl rfl)
theorem dX0_mixParish_15 : decode cX0_mixParish 15 = .ok (.if_icmp .gt 19, 3) := dk_163 0 19 (dk_at dksX0_mixParish_0 15 rfl rfl)
theorem dX0_mixParish_18 : decode cX0_mixParish 18 = .ok (.aload_n 0, 1) := dk_42 (dk_at dksX0_mixParish_0 18 rfl rfl)
theorem dX0_mixParish_19 : decode cX0_mixParish 19 = .ok (.aload_n 0, 1) := dk_42 (dk_at dksX0_mixParish_0 19 rfl rfl)
theorem dX0_mixParish_20 : decode cX0_mixParish 20 = .ok (.iload_n 1, 1) := dk_27 (dk_at dksX0_mixParish_0 20 rfl rfl)
theorem dX0_mixParish_21 : decode cX0_mixParish 21 = .ok (.iload_n 2, 1) := dk_28 (dk_at dksX0_mixParish_0 21 rfl rfl)
theorem dX0_mixParish_22 : decode cX0_mixParish 22 = .ok (.invokevirtual 231, 3) := dk_182 0 231 (dk_at dksX0_mixParish_1 0 rfl rfl)
theorem dX0_mixParish_25 : decode cX0_mixParish 25 = .ok (.invokevirtual 348, 3) := dk_182 1 92 (dk_at dksX0_mixParish_1 3 rfl rfl)
theorem dX0_mixParish_28 : decode cX0_mixParish 28 = .ok (.iinc 2 1, 3) := dk_132 2 1 (dk_at dksX0_mixParish_1 6 rfl rfl)
theorem dX0_mixParish_31 : decode cX0_mixParish 31 = .ok (.goto (-19), 3) := dk_167 255 237 (dk_at dksX0_mixParish_1 9 rfl rfl)
theorem dX0_mixParish_34 : decode cX0_mixParish 34 = .ok (.iinc 1 1, 3) := dk_132 1 1 (dk_at dksX0_mixParish_1 12 rfl rfl)
theorem dX0_mixParish_37 : decode cX0_mixParish 37 = .ok (.goto (-35), 3) := dk_167 255 221 (dk_at dksX0_mixParish_1 15 rfl rfl)
theorem dX0_mixParish_40 : decode cX0_mixParish 40 = .ok (.iconst 0, 1) := dk_3 (dk_at dksX0_mixParish_1 18 rfl rfl)
theorem dX0_mixParish_41 : decode cX0_mixParish 41 = .ok (.istore_n 1, 1) := dk_60 (dk_at dksX0_mixParish_1 19 rfl rfl)
theorem dX0_mixParish_42 : decode cX0_mixParish 42 = .ok (.iload_n 1, 1) := dk_27 (dk_at dksX0_mixParish_1 20 rfl rfl)
theorem dX0_mixParish_43 : decode cX0_mixParish 43 = .ok (.aload_n 0, 1) := dk_42 (dk_at dksX0_mixParish_1 21 rfl rfl)
theorem dX0_mixParish_44 : decode cX0_mixParish 44 = .ok (.getfield 172, 3) := dk_180 0 172 (dk_at dksX0_mixParish_2 0 rfl rfl)
theorem dX0_mixParish_47 : decode cX0_mixParish 47 = .ok (.if_icmp .ge 32, 3) := dk_162 0 32 (dk_at dksX0_mixParish_2 3 rfl rfl)
theorem dX0_mixParish_50 : decode cX0_mixParish 50 = .ok (.iconst 0, 1) := dk_3 (dk_at dksX0_mixParish_2 6 rfl rfl)
theorem dX0_mixParish_51 : decode cX0_mixParish 51 = .ok (.istore_n 2, 1) := dk_61 (dk_at dksX0_mixParish_2 7 rfl rfl)
theorem dX0_mixParish_52 : decode cX0_mixParish 52 = .ok (.iload_n 2, 1) := dk_28 (dk_at dksX0_mixParish_2 8 rfl rfl)
theorem dX0_mixParish_53 : decode cX0_mixParish 53 = .ok (.iconst 2, 1) := dk_5 (dk_at dksX0_mixParish_2 9 rfl rfl)
theorem dX0_mixParish_54 : decode cX0_mixParish 54 = .ok (.if_icmp .gt 19, 3) := dk_163 0 19 (dk_at dksX0_mixParish_2 10 rfl rfl)
theorem dX0_mixParish_57 : decode cX0_mixParish 57 = .ok (.aload_n 0, 1) := dk_42 (dk_at dksX0_mixParish_2 13 rfl rfl)
theorem dX0_mixParish_58 : decode cX0_mixParish 58 = .ok (.aload_n 0, 1) := dk_42 (dk_at dksX0_mixParish_2 14 rfl rfl)
theorem dX0_mixParish_59 : decode cX0_mixParish 59 = .ok (.iload_n 1, 1) := dk_27 (dk_at dksX0_mixParish_2 15 rfl rfl)
theorem dX0_mixParish_60 : decode cX0_mixParish 60 = .ok (.iload_n 2, 1) := dk_28 (dk_at dksX0_mixParish_2 16 rfl rfl)
theorem dX0_mixParish_61 : decode cX0_mixParish 61 = .ok (.invokevirtual 237, 3) := dk_182 0 237 (dk_at dksX0_mixParish_2 17 rfl rfl)
theorem dX0_mixParish_64 : decode cX0_mixParish 64 = .ok (.invokevirtual 348, 3) := dk_182 1 92 (dk_at dksX0_mixParish_2 20 rfl rfl)
theorem dX0_mixParish_67 : decode cX0_mixParish 67 = .ok (.iinc 2 1, 3) := dk_132 2 1 (dk_at dksX0_mixParish_3 0 rfl rfl)
theorem dX0_mixParish_70 : decode cX0_mixParish 70 = .ok (.goto (-18), 3) := dk_167 255 238 (dk_at dksX0_mixParish_3 3 rfl rfl)
theorem dX0_mixParish_73 : decode cX0_mixParish 73 = .ok (.iinc 1 1, 3) := dk_132 1 1 (dk_at dksX0_mixParish_3 6 rfl rfl)
theorem dX0_mixParish_76 : decode cX0_mixParish 76 = .ok (.goto (-34), 3) := dk_167 255 222 (dk_at dksX0_mixParish_3 9 rfl rfl)
theorem dX0_mixParish_79 : decode cX0_mixParish 79 = .ok (.aload_n 0, 1) := dk_42 (dk_at dksX0_mixParish_3 12 rfl rfl)
theorem dX0_mixParish_80 : decode cX0_mixParish 80 = .ok (.getfield 70, 3) := dk_180 0 70 (dk_at dksX0_mixParish_3 13 rfl rfl)
theorem dX0_mixParish_83 : decode cX0_mixParish 83 = .ok (.astore_n 1, 1) := dk_76 (dk_at dksX0_mixParish_3 16 rfl rfl)
theorem dX0_mixParish_84 : decode cX0_mixParish 84 = .ok (.aload_n 1, 1) := dk_43 (dk_at dksX0_mixParish_3 17 rfl rfl)
theorem dX0_mixParish_85 : decode cX0_mixParish 85 = .ok (.arraylength, 1) := dk_190 (dk_at dksX0_mixParish_3 18 rfl rfl)
theorem dX0_mixParish_86 : decode cX0_mixParish 86 = .ok (.istore_n 2, 1) := dk_61 (dk_at dksX0_mixParish_3 19 rfl rfl)
theorem dX0_mixParish_87 : decode cX0_mixParish 87 = .ok (.iconst 0, 1) := dk_3 (dk_at dksX0_mixParish_3 20 rfl rfl)
theorem dX0_mixParish_88 : decode cX0_mixParish 88 = .ok (.istore_n 3, 1) := dk_62 (dk_at dksX0_mixParish_3 21 rfl rfl)
theorem dX0_mixParish_89 : decode cX0_mixParish 89 = .ok (.iload_n 3, 1) := dk_29 (dk_at dksX0_mixParish_3 22 rfl rfl)
theorem dX0_mixParish_90 : decode cX0_mixParish 90 = .ok (.iload_n 2, 1) := dk_28 (dk_at dksX0_mixParish_3 23 rfl rfl)
theorem dX0_mixParish_91 : decode cX0_mixParish 91 = .ok (.if_icmp .ge 32, 3) := dk_162 0 32 (dk_at dksX0_mixParish_4 0 rfl rfl)
theorem dX0_mixParish_94 : decode cX0_mixParish 94 = .ok (.aload_n 1, 1) := dk_43 (dk_at dksX0_mixParish_4 3 rfl rfl)
theorem dX0_mixParish_95 : decode cX0_mixParish 95 = .ok (.iload_n 3, 1) := dk_29 (dk_at dksX0_mixParish_4 4 rfl rfl)
theorem dX0_mixParish_96 : decode cX0_mixParish 96 = .ok (.aaload, 1) := dk_50 (dk_at dksX0_mixParish_4 5 rfl rfl)
theorem dX0_mixParish_97 : decode cX0_mixParish 97 = .ok (.astore 4, 2) := dk_58 4 (dk_at dksX0_mixParish_4 6 rfl rfl)
theorem dX0_mixParish_99 : decode cX0_mixParish 99 = .ok (.aload_n 0, 1) := dk_42 (dk_at dksX0_mixParish_4 8 rfl rfl)
theorem dX0_mixParish_100 : decode cX0_mixParish 100 = .ok (.aload 4, 2) := dk_25 4 (dk_at dksX0_mixParish_4 9 rfl rfl)
theorem dX0_mixParish_102 : decode cX0_mixParish 102 = .ok (.ifnonnull 7, 3) := dk_199 0 7 (dk_at dksX0_mixParish_4 11 rfl rfl)
theorem dX0_mixParish_105 : decode cX0_mixParish 105 = .ok (.iconst (-1), 1) := dk_2 (dk_at dksX0_mixParish_4 14 rfl rfl)
theorem dX0_mixParish_106 : decode cX0_mixParish 106 = .ok (.goto 8, 3) := dk_167 0 8 (dk_at dksX0_mixParish_4 15 rfl rfl)
theorem dX0_mixParish_109 : decode cX0_mixParish 109 = .ok (.aload 4, 2) := dk_25 4 (dk_at dksX0_mixParish_4 18 rfl rfl)
theorem dX0_mixParish_111 : decode cX0_mixParish 111 = .ok (.getfield 283, 3) := dk_180 1 27 (dk_at dksX0_mixParish_4 20 rfl rfl)
theorem dX0_mixParish_114 : decode cX0_mixParish 114 = .ok (.invokevirtual 348, 3) := dk_182 1 92 (dk_at dksX0_mixParish_5 0 rfl rfl)
theorem dX0_mixParish_117 : decode cX0_mixParish 117 = .ok (.iinc 3 1, 3) := dk_132 3 1 (dk_at dksX0_mixParish_5 3 rfl rfl)
theorem dX0_mixParish_120 : decode cX0_mixParish 120 = .ok (.goto (-31), 3) := dk_167 255 225 (dk_at dksX0_mixParish_5 6 rfl rfl)
theorem dX0_mixParish_123 : decode cX0_mixParish 123 = .ok (.return_, 1) := dk_177 (dk_at dksX0_mixParish_5 9 rfl rfl)
theorem q69 : (Jvm.Cond.initialized "CapCouncil") ∈ lw_all := lw_g (lw_at lw_m1 1 rfl) rfl
theorem q92 : (Jvm.Cond.instantiable "CapCouncil" (27 : Nat)) ∈ lw_all := lw_g (lw_at lw_m1 24 rfl) rfl
theorem q94 : (Jvm.Cond.instanceMethod ({ cls := "CapCouncil", name := "<init>", desc := "()V" } : Jvm.MethodName)) ∈ lw_all := lw_g (lw_at lw_m1 26 rfl) rfl
theorem q95 : (Jvm.Cond.code ({ cls := "CapCouncil", name := "<init>", desc := "()V" } : Jvm.MethodName) prog_1_method_6_code (1 : Nat) (Option.none : Option Jvm.ClassFile.FieldType)) ∈ lw_all := lw_g (lw_at lw_m1 27 rfl) rfl
theorem q96 : (Jvm.Cond.methodLink "CapCouncil" (21 : Nat) ({ cls := "java/lang/Object", name := "<init>", desc := "()V" } : Jvm.MethodName)) ∈ lw_all := lw_g (lw_at lw_m1 28 rfl) rfl
theorem q99 : (Jvm.Cond.classLink "CapCouncil" (27 : Nat) "[I") ∈ lw_all := lw_g (lw_at lw_m1 31 rfl) rfl
theorem q101 : (Jvm.Cond.classLink "CapCouncil" (32 : Nat) "[B") ∈ lw_all := lw_g (lw_at lw_m1 33 rfl) rfl
theorem q103 : (Jvm.Cond.classLink "CapCouncil" (38 : Nat) "CapCouncil$Ring") ∈ lw_all := lw_g (lw_at lw_m1 35 rfl) rfl
theorem q105 : (Jvm.Cond.classLink "CapCouncil" (68 : Nat) "CapCouncil$Kept") ∈ lw_all := lw_g (lw_at lw_m1 37 rfl) rfl
theorem q107 : (Jvm.Cond.fieldLink "CapCouncil" (1 : Nat) "CapCouncil" "finding" "I") ∈ lw_all := lw_g (lw_at lw_m1 39 rfl) rfl
theorem q108 : (Jvm.Cond.fieldLink "CapCouncil" (7 : Nat) "CapCouncil" "findings" "[I") ∈ lw_all := lw_g (lw_at lw_m1 40 rfl) rfl
theorem q109 : (Jvm.Cond.fieldLink "CapCouncil" (11 : Nat) "CapCouncil" "asked" "I") ∈ lw_all := lw_g (lw_at lw_m1 41 rfl) rfl
theorem q110 : (Jvm.Cond.fieldLink "CapCouncil" (14 : Nat) "CapCouncil" "upper" "J") ∈ lw_all := lw_g (lw_at lw_m1 42 rfl) rfl
theorem q111 : (Jvm.Cond.fieldLink "CapCouncil" (18 : Nat) "CapCouncil" "lower" "J") ∈ lw_all := lw_g (lw_at lw_m1 43 rfl) rfl
theorem q112 : (Jvm.Cond.fieldLink "CapCouncil" (28 : Nat) "CapCouncil" "rows" "[[I") ∈ lw_all := lw_g (lw_at lw_m1 44 rfl) rfl
theorem q113 : (Jvm.Cond.fieldLink "CapCouncil" (34 : Nat) "CapCouncil" "texts" "[[B") ∈ lw_all := lw_g (lw_at lw_m1 45 rfl) rfl
theorem q114 : (Jvm.Cond.fieldLink "CapCouncil" (40 : Nat) "CapCouncil" "likes" "[LCapCouncil$Ring;") ∈ lw_all := lw_g (lw_at lw_m1 46 rfl) rfl
theorem q115 : (Jvm.Cond.fieldLink "CapCouncil" (169 : Nat) "CapCouncil" "ringMany" "I") ∈ lw_all := lw_g (lw_at lw_m1 47 rfl) rfl
theorem q116 : (Jvm.Cond.fieldLink "CapCouncil" (172 : Nat) "CapCouncil" "bedMany" "I") ∈ lw_all := lw_g (lw_at lw_m1 48 rfl) rfl
theorem q117 : (Jvm.Cond.fieldLink "CapCouncil" (44 : Nat) "CapCouncil" "rings" "[LCapCouncil$Ring;") ∈ lw_all := lw_g (lw_at lw_m1 49 rfl) rfl
theorem q118 : (Jvm.Cond.fieldLink "CapCouncil" (47 : Nat) "CapCouncil" "middleOf" "[I") ∈ lw_all := lw_g (lw_at lw_m1 50 rfl) rfl
theorem q119 : (Jvm.Cond.fieldLink "CapCouncil" (50 : Nat) "CapCouncil" "wideOf" "[I") ∈ lw_all := lw_g (lw_at lw_m1 51 rfl) rfl
theorem q120 : (Jvm.Cond.fieldLink "CapCouncil" (136 : Nat) "CapCouncil" "reading" "[B") ∈ lw_all := lw_g (lw_at lw_m1 52 rfl) rfl
theorem q121 : (Jvm.Cond.fieldLink "CapCouncil" (133 : Nat) "CapCouncil" "readAt" "I") ∈ lw_all := lw_g (lw_at lw_m1 53 rfl) rfl
theorem q122 : (Jvm.Cond.fieldLink "CapCouncil" (155 : Nat) "CapCouncil" "readRings" "I") ∈ lw_all := lw_g (lw_at lw_m1 54 rfl) rfl
theorem q123 : (Jvm.Cond.fieldLink "CapCouncil" (146 : Nat) "CapCouncil" "readBeds" "I") ∈ lw_all := lw_g (lw_at lw_m1 55 rfl) rfl
theorem q124 : (Jvm.Cond.fieldLink "CapCouncil" (53 : Nat) "CapCouncil" "readRing" "[I") ∈ lw_all := lw_g (lw_at lw_m1 56 rfl) rfl
theorem q125 : (Jvm.Cond.fieldLink "CapCouncil" (56 : Nat) "CapCouncil" "readBed" "[I") ∈ lw_all := lw_g (lw_at lw_m1 57 rfl) rfl
theorem q128 : (Jvm.Cond.fieldLink "CapCouncil" (179 : Nat) "CapCouncil" "yearNow" "I") ∈ lw_all := lw_g (lw_at lw_m1 60 rfl) rfl
theorem q129 : (Jvm.Cond.fieldLink "CapCouncil" (182 : Nat) "CapCouncil" "up" "I") ∈ lw_all := lw_g (lw_at lw_m1 61 rfl) rfl
theorem q130 : (Jvm.Cond.fieldLink "CapCouncil" (59 : Nat) "CapCouncil" "places" "[I") ∈ lw_all := lw_g (lw_at lw_m1 62 rfl) rfl
theorem q131 : (Jvm.Cond.fieldLink "CapCouncil" (62 : Nat) "CapCouncil" "thoughts" "[I") ∈ lw_all := lw_g (lw_at lw_m1 63 rfl) rfl
theorem q132 : (Jvm.Cond.fieldLink "CapCouncil" (74 : Nat) "CapCouncil" "deedMany" "I") ∈ lw_all := lw_g (lw_at lw_m1 64 rfl) rfl
theorem q133 : (Jvm.Cond.fieldLink "CapCouncil" (65 : Nat) "CapCouncil" "ahead" "[I") ∈ lw_all := lw_g (lw_at lw_m1 65 rfl) rfl
theorem q134 : (Jvm.Cond.fieldLink "CapCouncil" (70 : Nat) "CapCouncil" "kept" "[LCapCouncil$Kept;") ∈ lw_all := lw_g (lw_at lw_m1 66 rfl) rfl
theorem q135 : (Jvm.Cond.fieldLink "CapCouncil" (345 : Nat) "CapCouncil" "h0" "J") ∈ lw_all := lw_g (lw_at lw_m1 67 rfl) rfl
theorem q136 : (Jvm.Cond.lays "CapCouncil" "CapCouncil" "finding" "I") ∈ lw_all := lw_g (lw_at lw_m1 68 rfl) rfl
theorem q137 : (Jvm.Cond.soleField "CapCouncil" "finding") ∈ lw_all := lw_g (lw_at lw_m1 69 rfl) rfl
theorem q138 : (Jvm.Cond.laysFinal "CapCouncil" "CapCouncil" "findings" "[I") ∈ lw_all := lw_g (lw_at lw_m1 70 rfl) rfl
theorem q139 : (Jvm.Cond.soleField "CapCouncil" "findings") ∈ lw_all := lw_g (lw_at lw_m1 71 rfl) rfl
theorem q140 : (Jvm.Cond.lays "CapCouncil" "CapCouncil" "asked" "I") ∈ lw_all := lw_g (lw_at lw_m1 72 rfl) rfl
theorem q141 : (Jvm.Cond.soleField "CapCouncil" "asked") ∈ lw_all := lw_g (lw_at lw_m1 73 rfl) rfl
theorem q142 : (Jvm.Cond.lays "CapCouncil" "CapCouncil" "upper" "J") ∈ lw_all := lw_g (lw_at lw_m1 74 rfl) rfl
theorem q143 : (Jvm.Cond.soleField "CapCouncil" "upper") ∈ lw_all := lw_g (lw_at lw_m1 75 rfl) rfl
theorem q144 : (Jvm.Cond.lays "CapCouncil" "CapCouncil" "lower" "J") ∈ lw_all := lw_g (lw_at lw_m1 76 rfl) rfl
theorem q145 : (Jvm.Cond.soleField "CapCouncil" "lower") ∈ lw_all := lw_g (lw_at lw_m1 77 rfl) rfl
theorem q146 : (Jvm.Cond.laysFinal "CapCouncil" "CapCouncil" "rows" "[[I") ∈ lw_all := lw_g (lw_at lw_m1 78 rfl) rfl
theorem q147 : (Jvm.Cond.soleField "CapCouncil" "rows") ∈ lw_all := lw_g (lw_at lw_m1 79 rfl) rfl
theorem q148 : (Jvm.Cond.laysFinal "CapCouncil" "CapCouncil" "texts" "[[B") ∈ lw_all := lw_g (lw_at lw_m1 80 rfl) rfl
theorem q149 : (Jvm.Cond.soleField "CapCouncil" "texts") ∈ lw_all := lw_g (lw_at lw_m1 81 rfl) rfl
theorem q150 : (Jvm.Cond.laysFinal "CapCouncil" "CapCouncil" "likes" "[LCapCouncil$Ring;") ∈ lw_all := lw_g (lw_at lw_m1 82 rfl) rfl
theorem q151 : (Jvm.Cond.soleField "CapCouncil" "likes") ∈ lw_all := lw_g (lw_at lw_m1 83 rfl) rfl
theorem q152 : (Jvm.Cond.lays "CapCouncil" "CapCouncil" "ringMany" "I") ∈ lw_all := lw_g (lw_at lw_m1 84 rfl) rfl
theorem q153 : (Jvm.Cond.soleField "CapCouncil" "ringMany") ∈ lw_all := lw_g (lw_at lw_m1 85 rfl) rfl
theorem q154 : (Jvm.Cond.lays "CapCouncil" "CapCouncil" "bedMany" "I") ∈ lw_all := lw_g (lw_at lw_m1 86 rfl) rfl
theorem q155 : (Jvm.Cond.soleField "CapCouncil" "bedMany") ∈ lw_all := lw_g (lw_at lw_m1 87 rfl) rfl
theorem q156 : (Jvm.Cond.laysFinal "CapCouncil" "CapCouncil" "rings" "[LCapCouncil$Ring;") ∈ lw_all := lw_g (lw_at lw_m1 88 rfl) rfl
theorem q157 : (Jvm.Cond.soleField "CapCouncil" "rings") ∈ lw_all := lw_g (lw_at lw_m1 89 rfl) rfl
theorem q158 : (Jvm.Cond.laysFinal "CapCouncil" "CapCouncil" "middleOf" "[I") ∈ lw_all := lw_g (lw_at lw_m1 90 rfl) rfl
theorem q159 : (Jvm.Cond.soleField "CapCouncil" "middleOf") ∈ lw_all := lw_g (lw_at lw_m1 91 rfl) rfl
theorem q160 : (Jvm.Cond.laysFinal "CapCouncil" "CapCouncil" "wideOf" "[I") ∈ lw_all := lw_g (lw_at lw_m1 92 rfl) rfl
theorem q161 : (Jvm.Cond.soleField "CapCouncil" "wideOf") ∈ lw_all := lw_g (lw_at lw_m1 93 rfl) rfl
theorem q162 : (Jvm.Cond.lays "CapCouncil" "CapCouncil" "reading" "[B") ∈ lw_all := lw_g (lw_at lw_m1 94 rfl) rfl
theorem q163 : (Jvm.Cond.soleField "CapCouncil" "reading") ∈ lw_all := lw_g (lw_at lw_m1 95 rfl) rfl
theorem q164 : (Jvm.Cond.lays "CapCouncil" "CapCouncil" "readAt" "I") ∈ lw_all := lw_g (lw_at lw_m1 96 rfl) rfl
theorem q165 : (Jvm.Cond.soleField "CapCouncil" "readAt") ∈ lw_all := lw_g (lw_at lw_m1 97 rfl) rfl
theorem q166 : (Jvm.Cond.lays "CapCouncil" "CapCouncil" "readRings" "I") ∈ lw_all := lw_g (lw_at lw_m1 98 rfl) rfl
theorem q167 : (Jvm.Cond.soleField "CapCouncil" "readRings") ∈ lw_all := lw_g (lw_at lw_m1 99 rfl) rfl
theorem q168 : (Jvm.Cond.lays "CapCouncil" "CapCouncil" "readBeds" "I") ∈ lw_all := lw_g (lw_at lw_m1 100 rfl) rfl
theorem q169 : (Jvm.Cond.soleField "CapCouncil" "readBeds") ∈ lw_all := lw_g (lw_at lw_m1 101 rfl) rfl
theorem q170 : (Jvm.Cond.laysFinal "CapCouncil" "CapCouncil" "readRing" "[I") ∈ lw_all := lw_g (lw_at lw_m1 102 rfl) rfl
theorem q171 : (Jvm.Cond.soleField "CapCouncil" "readRing") ∈ lw_all := lw_g (lw_at lw_m1 103 rfl) rfl
theorem q172 : (Jvm.Cond.laysFinal "CapCouncil" "CapCouncil" "readBed" "[I") ∈ lw_all := lw_g (lw_at lw_m1 104 rfl) rfl
theorem q173 : (Jvm.Cond.soleField "CapCouncil" "readBed") ∈ lw_all := lw_g (lw_at lw_m1 105 rfl) rfl
theorem q174 : (Jvm.Cond.lays "CapCouncil" "CapCouncil" "yearNow" "I") ∈ lw_all := lw_g (lw_at lw_m1 106 rfl) rfl
theorem q175 : (Jvm.Cond.soleField "CapCouncil" "yearNow") ∈ lw_all := lw_g (lw_at lw_m1 107 rfl) rfl
theorem q176 : (Jvm.Cond.lays "CapCouncil" "CapCouncil" "up" "I") ∈ lw_all := lw_g (lw_at lw_m1 108 rfl) rfl
theorem q177 : (Jvm.Cond.soleField "CapCouncil" "up") ∈ lw_all := lw_g (lw_at lw_m1 109 rfl) rfl
theorem q178 : (Jvm.Cond.laysFinal "CapCouncil" "CapCouncil" "places" "[I") ∈ lw_all := lw_g (lw_at lw_m1 110 rfl) rfl
theorem q179 : (Jvm.Cond.soleField "CapCouncil" "places") ∈ lw_all := lw_g (lw_at lw_m1 111 rfl) rfl
theorem q180 : (Jvm.Cond.laysFinal "CapCouncil" "CapCouncil" "thoughts" "[I") ∈ lw_all := lw_g (lw_at lw_m1 112 rfl) rfl
theorem q181 : (Jvm.Cond.soleField "CapCouncil" "thoughts") ∈ lw_all := lw_g (lw_at lw_m1 113 rfl) rfl
theorem q182 : (Jvm.Cond.lays "CapCouncil" "CapCouncil" "deedMany" "I") ∈ lw_all := lw_g (lw_at lw_m1 114 rfl) rfl
theorem q183 : (Jvm.Cond.soleField "CapCouncil" "deedMany") ∈ lw_all := lw_g (lw_at lw_m1 115 rfl) rfl
theorem q184 : (Jvm.Cond.laysFinal "CapCouncil" "CapCouncil" "ahead" "[I") ∈ lw_all := lw_g (lw_at lw_m1 116 rfl) rfl
theorem q185 : (Jvm.Cond.soleField "CapCouncil" "ahead") ∈ lw_all := lw_g (lw_at lw_m1 117 rfl) rfl
theorem q186 : (Jvm.Cond.laysFinal "CapCouncil" "CapCouncil" "kept" "[LCapCouncil$Kept;") ∈ lw_all := lw_g (lw_at lw_m1 118 rfl) rfl
theorem q187 : (Jvm.Cond.soleField "CapCouncil" "kept") ∈ lw_all := lw_g (lw_at lw_m1 119 rfl) rfl
theorem q188 : (Jvm.Cond.lays "CapCouncil" "CapCouncil" "h0" "J") ∈ lw_all := lw_g (lw_at lw_m1 120 rfl) rfl
theorem q189 : (Jvm.Cond.soleField "CapCouncil" "h0") ∈ lw_all := lw_g (lw_at lw_m1 121 rfl) rfl
theorem q190 : (Jvm.Cond.superclass "CapCouncil" "java/lang/Object") ∈ lw_all := lw_g (lw_at lw_m1 122 rfl) rfl
theorem q193 : (Jvm.Cond.instanceMethod ({ cls := "CapCouncil", name := "row", desc := "(II)I" } : Jvm.MethodName)) ∈ lw_all := lw_g (lw_at lw_m1 125 rfl) rfl
theorem q194 : (Jvm.Cond.selects "CapCouncil" ({ cls := "CapCouncil", name := "row", desc := "(II)I" } : Jvm.MethodName) ({ cls := "CapCouncil", name := "row", desc := "(II)I" } : Jvm.MethodName)) ∈ lw_all := lw_g (lw_at lw_m1 126 rfl) rfl
theorem q195 : (Jvm.Cond.codeWith ({ cls := "CapCouncil", name := "row", desc := "(II)I" } : Jvm.MethodName) prog_1_method_9_code (4 : Nat) (Option.some Jvm.ClassFile.FieldType.int) [((15 : Nat), (25 : Nat), (26 : Nat), (85 : Nat))]) ∈ lw_all := lw_g (lw_at lw_m1 127 rfl) rfl
theorem q196 : (Jvm.Cond.classLink "CapCouncil" (85 : Nat) "java/lang/NegativeArraySizeException") ∈ lw_all := lw_g (lw_at lw_m1 128 rfl) rfl
theorem q282 : (Jvm.Cond.methodLink "CapCouncil" (81 : Nat) ({ cls := "CapCouncil", name := "isRow", desc := "(I)Z" } : Jvm.MethodName)) ∈ lw_all := lw_g (lw_at lw_m1 214 rfl) rfl
theorem q283 : (Jvm.Cond.static ({ cls := "CapCouncil", name := "isRow", desc := "(I)Z" } : Jvm.MethodName)) ∈ lw_all := lw_g (lw_at lw_m1 215 rfl) rfl
theorem q284 : (Jvm.Cond.code ({ cls := "CapCouncil", name := "isRow", desc := "(I)Z" } : Jvm.MethodName) prog_1_method_7_code (1 : Nat) (Option.some Jvm.ClassFile.FieldType.boolean)) ∈ lw_all := lw_g (lw_at lw_m1 216 rfl) rfl
theorem q285 : (Jvm.Cond.methodLink "CapCouncil" (77 : Nat) ({ cls := "CapCouncil", name := "isIn", desc := "(III)Z" } : Jvm.MethodName)) ∈ lw_all := lw_g (lw_at lw_m1 217 rfl) rfl
theorem q286 : (Jvm.Cond.static ({ cls := "CapCouncil", name := "isIn", desc := "(III)Z" } : Jvm.MethodName)) ∈ lw_all := lw_g (lw_at lw_m1 218 rfl) rfl
theorem q287 : (Jvm.Cond.code ({ cls := "CapCouncil", name := "isIn", desc := "(III)Z" } : Jvm.MethodName) prog_1_method_1_code (3 : Nat) (Option.some Jvm.ClassFile.FieldType.boolean)) ∈ lw_all := lw_g (lw_at lw_m1 219 rfl) rfl
theorem q288 : (Jvm.Cond.methodLink "CapCouncil" (87 : Nat) ({ cls := "CapCouncil", name := "found", desc := "(I)I" } : Jvm.MethodName)) ∈ lw_all := lw_g (lw_at lw_m1 220 rfl) rfl
theorem q289 : (Jvm.Cond.privateMethod ({ cls := "CapCouncil", name := "found", desc := "(I)I" } : Jvm.MethodName)) ∈ lw_tbl := lw_at lw_m1 221 rfl
theorem q290 : (Jvm.Cond.instanceMethod ({ cls := "CapCouncil", name := "found", desc := "(I)I" } : Jvm.MethodName)) ∈ lw_all := lw_g (lw_at lw_m1 222 rfl) rfl
theorem q291 : (Jvm.Cond.code ({ cls := "CapCouncil", name := "found", desc := "(I)I" } : Jvm.MethodName) prog_1_method_3_code (2 : Nat) (Option.some Jvm.ClassFile.FieldType.int)) ∈ lw_all := lw_g (lw_at lw_m1 223 rfl) rfl
theorem q293 : (Jvm.Cond.instanceMethod ({ cls := "CapCouncil", name := "lay", desc := "(III)I" } : Jvm.MethodName)) ∈ lw_all := lw_g (lw_at lw_m1 225 rfl) rfl
theorem q294 : (Jvm.Cond.selects "CapCouncil" ({ cls := "CapCouncil", name := "lay", desc := "(III)I" } : Jvm.MethodName) ({ cls := "CapCouncil", name := "lay", desc := "(III)I" } : Jvm.MethodName)) ∈ lw_all := lw_g (lw_at lw_m1 226 rfl) rfl
theorem q295 : (Jvm.Cond.code ({ cls := "CapCouncil", name := "lay", desc := "(III)I" } : Jvm.MethodName) prog_1_method_10_code (5 : Nat) (Option.some Jvm.ClassFile.FieldType.int)) ∈ lw_all := lw_g (lw_at lw_m1 227 rfl) rfl
theorem q296 : (Jvm.Cond.methodLink "CapCouncil" (91 : Nat) ({ cls := "CapCouncil", name := "at", desc := "(II)I" } : Jvm.MethodName)) ∈ lw_all := lw_g (lw_at lw_m1 228 rfl) rfl
theorem q297 : (Jvm.Cond.instanceMethod ({ cls := "CapCouncil", name := "at", desc := "(II)I" } : Jvm.MethodName)) ∈ lw_all := lw_g (lw_at lw_m1 229 rfl) rfl
theorem q298 : (Jvm.Cond.selects "CapCouncil" ({ cls := "CapCouncil", name := "at", desc := "(II)I" } : Jvm.MethodName) ({ cls := "CapCouncil", name := "at", desc := "(II)I" } : Jvm.MethodName)) ∈ lw_all := lw_g (lw_at lw_m1 230 rfl) rfl
theorem q299 : (Jvm.Cond.codeWith ({ cls := "CapCouncil", name := "at", desc := "(II)I" } : Jvm.MethodName) prog_1_method_11_code (4 : Nat) (Option.some Jvm.ClassFile.FieldType.int) [((9 : Nat), (22 : Nat), (23 : Nat), (98 : Nat)), ((9 : Nat), (22 : Nat), (30 : Nat), (100 : Nat))]) ∈ lw_all := lw_g (lw_at lw_m1 231 rfl) rfl
theorem q300 : (Jvm.Cond.classLink "CapCouncil" (98 : Nat) "java/lang/NullPointerException") ∈ lw_all := lw_g (lw_at lw_m1 232 rfl) rfl
theorem q325 : (Jvm.Cond.classLink "CapCouncil" (100 : Nat) "java/lang/ArrayIndexOutOfBoundsException") ∈ lw_all := lw_g (lw_at lw_m2 17 rfl) rfl
theorem q344 : (Jvm.Cond.methodLink "CapCouncil" (95 : Nat) ({ cls := "CapCouncil", name := "ask", desc := "(II)I" } : Jvm.MethodName)) ∈ lw_all := lw_g (lw_at lw_m2 36 rfl) rfl
theorem q345 : (Jvm.Cond.privateMethod ({ cls := "CapCouncil", name := "ask", desc := "(II)I" } : Jvm.MethodName)) ∈ lw_tbl := lw_at lw_m2 37 rfl
theorem q346 : (Jvm.Cond.instanceMethod ({ cls := "CapCouncil", name := "ask", desc := "(II)I" } : Jvm.MethodName)) ∈ lw_all := lw_g (lw_at lw_m2 38 rfl) rfl
theorem q347 : (Jvm.Cond.code ({ cls := "CapCouncil", name := "ask", desc := "(II)I" } : Jvm.MethodName) prog_1_method_4_code (3 : Nat) (Option.some Jvm.ClassFile.FieldType.int)) ∈ lw_all := lw_g (lw_at lw_m2 39 rfl) rfl
theorem q350 : (Jvm.Cond.instanceMethod ({ cls := "CapCouncil", name := "tear", desc := "(I)I" } : Jvm.MethodName)) ∈ lw_all := lw_g (lw_at lw_m2 42 rfl) rfl
theorem q351 : (Jvm.Cond.selects "CapCouncil" ({ cls := "CapCouncil", name := "tear", desc := "(I)I" } : Jvm.MethodName) ({ cls := "CapCouncil", name := "tear", desc := "(I)I" } : Jvm.MethodName)) ∈ lw_all := lw_g (lw_at lw_m2 43 rfl) rfl
theorem q352 : (Jvm.Cond.code ({ cls := "CapCouncil", name := "tear", desc := "(I)I" } : Jvm.MethodName) prog_1_method_12_code (2 : Nat) (Option.some Jvm.ClassFile.FieldType.int)) ∈ lw_all := lw_g (lw_at lw_m2 44 rfl) rfl
theorem q354 : (Jvm.Cond.instanceMethod ({ cls := "CapCouncil", name := "copy", desc := "(IIIII)I" } : Jvm.MethodName)) ∈ lw_all := lw_g (lw_at lw_m2 46 rfl) rfl
theorem q355 : (Jvm.Cond.selects "CapCouncil" ({ cls := "CapCouncil", name := "copy", desc := "(IIIII)I" } : Jvm.MethodName) ({ cls := "CapCouncil", name := "copy", desc := "(IIIII)I" } : Jvm.MethodName)) ∈ lw_all := lw_g (lw_at lw_m2 47 rfl) rfl
theorem q356 : (Jvm.Cond.codeWith ({ cls := "CapCouncil", name := "copy", desc := "(IIIII)I" } : Jvm.MethodName) prog_1_method_13_code (7 : Nat) (Option.some Jvm.ClassFile.FieldType.int) [((27 : Nat), (48 : Nat), (49 : Nat), (98 : Nat)), ((27 : Nat), (48 : Nat), (57 : Nat), (108 : Nat))]) ∈ lw_all := lw_g (lw_at lw_m2 48 rfl) rfl
theorem q357 : (Jvm.Cond.classLink "CapCouncil" (108 : Nat) "java/lang/IndexOutOfBoundsException") ∈ lw_all := lw_g (lw_at lw_m2 49 rfl) rfl
theorem q358 : (Jvm.Cond.methodLink "CapCouncil" (102 : Nat) ({ cls := "java/lang/System", name := "arraycopy", desc := "(Ljava/lang/Object;ILjava/lang/Object;II)V" } : Jvm.MethodName)) ∈ lw_all := lw_g (lw_at lw_m2 50 rfl) rfl
theorem q362 : (Jvm.Cond.instanceMethod ({ cls := "CapCouncil", name := "mean", desc := "(I)I" } : Jvm.MethodName)) ∈ lw_all := lw_g (lw_at lw_m2 54 rfl) rfl
theorem q363 : (Jvm.Cond.selects "CapCouncil" ({ cls := "CapCouncil", name := "mean", desc := "(I)I" } : Jvm.MethodName) ({ cls := "CapCouncil", name := "mean", desc := "(I)I" } : Jvm.MethodName)) ∈ lw_all := lw_g (lw_at lw_m2 55 rfl) rfl
theorem q364 : (Jvm.Cond.codeWith ({ cls := "CapCouncil", name := "mean", desc := "(I)I" } : Jvm.MethodName) prog_1_method_14_code (8 : Nat) (Option.some Jvm.ClassFile.FieldType.int) [((9 : Nat), (69 : Nat), (70 : Nat), (98 : Nat)), ((9 : Nat), (69 : Nat), (77 : Nat), (110 : Nat))]) ∈ lw_all := lw_g (lw_at lw_m2 56 rfl) rfl
theorem q365 : (Jvm.Cond.classLink "CapCouncil" (110 : Nat) "java/lang/ArithmeticException") ∈ lw_all := lw_g (lw_at lw_m2 57 rfl) rfl
theorem q380 : (Jvm.Cond.instanceMethod ({ cls := "CapCouncil", name := "text", desc := "(II)I" } : Jvm.MethodName)) ∈ lw_all := lw_g (lw_at lw_m2 72 rfl) rfl
theorem q381 : (Jvm.Cond.selects "CapCouncil" ({ cls := "CapCouncil", name := "text", desc := "(II)I" } : Jvm.MethodName) ({ cls := "CapCouncil", name := "text", desc := "(II)I" } : Jvm.MethodName)) ∈ lw_all := lw_g (lw_at lw_m2 73 rfl) rfl
theorem q382 : (Jvm.Cond.codeWith ({ cls := "CapCouncil", name := "text", desc := "(II)I" } : Jvm.MethodName) prog_1_method_15_code (5 : Nat) (Option.some Jvm.ClassFile.FieldType.int) [((15 : Nat), (48 : Nat), (49 : Nat), (85 : Nat))]) ∈ lw_all := lw_g (lw_at lw_m2 74 rfl) rfl
theorem q383 : (Jvm.Cond.methodLink "CapCouncil" (112 : Nat) ({ cls := "CapCouncil", name := "isText", desc := "(I)Z" } : Jvm.MethodName)) ∈ lw_all := lw_g (lw_at lw_m2 75 rfl) rfl
theorem q384 : (Jvm.Cond.static ({ cls := "CapCouncil", name := "isText", desc := "(I)Z" } : Jvm.MethodName)) ∈ lw_all := lw_g (lw_at lw_m2 76 rfl) rfl
theorem q385 : (Jvm.Cond.code ({ cls := "CapCouncil", name := "isText", desc := "(I)Z" } : Jvm.MethodName) prog_1_method_8_code (1 : Nat) (Option.some Jvm.ClassFile.FieldType.boolean)) ∈ lw_all := lw_g (lw_at lw_m2 77 rfl) rfl
theorem q387 : (Jvm.Cond.instanceMethod ({ cls := "CapCouncil", name := "put", desc := "(III)I" } : Jvm.MethodName)) ∈ lw_all := lw_g (lw_at lw_m2 79 rfl) rfl
theorem q388 : (Jvm.Cond.selects "CapCouncil" ({ cls := "CapCouncil", name := "put", desc := "(III)I" } : Jvm.MethodName) ({ cls := "CapCouncil", name := "put", desc := "(III)I" } : Jvm.MethodName)) ∈ lw_all := lw_g (lw_at lw_m2 80 rfl) rfl
theorem q389 : (Jvm.Cond.codeWith ({ cls := "CapCouncil", name := "put", desc := "(III)I" } : Jvm.MethodName) prog_1_method_16_code (5 : Nat) (Option.some Jvm.ClassFile.FieldType.int) [((9 : Nat), (35 : Nat), (36 : Nat), (98 : Nat)), ((9 : Nat), (35 : Nat), (44 : Nat), (100 : Nat))]) ∈ lw_all := lw_g (lw_at lw_m2 81 rfl) rfl
theorem q391 : (Jvm.Cond.instanceMethod ({ cls := "CapCouncil", name := "fault", desc := "(I)I" } : Jvm.MethodName)) ∈ lw_all := lw_g (lw_at lw_m2 83 rfl) rfl
theorem q392 : (Jvm.Cond.selects "CapCouncil" ({ cls := "CapCouncil", name := "fault", desc := "(I)I" } : Jvm.MethodName) ({ cls := "CapCouncil", name := "fault", desc := "(I)I" } : Jvm.MethodName)) ∈ lw_all := lw_g (lw_at lw_m2 84 rfl) rfl
theorem q393 : (Jvm.Cond.code ({ cls := "CapCouncil", name := "fault", desc := "(I)I" } : Jvm.MethodName) prog_1_method_25_code (2 : Nat) (Option.some Jvm.ClassFile.FieldType.int)) ∈ lw_all := lw_g (lw_at lw_m2 85 rfl) rfl
theorem q394 : (Jvm.Cond.methodLink "CapCouncil" (165 : Nat) ({ cls := "CapCouncil", name := "goesOn", desc := "([B)I" } : Jvm.MethodName)) ∈ lw_all := lw_g (lw_at lw_m2 86 rfl) rfl
theorem q395 : (Jvm.Cond.privateMethod ({ cls := "CapCouncil", name := "goesOn", desc := "([B)I" } : Jvm.MethodName)) ∈ lw_tbl := lw_at lw_m2 87 rfl
theorem q396 : (Jvm.Cond.instanceMethod ({ cls := "CapCouncil", name := "goesOn", desc := "([B)I" } : Jvm.MethodName)) ∈ lw_all := lw_g (lw_at lw_m2 88 rfl) rfl
theorem q397 : (Jvm.Cond.code ({ cls := "CapCouncil", name := "goesOn", desc := "([B)I" } : Jvm.MethodName) prog_1_method_24_code (2 : Nat) (Option.some Jvm.ClassFile.FieldType.int)) ∈ lw_all := lw_g (lw_at lw_m2 89 rfl) rfl
theorem q398 : (Jvm.Cond.methodLink "CapCouncil" (139 : Nat) ({ cls := "CapCouncil", name := "sign", desc := "()I" } : Jvm.MethodName)) ∈ lw_all := lw_g (lw_at lw_m2 90 rfl) rfl
theorem q399 : (Jvm.Cond.privateMethod ({ cls := "CapCouncil", name := "sign", desc := "()I" } : Jvm.MethodName)) ∈ lw_tbl := lw_at lw_m2 91 rfl
theorem q400 : (Jvm.Cond.instanceMethod ({ cls := "CapCouncil", name := "sign", desc := "()I" } : Jvm.MethodName)) ∈ lw_all := lw_g (lw_at lw_m2 92 rfl) rfl
theorem q401 : (Jvm.Cond.code ({ cls := "CapCouncil", name := "sign", desc := "()I" } : Jvm.MethodName) prog_1_method_19_code (1 : Nat) (Option.some Jvm.ClassFile.FieldType.int)) ∈ lw_all := lw_g (lw_at lw_m2 93 rfl) rfl
theorem q402 : (Jvm.Cond.methodLink "CapCouncil" (158 : Nat) ({ cls := "CapCouncil", name := "readsBed", desc := "()Z" } : Jvm.MethodName)) ∈ lw_all := lw_g (lw_at lw_m2 94 rfl) rfl
theorem q403 : (Jvm.Cond.privateMethod ({ cls := "CapCouncil", name := "readsBed", desc := "()Z" } : Jvm.MethodName)) ∈ lw_tbl := lw_at lw_m2 95 rfl
theorem q404 : (Jvm.Cond.instanceMethod ({ cls := "CapCouncil", name := "readsBed", desc := "()Z" } : Jvm.MethodName)) ∈ lw_all := lw_g (lw_at lw_m2 96 rfl) rfl
theorem q405 : (Jvm.Cond.code ({ cls := "CapCouncil", name := "readsBed", desc := "()Z" } : Jvm.MethodName) prog_1_method_22_code (3 : Nat) (Option.some Jvm.ClassFile.FieldType.boolean)) ∈ lw_all := lw_g (lw_at lw_m2 97 rfl) rfl
theorem q406 : (Jvm.Cond.methodLink "CapCouncil" (149 : Nat) ({ cls := "CapCouncil", name := "readsCell", desc := "()I" } : Jvm.MethodName)) ∈ lw_all := lw_g (lw_at lw_m2 98 rfl) rfl
theorem q407 : (Jvm.Cond.privateMethod ({ cls := "CapCouncil", name := "readsCell", desc := "()I" } : Jvm.MethodName)) ∈ lw_tbl := lw_at lw_m2 99 rfl
theorem q408 : (Jvm.Cond.instanceMethod ({ cls := "CapCouncil", name := "readsCell", desc := "()I" } : Jvm.MethodName)) ∈ lw_all := lw_g (lw_at lw_m2 100 rfl) rfl
theorem q409 : (Jvm.Cond.code ({ cls := "CapCouncil", name := "readsCell", desc := "()I" } : Jvm.MethodName) prog_1_method_21_code (3 : Nat) (Option.some Jvm.ClassFile.FieldType.int)) ∈ lw_all := lw_g (lw_at lw_m2 101 rfl) rfl
theorem q410 : (Jvm.Cond.methodLink "CapCouncil" (143 : Nat) ({ cls := "CapCouncil", name := "readsFigure", desc := "()I" } : Jvm.MethodName)) ∈ lw_all := lw_g (lw_at lw_m2 102 rfl) rfl
theorem q411 : (Jvm.Cond.privateMethod ({ cls := "CapCouncil", name := "readsFigure", desc := "()I" } : Jvm.MethodName)) ∈ lw_tbl := lw_at lw_m2 103 rfl
theorem q412 : (Jvm.Cond.instanceMethod ({ cls := "CapCouncil", name := "readsFigure", desc := "()I" } : Jvm.MethodName)) ∈ lw_all := lw_g (lw_at lw_m2 104 rfl) rfl
theorem q413 : (Jvm.Cond.code ({ cls := "CapCouncil", name := "readsFigure", desc := "()I" } : Jvm.MethodName) prog_1_method_20_code (2 : Nat) (Option.some Jvm.ClassFile.FieldType.int)) ∈ lw_all := lw_g (lw_at lw_m2 105 rfl) rfl
theorem q414 : (Jvm.Cond.methodLink "CapCouncil" (162 : Nat) ({ cls := "CapCouncil", name := "readsRing", desc := "()Z" } : Jvm.MethodName)) ∈ lw_all := lw_g (lw_at lw_m2 106 rfl) rfl
theorem q415 : (Jvm.Cond.privateMethod ({ cls := "CapCouncil", name := "readsRing", desc := "()Z" } : Jvm.MethodName)) ∈ lw_tbl := lw_at lw_m2 107 rfl
theorem q416 : (Jvm.Cond.instanceMethod ({ cls := "CapCouncil", name := "readsRing", desc := "()Z" } : Jvm.MethodName)) ∈ lw_all := lw_g (lw_at lw_m2 108 rfl) rfl
theorem q417 : (Jvm.Cond.code ({ cls := "CapCouncil", name := "readsRing", desc := "()Z" } : Jvm.MethodName) prog_1_method_23_code (4 : Nat) (Option.some Jvm.ClassFile.FieldType.boolean)) ∈ lw_all := lw_g (lw_at lw_m2 109 rfl) rfl
theorem q418 : (Jvm.Cond.methodLink "CapCouncil" (152 : Nat) ({ cls := "CapCouncil", name := "kindBy", desc := "(I)I" } : Jvm.MethodName)) ∈ lw_all := lw_g (lw_at lw_m2 110 rfl) rfl
theorem q419 : (Jvm.Cond.static ({ cls := "CapCouncil", name := "kindBy", desc := "(I)I" } : Jvm.MethodName)) ∈ lw_all := lw_g (lw_at lw_m2 111 rfl) rfl
theorem q420 : (Jvm.Cond.code ({ cls := "CapCouncil", name := "kindBy", desc := "(I)I" } : Jvm.MethodName) prog_1_method_18_code (1 : Nat) (Option.some Jvm.ClassFile.FieldType.int)) ∈ lw_all := lw_g (lw_at lw_m2 112 rfl) rfl
theorem q422 : (Jvm.Cond.instanceMethod ({ cls := "CapCouncil", name := "parish", desc := "(I)I" } : Jvm.MethodName)) ∈ lw_all := lw_g (lw_at lw_m2 114 rfl) rfl
theorem q423 : (Jvm.Cond.selects "CapCouncil" ({ cls := "CapCouncil", name := "parish", desc := "(I)I" } : Jvm.MethodName) ({ cls := "CapCouncil", name := "parish", desc := "(I)I" } : Jvm.MethodName)) ∈ lw_all := lw_g (lw_at lw_m2 115 rfl) rfl
theorem q424 : (Jvm.Cond.code ({ cls := "CapCouncil", name := "parish", desc := "(I)I" } : Jvm.MethodName) prog_1_method_26_code (3 : Nat) (Option.some Jvm.ClassFile.FieldType.int)) ∈ lw_all := lw_g (lw_at lw_m2 116 rfl) rfl
theorem q425 : (Jvm.Cond.methodLink "CapCouncil" (175 : Nat) ({ cls := "CapCouncil", name := "newRing", desc := "(II)LCapCouncil$Ring;" } : Jvm.MethodName)) ∈ lw_all := lw_g (lw_at lw_m2 117 rfl) rfl
theorem q426 : (Jvm.Cond.static ({ cls := "CapCouncil", name := "newRing", desc := "(II)LCapCouncil$Ring;" } : Jvm.MethodName)) ∈ lw_all := lw_g (lw_at lw_m2 118 rfl) rfl
theorem q427 : (Jvm.Cond.code ({ cls := "CapCouncil", name := "newRing", desc := "(II)LCapCouncil$Ring;" } : Jvm.MethodName) prog_1_method_17_code (2 : Nat) (Option.some (Jvm.ClassFile.FieldType.object "CapCouncil$Ring"))) ∈ lw_all := lw_g (lw_at lw_m2 119 rfl) rfl
theorem q428 : (Jvm.Cond.classLink "CapCouncil" (115 : Nat) "CapCouncil$Old") ∈ lw_all := lw_g (lw_at lw_m2 120 rfl) rfl
theorem q430 : (Jvm.Cond.methodLink "CapCouncil" (117 : Nat) ({ cls := "CapCouncil$Old", name := "<init>", desc := "(I)V" } : Jvm.MethodName)) ∈ lw_all := lw_g (lw_at lw_m2 122 rfl) rfl
theorem q441 : (Jvm.Cond.classLink "CapCouncil" (120 : Nat) "CapCouncil$Arc") ∈ lw_all := lw_g (lw_at lw_m2 133 rfl) rfl
theorem q443 : (Jvm.Cond.methodLink "CapCouncil" (122 : Nat) ({ cls := "CapCouncil$Arc", name := "<init>", desc := "(I)V" } : Jvm.MethodName)) ∈ lw_all := lw_g (lw_at lw_m2 135 rfl) rfl
theorem q449 : (Jvm.Cond.classLink "CapCouncil" (123 : Nat) "CapCouncil$Puff") ∈ lw_all := lw_g (lw_at lw_m2 141 rfl) rfl
theorem q451 : (Jvm.Cond.methodLink "CapCouncil" (125 : Nat) ({ cls := "CapCouncil$Puff", name := "<init>", desc := "(I)V" } : Jvm.MethodName)) ∈ lw_all := lw_g (lw_at lw_m2 143 rfl) rfl
theorem q457 : (Jvm.Cond.classLink "CapCouncil" (126 : Nat) "CapCouncil$Death") ∈ lw_all := lw_g (lw_at lw_m2 149 rfl) rfl
theorem q459 : (Jvm.Cond.methodLink "CapCouncil" (128 : Nat) ({ cls := "CapCouncil$Death", name := "<init>", desc := "(I)V" } : Jvm.MethodName)) ∈ lw_all := lw_g (lw_at lw_m2 151 rfl) rfl
theorem q465 : (Jvm.Cond.classLink "CapCouncil" (129 : Nat) "CapCouncil$Whole") ∈ lw_all := lw_g (lw_at lw_m2 157 rfl) rfl
theorem q467 : (Jvm.Cond.methodLink "CapCouncil" (131 : Nat) ({ cls := "CapCouncil$Whole", name := "<init>", desc := "(I)V" } : Jvm.MethodName)) ∈ lw_all := lw_g (lw_at lw_m2 159 rfl) rfl
theorem q474 : (Jvm.Cond.methodLink "CapCouncil" (132 : Nat) ({ cls := "CapCouncil$Ring", name := "<init>", desc := "(I)V" } : Jvm.MethodName)) ∈ lw_all := lw_g (lw_at lw_m2 166 rfl) rfl
theorem q478 : (Jvm.Cond.instanceMethod ({ cls := "CapCouncil", name := "ring", desc := "(II)I" } : Jvm.MethodName)) ∈ lw_all := lw_g (lw_at lw_m2 170 rfl) rfl
theorem q479 : (Jvm.Cond.selects "CapCouncil" ({ cls := "CapCouncil", name := "ring", desc := "(II)I" } : Jvm.MethodName) ({ cls := "CapCouncil", name := "ring", desc := "(II)I" } : Jvm.MethodName)) ∈ lw_all := lw_g (lw_at lw_m2 171 rfl) rfl
theorem q480 : (Jvm.Cond.code ({ cls := "CapCouncil", name := "ring", desc := "(II)I" } : Jvm.MethodName) prog_1_method_42_code (3 : Nat) (Option.some Jvm.ClassFile.FieldType.int)) ∈ lw_all := lw_g (lw_at lw_m2 172 rfl) rfl
theorem q481 : (Jvm.Cond.methodLink "CapCouncil" (228 : Nat) ({ cls := "CapCouncil", name := "isRing", desc := "(I)Z" } : Jvm.MethodName)) ∈ lw_all := lw_g (lw_at lw_m2 173 rfl) rfl
theorem q482 : (Jvm.Cond.privateMethod ({ cls := "CapCouncil", name := "isRing", desc := "(I)Z" } : Jvm.MethodName)) ∈ lw_tbl := lw_at lw_m2 174 rfl
theorem q483 : (Jvm.Cond.instanceMethod ({ cls := "CapCouncil", name := "isRing", desc := "(I)Z" } : Jvm.MethodName)) ∈ lw_all := lw_g (lw_at lw_m2 175 rfl) rfl
theorem q484 : (Jvm.Cond.code ({ cls := "CapCouncil", name := "isRing", desc := "(I)Z" } : Jvm.MethodName) prog_1_method_27_code (2 : Nat) (Option.some Jvm.ClassFile.FieldType.boolean)) ∈ lw_all := lw_g (lw_at lw_m2 176 rfl) rfl
theorem q485 : (Jvm.Cond.methodLink "CapCouncil" (231 : Nat) ({ cls := "CapCouncil", name := "ringTells", desc := "(II)I" } : Jvm.MethodName)) ∈ lw_all := lw_g (lw_at lw_m2 177 rfl) rfl
theorem q486 : (Jvm.Cond.privateMethod ({ cls := "CapCouncil", name := "ringTells", desc := "(II)I" } : Jvm.MethodName)) ∈ lw_tbl := lw_at lw_m2 178 rfl
theorem q487 : (Jvm.Cond.instanceMethod ({ cls := "CapCouncil", name := "ringTells", desc := "(II)I" } : Jvm.MethodName)) ∈ lw_all := lw_g (lw_at lw_m2 179 rfl) rfl
theorem q488 : (Jvm.Cond.code ({ cls := "CapCouncil", name := "ringTells", desc := "(II)I" } : Jvm.MethodName) prog_1_method_40_code (3 : Nat) (Option.some Jvm.ClassFile.FieldType.int)) ∈ lw_all := lw_g (lw_at lw_m2 180 rfl) rfl
theorem q489 : (Jvm.Cond.methodLink "CapCouncil" (222 : Nat) ({ cls := "CapCouncil$Ring", name := "kind", desc := "()I" } : Jvm.MethodName)) ∈ lw_all := lw_g (lw_at lw_m2 181 rfl) rfl
theorem q509 : (Jvm.Cond.methodLink "CapCouncil" (225 : Nat) ({ cls := "CapCouncil", name := "reach", desc := "(I)I" } : Jvm.MethodName)) ∈ lw_all := lw_g (lw_at lw_m2 201 rfl) rfl
theorem q510 : (Jvm.Cond.privateMethod ({ cls := "CapCouncil", name := "reach", desc := "(I)I" } : Jvm.MethodName)) ∈ lw_tbl := lw_at lw_m2 202 rfl
theorem q511 : (Jvm.Cond.instanceMethod ({ cls := "CapCouncil", name := "reach", desc := "(I)I" } : Jvm.MethodName)) ∈ lw_all := lw_g (lw_at lw_m2 203 rfl) rfl
theorem q512 : (Jvm.Cond.code ({ cls := "CapCouncil", name := "reach", desc := "(I)I" } : Jvm.MethodName) prog_1_method_39_code (2 : Nat) (Option.some Jvm.ClassFile.FieldType.int)) ∈ lw_all := lw_g (lw_at lw_m2 204 rfl) rfl
theorem q513 : (Jvm.Cond.methodLink "CapCouncil" (193 : Nat) ({ cls := "java/lang/Math", name := "min", desc := "(II)I" } : Jvm.MethodName)) ∈ lw_all := lw_g (lw_at lw_m2 205 rfl) rfl
theorem q516 : (Jvm.Cond.methodLink "CapCouncil" (213 : Nat) ({ cls := "CapCouncil", name := "bedsIn", desc := "(I)I" } : Jvm.MethodName)) ∈ lw_all := lw_g (lw_at lw_m2 208 rfl) rfl
theorem q517 : (Jvm.Cond.privateMethod ({ cls := "CapCouncil", name := "bedsIn", desc := "(I)I" } : Jvm.MethodName)) ∈ lw_tbl := lw_at lw_m2 209 rfl
theorem q518 : (Jvm.Cond.instanceMethod ({ cls := "CapCouncil", name := "bedsIn", desc := "(I)I" } : Jvm.MethodName)) ∈ lw_all := lw_g (lw_at lw_m2 210 rfl) rfl
theorem q519 : (Jvm.Cond.code ({ cls := "CapCouncil", name := "bedsIn", desc := "(I)I" } : Jvm.MethodName) prog_1_method_35_code (4 : Nat) (Option.some Jvm.ClassFile.FieldType.int)) ∈ lw_all := lw_g (lw_at lw_m2 211 rfl) rfl
theorem q520 : (Jvm.Cond.methodLink "CapCouncil" (204 : Nat) ({ cls := "CapCouncil", name := "has", desc := "(II)Z" } : Jvm.MethodName)) ∈ lw_all := lw_g (lw_at lw_m2 212 rfl) rfl
theorem q521 : (Jvm.Cond.static ({ cls := "CapCouncil", name := "has", desc := "(II)Z" } : Jvm.MethodName)) ∈ lw_all := lw_g (lw_at lw_m2 213 rfl) rfl
theorem q522 : (Jvm.Cond.code ({ cls := "CapCouncil", name := "has", desc := "(II)Z" } : Jvm.MethodName) prog_1_method_2_code (2 : Nat) (Option.some Jvm.ClassFile.FieldType.boolean)) ∈ lw_all := lw_g (lw_at lw_m2 214 rfl) rfl
theorem q523 : (Jvm.Cond.methodLink "CapCouncil" (207 : Nat) ({ cls := "CapCouncil", name := "isWithin", desc := "(III)Z" } : Jvm.MethodName)) ∈ lw_all := lw_g (lw_at lw_m2 215 rfl) rfl
theorem q524 : (Jvm.Cond.privateMethod ({ cls := "CapCouncil", name := "isWithin", desc := "(III)Z" } : Jvm.MethodName)) ∈ lw_tbl := lw_at lw_m2 216 rfl
theorem q525 : (Jvm.Cond.instanceMethod ({ cls := "CapCouncil", name := "isWithin", desc := "(III)Z" } : Jvm.MethodName)) ∈ lw_all := lw_g (lw_at lw_m2 217 rfl) rfl
theorem q526 : (Jvm.Cond.code ({ cls := "CapCouncil", name := "isWithin", desc := "(III)Z" } : Jvm.MethodName) prog_1_method_33_code (4 : Nat) (Option.some Jvm.ClassFile.FieldType.boolean)) ∈ lw_all := lw_g (lw_at lw_m2 218 rfl) rfl
theorem q527 : (Jvm.Cond.methodLink "CapCouncil" (200 : Nat) ({ cls := "CapCouncil", name := "holdsBy", desc := "(LCapCouncil$Ring;IIII)Z" } : Jvm.MethodName)) ∈ lw_all := lw_g (lw_at lw_m2 219 rfl) rfl
theorem q528 : (Jvm.Cond.static ({ cls := "CapCouncil", name := "holdsBy", desc := "(LCapCouncil$Ring;IIII)Z" } : Jvm.MethodName)) ∈ lw_all := lw_g (lw_at lw_m2 220 rfl) rfl
theorem q529 : (Jvm.Cond.code ({ cls := "CapCouncil", name := "holdsBy", desc := "(LCapCouncil$Ring;IIII)Z" } : Jvm.MethodName) prog_1_method_31_code (5 : Nat) (Option.some Jvm.ClassFile.FieldType.boolean)) ∈ lw_all := lw_g (lw_at lw_m2 221 rfl) rfl
theorem q530 : (Jvm.Cond.methodLink "CapCouncil" (190 : Nat) ({ cls := "CapCouncil", name := "apart", desc := "(II)I" } : Jvm.MethodName)) ∈ lw_all := lw_g (lw_at lw_m2 222 rfl) rfl
theorem q531 : (Jvm.Cond.static ({ cls := "CapCouncil", name := "apart", desc := "(II)I" } : Jvm.MethodName)) ∈ lw_all := lw_g (lw_at lw_m2 223 rfl) rfl
theorem q532 : (Jvm.Cond.code ({ cls := "CapCouncil", name := "apart", desc := "(II)I" } : Jvm.MethodName) prog_1_method_30_code (2 : Nat) (Option.some Jvm.ClassFile.FieldType.int)) ∈ lw_all := lw_g (lw_at lw_m2 224 rfl) rfl
theorem q533 : (Jvm.Cond.methodLink "CapCouncil" (185 : Nat) ({ cls := "java/lang/Math", name := "abs", desc := "(I)I" } : Jvm.MethodName)) ∈ lw_all := lw_g (lw_at lw_m2 225 rfl) rfl
theorem q536 : (Jvm.Cond.methodLink "CapCouncil" (196 : Nat) ({ cls := "CapCouncil$Ring", name := "has", desc := "(IIII)Z" } : Jvm.MethodName)) ∈ lw_all := lw_g (lw_at lw_m2 228 rfl) rfl
theorem q561 : (Jvm.Cond.methodLink "CapCouncil" (216 : Nat) ({ cls := "CapCouncil", name := "decides", desc := "(I)I" } : Jvm.MethodName)) ∈ lw_all := lw_g (lw_at lw_m3 13 rfl) rfl
theorem q562 : (Jvm.Cond.privateMethod ({ cls := "CapCouncil", name := "decides", desc := "(I)I" } : Jvm.MethodName)) ∈ lw_tbl := lw_at lw_m3 14 rfl
theorem q563 : (Jvm.Cond.instanceMethod ({ cls := "CapCouncil", name := "decides", desc := "(I)I" } : Jvm.MethodName)) ∈ lw_all := lw_g (lw_at lw_m3 15 rfl) rfl
theorem q564 : (Jvm.Cond.code ({ cls := "CapCouncil", name := "decides", desc := "(I)I" } : Jvm.MethodName) prog_1_method_37_code (5 : Nat) (Option.some Jvm.ClassFile.FieldType.int)) ∈ lw_all := lw_g (lw_at lw_m3 16 rfl) rfl
theorem q566 : (Jvm.Cond.instanceMethod ({ cls := "CapCouncil", name := "bed", desc := "(II)I" } : Jvm.MethodName)) ∈ lw_all := lw_g (lw_at lw_m3 18 rfl) rfl
theorem q567 : (Jvm.Cond.selects "CapCouncil" ({ cls := "CapCouncil", name := "bed", desc := "(II)I" } : Jvm.MethodName) ({ cls := "CapCouncil", name := "bed", desc := "(II)I" } : Jvm.MethodName)) ∈ lw_all := lw_g (lw_at lw_m3 19 rfl) rfl
theorem q568 : (Jvm.Cond.code ({ cls := "CapCouncil", name := "bed", desc := "(II)I" } : Jvm.MethodName) prog_1_method_43_code (3 : Nat) (Option.some Jvm.ClassFile.FieldType.int)) ∈ lw_all := lw_g (lw_at lw_m3 20 rfl) rfl
theorem q569 : (Jvm.Cond.methodLink "CapCouncil" (234 : Nat) ({ cls := "CapCouncil", name := "isBed", desc := "(I)Z" } : Jvm.MethodName)) ∈ lw_all := lw_g (lw_at lw_m3 21 rfl) rfl
theorem q570 : (Jvm.Cond.privateMethod ({ cls := "CapCouncil", name := "isBed", desc := "(I)Z" } : Jvm.MethodName)) ∈ lw_tbl := lw_at lw_m3 22 rfl
theorem q571 : (Jvm.Cond.instanceMethod ({ cls := "CapCouncil", name := "isBed", desc := "(I)Z" } : Jvm.MethodName)) ∈ lw_all := lw_g (lw_at lw_m3 23 rfl) rfl
theorem q572 : (Jvm.Cond.code ({ cls := "CapCouncil", name := "isBed", desc := "(I)Z" } : Jvm.MethodName) prog_1_method_28_code (2 : Nat) (Option.some Jvm.ClassFile.FieldType.boolean)) ∈ lw_all := lw_g (lw_at lw_m3 24 rfl) rfl
theorem q573 : (Jvm.Cond.methodLink "CapCouncil" (237 : Nat) ({ cls := "CapCouncil", name := "bedTells", desc := "(II)I" } : Jvm.MethodName)) ∈ lw_all := lw_g (lw_at lw_m3 25 rfl) rfl
theorem q574 : (Jvm.Cond.privateMethod ({ cls := "CapCouncil", name := "bedTells", desc := "(II)I" } : Jvm.MethodName)) ∈ lw_tbl := lw_at lw_m3 26 rfl
theorem q575 : (Jvm.Cond.instanceMethod ({ cls := "CapCouncil", name := "bedTells", desc := "(II)I" } : Jvm.MethodName)) ∈ lw_all := lw_g (lw_at lw_m3 27 rfl) rfl
theorem q576 : (Jvm.Cond.code ({ cls := "CapCouncil", name := "bedTells", desc := "(II)I" } : Jvm.MethodName) prog_1_method_41_code (3 : Nat) (Option.some Jvm.ClassFile.FieldType.int)) ∈ lw_all := lw_g (lw_at lw_m3 28 rfl) rfl
theorem q577 : (Jvm.Cond.methodLink "CapCouncil" (210 : Nat) ({ cls := "CapCouncil", name := "ringsAt", desc := "(I)I" } : Jvm.MethodName)) ∈ lw_all := lw_g (lw_at lw_m3 29 rfl) rfl
theorem q578 : (Jvm.Cond.privateMethod ({ cls := "CapCouncil", name := "ringsAt", desc := "(I)I" } : Jvm.MethodName)) ∈ lw_tbl := lw_at lw_m3 30 rfl
theorem q579 : (Jvm.Cond.instanceMethod ({ cls := "CapCouncil", name := "ringsAt", desc := "(I)I" } : Jvm.MethodName)) ∈ lw_all := lw_g (lw_at lw_m3 31 rfl) rfl
theorem q580 : (Jvm.Cond.code ({ cls := "CapCouncil", name := "ringsAt", desc := "(I)I" } : Jvm.MethodName) prog_1_method_34_code (4 : Nat) (Option.some Jvm.ClassFile.FieldType.int)) ∈ lw_all := lw_g (lw_at lw_m3 32 rfl) rfl
theorem q582 : (Jvm.Cond.instanceMethod ({ cls := "CapCouncil", name := "mark", desc := "(II)I" } : Jvm.MethodName)) ∈ lw_all := lw_g (lw_at lw_m3 34 rfl) rfl
theorem q583 : (Jvm.Cond.selects "CapCouncil" ({ cls := "CapCouncil", name := "mark", desc := "(II)I" } : Jvm.MethodName) ({ cls := "CapCouncil", name := "mark", desc := "(II)I" } : Jvm.MethodName)) ∈ lw_all := lw_g (lw_at lw_m3 35 rfl) rfl
theorem q584 : (Jvm.Cond.codeWith ({ cls := "CapCouncil", name := "mark", desc := "(II)I" } : Jvm.MethodName) prog_1_method_44_code (5 : Nat) (Option.some Jvm.ClassFile.FieldType.int) [((26 : Nat), (64 : Nat), (101 : Nat), (256 : Nat)), ((65 : Nat), (73 : Nat), (101 : Nat), (256 : Nat)), ((74 : Nat), (82 : Nat), (101 : Nat), (256 : Nat)), ((83 : Nat), (91 : Nat), (101 : Nat), (256 : Nat)), ((92 : Nat), (100 : Nat), (101 : Nat), (256 : Nat))]) ∈ lw_all := lw_g (lw_at lw_m3 36 rfl) rfl
theorem q585 : (Jvm.Cond.classLink "CapCouncil" (256 : Nat) "java/lang/ClassCastException") ∈ lw_all := lw_g (lw_at lw_m3 37 rfl) rfl
theorem q599 : (Jvm.Cond.methodLink "CapCouncil" (240 : Nat) ({ cls := "CapCouncil$Old", name := "bald", desc := "(LCapCouncil;)I" } : Jvm.MethodName)) ∈ lw_all := lw_g (lw_at lw_m3 51 rfl) rfl
theorem q614 : (Jvm.Cond.privateMethod ({ cls := "CapCouncil", name := "holds", desc := "(IIII)Z" } : Jvm.MethodName)) ∈ lw_tbl := lw_at lw_m3 66 rfl
theorem q615 : (Jvm.Cond.instanceMethod ({ cls := "CapCouncil", name := "holds", desc := "(IIII)Z" } : Jvm.MethodName)) ∈ lw_all := lw_g (lw_at lw_m3 67 rfl) rfl
theorem q616 : (Jvm.Cond.code ({ cls := "CapCouncil", name := "holds", desc := "(IIII)Z" } : Jvm.MethodName) prog_1_method_32_code (5 : Nat) (Option.some Jvm.ClassFile.FieldType.boolean)) ∈ lw_all := lw_g (lw_at lw_m3 68 rfl) rfl
theorem q617 : (Jvm.Cond.methodLink "CapCouncil" (244 : Nat) ({ cls := "CapCouncil$Arc", name := "gap", desc := "(LCapCouncil;)I" } : Jvm.MethodName)) ∈ lw_all := lw_g (lw_at lw_m3 69 rfl) rfl
theorem q628 : (Jvm.Cond.methodLink "CapCouncil" (247 : Nat) ({ cls := "CapCouncil$Puff", name := "adjourned", desc := "(LCapCouncil;)I" } : Jvm.MethodName)) ∈ lw_all := lw_g (lw_at lw_m3 80 rfl) rfl
theorem q632 : (Jvm.Cond.methodLink "CapCouncil" (250 : Nat) ({ cls := "CapCouncil$Death", name := "edge", desc := "(LCapCouncil;)I" } : Jvm.MethodName)) ∈ lw_all := lw_g (lw_at lw_m3 84 rfl) rfl
theorem q639 : (Jvm.Cond.methodLink "CapCouncil" (253 : Nat) ({ cls := "CapCouncil$Whole", name := "heart", desc := "(LCapCouncil;)I" } : Jvm.MethodName)) ∈ lw_all := lw_g (lw_at lw_m3 91 rfl) rfl
theorem q647 : (Jvm.Cond.instanceMethod ({ cls := "CapCouncil", name := "within", desc := "(III)I" } : Jvm.MethodName)) ∈ lw_all := lw_g (lw_at lw_m3 99 rfl) rfl
theorem q648 : (Jvm.Cond.selects "CapCouncil" ({ cls := "CapCouncil", name := "within", desc := "(III)I" } : Jvm.MethodName) ({ cls := "CapCouncil", name := "within", desc := "(III)I" } : Jvm.MethodName)) ∈ lw_all := lw_g (lw_at lw_m3 100 rfl) rfl
theorem q649 : (Jvm.Cond.code ({ cls := "CapCouncil", name := "within", desc := "(III)I" } : Jvm.MethodName) prog_1_method_45_code (4 : Nat) (Option.some Jvm.ClassFile.FieldType.int)) ∈ lw_all := lw_g (lw_at lw_m3 101 rfl) rfl
theorem q650 : (Jvm.Cond.methodLink "CapCouncil" (258 : Nat) ({ cls := "CapCouncil", name := "isCell", desc := "(I)Z" } : Jvm.MethodName)) ∈ lw_all := lw_g (lw_at lw_m3 102 rfl) rfl
theorem q651 : (Jvm.Cond.static ({ cls := "CapCouncil", name := "isCell", desc := "(I)Z" } : Jvm.MethodName)) ∈ lw_all := lw_g (lw_at lw_m3 103 rfl) rfl
theorem q652 : (Jvm.Cond.code ({ cls := "CapCouncil", name := "isCell", desc := "(I)Z" } : Jvm.MethodName) prog_1_method_29_code (1 : Nat) (Option.some Jvm.ClassFile.FieldType.boolean)) ∈ lw_all := lw_g (lw_at lw_m3 104 rfl) rfl
theorem q654 : (Jvm.Cond.instanceMethod ({ cls := "CapCouncil", name := "year", desc := "()I" } : Jvm.MethodName)) ∈ lw_all := lw_g (lw_at lw_m3 106 rfl) rfl
theorem q655 : (Jvm.Cond.selects "CapCouncil" ({ cls := "CapCouncil", name := "year", desc := "()I" } : Jvm.MethodName) ({ cls := "CapCouncil", name := "year", desc := "()I" } : Jvm.MethodName)) ∈ lw_all := lw_g (lw_at lw_m3 107 rfl) rfl
theorem q656 : (Jvm.Cond.code ({ cls := "CapCouncil", name := "year", desc := "()I" } : Jvm.MethodName) prog_1_method_49_code (1 : Nat) (Option.some Jvm.ClassFile.FieldType.int)) ∈ lw_all := lw_g (lw_at lw_m3 108 rfl) rfl
theorem q657 : (Jvm.Cond.methodLink "CapCouncil" (265 : Nat) ({ cls := "CapCouncil", name := "note", desc := "()V" } : Jvm.MethodName)) ∈ lw_all := lw_g (lw_at lw_m3 109 rfl) rfl
theorem q658 : (Jvm.Cond.privateMethod ({ cls := "CapCouncil", name := "note", desc := "()V" } : Jvm.MethodName)) ∈ lw_tbl := lw_at lw_m3 110 rfl
theorem q659 : (Jvm.Cond.instanceMethod ({ cls := "CapCouncil", name := "note", desc := "()V" } : Jvm.MethodName)) ∈ lw_all := lw_g (lw_at lw_m3 111 rfl) rfl
theorem q660 : (Jvm.Cond.code ({ cls := "CapCouncil", name := "note", desc := "()V" } : Jvm.MethodName) prog_1_method_48_code (1 : Nat) (Option.none : Option Jvm.ClassFile.FieldType)) ∈ lw_all := lw_g (lw_at lw_m3 112 rfl) rfl
theorem q661 : (Jvm.Cond.methodLink "CapCouncil" (261 : Nat) ({ cls := "CapCouncil", name := "write", desc := "([II)V" } : Jvm.MethodName)) ∈ lw_all := lw_g (lw_at lw_m3 113 rfl) rfl
theorem q662 : (Jvm.Cond.privateMethod ({ cls := "CapCouncil", name := "write", desc := "([II)V" } : Jvm.MethodName)) ∈ lw_tbl := lw_at lw_m3 114 rfl
theorem q663 : (Jvm.Cond.instanceMethod ({ cls := "CapCouncil", name := "write", desc := "([II)V" } : Jvm.MethodName)) ∈ lw_all := lw_g (lw_at lw_m3 115 rfl) rfl
theorem q664 : (Jvm.Cond.code ({ cls := "CapCouncil", name := "write", desc := "([II)V" } : Jvm.MethodName) prog_1_method_46_code (3 : Nat) (Option.none : Option Jvm.ClassFile.FieldType)) ∈ lw_all := lw_g (lw_at lw_m3 116 rfl) rfl
theorem q665 : (Jvm.Cond.methodLink "CapCouncil" (268 : Nat) ({ cls := "CapCouncil", name := "seated", desc := "()I" } : Jvm.MethodName)) ∈ lw_all := lw_g (lw_at lw_m3 117 rfl) rfl
theorem q666 : (Jvm.Cond.privateMethod ({ cls := "CapCouncil", name := "seated", desc := "()I" } : Jvm.MethodName)) ∈ lw_tbl := lw_at lw_m3 118 rfl
theorem q667 : (Jvm.Cond.instanceMethod ({ cls := "CapCouncil", name := "seated", desc := "()I" } : Jvm.MethodName)) ∈ lw_all := lw_g (lw_at lw_m3 119 rfl) rfl
theorem q668 : (Jvm.Cond.code ({ cls := "CapCouncil", name := "seated", desc := "()I" } : Jvm.MethodName) prog_1_method_36_code (3 : Nat) (Option.some Jvm.ClassFile.FieldType.int)) ∈ lw_all := lw_g (lw_at lw_m3 120 rfl) rfl
theorem q669 : (Jvm.Cond.methodLink "CapCouncil" (271 : Nat) ({ cls := "java/lang/Integer", name := "bitCount", desc := "(I)I" } : Jvm.MethodName)) ∈ lw_all := lw_g (lw_at lw_m3 121 rfl) rfl
theorem q676 : (Jvm.Cond.instanceMethod ({ cls := "CapCouncil", name := "move", desc := "(II)I" } : Jvm.MethodName)) ∈ lw_all := lw_g (lw_at lw_m3 128 rfl) rfl
theorem q677 : (Jvm.Cond.selects "CapCouncil" ({ cls := "CapCouncil", name := "move", desc := "(II)I" } : Jvm.MethodName) ({ cls := "CapCouncil", name := "move", desc := "(II)I" } : Jvm.MethodName)) ∈ lw_all := lw_g (lw_at lw_m3 129 rfl) rfl
theorem q678 : (Jvm.Cond.code ({ cls := "CapCouncil", name := "move", desc := "(II)I" } : Jvm.MethodName) prog_1_method_50_code (3 : Nat) (Option.some Jvm.ClassFile.FieldType.int)) ∈ lw_all := lw_g (lw_at lw_m3 130 rfl) rfl
theorem q680 : (Jvm.Cond.instanceMethod ({ cls := "CapCouncil", name := "gather", desc := "(I)I" } : Jvm.MethodName)) ∈ lw_all := lw_g (lw_at lw_m3 132 rfl) rfl
theorem q681 : (Jvm.Cond.selects "CapCouncil" ({ cls := "CapCouncil", name := "gather", desc := "(I)I" } : Jvm.MethodName) ({ cls := "CapCouncil", name := "gather", desc := "(I)I" } : Jvm.MethodName)) ∈ lw_all := lw_g (lw_at lw_m3 133 rfl) rfl
theorem q682 : (Jvm.Cond.code ({ cls := "CapCouncil", name := "gather", desc := "(I)I" } : Jvm.MethodName) prog_1_method_51_code (3 : Nat) (Option.some Jvm.ClassFile.FieldType.int)) ∈ lw_all := lw_g (lw_at lw_m3 134 rfl) rfl
theorem q684 : (Jvm.Cond.instanceMethod ({ cls := "CapCouncil", name := "make", desc := "(I)I" } : Jvm.MethodName)) ∈ lw_all := lw_g (lw_at lw_m3 136 rfl) rfl
theorem q685 : (Jvm.Cond.selects "CapCouncil" ({ cls := "CapCouncil", name := "make", desc := "(I)I" } : Jvm.MethodName) ({ cls := "CapCouncil", name := "make", desc := "(I)I" } : Jvm.MethodName)) ∈ lw_all := lw_g (lw_at lw_m3 137 rfl) rfl
theorem q686 : (Jvm.Cond.code ({ cls := "CapCouncil", name := "make", desc := "(I)I" } : Jvm.MethodName) prog_1_method_52_code (2 : Nat) (Option.some Jvm.ClassFile.FieldType.int)) ∈ lw_all := lw_g (lw_at lw_m3 138 rfl) rfl
theorem q688 : (Jvm.Cond.instanceMethod ({ cls := "CapCouncil", name := "think", desc := "(II)I" } : Jvm.MethodName)) ∈ lw_all := lw_g (lw_at lw_m3 140 rfl) rfl
theorem q689 : (Jvm.Cond.selects "CapCouncil" ({ cls := "CapCouncil", name := "think", desc := "(II)I" } : Jvm.MethodName) ({ cls := "CapCouncil", name := "think", desc := "(II)I" } : Jvm.MethodName)) ∈ lw_all := lw_g (lw_at lw_m3 141 rfl) rfl
theorem q690 : (Jvm.Cond.code ({ cls := "CapCouncil", name := "think", desc := "(II)I" } : Jvm.MethodName) prog_1_method_53_code (4 : Nat) (Option.some Jvm.ClassFile.FieldType.int)) ∈ lw_all := lw_g (lw_at lw_m3 142 rfl) rfl
theorem q692 : (Jvm.Cond.instanceMethod ({ cls := "CapCouncil", name := "undo", desc := "(I)I" } : Jvm.MethodName)) ∈ lw_all := lw_g (lw_at lw_m3 144 rfl) rfl
theorem q693 : (Jvm.Cond.selects "CapCouncil" ({ cls := "CapCouncil", name := "undo", desc := "(I)I" } : Jvm.MethodName) ({ cls := "CapCouncil", name := "undo", desc := "(I)I" } : Jvm.MethodName)) ∈ lw_all := lw_g (lw_at lw_m3 145 rfl) rfl
theorem q694 : (Jvm.Cond.code ({ cls := "CapCouncil", name := "undo", desc := "(I)I" } : Jvm.MethodName) prog_1_method_54_code (3 : Nat) (Option.some Jvm.ClassFile.FieldType.int)) ∈ lw_all := lw_g (lw_at lw_m3 146 rfl) rfl
theorem q695 : (Jvm.Cond.methodLink "CapCouncil" (276 : Nat) ({ cls := "CapCouncil", name := "readBack", desc := "([II)V" } : Jvm.MethodName)) ∈ lw_all := lw_g (lw_at lw_m3 147 rfl) rfl
theorem q696 : (Jvm.Cond.privateMethod ({ cls := "CapCouncil", name := "readBack", desc := "([II)V" } : Jvm.MethodName)) ∈ lw_tbl := lw_at lw_m3 148 rfl
theorem q697 : (Jvm.Cond.instanceMethod ({ cls := "CapCouncil", name := "readBack", desc := "([II)V" } : Jvm.MethodName)) ∈ lw_all := lw_g (lw_at lw_m3 149 rfl) rfl
theorem q698 : (Jvm.Cond.code ({ cls := "CapCouncil", name := "readBack", desc := "([II)V" } : Jvm.MethodName) prog_1_method_47_code (3 : Nat) (Option.none : Option Jvm.ClassFile.FieldType)) ∈ lw_all := lw_g (lw_at lw_m3 150 rfl) rfl
theorem q700 : (Jvm.Cond.instanceMethod ({ cls := "CapCouncil", name := "keep", desc := "(I)I" } : Jvm.MethodName)) ∈ lw_all := lw_g (lw_at lw_m3 152 rfl) rfl
theorem q701 : (Jvm.Cond.selects "CapCouncil" ({ cls := "CapCouncil", name := "keep", desc := "(I)I" } : Jvm.MethodName) ({ cls := "CapCouncil", name := "keep", desc := "(I)I" } : Jvm.MethodName)) ∈ lw_all := lw_g (lw_at lw_m3 153 rfl) rfl
theorem q702 : (Jvm.Cond.code ({ cls := "CapCouncil", name := "keep", desc := "(I)I" } : Jvm.MethodName) prog_1_method_56_code (3 : Nat) (Option.some Jvm.ClassFile.FieldType.int)) ∈ lw_all := lw_g (lw_at lw_m3 154 rfl) rfl
theorem q703 : (Jvm.Cond.methodLink "CapCouncil" (279 : Nat) ({ cls := "CapCouncil", name := "isKept", desc := "(I)Z" } : Jvm.MethodName)) ∈ lw_all := lw_g (lw_at lw_m3 155 rfl) rfl
theorem q704 : (Jvm.Cond.static ({ cls := "CapCouncil", name := "isKept", desc := "(I)Z" } : Jvm.MethodName)) ∈ lw_all := lw_g (lw_at lw_m3 156 rfl) rfl
theorem q705 : (Jvm.Cond.code ({ cls := "CapCouncil", name := "isKept", desc := "(I)Z" } : Jvm.MethodName) prog_1_method_55_code (1 : Nat) (Option.some Jvm.ClassFile.FieldType.boolean)) ∈ lw_all := lw_g (lw_at lw_m3 157 rfl) rfl
theorem q707 : (Jvm.Cond.methodLinkNest "CapCouncil" (282 : Nat) ({ cls := "CapCouncil$Kept", name := "<init>", desc := "()V" } : Jvm.MethodName) "CapCouncil") ∈ lw_tbl := lw_at lw_m3 159 rfl
theorem q711 : (Jvm.Cond.fieldLinkNest "CapCouncil" (283 : Nat) "CapCouncil$Kept" "deedMany" "I" "CapCouncil") ∈ lw_tbl := lw_at lw_m3 163 rfl
theorem q713 : (Jvm.Cond.fieldLinkNest "CapCouncil" (284 : Nat) "CapCouncil$Kept" "ahead" "[I" "CapCouncil") ∈ lw_tbl := lw_at lw_m3 165 rfl
theorem q715 : (Jvm.Cond.fieldLinkNest "CapCouncil" (285 : Nat) "CapCouncil$Kept" "now" "[I" "CapCouncil") ∈ lw_tbl := lw_at lw_m3 167 rfl
theorem q724 : (Jvm.Cond.instanceMethod ({ cls := "CapCouncil", name := "on", desc := "(I)I" } : Jvm.MethodName)) ∈ lw_all := lw_g (lw_at lw_m3 176 rfl) rfl
theorem q725 : (Jvm.Cond.selects "CapCouncil" ({ cls := "CapCouncil", name := "on", desc := "(I)I" } : Jvm.MethodName) ({ cls := "CapCouncil", name := "on", desc := "(I)I" } : Jvm.MethodName)) ∈ lw_all := lw_g (lw_at lw_m3 177 rfl) rfl
theorem q726 : (Jvm.Cond.code ({ cls := "CapCouncil", name := "on", desc := "(I)I" } : Jvm.MethodName) prog_1_method_57_code (3 : Nat) (Option.some Jvm.ClassFile.FieldType.int)) ∈ lw_all := lw_g (lw_at lw_m3 178 rfl) rfl
theorem q728 : (Jvm.Cond.instanceMethod ({ cls := "CapCouncil", name := "sits", desc := "(I)I" } : Jvm.MethodName)) ∈ lw_all := lw_g (lw_at lw_m3 180 rfl) rfl
theorem q729 : (Jvm.Cond.selects "CapCouncil" ({ cls := "CapCouncil", name := "sits", desc := "(I)I" } : Jvm.MethodName) ({ cls := "CapCouncil", name := "sits", desc := "(I)I" } : Jvm.MethodName)) ∈ lw_all := lw_g (lw_at lw_m3 181 rfl) rfl
theorem q730 : (Jvm.Cond.code ({ cls := "CapCouncil", name := "sits", desc := "(I)I" } : Jvm.MethodName) prog_1_method_58_code (4 : Nat) (Option.some Jvm.ClassFile.FieldType.int)) ∈ lw_all := lw_g (lw_at lw_m3 182 rfl) rfl
theorem q732 : (Jvm.Cond.instanceMethod ({ cls := "CapCouncil", name := "common", desc := "(I)I" } : Jvm.MethodName)) ∈ lw_all := lw_g (lw_at lw_m3 184 rfl) rfl
theorem q733 : (Jvm.Cond.selects "CapCouncil" ({ cls := "CapCouncil", name := "common", desc := "(I)I" } : Jvm.MethodName) ({ cls := "CapCouncil", name := "common", desc := "(I)I" } : Jvm.MethodName)) ∈ lw_all := lw_g (lw_at lw_m3 185 rfl) rfl
theorem q734 : (Jvm.Cond.code ({ cls := "CapCouncil", name := "common", desc := "(I)I" } : Jvm.MethodName) prog_1_method_59_code (7 : Nat) (Option.some Jvm.ClassFile.FieldType.int)) ∈ lw_all := lw_g (lw_at lw_m3 186 rfl) rfl
theorem q736 : (Jvm.Cond.instanceMethod ({ cls := "CapCouncil", name := "best", desc := "(I)I" } : Jvm.MethodName)) ∈ lw_all := lw_g (lw_at lw_m3 188 rfl) rfl
theorem q737 : (Jvm.Cond.selects "CapCouncil" ({ cls := "CapCouncil", name := "best", desc := "(I)I" } : Jvm.MethodName) ({ cls := "CapCouncil", name := "best", desc := "(I)I" } : Jvm.MethodName)) ∈ lw_all := lw_g (lw_at lw_m3 189 rfl) rfl
theorem q738 : (Jvm.Cond.code ({ cls := "CapCouncil", name := "best", desc := "(I)I" } : Jvm.MethodName) prog_1_method_60_code (6 : Nat) (Option.some Jvm.ClassFile.FieldType.int)) ∈ lw_all := lw_g (lw_at lw_m3 190 rfl) rfl
theorem q739 : (Jvm.Cond.methodLink "CapCouncil" (219 : Nat) ({ cls := "java/lang/Math", name := "max", desc := "(II)I" } : Jvm.MethodName)) ∈ lw_all := lw_g (lw_at lw_m3 191 rfl) rfl
theorem q743 : (Jvm.Cond.instanceMethod ({ cls := "CapCouncil", name := "when", desc := "(I)I" } : Jvm.MethodName)) ∈ lw_all := lw_g (lw_at lw_m3 195 rfl) rfl
theorem q744 : (Jvm.Cond.selects "CapCouncil" ({ cls := "CapCouncil", name := "when", desc := "(I)I" } : Jvm.MethodName) ({ cls := "CapCouncil", name := "when", desc := "(I)I" } : Jvm.MethodName)) ∈ lw_all := lw_g (lw_at lw_m3 196 rfl) rfl
theorem q745 : (Jvm.Cond.code ({ cls := "CapCouncil", name := "when", desc := "(I)I" } : Jvm.MethodName) prog_1_method_61_code (5 : Nat) (Option.some Jvm.ClassFile.FieldType.int)) ∈ lw_all := lw_g (lw_at lw_m3 197 rfl) rfl
theorem q747 : (Jvm.Cond.instanceMethod ({ cls := "CapCouncil", name := "years", desc := "(II)I" } : Jvm.MethodName)) ∈ lw_all := lw_g (lw_at lw_m3 199 rfl) rfl
theorem q748 : (Jvm.Cond.selects "CapCouncil" ({ cls := "CapCouncil", name := "years", desc := "(II)I" } : Jvm.MethodName) ({ cls := "CapCouncil", name := "years", desc := "(II)I" } : Jvm.MethodName)) ∈ lw_all := lw_g (lw_at lw_m3 200 rfl) rfl
theorem q749 : (Jvm.Cond.code ({ cls := "CapCouncil", name := "years", desc := "(II)I" } : Jvm.MethodName) prog_1_method_62_code (8 : Nat) (Option.some Jvm.ClassFile.FieldType.int)) ∈ lw_all := lw_g (lw_at lw_m3 201 rfl) rfl
theorem q751 : (Jvm.Cond.instanceMethod ({ cls := "CapCouncil", name := "near", desc := "(II)I" } : Jvm.MethodName)) ∈ lw_all := lw_g (lw_at lw_m3 203 rfl) rfl
theorem q752 : (Jvm.Cond.selects "CapCouncil" ({ cls := "CapCouncil", name := "near", desc := "(II)I" } : Jvm.MethodName) ({ cls := "CapCouncil", name := "near", desc := "(II)I" } : Jvm.MethodName)) ∈ lw_all := lw_g (lw_at lw_m3 204 rfl) rfl
theorem q753 : (Jvm.Cond.code ({ cls := "CapCouncil", name := "near", desc := "(II)I" } : Jvm.MethodName) prog_1_method_63_code (7 : Nat) (Option.some Jvm.ClassFile.FieldType.int)) ∈ lw_all := lw_g (lw_at lw_m3 205 rfl) rfl
theorem q754 : (Jvm.Cond.constant "CapCouncil" (288 : Nat) (1048576 : Int32)) ∈ lw_all := lw_g (lw_at lw_m3 206 rfl) rfl
theorem q756 : (Jvm.Cond.instanceMethod ({ cls := "CapCouncil", name := "unmake", desc := "(II)I" } : Jvm.MethodName)) ∈ lw_all := lw_g (lw_at lw_m3 208 rfl) rfl
theorem q757 : (Jvm.Cond.selects "CapCouncil" ({ cls := "CapCouncil", name := "unmake", desc := "(II)I" } : Jvm.MethodName) ({ cls := "CapCouncil", name := "unmake", desc := "(II)I" } : Jvm.MethodName)) ∈ lw_all := lw_g (lw_at lw_m3 209 rfl) rfl
theorem q758 : (Jvm.Cond.code ({ cls := "CapCouncil", name := "unmake", desc := "(II)I" } : Jvm.MethodName) prog_1_method_64_code (9 : Nat) (Option.some Jvm.ClassFile.FieldType.int)) ∈ lw_all := lw_g (lw_at lw_m3 210 rfl) rfl
theorem q760 : (Jvm.Cond.instanceMethod ({ cls := "CapCouncil", name := "sway", desc := "(I)I" } : Jvm.MethodName)) ∈ lw_all := lw_g (lw_at lw_m3 212 rfl) rfl
theorem q761 : (Jvm.Cond.selects "CapCouncil" ({ cls := "CapCouncil", name := "sway", desc := "(I)I" } : Jvm.MethodName) ({ cls := "CapCouncil", name := "sway", desc := "(I)I" } : Jvm.MethodName)) ∈ lw_all := lw_g (lw_at lw_m3 213 rfl) rfl
theorem q762 : (Jvm.Cond.code ({ cls := "CapCouncil", name := "sway", desc := "(I)I" } : Jvm.MethodName) prog_1_method_65_code (6 : Nat) (Option.some Jvm.ClassFile.FieldType.int)) ∈ lw_all := lw_g (lw_at lw_m3 214 rfl) rfl
theorem q763 : (Jvm.Cond.methodLink "CapCouncil" (289 : Nat) ({ cls := "CapCouncil", name := "decideAll", desc := "()I" } : Jvm.MethodName)) ∈ lw_all := lw_g (lw_at lw_m3 215 rfl) rfl
theorem q764 : (Jvm.Cond.privateMethod ({ cls := "CapCouncil", name := "decideAll", desc := "()I" } : Jvm.MethodName)) ∈ lw_tbl := lw_at lw_m3 216 rfl
theorem q765 : (Jvm.Cond.instanceMethod ({ cls := "CapCouncil", name := "decideAll", desc := "()I" } : Jvm.MethodName)) ∈ lw_all := lw_g (lw_at lw_m3 217 rfl) rfl
theorem q766 : (Jvm.Cond.code ({ cls := "CapCouncil", name := "decideAll", desc := "()I" } : Jvm.MethodName) prog_1_method_38_code (3 : Nat) (Option.some Jvm.ClassFile.FieldType.int)) ∈ lw_all := lw_g (lw_at lw_m3 218 rfl) rfl
theorem q768 : (Jvm.Cond.instanceMethod ({ cls := "CapCouncil", name := "middles", desc := "(II)I" } : Jvm.MethodName)) ∈ lw_all := lw_g (lw_at lw_m3 220 rfl) rfl
theorem q769 : (Jvm.Cond.selects "CapCouncil" ({ cls := "CapCouncil", name := "middles", desc := "(II)I" } : Jvm.MethodName) ({ cls := "CapCouncil", name := "middles", desc := "(II)I" } : Jvm.MethodName)) ∈ lw_all := lw_g (lw_at lw_m3 221 rfl) rfl
theorem q770 : (Jvm.Cond.code ({ cls := "CapCouncil", name := "middles", desc := "(II)I" } : Jvm.MethodName) prog_1_method_68_code (8 : Nat) (Option.some Jvm.ClassFile.FieldType.int)) ∈ lw_all := lw_g (lw_at lw_m3 222 rfl) rfl
theorem q771 : (Jvm.Cond.methodLink "CapCouncil" (292 : Nat) ({ cls := "CapCouncil", name := "askedCells", desc := "(II)I" } : Jvm.MethodName)) ∈ lw_all := lw_g (lw_at lw_m3 223 rfl) rfl
theorem q772 : (Jvm.Cond.privateMethod ({ cls := "CapCouncil", name := "askedCells", desc := "(II)I" } : Jvm.MethodName)) ∈ lw_tbl := lw_at lw_m3 224 rfl
theorem q773 : (Jvm.Cond.instanceMethod ({ cls := "CapCouncil", name := "askedCells", desc := "(II)I" } : Jvm.MethodName)) ∈ lw_all := lw_g (lw_at lw_m3 225 rfl) rfl
theorem q774 : (Jvm.Cond.code ({ cls := "CapCouncil", name := "askedCells", desc := "(II)I" } : Jvm.MethodName) prog_1_method_66_code (5 : Nat) (Option.some Jvm.ClassFile.FieldType.int)) ∈ lw_all := lw_g (lw_at lw_m3 226 rfl) rfl
theorem q775 : (Jvm.Cond.methodLink "CapCouncil" (295 : Nat) ({ cls := "CapCouncil", name := "isSo", desc := "(LCapCouncil$Ring;II[I)Z" } : Jvm.MethodName)) ∈ lw_all := lw_g (lw_at lw_m3 227 rfl) rfl
theorem q776 : (Jvm.Cond.privateMethod ({ cls := "CapCouncil", name := "isSo", desc := "(LCapCouncil$Ring;II[I)Z" } : Jvm.MethodName)) ∈ lw_tbl := lw_at lw_m3 228 rfl
theorem q777 : (Jvm.Cond.instanceMethod ({ cls := "CapCouncil", name := "isSo", desc := "(LCapCouncil$Ring;II[I)Z" } : Jvm.MethodName)) ∈ lw_all := lw_g (lw_at lw_m3 229 rfl) rfl
theorem q778 : (Jvm.Cond.code ({ cls := "CapCouncil", name := "isSo", desc := "(LCapCouncil$Ring;II[I)Z" } : Jvm.MethodName) prog_1_method_67_code (7 : Nat) (Option.some Jvm.ClassFile.FieldType.boolean)) ∈ lw_all := lw_g (lw_at lw_m3 230 rfl) rfl
theorem q780 : (Jvm.Cond.instanceMethod ({ cls := "CapCouncil", name := "wides", desc := "(II)I" } : Jvm.MethodName)) ∈ lw_all := lw_g (lw_at lw_m3 232 rfl) rfl
theorem q781 : (Jvm.Cond.selects "CapCouncil" ({ cls := "CapCouncil", name := "wides", desc := "(II)I" } : Jvm.MethodName) ({ cls := "CapCouncil", name := "wides", desc := "(II)I" } : Jvm.MethodName)) ∈ lw_all := lw_g (lw_at lw_m3 233 rfl) rfl
theorem q782 : (Jvm.Cond.code ({ cls := "CapCouncil", name := "wides", desc := "(II)I" } : Jvm.MethodName) prog_1_method_69_code (6 : Nat) (Option.some Jvm.ClassFile.FieldType.int)) ∈ lw_all := lw_g (lw_at lw_m3 234 rfl) rfl
theorem q784 : (Jvm.Cond.instanceMethod ({ cls := "CapCouncil", name := "kinds", desc := "(II)I" } : Jvm.MethodName)) ∈ lw_all := lw_g (lw_at lw_m3 236 rfl) rfl
theorem q785 : (Jvm.Cond.selects "CapCouncil" ({ cls := "CapCouncil", name := "kinds", desc := "(II)I" } : Jvm.MethodName) ({ cls := "CapCouncil", name := "kinds", desc := "(II)I" } : Jvm.MethodName)) ∈ lw_all := lw_g (lw_at lw_m3 237 rfl) rfl
theorem q786 : (Jvm.Cond.code ({ cls := "CapCouncil", name := "kinds", desc := "(II)I" } : Jvm.MethodName) prog_1_method_71_code (4 : Nat) (Option.some Jvm.ClassFile.FieldType.int)) ∈ lw_all := lw_g (lw_at lw_m3 238 rfl) rfl
theorem q787 : (Jvm.Cond.methodLink "CapCouncil" (299 : Nat) ({ cls := "CapCouncil", name := "kindsBy", desc := "(I[I)I" } : Jvm.MethodName)) ∈ lw_all := lw_g (lw_at lw_m3 239 rfl) rfl
theorem q788 : (Jvm.Cond.privateMethod ({ cls := "CapCouncil", name := "kindsBy", desc := "(I[I)I" } : Jvm.MethodName)) ∈ lw_tbl := lw_at lw_m4 0 rfl
theorem q789 : (Jvm.Cond.instanceMethod ({ cls := "CapCouncil", name := "kindsBy", desc := "(I[I)I" } : Jvm.MethodName)) ∈ lw_all := lw_g (lw_at lw_m4 1 rfl) rfl
theorem q790 : (Jvm.Cond.code ({ cls := "CapCouncil", name := "kindsBy", desc := "(I[I)I" } : Jvm.MethodName) prog_1_method_70_code (5 : Nat) (Option.some Jvm.ClassFile.FieldType.int)) ∈ lw_all := lw_g (lw_at lw_m4 2 rfl) rfl
theorem q792 : (Jvm.Cond.instanceMethod ({ cls := "CapCouncil", name := "test", desc := "(II)I" } : Jvm.MethodName)) ∈ lw_all := lw_g (lw_at lw_m4 4 rfl) rfl
theorem q793 : (Jvm.Cond.selects "CapCouncil" ({ cls := "CapCouncil", name := "test", desc := "(II)I" } : Jvm.MethodName) ({ cls := "CapCouncil", name := "test", desc := "(II)I" } : Jvm.MethodName)) ∈ lw_all := lw_g (lw_at lw_m4 5 rfl) rfl
theorem q794 : (Jvm.Cond.code ({ cls := "CapCouncil", name := "test", desc := "(II)I" } : Jvm.MethodName) prog_1_method_72_code (11 : Nat) (Option.some Jvm.ClassFile.FieldType.int)) ∈ lw_all := lw_g (lw_at lw_m4 6 rfl) rfl
theorem q795 : (Jvm.Cond.methodLink "CapCouncil" (303 : Nat) ({ cls := "CapCouncil", name := "holds", desc := "(IIII)Z" } : Jvm.MethodName)) ∈ lw_all := lw_g (lw_at lw_m4 7 rfl) rfl
theorem q797 : (Jvm.Cond.instanceMethod ({ cls := "CapCouncil", name := "duel", desc := "(I)I" } : Jvm.MethodName)) ∈ lw_all := lw_g (lw_at lw_m4 9 rfl) rfl
theorem q798 : (Jvm.Cond.selects "CapCouncil" ({ cls := "CapCouncil", name := "duel", desc := "(I)I" } : Jvm.MethodName) ({ cls := "CapCouncil", name := "duel", desc := "(I)I" } : Jvm.MethodName)) ∈ lw_all := lw_g (lw_at lw_m4 10 rfl) rfl
theorem q799 : (Jvm.Cond.code ({ cls := "CapCouncil", name := "duel", desc := "(I)I" } : Jvm.MethodName) prog_1_method_74_code (2 : Nat) (Option.some Jvm.ClassFile.FieldType.int)) ∈ lw_all := lw_g (lw_at lw_m4 11 rfl) rfl
theorem q800 : (Jvm.Cond.methodLink "CapCouncil" (306 : Nat) ({ cls := "CapCouncil", name := "duelOn", desc := "(II)I" } : Jvm.MethodName)) ∈ lw_all := lw_g (lw_at lw_m4 12 rfl) rfl
theorem q801 : (Jvm.Cond.privateMethod ({ cls := "CapCouncil", name := "duelOn", desc := "(II)I" } : Jvm.MethodName)) ∈ lw_tbl := lw_at lw_m4 13 rfl
theorem q802 : (Jvm.Cond.instanceMethod ({ cls := "CapCouncil", name := "duelOn", desc := "(II)I" } : Jvm.MethodName)) ∈ lw_all := lw_g (lw_at lw_m4 14 rfl) rfl
theorem q803 : (Jvm.Cond.code ({ cls := "CapCouncil", name := "duelOn", desc := "(II)I" } : Jvm.MethodName) prog_1_method_73_code (7 : Nat) (Option.some Jvm.ClassFile.FieldType.int)) ∈ lw_all := lw_g (lw_at lw_m4 15 rfl) rfl
theorem q805 : (Jvm.Cond.instanceMethod ({ cls := "CapCouncil", name := "odds", desc := "(II)I" } : Jvm.MethodName)) ∈ lw_all := lw_g (lw_at lw_m4 17 rfl) rfl
theorem q806 : (Jvm.Cond.selects "CapCouncil" ({ cls := "CapCouncil", name := "odds", desc := "(II)I" } : Jvm.MethodName) ({ cls := "CapCouncil", name := "odds", desc := "(II)I" } : Jvm.MethodName)) ∈ lw_all := lw_g (lw_at lw_m4 18 rfl) rfl
theorem q807 : (Jvm.Cond.code ({ cls := "CapCouncil", name := "odds", desc := "(II)I" } : Jvm.MethodName) prog_1_method_76_code (3 : Nat) (Option.some Jvm.ClassFile.FieldType.int)) ∈ lw_all := lw_g (lw_at lw_m4 19 rfl) rfl
theorem q808 : (Jvm.Cond.methodLink "CapCouncil" (315 : Nat) ({ cls := "CapCouncil", name := "sumsBy", desc := "(II)I" } : Jvm.MethodName)) ∈ lw_all := lw_g (lw_at lw_m4 20 rfl) rfl
theorem q809 : (Jvm.Cond.privateMethod ({ cls := "CapCouncil", name := "sumsBy", desc := "(II)I" } : Jvm.MethodName)) ∈ lw_tbl := lw_at lw_m4 21 rfl
theorem q810 : (Jvm.Cond.instanceMethod ({ cls := "CapCouncil", name := "sumsBy", desc := "(II)I" } : Jvm.MethodName)) ∈ lw_all := lw_g (lw_at lw_m4 22 rfl) rfl
theorem q811 : (Jvm.Cond.code ({ cls := "CapCouncil", name := "sumsBy", desc := "(II)I" } : Jvm.MethodName) prog_1_method_75_code (12 : Nat) (Option.some Jvm.ClassFile.FieldType.int)) ∈ lw_all := lw_g (lw_at lw_m4 23 rfl) rfl
theorem q812 : (Jvm.Cond.constantLong "CapCouncil" (309 : Nat) (12 : Int64)) ∈ lw_all := lw_g (lw_at lw_m4 24 rfl) rfl
theorem q813 : (Jvm.Cond.methodLink "CapCouncil" (311 : Nat) ({ cls := "CapCouncil", name := "tell", desc := "(JJ)I" } : Jvm.MethodName)) ∈ lw_all := lw_g (lw_at lw_m4 25 rfl) rfl
theorem q814 : (Jvm.Cond.privateMethod ({ cls := "CapCouncil", name := "tell", desc := "(JJ)I" } : Jvm.MethodName)) ∈ lw_tbl := lw_at lw_m4 26 rfl
theorem q815 : (Jvm.Cond.instanceMethod ({ cls := "CapCouncil", name := "tell", desc := "(JJ)I" } : Jvm.MethodName)) ∈ lw_all := lw_g (lw_at lw_m4 27 rfl) rfl
theorem q816 : (Jvm.Cond.code ({ cls := "CapCouncil", name := "tell", desc := "(JJ)I" } : Jvm.MethodName) prog_1_method_5_code (11 : Nat) (Option.some Jvm.ClassFile.FieldType.int)) ∈ lw_all := lw_g (lw_at lw_m4 28 rfl) rfl
theorem q818 : (Jvm.Cond.instanceMethod ({ cls := "CapCouncil", name := "mid", desc := "(I)I" } : Jvm.MethodName)) ∈ lw_all := lw_g (lw_at lw_m4 30 rfl) rfl
theorem q819 : (Jvm.Cond.selects "CapCouncil" ({ cls := "CapCouncil", name := "mid", desc := "(I)I" } : Jvm.MethodName) ({ cls := "CapCouncil", name := "mid", desc := "(I)I" } : Jvm.MethodName)) ∈ lw_all := lw_g (lw_at lw_m4 31 rfl) rfl
theorem q820 : (Jvm.Cond.code ({ cls := "CapCouncil", name := "mid", desc := "(I)I" } : Jvm.MethodName) prog_1_method_77_code (2 : Nat) (Option.some Jvm.ClassFile.FieldType.int)) ∈ lw_all := lw_g (lw_at lw_m4 32 rfl) rfl
theorem q822 : (Jvm.Cond.instanceMethod ({ cls := "CapCouncil", name := "lots", desc := "(II)I" } : Jvm.MethodName)) ∈ lw_all := lw_g (lw_at lw_m4 34 rfl) rfl
theorem q823 : (Jvm.Cond.selects "CapCouncil" ({ cls := "CapCouncil", name := "lots", desc := "(II)I" } : Jvm.MethodName) ({ cls := "CapCouncil", name := "lots", desc := "(II)I" } : Jvm.MethodName)) ∈ lw_all := lw_g (lw_at lw_m4 35 rfl) rfl
theorem q824 : (Jvm.Cond.code ({ cls := "CapCouncil", name := "lots", desc := "(II)I" } : Jvm.MethodName) prog_1_method_78_code (6 : Nat) (Option.some Jvm.ClassFile.FieldType.int)) ∈ lw_all := lw_g (lw_at lw_m4 36 rfl) rfl
theorem q825 : (Jvm.Cond.constant "CapCouncil" (318 : Nat) (2147483646 : Int32)) ∈ lw_all := lw_g (lw_at lw_m4 37 rfl) rfl
theorem q826 : (Jvm.Cond.constantLong "CapCouncil" (319 : Nat) (48271 : Int64)) ∈ lw_all := lw_g (lw_at lw_m4 38 rfl) rfl
theorem q827 : (Jvm.Cond.constantLong "CapCouncil" (321 : Nat) (2147483647 : Int64)) ∈ lw_all := lw_g (lw_at lw_m4 39 rfl) rfl
theorem q828 : (Jvm.Cond.constantLong "CapCouncil" (323 : Nat) (3 : Int64)) ∈ lw_all := lw_g (lw_at lw_m4 40 rfl) rfl
theorem q829 : (Jvm.Cond.constantLong "CapCouncil" (325 : Nat) (8 : Int64)) ∈ lw_all := lw_g (lw_at lw_m4 41 rfl) rfl
theorem q830 : (Jvm.Cond.constantLong "CapCouncil" (327 : Nat) (64 : Int64)) ∈ lw_all := lw_g (lw_at lw_m4 42 rfl) rfl
theorem q831 : (Jvm.Cond.constantLong "CapCouncil" (329 : Nat) (100 : Int64)) ∈ lw_all := lw_g (lw_at lw_m4 43 rfl) rfl
theorem q833 : (Jvm.Cond.instanceMethod ({ cls := "CapCouncil", name := "asked", desc := "()I" } : Jvm.MethodName)) ∈ lw_all := lw_g (lw_at lw_m4 45 rfl) rfl
theorem q834 : (Jvm.Cond.selects "CapCouncil" ({ cls := "CapCouncil", name := "asked", desc := "()I" } : Jvm.MethodName) ({ cls := "CapCouncil", name := "asked", desc := "()I" } : Jvm.MethodName)) ∈ lw_all := lw_g (lw_at lw_m4 46 rfl) rfl
theorem q835 : (Jvm.Cond.code ({ cls := "CapCouncil", name := "asked", desc := "()I" } : Jvm.MethodName) prog_1_method_79_code (1 : Nat) (Option.some Jvm.ClassFile.FieldType.int)) ∈ lw_all := lw_g (lw_at lw_m4 47 rfl) rfl
theorem q837 : (Jvm.Cond.instanceMethod ({ cls := "CapCouncil", name := "upper", desc := "()J" } : Jvm.MethodName)) ∈ lw_all := lw_g (lw_at lw_m4 49 rfl) rfl
theorem q838 : (Jvm.Cond.selects "CapCouncil" ({ cls := "CapCouncil", name := "upper", desc := "()J" } : Jvm.MethodName) ({ cls := "CapCouncil", name := "upper", desc := "()J" } : Jvm.MethodName)) ∈ lw_all := lw_g (lw_at lw_m4 50 rfl) rfl
theorem q839 : (Jvm.Cond.code ({ cls := "CapCouncil", name := "upper", desc := "()J" } : Jvm.MethodName) prog_1_method_80_code (1 : Nat) (Option.some Jvm.ClassFile.FieldType.long)) ∈ lw_all := lw_g (lw_at lw_m4 51 rfl) rfl
theorem q841 : (Jvm.Cond.instanceMethod ({ cls := "CapCouncil", name := "lower", desc := "()J" } : Jvm.MethodName)) ∈ lw_all := lw_g (lw_at lw_m4 53 rfl) rfl
theorem q842 : (Jvm.Cond.selects "CapCouncil" ({ cls := "CapCouncil", name := "lower", desc := "()J" } : Jvm.MethodName) ({ cls := "CapCouncil", name := "lower", desc := "()J" } : Jvm.MethodName)) ∈ lw_all := lw_g (lw_at lw_m4 54 rfl) rfl
theorem q843 : (Jvm.Cond.code ({ cls := "CapCouncil", name := "lower", desc := "()J" } : Jvm.MethodName) prog_1_method_81_code (1 : Nat) (Option.some Jvm.ClassFile.FieldType.long)) ∈ lw_all := lw_g (lw_at lw_m4 55 rfl) rfl
theorem q845 : (Jvm.Cond.instanceMethod ({ cls := "CapCouncil", name := "count", desc := "(I)I" } : Jvm.MethodName)) ∈ lw_all := lw_g (lw_at lw_m4 57 rfl) rfl
theorem q846 : (Jvm.Cond.selects "CapCouncil" ({ cls := "CapCouncil", name := "count", desc := "(I)I" } : Jvm.MethodName) ({ cls := "CapCouncil", name := "count", desc := "(I)I" } : Jvm.MethodName)) ∈ lw_all := lw_g (lw_at lw_m4 58 rfl) rfl
theorem q847 : (Jvm.Cond.code ({ cls := "CapCouncil", name := "count", desc := "(I)I" } : Jvm.MethodName) prog_1_method_85_code (2 : Nat) (Option.some Jvm.ClassFile.FieldType.int)) ∈ lw_all := lw_g (lw_at lw_m4 59 rfl) rfl
theorem q848 : (Jvm.Cond.methodLink "CapCouncil" (340 : Nat) ({ cls := "CapCouncil", name := "countOf", desc := "(I)I" } : Jvm.MethodName)) ∈ lw_all := lw_g (lw_at lw_m4 60 rfl) rfl
theorem q849 : (Jvm.Cond.privateMethod ({ cls := "CapCouncil", name := "countOf", desc := "(I)I" } : Jvm.MethodName)) ∈ lw_tbl := lw_at lw_m4 61 rfl
theorem q850 : (Jvm.Cond.instanceMethod ({ cls := "CapCouncil", name := "countOf", desc := "(I)I" } : Jvm.MethodName)) ∈ lw_all := lw_g (lw_at lw_m4 62 rfl) rfl
theorem q851 : (Jvm.Cond.code ({ cls := "CapCouncil", name := "countOf", desc := "(I)I" } : Jvm.MethodName) prog_1_method_84_code (2 : Nat) (Option.some Jvm.ClassFile.FieldType.int)) ∈ lw_all := lw_g (lw_at lw_m4 63 rfl) rfl
theorem q852 : (Jvm.Cond.methodLink "CapCouncil" (334 : Nat) ({ cls := "CapCouncil", name := "olds", desc := "()I" } : Jvm.MethodName)) ∈ lw_all := lw_g (lw_at lw_m4 64 rfl) rfl
theorem q853 : (Jvm.Cond.privateMethod ({ cls := "CapCouncil", name := "olds", desc := "()I" } : Jvm.MethodName)) ∈ lw_tbl := lw_at lw_m4 65 rfl
theorem q854 : (Jvm.Cond.instanceMethod ({ cls := "CapCouncil", name := "olds", desc := "()I" } : Jvm.MethodName)) ∈ lw_all := lw_g (lw_at lw_m4 66 rfl) rfl
theorem q855 : (Jvm.Cond.code ({ cls := "CapCouncil", name := "olds", desc := "()I" } : Jvm.MethodName) prog_1_method_82_code (3 : Nat) (Option.some Jvm.ClassFile.FieldType.int)) ∈ lw_all := lw_g (lw_at lw_m4 67 rfl) rfl
theorem q856 : (Jvm.Cond.methodLink "CapCouncil" (331 : Nat) ({ cls := "CapCouncil$Ring", name := "is", desc := "(I)Z" } : Jvm.MethodName)) ∈ lw_all := lw_g (lw_at lw_m4 68 rfl) rfl
theorem q881 : (Jvm.Cond.methodLink "CapCouncil" (337 : Nat) ({ cls := "CapCouncil", name := "thereOf", desc := "(I)I" } : Jvm.MethodName)) ∈ lw_all := lw_g (lw_at lw_m4 93 rfl) rfl
theorem q882 : (Jvm.Cond.privateMethod ({ cls := "CapCouncil", name := "thereOf", desc := "(I)I" } : Jvm.MethodName)) ∈ lw_tbl := lw_at lw_m4 94 rfl
theorem q883 : (Jvm.Cond.instanceMethod ({ cls := "CapCouncil", name := "thereOf", desc := "(I)I" } : Jvm.MethodName)) ∈ lw_all := lw_g (lw_at lw_m4 95 rfl) rfl
theorem q884 : (Jvm.Cond.code ({ cls := "CapCouncil", name := "thereOf", desc := "(I)I" } : Jvm.MethodName) prog_1_method_83_code (4 : Nat) (Option.some Jvm.ClassFile.FieldType.int)) ∈ lw_all := lw_g (lw_at lw_m4 96 rfl) rfl
theorem q886 : (Jvm.Cond.instanceMethod ({ cls := "CapCouncil", name := "finding", desc := "()I" } : Jvm.MethodName)) ∈ lw_all := lw_g (lw_at lw_m4 98 rfl) rfl
theorem q887 : (Jvm.Cond.selects "CapCouncil" ({ cls := "CapCouncil", name := "finding", desc := "()I" } : Jvm.MethodName) ({ cls := "CapCouncil", name := "finding", desc := "()I" } : Jvm.MethodName)) ∈ lw_all := lw_g (lw_at lw_m4 99 rfl) rfl
theorem q888 : (Jvm.Cond.code ({ cls := "CapCouncil", name := "finding", desc := "()I" } : Jvm.MethodName) prog_1_method_86_code (1 : Nat) (Option.some Jvm.ClassFile.FieldType.int)) ∈ lw_all := lw_g (lw_at lw_m4 100 rfl) rfl
theorem q890 : (Jvm.Cond.instanceMethod ({ cls := "CapCouncil", name := "findings", desc := "(I)I" } : Jvm.MethodName)) ∈ lw_all := lw_g (lw_at lw_m4 102 rfl) rfl
theorem q891 : (Jvm.Cond.selects "CapCouncil" ({ cls := "CapCouncil", name := "findings", desc := "(I)I" } : Jvm.MethodName) ({ cls := "CapCouncil", name := "findings", desc := "(I)I" } : Jvm.MethodName)) ∈ lw_all := lw_g (lw_at lw_m4 103 rfl) rfl
theorem q892 : (Jvm.Cond.code ({ cls := "CapCouncil", name := "findings", desc := "(I)I" } : Jvm.MethodName) prog_1_method_87_code (2 : Nat) (Option.some Jvm.ClassFile.FieldType.int)) ∈ lw_all := lw_g (lw_at lw_m4 104 rfl) rfl
theorem q894 : (Jvm.Cond.instanceMethod ({ cls := "CapCouncil", name := "digest", desc := "()J" } : Jvm.MethodName)) ∈ lw_all := lw_g (lw_at lw_m4 106 rfl) rfl
theorem q895 : (Jvm.Cond.selects "CapCouncil" ({ cls := "CapCouncil", name := "digest", desc := "()J" } : Jvm.MethodName) ({ cls := "CapCouncil", name := "digest", desc := "()J" } : Jvm.MethodName)) ∈ lw_all := lw_g (lw_at lw_m4 107 rfl) rfl
theorem q896 : (Jvm.Cond.code ({ cls := "CapCouncil", name := "digest", desc := "()J" } : Jvm.MethodName) prog_1_method_90_code (7 : Nat) (Option.some Jvm.ClassFile.FieldType.long)) ∈ lw_all := lw_g (lw_at lw_m4 108 rfl) rfl
theorem q897 : (Jvm.Cond.constantLong "CapCouncil" (351 : Nat) (17 : Int64)) ∈ lw_all := lw_g (lw_at lw_m4 109 rfl) rfl
theorem q898 : (Jvm.Cond.methodLink "CapCouncil" (348 : Nat) ({ cls := "CapCouncil", name := "mix", desc := "(I)V" } : Jvm.MethodName)) ∈ lw_all := lw_g (lw_at lw_m4 110 rfl) rfl
theorem q899 : (Jvm.Cond.privateMethod ({ cls := "CapCouncil", name := "mix", desc := "(I)V" } : Jvm.MethodName)) ∈ lw_tbl := lw_at lw_m4 111 rfl
theorem q900 : (Jvm.Cond.instanceMethod ({ cls := "CapCouncil", name := "mix", desc := "(I)V" } : Jvm.MethodName)) ∈ lw_all := lw_g (lw_at lw_m4 112 rfl) rfl
theorem q901 : (Jvm.Cond.code ({ cls := "CapCouncil", name := "mix", desc := "(I)V" } : Jvm.MethodName) prog_1_method_88_code (2 : Nat) (Option.none : Option Jvm.ClassFile.FieldType)) ∈ lw_all := lw_g (lw_at lw_m4 113 rfl) rfl
theorem q902 : (Jvm.Cond.constantLong "CapCouncil" (343 : Nat) (31 : Int64)) ∈ lw_all := lw_g (lw_at lw_m4 114 rfl) rfl
theorem q903 : (Jvm.Cond.methodLink "CapCouncil" (353 : Nat) ({ cls := "CapCouncil", name := "mixParish", desc := "()V" } : Jvm.MethodName)) ∈ lw_all := lw_g (lw_at lw_m4 115 rfl) rfl
theorem q904 : (Jvm.Cond.privateMethod ({ cls := "CapCouncil", name := "mixParish", desc := "()V" } : Jvm.MethodName)) ∈ lw_tbl := lw_at lw_m4 116 rfl
theorem q905 : (Jvm.Cond.instanceMethod ({ cls := "CapCouncil", name := "mixParish", desc := "()V" } : Jvm.MethodName)) ∈ lw_all := lw_g (lw_at lw_m4 117 rfl) rfl
theorem q906 : (Jvm.Cond.code ({ cls := "CapCouncil", name := "mixParish", desc := "()V" } : Jvm.MethodName) prog_1_method_89_code (5 : Nat) (Option.none : Option Jvm.ClassFile.FieldType)) ∈ lw_all := lw_g (lw_at lw_m4 118 rfl) rfl
theorem in_X0 : ∀ w ∈ wsX00, w ∈ lw_all := lw_in wsX00 [136, 138, 140, 142, 144, 146, 148, 150, 152, 154, 156, 158, 160, 162, 164, 166, 168, 170, 172, 174, 176, 178, 180, 182, 184, 186, 188] (by decide +kernel) (by decide +kernel)
