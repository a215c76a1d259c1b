/-! CapCouncilModel -/
set_option maxRecDepth 100000
def RX1 : String := "CapCouncilModel"
def TX1 : u_T := fun k => match k with
  | 0 => ("CapCouncilModel", "now", "[I", true)
  | 1 => ("CapCouncilModel", "kept", "[I", true)
  | 2 => ("CapCouncilModel", "isKept", "[Z", true)
  | 3 => ("CapCouncilModel", "rows", "[I", true)
  | 4 => ("CapCouncilModel", "rowLong", "[I", true)
  | 5 => ("CapCouncilModel", "texts", "[I", true)
  | 6 => ("CapCouncilModel", "textLong", "[I", true)
  | 7 => ("CapCouncilModel", "found", "[I", true)
  | 8 => ("CapCouncilModel", "latest", "I", false)
  | 9 => ("CapCouncilModel", "askedIs", "I", false)
  | 10 => ("CapCouncilModel", "above", "J", false)
  | 11 => ("CapCouncilModel", "below", "J", false)
  | 12 => ("CapCouncilModel", "taken", "[I", true)
  | 13 => ("CapCouncilModel", "anew", "[I", true)
  | 14 => ("CapCouncilModel", "place", "I", false)
  | 15 => ("CapCouncilModel", "values", "[I", true)
  | _ => ("CapCouncilModel", "ahead", "[I", true)
def tyX1 : Nat → FieldType := fun k => match k with
  | 0 => .array .int
  | 1 => .array .int
  | 2 => .array .boolean
  | 3 => .array .int
  | 4 => .array .int
  | 5 => .array .int
  | 6 => .array .int
  | 7 => .array .int
  | 8 => .int
  | 9 => .int
  | 10 => .long
  | 11 => .long
  | 12 => .array .int
  | 13 => .array .int
  | 14 => .int
  | 15 => .array .int
  | _ => .array .int
abbrev wsX10 : List Cond := u_ws RX1 TX1 17
set_option maxRecDepth 100000 in
theorem nmX1 : ∀ a, a < 17 → ∀ b, b < 17 → a ≠ b → (TX1 a).2.1 ≠ (TX1 b).2.1 := by decide +kernel
set_option maxRecDepth 100000 in
theorem tyX1_ok : ∀ k, k < 17 → parseFieldDescriptor (TX1 k).2.2.1 = some (tyX1 k) := by decide +kernel
abbrev cX1_init : ByteArray := prog_10_method_1_code
def yX1_init : MethodName := ⟨RX1, "<init>", "()V"⟩
def dkwX1_init_6 : List UInt8 := [2, 79, 132, 1, 1, 167, 255, 241, 177]
abbrev dktX1_init_6 : List UInt8 := dkwX1_init_6 ++ []
def dkwX1_init_5 : List UInt8 := [180, 0, 23, 27, 2, 79, 132, 1, 1, 167, 255, 240, 3, 60, 27, 7, 162, 0, 16, 42, 180, 0, 29, 27]
abbrev dktX1_init_5 : List UInt8 := dkwX1_init_5 ++ dktX1_init_6
def dkwX1_init_4 : List UInt8 := [188, 10, 181, 0, 45, 42, 16, 32, 188, 10, 181, 0, 48, 3, 60, 27, 16, 6, 162, 0, 16, 42]
abbrev dktX1_init_4 : List UInt8 := dkwX1_init_4 ++ dktX1_init_5
def dkwX1_init_3 : List UInt8 := [10, 181, 0, 35, 42, 16, 40, 188, 10, 181, 0, 39, 42, 16, 84, 188, 10, 181, 0, 42, 42, 16, 32]
abbrev dktX1_init_3 : List UInt8 := dkwX1_init_3 ++ dktX1_init_4
def dkwX1_init_2 : List UInt8 := [17, 0, 240, 188, 10, 181, 0, 26, 42, 7, 188, 10, 181, 0, 29, 42, 16, 6, 188, 10, 181, 0, 32, 42]
abbrev dktX1_init_2 : List UInt8 := dkwX1_init_2 ++ dktX1_init_3
def dkwX1_init_1 : List UInt8 := [188, 4, 181, 0, 16, 42, 17, 0, 240, 188, 10, 181, 0, 20, 42, 16, 6, 188, 10, 181, 0, 23, 42]
abbrev dktX1_init_1 : List UInt8 := dkwX1_init_1 ++ dktX1_init_2
def dkwX1_init_0 : List UInt8 := [42, 183, 0, 1, 42, 16, 84, 188, 10, 181, 0, 7, 42, 17, 0, 252, 188, 10, 181, 0, 13, 42, 6]
abbrev dktX1_init_0 : List UInt8 := dkwX1_init_0 ++ dktX1_init_1
theorem dksX1_init_0 : cX1_init.data.toList.drop 0 = dktX1_init_0 := by decide +kernel
theorem dksX1_init_1 : cX1_init.data.toList.drop 23 = dktX1_init_1 := dk_seg dksX1_init_0 23 rfl rfl
theorem dksX1_init_2 : cX1_init.data.toList.drop 46 = dktX1_init_2 := dk_seg dksX1_init_1 23 rfl rfl
theorem dksX1_init_3 : cX1_init.data.toList.drop 70 = dktX1_init_3 := dk_seg dksX1_init_2 24 rfl rfl
theorem dksX1_init_4 : cX1_init.data.toList.drop 93 = dktX1_init_4 := dk_seg dksX1_init_3 23 rfl rfl
theorem dksX1_init_5 : cX1_init.data.toList.drop 115 = dktX1_init_5 := dk_seg dksX1_init_4 22 rfl rfl
theorem dksX1_init_6 : cX1_init.data.toList.drop 139 = dktX1_init_6 := dk_seg dksX1_init_5 24 rfl rfl
theorem dX1_init_0 : decode cX1_init 0 = .ok (.aload_n 0, 1) := dk_42 (dk_at dksX1_init_0 0 rfl rfl)
theorem dX1_init_1 : decode cX1_init 1 = .ok (.invokespecial 1, 3) := dk_183 0 1 (dk_at dksX1_init_0 1 rfl rfl)
theorem dX1_init_4 : decode cX1_init 4 = .ok (.aload_n 0, 1) := dk_42 (dk_at dksX1_init_0 4 rfl rfl)
theorem dX1_init_5 : decode cX1_init 5 = .ok (.bipush 84, 2) := dk_16 84 (dk_at dksX1_init_0 5 rfl rfl)
theorem dX1_init_7 : decode cX1_init 7 = .ok (.newarray .int, 2) := dk_188_10 (dk_at dksX1_init_0 7 rfl rfl)
theorem dX1_init_9 : decode cX1_init 9 = .ok (.putfield 7, 3) := dk_181 0 7 (dk_at dksX1_init_0 9 rfl rfl)
theorem dX1_init_12 : decode cX1_init 12 = .ok (.aload_n 0, 1) := dk_42 (dk_at dksX1_init_0 12 rfl rfl)
theorem dX1_init_13 : decode cX1_init 13 = .ok (.sipush 252, 3) := dk_17 0 252 (dk_at dksX1_init_0 13 rfl rfl)
theorem dX1_init_16 : decode cX1_init 16 = .ok (.newarray .int, 2) := dk_188_10 (dk_at dksX1_init_0 16 rfl rfl)
theorem dX1_init_18 : decode cX1_init 18 = .ok (.putfield 13, 3) := dk_181 0 13 (dk_at dksX1_init_0 18 rfl rfl)
theorem dX1_init_21 : decode cX1_init 21 = .ok (.aload_n 0, 1) := dk_42 (dk_at dksX1_init_0 21 rfl rfl)
theorem dX1_init_22 : decode cX1_init 22 = .ok (.iconst 3, 1) := dk_6 (dk_at dksX1_init_0 22 rfl rfl)
theorem dX1_init_23 : decode cX1_init 23 = .ok (.newarray .boolean, 2) := dk_188_4 (dk_at dksX1_init_1 0 rfl rfl)
theorem dX1_init_25 : decode cX1_init 25 = .ok (.putfield 16, 3) := dk_181 0 16 (dk_at dksX1_init_1 2 rfl rfl)
theorem dX1_init_28 : decode cX1_init 28 = .ok (.aload_n 0, 1) := dk_42 (dk_at dksX1_init_1 5 rfl rfl)
theorem dX1_init_29 : decode cX1_init 29 = .ok (.sipush 240, 3) := dk_17 0 240 (dk_at dksX1_init_1 6 rfl rfl)
theorem dX1_init_32 : decode cX1_init 32 = .ok (.newarray .int, 2) := dk_188_10 (dk_at dksX1_init_1 9 rfl rfl)
theorem dX1_init_34 : decode cX1_init 34 = .ok (.putfield 20, 3) := dk_181 0 20 (dk_at dksX1_init_1 11 rfl rfl)
theorem dX1_init_37 : decode cX1_init 37 = .ok (.aload_n 0, 1) := dk_42 (dk_at dksX1_init_1 14 rfl rfl)
theorem dX1_init_38 : decode cX1_init 38 = .ok (.bipush 6, 2) := dk_16 6 (dk_at dksX1_init_1 15 rfl rfl)
theorem dX1_init_40 : decode cX1_init 40 = .ok (.newarray .int, 2) := dk_188_10 (dk_at dksX1_init_1 17 rfl rfl)
theorem dX1_init_42 : decode cX1_init 42 = .ok (.putfield 23, 3) := dk_181 0 23 (dk_at dksX1_init_1 19 rfl rfl)
theorem dX1_init_45 : decode cX1_init 45 = .ok (.aload_n 0, 1) := dk_42 (dk_at dksX1_init_1 22 rfl rfl)
theorem dX1_init_46 : decode cX1_init 46 = .ok (.sipush 240, 3) := dk_17 0 240 (dk_at dksX1_init_2 0 rfl rfl)
theorem dX1_init_49 : decode cX1_init 49 = .ok (.newarray .int, 2) := dk_188_10 (dk_at dksX1_init_2 3 rfl rfl)
theorem dX1_init_51 : decode cX1_init 51 = .ok (.putfield 26, 3) := dk_181 0 26 (dk_at dksX1_init_2 5 rfl rfl)
theorem dX1_init_54 : decode cX1_init 54 = .ok (.aload_n 0, 1) := dk_42 (dk_at dksX1_init_2 8 rfl rfl)
theorem dX1_init_55 : decode cX1_init 55 = .ok (.iconst 4, 1) := dk_7 (dk_at dksX1_init_2 9 rfl rfl)
theorem dX1_init_56 : decode cX1_init 56 = .ok (.newarray .int, 2) := dk_188_10 (dk_at dksX1_init_2 10 rfl rfl)
theorem dX1_init_58 : decode cX1_init 58 = .ok (.putfield 29, 3) := dk_181 0 29 (dk_at dksX1_init_2 12 rfl rfl)
theorem dX1_init_61 : decode cX1_init 61 = .ok (.aload_n 0, 1) := dk_42 (dk_at dksX1_init_2 15 rfl rfl)
theorem dX1_init_62 : decode cX1_init 62 = .ok (.bipush 6, 2) := dk_16 6 (dk_at dksX1_init_2 16 rfl rfl)
theorem dX1_init_64 : decode cX1_init 64 = .ok (.newarray .int, 2) := dk_188_10 (dk_at dksX1_init_2 18 rfl rfl)
theorem dX1_init_66 : decode cX1_init 66 = .ok (.putfield 32, 3) := dk_181 0 32 (dk_at dksX1_init_2 20 rfl rfl)
theorem dX1_init_69 : decode cX1_init 69 = .ok (.aload_n 0, 1) := dk_42 (dk_at dksX1_init_2 23 rfl rfl)
theorem dX1_init_70 : decode cX1_init 70 = .ok (.lconst 1, 1) := dk_10 (dk_at dksX1_init_3 0 rfl rfl)
theorem dX1_init_71 : decode cX1_init 71 = .ok (.putfield 35, 3) := dk_181 0 35 (dk_at dksX1_init_3 1 rfl rfl)
theorem dX1_init_74 : decode cX1_init 74 = .ok (.aload_n 0, 1) := dk_42 (dk_at dksX1_init_3 4 rfl rfl)
theorem dX1_init_75 : decode cX1_init 75 = .ok (.bipush 40, 2) := dk_16 40 (dk_at dksX1_init_3 5 rfl rfl)
theorem dX1_init_77 : decode cX1_init 77 = .ok (.newarray .int, 2) := dk_188_10 (dk_at dksX1_init_3 7 rfl rfl)
theorem dX1_init_79 : decode cX1_init 79 = .ok (.putfield 39, 3) := dk_181 0 39 (dk_at dksX1_init_3 9 rfl rfl)
theorem dX1_init_82 : decode cX1_init 82 = .ok (.aload_n 0, 1) := dk_42 (dk_at dksX1_init_3 12 rfl rfl)
theorem dX1_init_83 : decode cX1_init 83 = .ok (.bipush 84, 2) := dk_16 84 (dk_at dksX1_init_3 13 rfl rfl)
theorem dX1_init_85 : decode cX1_init 85 = .ok (.newarray .int, 2) := dk_188_10 (dk_at dksX1_init_3 15 rfl rfl)
theorem dX1_init_87 : decode cX1_init 87 = .ok (.putfield 42, 3) := dk_181 0 42 (dk_at dksX1_init_3 17 rfl rfl)
theorem dX1_init_90 : decode cX1_init 90 = .ok (.aload_n 0, 1) := dk_42 (dk_at dksX1_init_3 20 rfl rfl)
theorem dX1_init_91 : decode cX1_init 91 = .ok (.bipush 32, 2) := dk_16 32 (dk_at dksX1_init_3 21 rfl rfl)
theorem dX1_init_93 : decode cX1_init 93 = .ok (.newarray .int, 2) := dk_188_10 (dk_at dksX1_init_4 0 rfl rfl)
theorem dX1_init_95 : decode cX1_init 95 = .ok (.putfield 45, 3) := dk_181 0 45 (dk_at dksX1_init_4 2 rfl rfl)
theorem dX1_init_98 : decode cX1_init 98 = .ok (.aload_n 0, 1) := dk_42 (dk_at dksX1_init_4 5 rfl rfl)
theorem dX1_init_99 : decode cX1_init 99 = .ok (.bipush 32, 2) := dk_16 32 (dk_at dksX1_init_4 6 rfl rfl)
theorem dX1_init_101 : decode cX1_init 101 = .ok (.newarray .int, 2) := dk_188_10 (dk_at dksX1_init_4 8 rfl rfl)
theorem dX1_init_103 : decode cX1_init 103 = .ok (.putfield 48, 3) := dk_181 0 48 (dk_at dksX1_init_4 10 rfl rfl)
theorem dX1_init_106 : decode cX1_init 106 = .ok (.iconst 0, 1) := dk_3 (dk_at dksX1_init_4 13 rfl rfl)
theorem dX1_init_107 : decode cX1_init 107 = .ok (.istore_n 1, 1) := dk_60 (dk_at dksX1_init_4 14 rfl rfl)
theorem dX1_init_108 : decode cX1_init 108 = .ok (.iload_n 1, 1) := dk_27 (dk_at dksX1_init_4 15 rfl rfl)
theorem dX1_init_109 : decode cX1_init 109 = .ok (.bipush 6, 2) := dk_16 6 (dk_at dksX1_init_4 16 rfl rfl)
theorem dX1_init_111 : decode cX1_init 111 = .ok (.if_icmp .ge 16, 3) := dk_162 0 16 (dk_at dksX1_init_4 18 rfl rfl)
theorem dX1_init_114 : decode cX1_init 114 = .ok (.aload_n 0, 1) := dk_42 (dk_at dksX1_init_4 21 rfl rfl)
theorem dX1_init_115 : decode cX1_init 115 = .ok (.getfield 23, 3) := dk_180 0 23 (dk_at dksX1_init_5 0 rfl rfl)
theorem dX1_init_118 : decode cX1_init 118 = .ok (.iload_n 1, 1) := dk_27 (dk_at dksX1_init_5 3 rfl rfl)
theorem dX1_init_119 : decode cX1_init 119 = .ok (.iconst (-1), 1) := dk_2 (dk_at dksX1_init_5 4 rfl rfl)
theorem dX1_init_120 : decode cX1_init 120 = .ok (.iastore, 1) := dk_79 (dk_at dksX1_init_5 5 rfl rfl)
theorem dX1_init_121 : decode cX1_init 121 = .ok (.iinc 1 1, 3) := dk_132 1 1 (dk_at dksX1_init_5 6 rfl rfl)
theorem dX1_init_124 : decode cX1_init 124 = .ok (.goto (-16), 3) := dk_167 255 240 (dk_at dksX1_init_5 9 rfl rfl)
theorem dX1_init_127 : decode cX1_init 127 = .ok (.iconst 0, 1) := dk_3 (dk_at dksX1_init_5 12 rfl rfl)
theorem dX1_init_128 : decode cX1_init 128 = .ok (.istore_n 1, 1) := dk_60 (dk_at dksX1_init_5 13 rfl rfl)
theorem dX1_init_129 : decode cX1_init 129 = .ok (.iload_n 1, 1) := dk_27 (dk_at dksX1_init_5 14 rfl rfl)
theorem dX1_init_130 : decode cX1_init 130 = .ok (.iconst 4, 1) := dk_7 (dk_at dksX1_init_5 15 rfl rfl)
theorem dX1_init_131 : decode cX1_init 131 = .ok (.if_icmp .ge 16, 3) := dk_162 0 16 (dk_at dksX1_init_5 16 rfl rfl)
theorem dX1_init_134 : decode cX1_init 134 = .ok (.aload_n 0, 1) := dk_42 (dk_at dksX1_init_5 19 rfl rfl)
theorem dX1_init_135 : decode cX1_init 135 = .ok (.getfield 29, 3) := dk_180 0 29 (dk_at dksX1_init_5 20 rfl rfl)
theorem dX1_init_138 : decode cX1_init 138 = .ok (.iload_n 1, 1) := dk_27 (dk_at dksX1_init_5 23 rfl rfl)
theorem dX1_init_139 : decode cX1_init 139 = .ok (.iconst (-1), 1) := dk_2 (dk_at dksX1_init_6 0 rfl rfl)
theorem dX1_init_140 : decode cX1_init 140 = .ok (.iastore, 1) := dk_79 (dk_at dksX1_init_6 1 rfl rfl)
theorem dX1_init_141 : decode cX1_init 141 = .ok (.iinc 1 1, 3) := dk_132 1 1 (dk_at dksX1_init_6 2 rfl rfl)
theorem dX1_init_144 : decode cX1_init 144 = .ok (.goto (-15), 3) := dk_167 255 241 (dk_at dksX1_init_6 5 rfl rfl)
theorem dX1_init_147 : decode cX1_init 147 = .ok (.return_, 1) := dk_177 (dk_at dksX1_init_6 8 rfl rfl)
abbrev cX1_row : ByteArray := prog_10_method_8_code
def yX1_row : MethodName := ⟨RX1, "row", "(II)I"⟩
def dkwX1_row_2 : List UInt8 := [96, 3, 79, 132, 3, 1, 167, 255, 236, 28, 172]
abbrev dktX1_row_2 : List UInt8 := dkwX1_row_2 ++ []
def dkwX1_row_1 : List UInt8 := [172, 42, 180, 0, 23, 27, 28, 79, 3, 62, 29, 28, 162, 0, 21, 42, 180, 0, 20, 16, 40, 27, 104, 29]
abbrev dktX1_row_1 : List UInt8 := dkwX1_row_1 ++ dktX1_row_2
def dkwX1_row_0 : List UInt8 := [27, 184, 0, 66, 153, 0, 9, 28, 16, 40, 164, 0, 5, 2, 172, 28, 156, 0, 9, 42, 8, 182, 0, 70]
abbrev dktX1_row_0 : List UInt8 := dkwX1_row_0 ++ dktX1_row_1
theorem dksX1_row_0 : cX1_row.data.toList.drop 0 = dktX1_row_0 := by decide +kernel
theorem dksX1_row_1 : cX1_row.data.toList.drop 24 = dktX1_row_1 := dk_seg dksX1_row_0 24 rfl rfl
theorem dksX1_row_2 : cX1_row.data.toList.drop 48 = dktX1_row_2 := dk_seg dksX1_row_1 24 rfl rfl
theorem dX1_row_0 : decode cX1_row 0 = .ok (.iload_n 1, 1) := dk_27 (dk_at dksX1_row_0 0 rfl rfl)
theorem dX1_row_1 : decode cX1_row 1 = .ok (.invokestatic 66, 3) := dk_184 0 66 (dk_at dksX1_row_0 1 rfl rfl)
theorem dX1_row_4 : decode cX1_row 4 = .ok (.ifCond .eq 9, 3) := dk_153 0 9 (dk_at dksX1_row_0 4 rfl rfl)
theorem dX1_row_7 : decode cX1_row 7 = .ok (.iload_n 2, 1) := dk_28 (dk_at dksX1_row_0 7 rfl rfl)
theorem dX1_row_8 : decode cX1_row 8 = .ok (.bipush 40, 2) := dk_16 40 (dk_at dksX1_row_0 8 rfl rfl)
theorem dX1_row_10 : decode cX1_row 10 = .ok (.if_icmp .le 5, 3) := dk_164 0 5 (dk_at dksX1_row_0 10 rfl rfl)
theorem dX1_row_13 : decode cX1_row 13 = .ok (.iconst (-1), 1) := dk_2 (dk_at dksX1_row_0 13 rfl rfl)
theorem dX1_row_14 : decode cX1_row 14 = .ok (.ireturn, 1) := dk_172 (dk_at dksX1_row_0 14 rfl rfl)
theorem dX1_row_15 : decode cX1_row 15 = .ok (.iload_n 2, 1) := dk_28 (dk_at dksX1_row_0 15 rfl rfl)
theorem dX1_row_16 : decode cX1_row 16 = .ok (.ifCond .ge 9, 3) := dk_156 0 9 (dk_at dksX1_row_0 16 rfl rfl)
theorem dX1_row_19 : decode cX1_row 19 = .ok (.aload_n 0, 1) := dk_42 (dk_at dksX1_row_0 19 rfl rfl)
theorem dX1_row_20 : decode cX1_row 20 = .ok (.iconst 5, 1) := dk_8 (dk_at dksX1_row_0 20 rfl rfl)
theorem dX1_row_21 : decode cX1_row 21 = .ok (.invokevirtual 70, 3) := dk_182 0 70 (dk_at dksX1_row_0 21 rfl rfl)
theorem dX1_row_24 : decode cX1_row 24 = .ok (.ireturn, 1) := dk_172 (dk_at dksX1_row_1 0 rfl rfl)
theorem dX1_row_25 : decode cX1_row 25 = .ok (.aload_n 0, 1) := dk_42 (dk_at dksX1_row_1 1 rfl rfl)
theorem dX1_row_26 : decode cX1_row 26 = .ok (.getfield 23, 3) := dk_180 0 23 (dk_at dksX1_row_1 2 rfl rfl)
theorem dX1_row_29 : decode cX1_row 29 = .ok (.iload_n 1, 1) := dk_27 (dk_at dksX1_row_1 5 rfl rfl)
theorem dX1_row_30 : decode cX1_row 30 = .ok (.iload_n 2, 1) := dk_28 (dk_at dksX1_row_1 6 rfl rfl)
theorem dX1_row_31 : decode cX1_row 31 = .ok (.iastore, 1) := dk_79 (dk_at dksX1_row_1 7 rfl rfl)
theorem dX1_row_32 : decode cX1_row 32 = .ok (.iconst 0, 1) := dk_3 (dk_at dksX1_row_1 8 rfl rfl)
theorem dX1_row_33 : decode cX1_row 33 = .ok (.istore_n 3, 1) := dk_62 (dk_at dksX1_row_1 9 rfl rfl)
theorem dX1_row_34 : decode cX1_row 34 = .ok (.iload_n 3, 1) := dk_29 (dk_at dksX1_row_1 10 rfl rfl)
theorem dX1_row_35 : decode cX1_row 35 = .ok (.iload_n 2, 1) := dk_28 (dk_at dksX1_row_1 11 rfl rfl)
theorem dX1_row_36 : decode cX1_row 36 = .ok (.if_icmp .ge 21, 3) := dk_162 0 21 (dk_at dksX1_row_1 12 rfl rfl)
theorem dX1_row_39 : decode cX1_row 39 = .ok (.aload_n 0, 1) := dk_42 (dk_at dksX1_row_1 15 rfl rfl)
theorem dX1_row_40 : decode cX1_row 40 = .ok (.getfield 20, 3) := dk_180 0 20 (dk_at dksX1_row_1 16 rfl rfl)
theorem dX1_row_43 : decode cX1_row 43 = .ok (.bipush 40, 2) := dk_16 40 (dk_at dksX1_row_1 19 rfl rfl)
theorem dX1_row_45 : decode cX1_row 45 = .ok (.iload_n 1, 1) := dk_27 (dk_at dksX1_row_1 21 rfl rfl)
theorem dX1_row_46 : decode cX1_row 46 = .ok (.imul, 1) := dk_104 (dk_at dksX1_row_1 22 rfl rfl)
theorem dX1_row_47 : decode cX1_row 47 = .ok (.iload_n 3, 1) := dk_29 (dk_at dksX1_row_1 23 rfl rfl)
theorem dX1_row_48 : decode cX1_row 48 = .ok (.iadd, 1) := dk_96 (dk_at dksX1_row_2 0 rfl rfl)
theorem dX1_row_49 : decode cX1_row 49 = .ok (.iconst 0, 1) := dk_3 (dk_at dksX1_row_2 1 rfl rfl)
theorem dX1_row_50 : decode cX1_row 50 = .ok (.iastore, 1) := dk_79 (dk_at dksX1_row_2 2 rfl rfl)
theorem dX1_row_51 : decode cX1_row 51 = .ok (.iinc 3 1, 3) := dk_132 3 1 (dk_at dksX1_row_2 3 rfl rfl)
theorem dX1_row_54 : decode cX1_row 54 = .ok (.goto (-20), 3) := dk_167 255 236 (dk_at dksX1_row_2 6 rfl rfl)
theorem dX1_row_57 : decode cX1_row 57 = .ok (.iload_n 2, 1) := dk_28 (dk_at dksX1_row_2 9 rfl rfl)
theorem dX1_row_58 : decode cX1_row 58 = .ok (.ireturn, 1) := dk_172 (dk_at dksX1_row_2 10 rfl rfl)
abbrev cX1_isRow : ByteArray := prog_10_method_6_code
def yX1_isRow : MethodName := ⟨RX1, "isRow", "(I)Z"⟩
def dkwX1_isRow_0 : List UInt8 := [26, 133, 9, 20, 0, 58, 184, 0, 60, 172]
abbrev dktX1_isRow_0 : List UInt8 := dkwX1_isRow_0 ++ []
theorem dksX1_isRow_0 : cX1_isRow.data.toList.drop 0 = dktX1_isRow_0 := by decide +kernel
theorem dX1_isRow_0 : decode cX1_isRow 0 = .ok (.iload_n 0, 1) := dk_26 (dk_at dksX1_isRow_0 0 rfl rfl)
theorem dX1_isRow_1 : decode cX1_isRow 1 = .ok (.i2l, 1) := dk_133 (dk_at dksX1_isRow_0 1 rfl rfl)
theorem dX1_isRow_2 : decode cX1_isRow 2 = .ok (.lconst 0, 1) := dk_9 (dk_at dksX1_isRow_0 2 rfl rfl)
theorem dX1_isRow_3 : decode cX1_isRow 3 = .ok (.ldc2_w 58, 3) := dk_20 0 58 (dk_at dksX1_isRow_0 3 rfl rfl)
theorem dX1_isRow_6 : decode cX1_isRow 6 = .ok (.invokestatic 60, 3) := dk_184 0 60 (dk_at dksX1_isRow_0 6 rfl rfl)
theorem dX1_isRow_9 : decode cX1_isRow 9 = .ok (.ireturn, 1) := dk_172 (dk_at dksX1_isRow_0 9 rfl rfl)
abbrev cX1_in : ByteArray := prog_10_method_3_code
def yX1_in : MethodName := ⟨RX1, "in", "(JJJ)Z"⟩
def dkwX1_in_0 : List UInt8 := [30, 32, 148, 155, 0, 14, 30, 22, 4, 148, 157, 0, 7, 4, 167, 0, 4, 3, 172]
abbrev dktX1_in_0 : List UInt8 := dkwX1_in_0 ++ []
theorem dksX1_in_0 : cX1_in.data.toList.drop 0 = dktX1_in_0 := by decide +kernel
theorem dX1_in_0 : decode cX1_in 0 = .ok (.lload_n 0, 1) := dk_30 (dk_at dksX1_in_0 0 rfl rfl)
theorem dX1_in_1 : decode cX1_in 1 = .ok (.lload_n 2, 1) := dk_32 (dk_at dksX1_in_0 1 rfl rfl)
theorem dX1_in_2 : decode cX1_in 2 = .ok (.lcmp, 1) := dk_148 (dk_at dksX1_in_0 2 rfl rfl)
theorem dX1_in_3 : decode cX1_in 3 = .ok (.ifCond .lt 14, 3) := dk_155 0 14 (dk_at dksX1_in_0 3 rfl rfl)
theorem dX1_in_6 : decode cX1_in 6 = .ok (.lload_n 0, 1) := dk_30 (dk_at dksX1_in_0 6 rfl rfl)
theorem dX1_in_7 : decode cX1_in 7 = .ok (.lload 4, 2) := dk_22 4 (dk_at dksX1_in_0 7 rfl rfl)
theorem dX1_in_9 : decode cX1_in 9 = .ok (.lcmp, 1) := dk_148 (dk_at dksX1_in_0 9 rfl rfl)
theorem dX1_in_10 : decode cX1_in 10 = .ok (.ifCond .gt 7, 3) := dk_157 0 7 (dk_at dksX1_in_0 10 rfl rfl)
theorem dX1_in_13 : decode cX1_in 13 = .ok (.iconst 1, 1) := dk_4 (dk_at dksX1_in_0 13 rfl rfl)
theorem dX1_in_14 : decode cX1_in 14 = .ok (.goto 4, 3) := dk_167 0 4 (dk_at dksX1_in_0 14 rfl rfl)
theorem dX1_in_17 : decode cX1_in 17 = .ok (.iconst 0, 1) := dk_3 (dk_at dksX1_in_0 17 rfl rfl)
theorem dX1_in_18 : decode cX1_in 18 = .ok (.ireturn, 1) := dk_172 (dk_at dksX1_in_0 18 rfl rfl)
abbrev cX1_finds : ByteArray := prog_10_method_4_code
def yX1_finds : MethodName := ⟨RX1, "finds", "(I)I"⟩
def dkwX1_finds_0 : List UInt8 := [42, 27, 181, 0, 51, 42, 180, 0, 32, 27, 92, 46, 4, 96, 79, 16, 253, 172]
abbrev dktX1_finds_0 : List UInt8 := dkwX1_finds_0 ++ []
theorem dksX1_finds_0 : cX1_finds.data.toList.drop 0 = dktX1_finds_0 := by decide +kernel
theorem dX1_finds_0 : decode cX1_finds 0 = .ok (.aload_n 0, 1) := dk_42 (dk_at dksX1_finds_0 0 rfl rfl)
theorem dX1_finds_1 : decode cX1_finds 1 = .ok (.iload_n 1, 1) := dk_27 (dk_at dksX1_finds_0 1 rfl rfl)
theorem dX1_finds_2 : decode cX1_finds 2 = .ok (.putfield 51, 3) := dk_181 0 51 (dk_at dksX1_finds_0 2 rfl rfl)
theorem dX1_finds_5 : decode cX1_finds 5 = .ok (.aload_n 0, 1) := dk_42 (dk_at dksX1_finds_0 5 rfl rfl)
theorem dX1_finds_6 : decode cX1_finds 6 = .ok (.getfield 32, 3) := dk_180 0 32 (dk_at dksX1_finds_0 6 rfl rfl)
theorem dX1_finds_9 : decode cX1_finds 9 = .ok (.iload_n 1, 1) := dk_27 (dk_at dksX1_finds_0 9 rfl rfl)
theorem dX1_finds_10 : decode cX1_finds 10 = .ok (.dup2, 1) := dk_92 (dk_at dksX1_finds_0 10 rfl rfl)
theorem dX1_finds_11 : decode cX1_finds 11 = .ok (.iaload, 1) := dk_46 (dk_at dksX1_finds_0 11 rfl rfl)
theorem dX1_finds_12 : decode cX1_finds 12 = .ok (.iconst 1, 1) := dk_4 (dk_at dksX1_finds_0 12 rfl rfl)
theorem dX1_finds_13 : decode cX1_finds 13 = .ok (.iadd, 1) := dk_96 (dk_at dksX1_finds_0 13 rfl rfl)
theorem dX1_finds_14 : decode cX1_finds 14 = .ok (.iastore, 1) := dk_79 (dk_at dksX1_finds_0 14 rfl rfl)
theorem dX1_finds_15 : decode cX1_finds 15 = .ok (.bipush (-3), 2) := dk_16 253 (dk_at dksX1_finds_0 15 rfl rfl)
theorem dX1_finds_17 : decode cX1_finds 17 = .ok (.ireturn, 1) := dk_172 (dk_at dksX1_finds_0 17 rfl rfl)
abbrev cX1_lay : ByteArray := prog_10_method_9_code
def yX1_lay : MethodName := ⟨RX1, "lay", "(III)I"⟩
def dkwX1_lay_1 : List UInt8 := [29, 79, 21, 4, 172]
abbrev dktX1_lay_1 : List UInt8 := dkwX1_lay_1 ++ []
def dkwX1_lay_0 : List UInt8 := [42, 27, 28, 182, 0, 74, 54, 4, 21, 4, 4, 160, 0, 15, 42, 180, 0, 20, 16, 40, 27, 104, 28, 96]
abbrev dktX1_lay_0 : List UInt8 := dkwX1_lay_0 ++ dktX1_lay_1
theorem dksX1_lay_0 : cX1_lay.data.toList.drop 0 = dktX1_lay_0 := by decide +kernel
theorem dksX1_lay_1 : cX1_lay.data.toList.drop 24 = dktX1_lay_1 := dk_seg dksX1_lay_0 24 rfl rfl
theorem dX1_lay_0 : decode cX1_lay 0 = .ok (.aload_n 0, 1) := dk_42 (dk_at dksX1_lay_0 0 rfl rfl)
theorem dX1_lay_1 : decode cX1_lay 1 = .ok (.iload_n 1, 1) := dk_27 (dk_at dksX1_lay_0 1 rfl rfl)
theorem dX1_lay_2 : decode cX1_lay 2 = .ok (.iload_n 2, 1) := dk_28 (dk_at dksX1_lay_0 2 rfl rfl)
theorem dX1_lay_3 : decode cX1_lay 3 = .ok (.invokevirtual 74, 3) := dk_182 0 74 (dk_at dksX1_lay_0 3 rfl rfl)
theorem dX1_lay_6 : decode cX1_lay 6 = .ok (.istore 4, 2) := dk_54 4 (dk_at dksX1_lay_0 6 rfl rfl)
theorem dX1_lay_8 : decode cX1_lay 8 = .ok (.iload 4, 2) := dk_21 4 (dk_at dksX1_lay_0 8 rfl rfl)
theorem dX1_lay_10 : decode cX1_lay 10 = .ok (.iconst 1, 1) := dk_4 (dk_at dksX1_lay_0 10 rfl rfl)
theorem dX1_lay_11 : decode cX1_lay 11 = .ok (.if_icmp .ne 15, 3) := dk_160 0 15 (dk_at dksX1_lay_0 11 rfl rfl)
theorem dX1_lay_14 : decode cX1_lay 14 = .ok (.aload_n 0, 1) := dk_42 (dk_at dksX1_lay_0 14 rfl rfl)
theorem dX1_lay_15 : decode cX1_lay 15 = .ok (.getfield 20, 3) := dk_180 0 20 (dk_at dksX1_lay_0 15 rfl rfl)
theorem dX1_lay_18 : decode cX1_lay 18 = .ok (.bipush 40, 2) := dk_16 40 (dk_at dksX1_lay_0 18 rfl rfl)
theorem dX1_lay_20 : decode cX1_lay 20 = .ok (.iload_n 1, 1) := dk_27 (dk_at dksX1_lay_0 20 rfl rfl)
theorem dX1_lay_21 : decode cX1_lay 21 = .ok (.imul, 1) := dk_104 (dk_at dksX1_lay_0 21 rfl rfl)
theorem dX1_lay_22 : decode cX1_lay 22 = .ok (.iload_n 2, 1) := dk_28 (dk_at dksX1_lay_0 22 rfl rfl)
theorem dX1_lay_23 : decode cX1_lay 23 = .ok (.iadd, 1) := dk_96 (dk_at dksX1_lay_0 23 rfl rfl)
theorem dX1_lay_24 : decode cX1_lay 24 = .ok (.iload_n 3, 1) := dk_29 (dk_at dksX1_lay_1 0 rfl rfl)
theorem dX1_lay_25 : decode cX1_lay 25 = .ok (.iastore, 1) := dk_79 (dk_at dksX1_lay_1 1 rfl rfl)
theorem dX1_lay_26 : decode cX1_lay 26 = .ok (.iload 4, 2) := dk_21 4 (dk_at dksX1_lay_1 2 rfl rfl)
theorem dX1_lay_28 : decode cX1_lay 28 = .ok (.ireturn, 1) := dk_172 (dk_at dksX1_lay_1 4 rfl rfl)
abbrev cX1_at : ByteArray := prog_10_method_10_code
def yX1_at : MethodName := ⟨RX1, "at", "(II)I"⟩
def dkwX1_at_2 : List UInt8 := [16, 40, 27, 104, 28, 96, 46, 182, 0, 78, 167, 0, 8, 42, 5, 182, 0, 70, 172]
abbrev dktX1_at_2 : List UInt8 := dkwX1_at_2 ++ []
def dkwX1_at_1 : List UInt8 := [28, 133, 9, 42, 180, 0, 23, 27, 46, 4, 100, 133, 184, 0, 60, 153, 0, 21, 42, 42, 180, 0, 20]
abbrev dktX1_at_1 : List UInt8 := dkwX1_at_1 ++ dktX1_at_2
def dkwX1_at_0 : List UInt8 := [27, 184, 0, 66, 154, 0, 5, 2, 172, 42, 180, 0, 23, 27, 46, 156, 0, 9, 42, 4, 182, 0, 70, 172]
abbrev dktX1_at_0 : List UInt8 := dkwX1_at_0 ++ dktX1_at_1
theorem dksX1_at_0 : cX1_at.data.toList.drop 0 = dktX1_at_0 := by decide +kernel
theorem dksX1_at_1 : cX1_at.data.toList.drop 24 = dktX1_at_1 := dk_seg dksX1_at_0 24 rfl rfl
theorem dksX1_at_2 : cX1_at.data.toList.drop 47 = dktX1_at_2 := dk_seg dksX1_at_1 23 rfl rfl
theorem dX1_at_0 : decode cX1_at 0 = .ok (.iload_n 1, 1) := dk_27 (dk_at dksX1_at_0 0 rfl rfl)
theorem dX1_at_1 : decode cX1_at 1 = .ok (.invokestatic 66, 3) := dk_184 0 66 (dk_at dksX1_at_0 1 rfl rfl)
theorem dX1_at_4 : decode cX1_at 4 = .ok (.ifCond .ne 5, 3) := dk_154 0 5 (dk_at dksX1_at_0 4 rfl rfl)
theorem dX1_at_7 : decode cX1_at 7 = .ok (.iconst (-1), 1) := dk_2 (dk_at dksX1_at_0 7 rfl rfl)
theorem dX1_at_8 : decode cX1_at 8 = .ok (.ireturn, 1) := dk_172 (dk_at dksX1_at_0 8 rfl rfl)
theorem dX1_at_9 : decode cX1_at 9 = .ok (.aload_n 0, 1) := dk_42 (dk_at dksX1_at_0 9 rfl rfl)
theorem dX1_at_10 : decode cX1_at 10 = .ok (.getfield 23, 3) := dk_180 0 23 (dk_at dksX1_at_0 10 rfl rfl)
theorem dX1_at_13 : decode cX1_at 13 = .ok (.iload_n 1, 1) := dk_27 (dk_at dksX1_at_0 13 rfl rfl)
theorem dX1_at_14 : decode cX1_at 14 = .ok (.iaload, 1) := dk_46 (dk_at dksX1_at_0 14 rfl rfl)
theorem dX1_at_15 : decode cX1_at 15 = .ok (.ifCond .ge 9, 3) := dk_156 0 9 (dk_at dksX1_at_0 15 rfl rfl)
theorem dX1_at_18 : decode cX1_at 18 = .ok (.aload_n 0, 1) := dk_42 (dk_at dksX1_at_0 18 rfl rfl)
theorem dX1_at_19 : decode cX1_at 19 = .ok (.iconst 1, 1) := dk_4 (dk_at dksX1_at_0 19 rfl rfl)
theorem dX1_at_20 : decode cX1_at 20 = .ok (.invokevirtual 70, 3) := dk_182 0 70 (dk_at dksX1_at_0 20 rfl rfl)
theorem dX1_at_23 : decode cX1_at 23 = .ok (.ireturn, 1) := dk_172 (dk_at dksX1_at_0 23 rfl rfl)
theorem dX1_at_24 : decode cX1_at 24 = .ok (.iload_n 2, 1) := dk_28 (dk_at dksX1_at_1 0 rfl rfl)
theorem dX1_at_25 : decode cX1_at 25 = .ok (.i2l, 1) := dk_133 (dk_at dksX1_at_1 1 rfl rfl)
theorem dX1_at_26 : decode cX1_at 26 = .ok (.lconst 0, 1) := dk_9 (dk_at dksX1_at_1 2 rfl rfl)
theorem dX1_at_27 : decode cX1_at 27 = .ok (.aload_n 0, 1) := dk_42 (dk_at dksX1_at_1 3 rfl rfl)
theorem dX1_at_28 : decode cX1_at 28 = .ok (.getfield 23, 3) := dk_180 0 23 (dk_at dksX1_at_1 4 rfl rfl)
theorem dX1_at_31 : decode cX1_at 31 = .ok (.iload_n 1, 1) := dk_27 (dk_at dksX1_at_1 7 rfl rfl)
theorem dX1_at_32 : decode cX1_at 32 = .ok (.iaload, 1) := dk_46 (dk_at dksX1_at_1 8 rfl rfl)
theorem dX1_at_33 : decode cX1_at 33 = .ok (.iconst 1, 1) := dk_4 (dk_at dksX1_at_1 9 rfl rfl)
theorem dX1_at_34 : decode cX1_at 34 = .ok (.isub, 1) := dk_100 (dk_at dksX1_at_1 10 rfl rfl)
theorem dX1_at_35 : decode cX1_at 35 = .ok (.i2l, 1) := dk_133 (dk_at dksX1_at_1 11 rfl rfl)
theorem dX1_at_36 : decode cX1_at 36 = .ok (.invokestatic 60, 3) := dk_184 0 60 (dk_at dksX1_at_1 12 rfl rfl)
theorem dX1_at_39 : decode cX1_at 39 = .ok (.ifCond .eq 21, 3) := dk_153 0 21 (dk_at dksX1_at_1 15 rfl rfl)
theorem dX1_at_42 : decode cX1_at 42 = .ok (.aload_n 0, 1) := dk_42 (dk_at dksX1_at_1 18 rfl rfl)
theorem dX1_at_43 : decode cX1_at 43 = .ok (.aload_n 0, 1) := dk_42 (dk_at dksX1_at_1 19 rfl rfl)
theorem dX1_at_44 : decode cX1_at 44 = .ok (.getfield 20, 3) := dk_180 0 20 (dk_at dksX1_at_1 20 rfl rfl)
theorem dX1_at_47 : decode cX1_at 47 = .ok (.bipush 40, 2) := dk_16 40 (dk_at dksX1_at_2 0 rfl rfl)
theorem dX1_at_49 : decode cX1_at 49 = .ok (.iload_n 1, 1) := dk_27 (dk_at dksX1_at_2 2 rfl rfl)
theorem dX1_at_50 : decode cX1_at 50 = .ok (.imul, 1) := dk_104 (dk_at dksX1_at_2 3 rfl rfl)
theorem dX1_at_51 : decode cX1_at 51 = .ok (.iload_n 2, 1) := dk_28 (dk_at dksX1_at_2 4 rfl rfl)
theorem dX1_at_52 : decode cX1_at 52 = .ok (.iadd, 1) := dk_96 (dk_at dksX1_at_2 5 rfl rfl)
theorem dX1_at_53 : decode cX1_at 53 = .ok (.iaload, 1) := dk_46 (dk_at dksX1_at_2 6 rfl rfl)
theorem dX1_at_54 : decode cX1_at 54 = .ok (.invokevirtual 78, 3) := dk_182 0 78 (dk_at dksX1_at_2 7 rfl rfl)
theorem dX1_at_57 : decode cX1_at 57 = .ok (.goto 8, 3) := dk_167 0 8 (dk_at dksX1_at_2 10 rfl rfl)
theorem dX1_at_60 : decode cX1_at 60 = .ok (.aload_n 0, 1) := dk_42 (dk_at dksX1_at_2 13 rfl rfl)
theorem dX1_at_61 : decode cX1_at 61 = .ok (.iconst 2, 1) := dk_5 (dk_at dksX1_at_2 14 rfl rfl)
theorem dX1_at_62 : decode cX1_at 62 = .ok (.invokevirtual 70, 3) := dk_182 0 70 (dk_at dksX1_at_2 15 rfl rfl)
theorem dX1_at_65 : decode cX1_at 65 = .ok (.ireturn, 1) := dk_172 (dk_at dksX1_at_2 18 rfl rfl)
abbrev cX1_asks : ByteArray := prog_10_method_5_code
def yX1_asks : MethodName := ⟨RX1, "asks", "(I)I"⟩
def dkwX1_asks_0 : List UInt8 := [42, 27, 181, 0, 55, 4, 172]
abbrev dktX1_asks_0 : List UInt8 := dkwX1_asks_0 ++ []
theorem dksX1_asks_0 : cX1_asks.data.toList.drop 0 = dktX1_asks_0 := by decide +kernel
theorem dX1_asks_0 : decode cX1_asks 0 = .ok (.aload_n 0, 1) := dk_42 (dk_at dksX1_asks_0 0 rfl rfl)
theorem dX1_asks_1 : decode cX1_asks 1 = .ok (.iload_n 1, 1) := dk_27 (dk_at dksX1_asks_0 1 rfl rfl)
theorem dX1_asks_2 : decode cX1_asks 2 = .ok (.putfield 55, 3) := dk_181 0 55 (dk_at dksX1_asks_0 2 rfl rfl)
theorem dX1_asks_5 : decode cX1_asks 5 = .ok (.iconst 1, 1) := dk_4 (dk_at dksX1_asks_0 5 rfl rfl)
theorem dX1_asks_6 : decode cX1_asks 6 = .ok (.ireturn, 1) := dk_172 (dk_at dksX1_asks_0 6 rfl rfl)
abbrev cX1_tear : ByteArray := prog_10_method_11_code
def yX1_tear : MethodName := ⟨RX1, "tear", "(I)I"⟩
def dkwX1_tear_1 : List UInt8 := [42, 180, 0, 23, 27, 2, 79, 4, 172]
abbrev dktX1_tear_1 : List UInt8 := dkwX1_tear_1 ++ []
def dkwX1_tear_0 : List UInt8 := [27, 184, 0, 66, 154, 0, 5, 2, 172, 42, 180, 0, 23, 27, 46, 156, 0, 9, 42, 4, 182, 0, 70, 172]
abbrev dktX1_tear_0 : List UInt8 := dkwX1_tear_0 ++ dktX1_tear_1
theorem dksX1_tear_0 : cX1_tear.data.toList.drop 0 = dktX1_tear_0 := by decide +kernel
theorem dksX1_tear_1 : cX1_tear.data.toList.drop 24 = dktX1_tear_1 := dk_seg dksX1_tear_0 24 rfl rfl
theorem dX1_tear_0 : decode cX1_tear 0 = .ok (.iload_n 1, 1) := dk_27 (dk_at dksX1_tear_0 0 rfl rfl)
theorem dX1_tear_1 : decode cX1_tear 1 = .ok (.invokestatic 66, 3) := dk_184 0 66 (dk_at dksX1_tear_0 1 rfl rfl)
theorem dX1_tear_4 : decode cX1_tear 4 = .ok (.ifCond .ne 5, 3) := dk_154 0 5 (dk_at dksX1_tear_0 4 rfl rfl)
theorem dX1_tear_7 : decode cX1_tear 7 = .ok (.iconst (-1), 1) := dk_2 (dk_at dksX1_tear_0 7 rfl rfl)
theorem dX1_tear_8 : decode cX1_tear 8 = .ok (.ireturn, 1) := dk_172 (dk_at dksX1_tear_0 8 rfl rfl)
theorem dX1_tear_9 : decode cX1_tear 9 = .ok (.aload_n 0, 1) := dk_42 (dk_at dksX1_tear_0 9 rfl rfl)
theorem dX1_tear_10 : decode cX1_tear 10 = .ok (.getfield 23, 3) := dk_180 0 23 (dk_at dksX1_tear_0 10 rfl rfl)
theorem dX1_tear_13 : decode cX1_tear 13 = .ok (.iload_n 1, 1) := dk_27 (dk_at dksX1_tear_0 13 rfl rfl)
theorem dX1_tear_14 : decode cX1_tear 14 = .ok (.iaload, 1) := dk_46 (dk_at dksX1_tear_0 14 rfl rfl)
theorem dX1_tear_15 : decode cX1_tear 15 = .ok (.ifCond .ge 9, 3) := dk_156 0 9 (dk_at dksX1_tear_0 15 rfl rfl)
theorem dX1_tear_18 : decode cX1_tear 18 = .ok (.aload_n 0, 1) := dk_42 (dk_at dksX1_tear_0 18 rfl rfl)
theorem dX1_tear_19 : decode cX1_tear 19 = .ok (.iconst 1, 1) := dk_4 (dk_at dksX1_tear_0 19 rfl rfl)
theorem dX1_tear_20 : decode cX1_tear 20 = .ok (.invokevirtual 70, 3) := dk_182 0 70 (dk_at dksX1_tear_0 20 rfl rfl)
theorem dX1_tear_23 : decode cX1_tear 23 = .ok (.ireturn, 1) := dk_172 (dk_at dksX1_tear_0 23 rfl rfl)
theorem dX1_tear_24 : decode cX1_tear 24 = .ok (.aload_n 0, 1) := dk_42 (dk_at dksX1_tear_1 0 rfl rfl)
theorem dX1_tear_25 : decode cX1_tear 25 = .ok (.getfield 23, 3) := dk_180 0 23 (dk_at dksX1_tear_1 1 rfl rfl)
theorem dX1_tear_28 : decode cX1_tear 28 = .ok (.iload_n 1, 1) := dk_27 (dk_at dksX1_tear_1 4 rfl rfl)
theorem dX1_tear_29 : decode cX1_tear 29 = .ok (.iconst (-1), 1) := dk_2 (dk_at dksX1_tear_1 5 rfl rfl)
theorem dX1_tear_30 : decode cX1_tear 30 = .ok (.iastore, 1) := dk_79 (dk_at dksX1_tear_1 6 rfl rfl)
theorem dX1_tear_31 : decode cX1_tear 31 = .ok (.iconst 1, 1) := dk_4 (dk_at dksX1_tear_1 7 rfl rfl)
theorem dX1_tear_32 : decode cX1_tear 32 = .ok (.ireturn, 1) := dk_172 (dk_at dksX1_tear_1 8 rfl rfl)
abbrev cX1_copy : ByteArray := prog_10_method_12_code
def yX1_copy : MethodName := ⟨RX1, "copy", "(IIIII)I"⟩
def dkwX1_copy_7 : List UInt8 := [79, 132, 6, 1, 167, 255, 224, 4, 172]
abbrev dktX1_copy_7 : List UInt8 := dkwX1_copy_7 ++ []
def dkwX1_copy_6 : List UInt8 := [162, 0, 31, 42, 180, 0, 20, 16, 40, 29, 104, 21, 4, 96, 21, 6, 96, 42, 180, 0, 39, 21, 6, 46]
abbrev dktX1_copy_6 : List UInt8 := dkwX1_copy_6 ++ dktX1_copy_7
def dkwX1_copy_5 : List UInt8 := [16, 40, 27, 104, 28, 96, 21, 6, 96, 46, 79, 132, 6, 1, 167, 255, 225, 3, 54, 6, 21, 6, 21, 5]
abbrev dktX1_copy_5 : List UInt8 := dkwX1_copy_5 ++ dktX1_copy_6
def dkwX1_copy_4 : List UInt8 := [182, 0, 70, 172, 3, 54, 6, 21, 6, 21, 5, 162, 0, 30, 42, 180, 0, 39, 21, 6, 42, 180, 0, 20]
abbrev dktX1_copy_4 : List UInt8 := dkwX1_copy_4 ++ dktX1_copy_5
def dkwX1_copy_3 : List UInt8 := [21, 4, 133, 9, 42, 180, 0, 23, 29, 46, 133, 21, 5, 133, 101, 184, 0, 60, 154, 0, 9, 42, 5]
abbrev dktX1_copy_3 : List UInt8 := dkwX1_copy_3 ++ dktX1_copy_4
def dkwX1_copy_2 : List UInt8 := [182, 0, 70, 172, 28, 133, 9, 42, 180, 0, 23, 27, 46, 133, 21, 5, 133, 101, 184, 0, 60, 153, 0, 24]
abbrev dktX1_copy_2 : List UInt8 := dkwX1_copy_2 ++ dktX1_copy_3
def dkwX1_copy_1 : List UInt8 := [182, 0, 70, 172, 42, 180, 0, 23, 27, 46, 155, 0, 12, 42, 180, 0, 23, 29, 46, 156, 0, 9, 42, 4]
abbrev dktX1_copy_1 : List UInt8 := dkwX1_copy_1 ++ dktX1_copy_2
def dkwX1_copy_0 : List UInt8 := [27, 184, 0, 66, 153, 0, 10, 29, 184, 0, 66, 154, 0, 5, 2, 172, 21, 5, 156, 0, 9, 42, 8]
abbrev dktX1_copy_0 : List UInt8 := dkwX1_copy_0 ++ dktX1_copy_1
theorem dksX1_copy_0 : cX1_copy.data.toList.drop 0 = dktX1_copy_0 := by decide +kernel
theorem dksX1_copy_1 : cX1_copy.data.toList.drop 23 = dktX1_copy_1 := dk_seg dksX1_copy_0 23 rfl rfl
theorem dksX1_copy_2 : cX1_copy.data.toList.drop 47 = dktX1_copy_2 := dk_seg dksX1_copy_1 24 rfl rfl
theorem dksX1_copy_3 : cX1_copy.data.toList.drop 71 = dktX1_copy_3 := dk_seg dksX1_copy_2 24 rfl rfl
theorem dksX1_copy_4 : cX1_copy.data.toList.drop 94 = dktX1_copy_4 := dk_seg dksX1_copy_3 23 rfl rfl
theorem dksX1_copy_5 : cX1_copy.data.toList.drop 118 = dktX1_copy_5 := dk_seg dksX1_copy_4 24 rfl rfl
theorem dksX1_copy_6 : cX1_copy.data.toList.drop 142 = dktX1_copy_6 := dk_seg dksX1_copy_5 24 rfl rfl
theorem dksX1_copy_7 : cX1_copy.data.toList.drop 166 = dktX1_copy_7 := dk_seg dksX1_copy_6 24 rfl rfl
theorem dX1_copy_0 : decode cX1_copy 0 = .ok (.iload_n 1, 1) := dk_27 (dk_at dksX1_copy_0 0 rfl rfl)
theorem dX1_copy_1 : decode cX1_copy 1 = .ok (.invokestatic 66, 3) := dk_184 0 66 (dk_at dksX1_copy_0 1 rfl rfl)
theorem dX1_copy_4 : decode cX1_copy 4 = .ok (.ifCond .eq 10, 3) := dk_153 0 10 (dk_at dksX1_copy_0 4 rfl rfl)
theorem dX1_copy_7 : decode cX1_copy 7 = .ok (.iload_n 3, 1) := dk_29 (dk_at dksX1_copy_0 7 rfl rfl)
theorem dX1_copy_8 : decode cX1_copy 8 = .ok (.invokestatic 66, 3) := dk_184 0 66 (dk_at dksX1_copy_0 8 rfl rfl)
theorem dX1_copy_11 : decode cX1_copy 11 = .ok (.ifCond .ne 5, 3) := dk_154 0 5 (dk_at dksX1_copy_0 11 rfl rfl)
theorem dX1_copy_14 : decode cX1_copy 14 = .ok (.iconst (-1), 1) := dk_2 (dk_at dksX1_copy_0 14 rfl rfl)
theorem dX1_copy_15 : decode cX1_copy 15 = .ok (.ireturn, 1) := dk_172 (dk_at dksX1_copy_0 15 rfl rfl)
theorem dX1_copy_16 : decode cX1_copy 16 = .ok (.iload 5, 2) := dk_21 5 (dk_at dksX1_copy_0 16 rfl rfl)
theorem dX1_copy_18 : decode cX1_copy 18 = .ok (.ifCond .ge 9, 3) := dk_156 0 9 (dk_at dksX1_copy_0 18 rfl rfl)
theorem dX1_copy_21 : decode cX1_copy 21 = .ok (.aload_n 0, 1) := dk_42 (dk_at dksX1_copy_0 21 rfl rfl)
theorem dX1_copy_22 : decode cX1_copy 22 = .ok (.iconst 5, 1) := dk_8 (dk_at dksX1_copy_0 22 rfl rfl)
theorem dX1_copy_23 : decode cX1_copy 23 = .ok (.invokevirtual 70, 3) := dk_182 0 70 (dk_at dksX1_copy_1 0 rfl rfl)
theorem dX1_copy_26 : decode cX1_copy 26 = .ok (.ireturn, 1) := dk_172 (dk_at dksX1_copy_1 3 rfl rfl)
theorem dX1_copy_27 : decode cX1_copy 27 = .ok (.aload_n 0, 1) := dk_42 (dk_at dksX1_copy_1 4 rfl rfl)
theorem dX1_copy_28 : decode cX1_copy 28 = .ok (.getfield 23, 3) := dk_180 0 23 (dk_at dksX1_copy_1 5 rfl rfl)
theorem dX1_copy_31 : decode cX1_copy 31 = .ok (.iload_n 1, 1) := dk_27 (dk_at dksX1_copy_1 8 rfl rfl)
theorem dX1_copy_32 : decode cX1_copy 32 = .ok (.iaload, 1) := dk_46 (dk_at dksX1_copy_1 9 rfl rfl)
theorem dX1_copy_33 : decode cX1_copy 33 = .ok (.ifCond .lt 12, 3) := dk_155 0 12 (dk_at dksX1_copy_1 10 rfl rfl)
theorem dX1_copy_36 : decode cX1_copy 36 = .ok (.aload_n 0, 1) := dk_42 (dk_at dksX1_copy_1 13 rfl rfl)
theorem dX1_copy_37 : decode cX1_copy 37 = .ok (.getfield 23, 3) := dk_180 0 23 (dk_at dksX1_copy_1 14 rfl rfl)
theorem dX1_copy_40 : decode cX1_copy 40 = .ok (.iload_n 3, 1) := dk_29 (dk_at dksX1_copy_1 17 rfl rfl)
theorem dX1_copy_41 : decode cX1_copy 41 = .ok (.iaload, 1) := dk_46 (dk_at dksX1_copy_1 18 rfl rfl)
theorem dX1_copy_42 : decode cX1_copy 42 = .ok (.ifCond .ge 9, 3) := dk_156 0 9 (dk_at dksX1_copy_1 19 rfl rfl)
theorem dX1_copy_45 : decode cX1_copy 45 = .ok (.aload_n 0, 1) := dk_42 (dk_at dksX1_copy_1 22 rfl rfl)
theorem dX1_copy_46 : decode cX1_copy 46 = .ok (.iconst 1, 1) := dk_4 (dk_at dksX1_copy_1 23 rfl rfl)
theorem dX1_copy_47 : decode cX1_copy 47 = .ok (.invokevirtual 70, 3) := dk_182 0 70 (dk_at dksX1_copy_2 0 rfl rfl)
theorem dX1_copy_50 : decode cX1_copy 50 = .ok (.ireturn, 1) := dk_172 (dk_at dksX1_copy_2 3 rfl rfl)
theorem dX1_copy_51 : decode cX1_copy 51 = .ok (.iload_n 2, 1) := dk_28 (dk_at dksX1_copy_2 4 rfl rfl)
theorem dX1_copy_52 : decode cX1_copy 52 = .ok (.i2l, 1) := dk_133 (dk_at dksX1_copy_2 5 rfl rfl)
theorem dX1_copy_53 : decode cX1_copy 53 = .ok (.lconst 0, 1) := dk_9 (dk_at dksX1_copy_2 6 rfl rfl)
theorem dX1_copy_54 : decode cX1_copy 54 = .ok (.aload_n 0, 1) := dk_42 (dk_at dksX1_copy_2 7 rfl rfl)
theorem dX1_copy_55 : decode cX1_copy 55 = .ok (.getfield 23, 3) := dk_180 0 23 (dk_at dksX1_copy_2 8 rfl rfl)
theorem dX1_copy_58 : decode cX1_copy 58 = .ok (.iload_n 1, 1) := dk_27 (dk_at dksX1_copy_2 11 rfl rfl)
theorem dX1_copy_59 : decode cX1_copy 59 = .ok (.iaload, 1) := dk_46 (dk_at dksX1_copy_2 12 rfl rfl)
theorem dX1_copy_60 : decode cX1_copy 60 = .ok (.i2l, 1) := dk_133 (dk_at dksX1_copy_2 13 rfl rfl)
theorem dX1_copy_61 : decode cX1_copy 61 = .ok (.iload 5, 2) := dk_21 5 (dk_at dksX1_copy_2 14 rfl rfl)
theorem dX1_copy_63 : decode cX1_copy 63 = .ok (.i2l, 1) := dk_133 (dk_at dksX1_copy_2 16 rfl rfl)
theorem dX1_copy_64 : decode cX1_copy 64 = .ok (.lsub, 1) := dk_101 (dk_at dksX1_copy_2 17 rfl rfl)
theorem dX1_copy_65 : decode cX1_copy 65 = .ok (.invokestatic 60, 3) := dk_184 0 60 (dk_at dksX1_copy_2 18 rfl rfl)
theorem dX1_copy_68 : decode cX1_copy 68 = .ok (.ifCond .eq 24, 3) := dk_153 0 24 (dk_at dksX1_copy_2 21 rfl rfl)
theorem dX1_copy_71 : decode cX1_copy 71 = .ok (.iload 4, 2) := dk_21 4 (dk_at dksX1_copy_3 0 rfl rfl)
theorem dX1_copy_73 : decode cX1_copy 73 = .ok (.i2l, 1) := dk_133 (dk_at dksX1_copy_3 2 rfl rfl)
theorem dX1_copy_74 : decode cX1_copy 74 = .ok (.lconst 0, 1) := dk_9 (dk_at dksX1_copy_3 3 rfl rfl)
theorem dX1_copy_75 : decode cX1_copy 75 = .ok (.aload_n 0, 1) := dk_42 (dk_at dksX1_copy_3 4 rfl rfl)
theorem dX1_copy_76 : decode cX1_copy 76 = .ok (.getfield 23, 3) := dk_180 0 23 (dk_at dksX1_copy_3 5 rfl rfl)
theorem dX1_copy_79 : decode cX1_copy 79 = .ok (.iload_n 3, 1) := dk_29 (dk_at dksX1_copy_3 8 rfl rfl)
theorem dX1_copy_80 : decode cX1_copy 80 = .ok (.iaload, 1) := dk_46 (dk_at dksX1_copy_3 9 rfl rfl)
theorem dX1_copy_81 : decode cX1_copy 81 = .ok (.i2l, 1) := dk_133 (dk_at dksX1_copy_3 10 rfl rfl)
theorem dX1_copy_82 : decode cX1_copy 82 = .ok (.iload 5, 2) := dk_21 5 (dk_at dksX1_copy_3 11 rfl rfl)
theorem dX1_copy_84 : decode cX1_copy 84 = .ok (.i2l, 1) := dk_133 (dk_at dksX1_copy_3 13 rfl rfl)
theorem dX1_copy_85 : decode cX1_copy 85 = .ok (.lsub, 1) := dk_101 (dk_at dksX1_copy_3 14 rfl rfl)
theorem dX1_copy_86 : decode cX1_copy 86 = .ok (.invokestatic 60, 3) := dk_184 0 60 (dk_at dksX1_copy_3 15 rfl rfl)
theorem dX1_copy_89 : decode cX1_copy 89 = .ok (.ifCond .ne 9, 3) := dk_154 0 9 (dk_at dksX1_copy_3 18 rfl rfl)
theorem dX1_copy_92 : decode cX1_copy 92 = .ok (.aload_n 0, 1) := dk_42 (dk_at dksX1_copy_3 21 rfl rfl)
theorem dX1_copy_93 : decode cX1_copy 93 = .ok (.iconst 2, 1) := dk_5 (dk_at dksX1_copy_3 22 rfl rfl)
theorem dX1_copy_94 : decode cX1_copy 94 = .ok (.invokevirtual 70, 3) := dk_182 0 70 (dk_at dksX1_copy_4 0 rfl rfl)
theorem dX1_copy_97 : decode cX1_copy 97 = .ok (.ireturn, 1) := dk_172 (dk_at dksX1_copy_4 3 rfl rfl)
theorem dX1_copy_98 : decode cX1_copy 98 = .ok (.iconst 0, 1) := dk_3 (dk_at dksX1_copy_4 4 rfl rfl)
theorem dX1_copy_99 : decode cX1_copy 99 = .ok (.istore 6, 2) := dk_54 6 (dk_at dksX1_copy_4 5 rfl rfl)
theorem dX1_copy_101 : decode cX1_copy 101 = .ok (.iload 6, 2) := dk_21 6 (dk_at dksX1_copy_4 7 rfl rfl)
theorem dX1_copy_103 : decode cX1_copy 103 = .ok (.iload 5, 2) := dk_21 5 (dk_at dksX1_copy_4 9 rfl rfl)
theorem dX1_copy_105 : decode cX1_copy 105 = .ok (.if_icmp .ge 30, 3) := dk_162 0 30 (dk_at dksX1_copy_4 11 rfl rfl)
theorem dX1_copy_108 : decode cX1_copy 108 = .ok (.aload_n 0, 1) := dk_42 (dk_at dksX1_copy_4 14 rfl rfl)
theorem dX1_copy_109 : decode cX1_copy 109 = .ok (.getfield 39, 3) := dk_180 0 39 (dk_at dksX1_copy_4 15 rfl rfl)
theorem dX1_copy_112 : decode cX1_copy 112 = .ok (.iload 6, 2) := dk_21 6 (dk_at dksX1_copy_4 18 rfl rfl)
theorem dX1_copy_114 : decode cX1_copy 114 = .ok (.aload_n 0, 1) := dk_42 (dk_at dksX1_copy_4 20 rfl rfl)
theorem dX1_copy_115 : decode cX1_copy 115 = .ok (.getfield 20, 3) := dk_180 0 20 (dk_at dksX1_copy_4 21 rfl rfl)
theorem dX1_copy_118 : decode cX1_copy 118 = .ok (.bipush 40, 2) := dk_16 40 (dk_at dksX1_copy_5 0 rfl rfl)
theorem dX1_copy_120 : decode cX1_copy 120 = .ok (.iload_n 1, 1) := dk_27 (dk_at dksX1_copy_5 2 rfl rfl)
theorem dX1_copy_121 : decode cX1_copy 121 = .ok (.imul, 1) := dk_104 (dk_at dksX1_copy_5 3 rfl rfl)
theorem dX1_copy_122 : decode cX1_copy 122 = .ok (.iload_n 2, 1) := dk_28 (dk_at dksX1_copy_5 4 rfl rfl)
theorem dX1_copy_123 : decode cX1_copy 123 = .ok (.iadd, 1) := dk_96 (dk_at dksX1_copy_5 5 rfl rfl)
theorem dX1_copy_124 : decode cX1_copy 124 = .ok (.iload 6, 2) := dk_21 6 (dk_at dksX1_copy_5 6 rfl rfl)
theorem dX1_copy_126 : decode cX1_copy 126 = .ok (.iadd, 1) := dk_96 (dk_at dksX1_copy_5 8 rfl rfl)
theorem dX1_copy_127 : decode cX1_copy 127 = .ok (.iaload, 1) := dk_46 (dk_at dksX1_copy_5 9 rfl rfl)
theorem dX1_copy_128 : decode cX1_copy 128 = .ok (.iastore, 1) := dk_79 (dk_at dksX1_copy_5 10 rfl rfl)
theorem dX1_copy_129 : decode cX1_copy 129 = .ok (.iinc 6 1, 3) := dk_132 6 1 (dk_at dksX1_copy_5 11 rfl rfl)
theorem dX1_copy_132 : decode cX1_copy 132 = .ok (.goto (-31), 3) := dk_167 255 225 (dk_at dksX1_copy_5 14 rfl rfl)
theorem dX1_copy_135 : decode cX1_copy 135 = .ok (.iconst 0, 1) := dk_3 (dk_at dksX1_copy_5 17 rfl rfl)
theorem dX1_copy_136 : decode cX1_copy 136 = .ok (.istore 6, 2) := dk_54 6 (dk_at dksX1_copy_5 18 rfl rfl)
theorem dX1_copy_138 : decode cX1_copy 138 = .ok (.iload 6, 2) := dk_21 6 (dk_at dksX1_copy_5 20 rfl rfl)
theorem dX1_copy_140 : decode cX1_copy 140 = .ok (.iload 5, 2) := dk_21 5 (dk_at dksX1_copy_5 22 rfl rfl)
theorem dX1_copy_142 : decode cX1_copy 142 = .ok (.if_icmp .ge 31, 3) := dk_162 0 31 (dk_at dksX1_copy_6 0 rfl rfl)
theorem dX1_copy_145 : decode cX1_copy 145 = .ok (.aload_n 0, 1) := dk_42 (dk_at dksX1_copy_6 3 rfl rfl)
theorem dX1_copy_146 : decode cX1_copy 146 = .ok (.getfield 20, 3) := dk_180 0 20 (dk_at dksX1_copy_6 4 rfl rfl)
theorem dX1_copy_149 : decode cX1_copy 149 = .ok (.bipush 40, 2) := dk_16 40 (dk_at dksX1_copy_6 7 rfl rfl)
theorem dX1_copy_151 : decode cX1_copy 151 = .ok (.iload_n 3, 1) := dk_29 (dk_at dksX1_copy_6 9 rfl rfl)
theorem dX1_copy_152 : decode cX1_copy 152 = .ok (.imul, 1) := dk_104 (dk_at dksX1_copy_6 10 rfl rfl)
theorem dX1_copy_153 : decode cX1_copy 153 = .ok (.iload 4, 2) := dk_21 4 (dk_at dksX1_copy_6 11 rfl rfl)
theorem dX1_copy_155 : decode cX1_copy 155 = .ok (.iadd, 1) := dk_96 (dk_at dksX1_copy_6 13 rfl rfl)
theorem dX1_copy_156 : decode cX1_copy 156 = .ok (.iload 6, 2) := dk_21 6 (dk_at dksX1_copy_6 14 rfl rfl)
theorem dX1_copy_158 : decode cX1_copy 158 = .ok (.iadd, 1) := dk_96 (dk_at dksX1_copy_6 16 rfl rfl)
theorem dX1_copy_159 : decode cX1_copy 159 = .ok (.aload_n 0, 1) := dk_42 (dk_at dksX1_copy_6 17 rfl rfl)
theorem dX1_copy_160 : decode cX1_copy 160 = .ok (.getfield 39, 3) := dk_180 0 39 (dk_at dksX1_copy_6 18 rfl rfl)
theorem dX1_copy_163 : decode cX1_copy 163 = .ok (.iload 6, 2) := dk_21 6 (dk_at dksX1_copy_6 21 rfl rfl)
theorem dX1_copy_165 : decode cX1_copy 165 = .ok (.iaload, 1) := dk_46 (dk_at dksX1_copy_6 23 rfl rfl)
theorem dX1_copy_166 : decode cX1_copy 166 = .ok (.iastore, 1) := dk_79 (dk_at dksX1_copy_7 0 rfl rfl)
theorem dX1_copy_167 : decode cX1_copy 167 = .ok (.iinc 6 1, 3) := dk_132 6 1 (dk_at dksX1_copy_7 1 rfl rfl)
theorem dX1_copy_170 : decode cX1_copy 170 = .ok (.goto (-32), 3) := dk_167 255 224 (dk_at dksX1_copy_7 4 rfl rfl)
theorem dX1_copy_173 : decode cX1_copy 173 = .ok (.iconst 1, 1) := dk_4 (dk_at dksX1_copy_7 7 rfl rfl)
theorem dX1_copy_174 : decode cX1_copy 174 = .ok (.ireturn, 1) := dk_172 (dk_at dksX1_copy_7 8 rfl rfl)
abbrev cX1_mean : ByteArray := prog_10_method_13_code
def yX1_mean : MethodName := ⟨RX1, "mean", "(I)I"⟩
def dkwX1_mean_3 : List UInt8 := [132, 4, 1, 167, 255, 226, 42, 32, 42, 180, 0, 23, 27, 46, 133, 109, 136, 182, 0, 78, 172]
abbrev dktX1_mean_3 : List UInt8 := dkwX1_mean_3 ++ []
def dkwX1_mean_2 : List UInt8 := [180, 0, 23, 27, 46, 162, 0, 25, 32, 42, 180, 0, 20, 16, 40, 27, 104, 21, 4, 96, 46, 133, 97, 65]
abbrev dktX1_mean_2 : List UInt8 := dkwX1_mean_2 ++ dktX1_mean_3
def dkwX1_mean_1 : List UInt8 := [42, 180, 0, 23, 27, 46, 154, 0, 9, 42, 7, 182, 0, 70, 172, 9, 65, 3, 54, 4, 21, 4, 42]
abbrev dktX1_mean_1 : List UInt8 := dkwX1_mean_1 ++ dktX1_mean_2
def dkwX1_mean_0 : List UInt8 := [27, 184, 0, 66, 154, 0, 5, 2, 172, 42, 180, 0, 23, 27, 46, 156, 0, 9, 42, 4, 182, 0, 70, 172]
abbrev dktX1_mean_0 : List UInt8 := dkwX1_mean_0 ++ dktX1_mean_1
theorem dksX1_mean_0 : cX1_mean.data.toList.drop 0 = dktX1_mean_0 := by decide +kernel
theorem dksX1_mean_1 : cX1_mean.data.toList.drop 24 = dktX1_mean_1 := dk_seg dksX1_mean_0 24 rfl rfl
theorem dksX1_mean_2 : cX1_mean.data.toList.drop 47 = dktX1_mean_2 := dk_seg dksX1_mean_1 23 rfl rfl
theorem dksX1_mean_3 : cX1_mean.data.toList.drop 71 = dktX1_mean_3 := dk_seg dksX1_mean_2 24 rfl rfl
theorem dX1_mean_0 : decode cX1_mean 0 = .ok (.iload_n 1, 1) := dk_27 (dk_at dksX1_mean_0 0 rfl rfl)
theorem dX1_mean_1 : decode cX1_mean 1 = .ok (.invokestatic 66, 3) := dk_184 0 66 (dk_at dksX1_mean_0 1 rfl rfl)
theorem dX1_mean_4 : decode cX1_mean 4 = .ok (.ifCond .ne 5, 3) := dk_154 0 5 (dk_at dksX1_mean_0 4 rfl rfl)
theorem dX1_mean_7 : decode cX1_mean 7 = .ok (.iconst (-1), 1) := dk_2 (dk_at dksX1_mean_0 7 rfl rfl)
theorem dX1_mean_8 : decode cX1_mean 8 = .ok (.ireturn, 1) := dk_172 (dk_at dksX1_mean_0 8 rfl rfl)
theorem dX1_mean_9 : decode cX1_mean 9 = .ok (.aload_n 0, 1) := dk_42 (dk_at dksX1_mean_0 9 rfl rfl)
theorem dX1_mean_10 : decode cX1_mean 10 = .ok (.getfield 23, 3) := dk_180 0 23 (dk_at dksX1_mean_0 10 rfl rfl)
theorem dX1_mean_13 : decode cX1_mean 13 = .ok (.iload_n 1, 1) := dk_27 (dk_at dksX1_mean_0 13 rfl rfl)
theorem dX1_mean_14 : decode cX1_mean 14 = .ok (.iaload, 1) := dk_46 (dk_at dksX1_mean_0 14 rfl rfl)
theorem dX1_mean_15 : decode cX1_mean 15 = .ok (.ifCond .ge 9, 3) := dk_156 0 9 (dk_at dksX1_mean_0 15 rfl rfl)
theorem dX1_mean_18 : decode cX1_mean 18 = .ok (.aload_n 0, 1) := dk_42 (dk_at dksX1_mean_0 18 rfl rfl)
theorem dX1_mean_19 : decode cX1_mean 19 = .ok (.iconst 1, 1) := dk_4 (dk_at dksX1_mean_0 19 rfl rfl)
theorem dX1_mean_20 : decode cX1_mean 20 = .ok (.invokevirtual 70, 3) := dk_182 0 70 (dk_at dksX1_mean_0 20 rfl rfl)
theorem dX1_mean_23 : decode cX1_mean 23 = .ok (.ireturn, 1) := dk_172 (dk_at dksX1_mean_0 23 rfl rfl)
theorem dX1_mean_24 : decode cX1_mean 24 = .ok (.aload_n 0, 1) := dk_42 (dk_at dksX1_mean_1 0 rfl rfl)
theorem dX1_mean_25 : decode cX1_mean 25 = .ok (.getfield 23, 3) := dk_180 0 23 (dk_at dksX1_mean_1 1 rfl rfl)
theorem dX1_mean_28 : decode cX1_mean 28 = .ok (.iload_n 1, 1) := dk_27 (dk_at dksX1_mean_1 4 rfl rfl)
theorem dX1_mean_29 : decode cX1_mean 29 = .ok (.iaload, 1) := dk_46 (dk_at dksX1_mean_1 5 rfl rfl)
theorem dX1_mean_30 : decode cX1_mean 30 = .ok (.ifCond .ne 9, 3) := dk_154 0 9 (dk_at dksX1_mean_1 6 rfl rfl)
theorem dX1_mean_33 : decode cX1_mean 33 = .ok (.aload_n 0, 1) := dk_42 (dk_at dksX1_mean_1 9 rfl rfl)
theorem dX1_mean_34 : decode cX1_mean 34 = .ok (.iconst 4, 1) := dk_7 (dk_at dksX1_mean_1 10 rfl rfl)
theorem dX1_mean_35 : decode cX1_mean 35 = .ok (.invokevirtual 70, 3) := dk_182 0 70 (dk_at dksX1_mean_1 11 rfl rfl)
theorem dX1_mean_38 : decode cX1_mean 38 = .ok (.ireturn, 1) := dk_172 (dk_at dksX1_mean_1 14 rfl rfl)
theorem dX1_mean_39 : decode cX1_mean 39 = .ok (.lconst 0, 1) := dk_9 (dk_at dksX1_mean_1 15 rfl rfl)
theorem dX1_mean_40 : decode cX1_mean 40 = .ok (.lstore_n 2, 1) := dk_65 (dk_at dksX1_mean_1 16 rfl rfl)
theorem dX1_mean_41 : decode cX1_mean 41 = .ok (.iconst 0, 1) := dk_3 (dk_at dksX1_mean_1 17 rfl rfl)
theorem dX1_mean_42 : decode cX1_mean 42 = .ok (.istore 4, 2) := dk_54 4 (dk_at dksX1_mean_1 18 rfl rfl)
theorem dX1_mean_44 : decode cX1_mean 44 = .ok (.iload 4, 2) := dk_21 4 (dk_at dksX1_mean_1 20 rfl rfl)
theorem dX1_mean_46 : decode cX1_mean 46 = .ok (.aload_n 0, 1) := dk_42 (dk_at dksX1_mean_1 22 rfl rfl)
theorem dX1_mean_47 : decode cX1_mean 47 = .ok (.getfield 23, 3) := dk_180 0 23 (dk_at dksX1_mean_2 0 rfl rfl)
theorem dX1_mean_50 : decode cX1_mean 50 = .ok (.iload_n 1, 1) := dk_27 (dk_at dksX1_mean_2 3 rfl rfl)
theorem dX1_mean_51 : decode cX1_mean 51 = .ok (.iaload, 1) := dk_46 (dk_at dksX1_mean_2 4 rfl rfl)
theorem dX1_mean_52 : decode cX1_mean 52 = .ok (.if_icmp .ge 25, 3) := dk_162 0 25 (dk_at dksX1_mean_2 5 rfl rfl)
theorem dX1_mean_55 : decode cX1_mean 55 = .ok (.lload_n 2, 1) := dk_32 (dk_at dksX1_mean_2 8 rfl rfl)
theorem dX1_mean_56 : decode cX1_mean 56 = .ok (.aload_n 0, 1) := dk_42 (dk_at dksX1_mean_2 9 rfl rfl)
theorem dX1_mean_57 : decode cX1_mean 57 = .ok (.getfield 20, 3) := dk_180 0 20 (dk_at dksX1_mean_2 10 rfl rfl)
theorem dX1_mean_60 : decode cX1_mean 60 = .ok (.bipush 40, 2) := dk_16 40 (dk_at dksX1_mean_2 13 rfl rfl)
theorem dX1_mean_62 : decode cX1_mean 62 = .ok (.iload_n 1, 1) := dk_27 (dk_at dksX1_mean_2 15 rfl rfl)
theorem dX1_mean_63 : decode cX1_mean 63 = .ok (.imul, 1) := dk_104 (dk_at dksX1_mean_2 16 rfl rfl)
theorem dX1_mean_64 : decode cX1_mean 64 = .ok (.iload 4, 2) := dk_21 4 (dk_at dksX1_mean_2 17 rfl rfl)
theorem dX1_mean_66 : decode cX1_mean 66 = .ok (.iadd, 1) := dk_96 (dk_at dksX1_mean_2 19 rfl rfl)
theorem dX1_mean_67 : decode cX1_mean 67 = .ok (.iaload, 1) := dk_46 (dk_at dksX1_mean_2 20 rfl rfl)
theorem dX1_mean_68 : decode cX1_mean 68 = .ok (.i2l, 1) := dk_133 (dk_at dksX1_mean_2 21 rfl rfl)
theorem dX1_mean_69 : decode cX1_mean 69 = .ok (.ladd, 1) := dk_97 (dk_at dksX1_mean_2 22 rfl rfl)
theorem dX1_mean_70 : decode cX1_mean 70 = .ok (.lstore_n 2, 1) := dk_65 (dk_at dksX1_mean_2 23 rfl rfl)
theorem dX1_mean_71 : decode cX1_mean 71 = .ok (.iinc 4 1, 3) := dk_132 4 1 (dk_at dksX1_mean_3 0 rfl rfl)
theorem dX1_mean_74 : decode cX1_mean 74 = .ok (.goto (-30), 3) := dk_167 255 226 (dk_at dksX1_mean_3 3 rfl rfl)
theorem dX1_mean_77 : decode cX1_mean 77 = .ok (.aload_n 0, 1) := dk_42 (dk_at dksX1_mean_3 6 rfl rfl)
theorem dX1_mean_78 : decode cX1_mean 78 = .ok (.lload_n 2, 1) := dk_32 (dk_at dksX1_mean_3 7 rfl rfl)
theorem dX1_mean_79 : decode cX1_mean 79 = .ok (.aload_n 0, 1) := dk_42 (dk_at dksX1_mean_3 8 rfl rfl)
theorem dX1_mean_80 : decode cX1_mean 80 = .ok (.getfield 23, 3) := dk_180 0 23 (dk_at dksX1_mean_3 9 rfl rfl)
theorem dX1_mean_83 : decode cX1_mean 83 = .ok (.iload_n 1, 1) := dk_27 (dk_at dksX1_mean_3 12 rfl rfl)
theorem dX1_mean_84 : decode cX1_mean 84 = .ok (.iaload, 1) := dk_46 (dk_at dksX1_mean_3 13 rfl rfl)
theorem dX1_mean_85 : decode cX1_mean 85 = .ok (.i2l, 1) := dk_133 (dk_at dksX1_mean_3 14 rfl rfl)
theorem dX1_mean_86 : decode cX1_mean 86 = .ok (.ldiv, 1) := dk_109 (dk_at dksX1_mean_3 15 rfl rfl)
theorem dX1_mean_87 : decode cX1_mean 87 = .ok (.l2i, 1) := dk_136 (dk_at dksX1_mean_3 16 rfl rfl)
theorem dX1_mean_88 : decode cX1_mean 88 = .ok (.invokevirtual 78, 3) := dk_182 0 78 (dk_at dksX1_mean_3 17 rfl rfl)
theorem dX1_mean_91 : decode cX1_mean 91 = .ok (.ireturn, 1) := dk_172 (dk_at dksX1_mean_3 20 rfl rfl)
abbrev cX1_text : ByteArray := prog_10_method_14_code
def yX1_text : MethodName := ⟨RX1, "text", "(II)I"⟩
def dkwX1_text_2 : List UInt8 := [96, 16, 32, 79, 132, 3, 1, 167, 255, 235, 28, 172]
abbrev dktX1_text_2 : List UInt8 := dkwX1_text_2 ++ []
def dkwX1_text_1 : List UInt8 := [172, 42, 180, 0, 29, 27, 28, 79, 3, 62, 29, 28, 162, 0, 22, 42, 180, 0, 26, 16, 60, 27, 104, 29]
abbrev dktX1_text_1 : List UInt8 := dkwX1_text_1 ++ dktX1_text_2
def dkwX1_text_0 : List UInt8 := [27, 184, 0, 81, 153, 0, 9, 28, 16, 60, 164, 0, 5, 2, 172, 28, 156, 0, 9, 42, 8, 182, 0, 70]
abbrev dktX1_text_0 : List UInt8 := dkwX1_text_0 ++ dktX1_text_1
theorem dksX1_text_0 : cX1_text.data.toList.drop 0 = dktX1_text_0 := by decide +kernel
theorem dksX1_text_1 : cX1_text.data.toList.drop 24 = dktX1_text_1 := dk_seg dksX1_text_0 24 rfl rfl
theorem dksX1_text_2 : cX1_text.data.toList.drop 48 = dktX1_text_2 := dk_seg dksX1_text_1 24 rfl rfl
theorem dX1_text_0 : decode cX1_text 0 = .ok (.iload_n 1, 1) := dk_27 (dk_at dksX1_text_0 0 rfl rfl)
theorem dX1_text_1 : decode cX1_text 1 = .ok (.invokestatic 81, 3) := dk_184 0 81 (dk_at dksX1_text_0 1 rfl rfl)
theorem dX1_text_4 : decode cX1_text 4 = .ok (.ifCond .eq 9, 3) := dk_153 0 9 (dk_at dksX1_text_0 4 rfl rfl)
theorem dX1_text_7 : decode cX1_text 7 = .ok (.iload_n 2, 1) := dk_28 (dk_at dksX1_text_0 7 rfl rfl)
theorem dX1_text_8 : decode cX1_text 8 = .ok (.bipush 60, 2) := dk_16 60 (dk_at dksX1_text_0 8 rfl rfl)
theorem dX1_text_10 : decode cX1_text 10 = .ok (.if_icmp .le 5, 3) := dk_164 0 5 (dk_at dksX1_text_0 10 rfl rfl)
theorem dX1_text_13 : decode cX1_text 13 = .ok (.iconst (-1), 1) := dk_2 (dk_at dksX1_text_0 13 rfl rfl)
theorem dX1_text_14 : decode cX1_text 14 = .ok (.ireturn, 1) := dk_172 (dk_at dksX1_text_0 14 rfl rfl)
theorem dX1_text_15 : decode cX1_text 15 = .ok (.iload_n 2, 1) := dk_28 (dk_at dksX1_text_0 15 rfl rfl)
theorem dX1_text_16 : decode cX1_text 16 = .ok (.ifCond .ge 9, 3) := dk_156 0 9 (dk_at dksX1_text_0 16 rfl rfl)
theorem dX1_text_19 : decode cX1_text 19 = .ok (.aload_n 0, 1) := dk_42 (dk_at dksX1_text_0 19 rfl rfl)
theorem dX1_text_20 : decode cX1_text 20 = .ok (.iconst 5, 1) := dk_8 (dk_at dksX1_text_0 20 rfl rfl)
theorem dX1_text_21 : decode cX1_text 21 = .ok (.invokevirtual 70, 3) := dk_182 0 70 (dk_at dksX1_text_0 21 rfl rfl)
theorem dX1_text_24 : decode cX1_text 24 = .ok (.ireturn, 1) := dk_172 (dk_at dksX1_text_1 0 rfl rfl)
theorem dX1_text_25 : decode cX1_text 25 = .ok (.aload_n 0, 1) := dk_42 (dk_at dksX1_text_1 1 rfl rfl)
theorem dX1_text_26 : decode cX1_text 26 = .ok (.getfield 29, 3) := dk_180 0 29 (dk_at dksX1_text_1 2 rfl rfl)
theorem dX1_text_29 : decode cX1_text 29 = .ok (.iload_n 1, 1) := dk_27 (dk_at dksX1_text_1 5 rfl rfl)
theorem dX1_text_30 : decode cX1_text 30 = .ok (.iload_n 2, 1) := dk_28 (dk_at dksX1_text_1 6 rfl rfl)
theorem dX1_text_31 : decode cX1_text 31 = .ok (.iastore, 1) := dk_79 (dk_at dksX1_text_1 7 rfl rfl)
theorem dX1_text_32 : decode cX1_text 32 = .ok (.iconst 0, 1) := dk_3 (dk_at dksX1_text_1 8 rfl rfl)
theorem dX1_text_33 : decode cX1_text 33 = .ok (.istore_n 3, 1) := dk_62 (dk_at dksX1_text_1 9 rfl rfl)
theorem dX1_text_34 : decode cX1_text 34 = .ok (.iload_n 3, 1) := dk_29 (dk_at dksX1_text_1 10 rfl rfl)
theorem dX1_text_35 : decode cX1_text 35 = .ok (.iload_n 2, 1) := dk_28 (dk_at dksX1_text_1 11 rfl rfl)
theorem dX1_text_36 : decode cX1_text 36 = .ok (.if_icmp .ge 22, 3) := dk_162 0 22 (dk_at dksX1_text_1 12 rfl rfl)
theorem dX1_text_39 : decode cX1_text 39 = .ok (.aload_n 0, 1) := dk_42 (dk_at dksX1_text_1 15 rfl rfl)
theorem dX1_text_40 : decode cX1_text 40 = .ok (.getfield 26, 3) := dk_180 0 26 (dk_at dksX1_text_1 16 rfl rfl)
theorem dX1_text_43 : decode cX1_text 43 = .ok (.bipush 60, 2) := dk_16 60 (dk_at dksX1_text_1 19 rfl rfl)
theorem dX1_text_45 : decode cX1_text 45 = .ok (.iload_n 1, 1) := dk_27 (dk_at dksX1_text_1 21 rfl rfl)
theorem dX1_text_46 : decode cX1_text 46 = .ok (.imul, 1) := dk_104 (dk_at dksX1_text_1 22 rfl rfl)
theorem dX1_text_47 : decode cX1_text 47 = .ok (.iload_n 3, 1) := dk_29 (dk_at dksX1_text_1 23 rfl rfl)
theorem dX1_text_48 : decode cX1_text 48 = .ok (.iadd, 1) := dk_96 (dk_at dksX1_text_2 0 rfl rfl)
theorem dX1_text_49 : decode cX1_text 49 = .ok (.bipush 32, 2) := dk_16 32 (dk_at dksX1_text_2 1 rfl rfl)
theorem dX1_text_51 : decode cX1_text 51 = .ok (.iastore, 1) := dk_79 (dk_at dksX1_text_2 3 rfl rfl)
theorem dX1_text_52 : decode cX1_text 52 = .ok (.iinc 3 1, 3) := dk_132 3 1 (dk_at dksX1_text_2 4 rfl rfl)
theorem dX1_text_55 : decode cX1_text 55 = .ok (.goto (-21), 3) := dk_167 255 235 (dk_at dksX1_text_2 7 rfl rfl)
theorem dX1_text_58 : decode cX1_text 58 = .ok (.iload_n 2, 1) := dk_28 (dk_at dksX1_text_2 10 rfl rfl)
theorem dX1_text_59 : decode cX1_text 59 = .ok (.ireturn, 1) := dk_172 (dk_at dksX1_text_2 11 rfl rfl)
abbrev cX1_isText : ByteArray := prog_10_method_7_code
def yX1_isText : MethodName := ⟨RX1, "isText", "(I)Z"⟩
def dkwX1_isText_0 : List UInt8 := [26, 133, 9, 20, 0, 64, 184, 0, 60, 172]
abbrev dktX1_isText_0 : List UInt8 := dkwX1_isText_0 ++ []
theorem dksX1_isText_0 : cX1_isText.data.toList.drop 0 = dktX1_isText_0 := by decide +kernel
theorem dX1_isText_0 : decode cX1_isText 0 = .ok (.iload_n 0, 1) := dk_26 (dk_at dksX1_isText_0 0 rfl rfl)
theorem dX1_isText_1 : decode cX1_isText 1 = .ok (.i2l, 1) := dk_133 (dk_at dksX1_isText_0 1 rfl rfl)
theorem dX1_isText_2 : decode cX1_isText 2 = .ok (.lconst 0, 1) := dk_9 (dk_at dksX1_isText_0 2 rfl rfl)
theorem dX1_isText_3 : decode cX1_isText 3 = .ok (.ldc2_w 64, 3) := dk_20 0 64 (dk_at dksX1_isText_0 3 rfl rfl)
theorem dX1_isText_6 : decode cX1_isText 6 = .ok (.invokestatic 60, 3) := dk_184 0 60 (dk_at dksX1_isText_0 6 rfl rfl)
theorem dX1_isText_9 : decode cX1_isText 9 = .ok (.ireturn, 1) := dk_172 (dk_at dksX1_isText_0 9 rfl rfl)
abbrev cX1_put : ByteArray := prog_10_method_15_code
def yX1_put : MethodName := ⟨RX1, "put", "(III)I"⟩
def dkwX1_put_4 : List UInt8 := [79, 21, 4, 17, 3, 232, 96, 172]
abbrev dktX1_put_4 : List UInt8 := dkwX1_put_4 ++ []
def dkwX1_put_3 : List UInt8 := [16, 60, 27, 104, 28, 96, 21, 5, 16, 127, 164, 0, 12, 21, 5, 17, 1, 0, 100, 167, 0, 5, 21, 5]
abbrev dktX1_put_3 : List UInt8 := dkwX1_put_3 ++ dktX1_put_4
def dkwX1_put_2 : List UInt8 := [42, 180, 0, 26, 16, 60, 27, 104, 28, 96, 46, 54, 4, 29, 17, 0, 255, 126, 54, 5, 42, 180, 0, 26]
abbrev dktX1_put_2 : List UInt8 := dkwX1_put_2 ++ dktX1_put_3
def dkwX1_put_1 : List UInt8 := [28, 133, 9, 42, 180, 0, 29, 27, 46, 4, 100, 133, 184, 0, 60, 154, 0, 9, 42, 5, 182, 0, 70, 172]
abbrev dktX1_put_1 : List UInt8 := dkwX1_put_1 ++ dktX1_put_2
def dkwX1_put_0 : List UInt8 := [27, 184, 0, 81, 154, 0, 5, 2, 172, 42, 180, 0, 29, 27, 46, 156, 0, 9, 42, 4, 182, 0, 70, 172]
abbrev dktX1_put_0 : List UInt8 := dkwX1_put_0 ++ dktX1_put_1
theorem dksX1_put_0 : cX1_put.data.toList.drop 0 = dktX1_put_0 := by decide +kernel
theorem dksX1_put_1 : cX1_put.data.toList.drop 24 = dktX1_put_1 := dk_seg dksX1_put_0 24 rfl rfl
theorem dksX1_put_2 : cX1_put.data.toList.drop 48 = dktX1_put_2 := dk_seg dksX1_put_1 24 rfl rfl
theorem dksX1_put_3 : cX1_put.data.toList.drop 72 = dktX1_put_3 := dk_seg dksX1_put_2 24 rfl rfl
theorem dksX1_put_4 : cX1_put.data.toList.drop 96 = dktX1_put_4 := dk_seg dksX1_put_3 24 rfl rfl
theorem dX1_put_0 : decode cX1_put 0 = .ok (.iload_n 1, 1) := dk_27 (dk_at dksX1_put_0 0 rfl rfl)
theorem dX1_put_1 : decode cX1_put 1 = .ok (.invokestatic 81, 3) := dk_184 0 81 (dk_at dksX1_put_0 1 rfl rfl)
theorem dX1_put_4 : decode cX1_put 4 = .ok (.ifCond .ne 5, 3) := dk_154 0 5 (dk_at dksX1_put_0 4 rfl rfl)
theorem dX1_put_7 : decode cX1_put 7 = .ok (.iconst (-1), 1) := dk_2 (dk_at dksX1_put_0 7 rfl rfl)
theorem dX1_put_8 : decode cX1_put 8 = .ok (.ireturn, 1) := dk_172 (dk_at dksX1_put_0 8 rfl rfl)
theorem dX1_put_9 : decode cX1_put 9 = .ok (.aload_n 0, 1) := dk_42 (dk_at dksX1_put_0 9 rfl rfl)
theorem dX1_put_10 : decode cX1_put 10 = .ok (.getfield 29, 3) := dk_180 0 29 (dk_at dksX1_put_0 10 rfl rfl)
theorem dX1_put_13 : decode cX1_put 13 = .ok (.iload_n 1, 1) := dk_27 (dk_at dksX1_put_0 13 rfl rfl)
theorem dX1_put_14 : decode cX1_put 14 = .ok (.iaload, 1) := dk_46 (dk_at dksX1_put_0 14 rfl rfl)
theorem dX1_put_15 : decode cX1_put 15 = .ok (.ifCond .ge 9, 3) := dk_156 0 9 (dk_at dksX1_put_0 15 rfl rfl)
theorem dX1_put_18 : decode cX1_put 18 = .ok (.aload_n 0, 1) := dk_42 (dk_at dksX1_put_0 18 rfl rfl)
theorem dX1_put_19 : decode cX1_put 19 = .ok (.iconst 1, 1) := dk_4 (dk_at dksX1_put_0 19 rfl rfl)
theorem dX1_put_20 : decode cX1_put 20 = .ok (.invokevirtual 70, 3) := dk_182 0 70 (dk_at dksX1_put_0 20 rfl rfl)
theorem dX1_put_23 : decode cX1_put 23 = .ok (.ireturn, 1) := dk_172 (dk_at dksX1_put_0 23 rfl rfl)
theorem dX1_put_24 : decode cX1_put 24 = .ok (.iload_n 2, 1) := dk_28 (dk_at dksX1_put_1 0 rfl rfl)
theorem dX1_put_25 : decode cX1_put 25 = .ok (.i2l, 1) := dk_133 (dk_at dksX1_put_1 1 rfl rfl)
theorem dX1_put_26 : decode cX1_put 26 = .ok (.lconst 0, 1) := dk_9 (dk_at dksX1_put_1 2 rfl rfl)
theorem dX1_put_27 : decode cX1_put 27 = .ok (.aload_n 0, 1) := dk_42 (dk_at dksX1_put_1 3 rfl rfl)
theorem dX1_put_28 : decode cX1_put 28 = .ok (.getfield 29, 3) := dk_180 0 29 (dk_at dksX1_put_1 4 rfl rfl)
theorem dX1_put_31 : decode cX1_put 31 = .ok (.iload_n 1, 1) := dk_27 (dk_at dksX1_put_1 7 rfl rfl)
theorem dX1_put_32 : decode cX1_put 32 = .ok (.iaload, 1) := dk_46 (dk_at dksX1_put_1 8 rfl rfl)
theorem dX1_put_33 : decode cX1_put 33 = .ok (.iconst 1, 1) := dk_4 (dk_at dksX1_put_1 9 rfl rfl)
theorem dX1_put_34 : decode cX1_put 34 = .ok (.isub, 1) := dk_100 (dk_at dksX1_put_1 10 rfl rfl)
theorem dX1_put_35 : decode cX1_put 35 = .ok (.i2l, 1) := dk_133 (dk_at dksX1_put_1 11 rfl rfl)
theorem dX1_put_36 : decode cX1_put 36 = .ok (.invokestatic 60, 3) := dk_184 0 60 (dk_at dksX1_put_1 12 rfl rfl)
theorem dX1_put_39 : decode cX1_put 39 = .ok (.ifCond .ne 9, 3) := dk_154 0 9 (dk_at dksX1_put_1 15 rfl rfl)
theorem dX1_put_42 : decode cX1_put 42 = .ok (.aload_n 0, 1) := dk_42 (dk_at dksX1_put_1 18 rfl rfl)
theorem dX1_put_43 : decode cX1_put 43 = .ok (.iconst 2, 1) := dk_5 (dk_at dksX1_put_1 19 rfl rfl)
theorem dX1_put_44 : decode cX1_put 44 = .ok (.invokevirtual 70, 3) := dk_182 0 70 (dk_at dksX1_put_1 20 rfl rfl)
theorem dX1_put_47 : decode cX1_put 47 = .ok (.ireturn, 1) := dk_172 (dk_at dksX1_put_1 23 rfl rfl)
theorem dX1_put_48 : decode cX1_put 48 = .ok (.aload_n 0, 1) := dk_42 (dk_at dksX1_put_2 0 rfl rfl)
theorem dX1_put_49 : decode cX1_put 49 = .ok (.getfield 26, 3) := dk_180 0 26 (dk_at dksX1_put_2 1 rfl rfl)
theorem dX1_put_52 : decode cX1_put 52 = .ok (.bipush 60, 2) := dk_16 60 (dk_at dksX1_put_2 4 rfl rfl)
theorem dX1_put_54 : decode cX1_put 54 = .ok (.iload_n 1, 1) := dk_27 (dk_at dksX1_put_2 6 rfl rfl)
theorem dX1_put_55 : decode cX1_put 55 = .ok (.imul, 1) := dk_104 (dk_at dksX1_put_2 7 rfl rfl)
theorem dX1_put_56 : decode cX1_put 56 = .ok (.iload_n 2, 1) := dk_28 (dk_at dksX1_put_2 8 rfl rfl)
theorem dX1_put_57 : decode cX1_put 57 = .ok (.iadd, 1) := dk_96 (dk_at dksX1_put_2 9 rfl rfl)
theorem dX1_put_58 : decode cX1_put 58 = .ok (.iaload, 1) := dk_46 (dk_at dksX1_put_2 10 rfl rfl)
theorem dX1_put_59 : decode cX1_put 59 = .ok (.istore 4, 2) := dk_54 4 (dk_at dksX1_put_2 11 rfl rfl)
theorem dX1_put_61 : decode cX1_put 61 = .ok (.iload_n 3, 1) := dk_29 (dk_at dksX1_put_2 13 rfl rfl)
theorem dX1_put_62 : decode cX1_put 62 = .ok (.sipush 255, 3) := dk_17 0 255 (dk_at dksX1_put_2 14 rfl rfl)
theorem dX1_put_65 : decode cX1_put 65 = .ok (.iand, 1) := dk_126 (dk_at dksX1_put_2 17 rfl rfl)
theorem dX1_put_66 : decode cX1_put 66 = .ok (.istore 5, 2) := dk_54 5 (dk_at dksX1_put_2 18 rfl rfl)
theorem dX1_put_68 : decode cX1_put 68 = .ok (.aload_n 0, 1) := dk_42 (dk_at dksX1_put_2 20 rfl rfl)
theorem dX1_put_69 : decode cX1_put 69 = .ok (.getfield 26, 3) := dk_180 0 26 (dk_at dksX1_put_2 21 rfl rfl)
theorem dX1_put_72 : decode cX1_put 72 = .ok (.bipush 60, 2) := dk_16 60 (dk_at dksX1_put_3 0 rfl rfl)
theorem dX1_put_74 : decode cX1_put 74 = .ok (.iload_n 1, 1) := dk_27 (dk_at dksX1_put_3 2 rfl rfl)
theorem dX1_put_75 : decode cX1_put 75 = .ok (.imul, 1) := dk_104 (dk_at dksX1_put_3 3 rfl rfl)
theorem dX1_put_76 : decode cX1_put 76 = .ok (.iload_n 2, 1) := dk_28 (dk_at dksX1_put_3 4 rfl rfl)
theorem dX1_put_77 : decode cX1_put 77 = .ok (.iadd, 1) := dk_96 (dk_at dksX1_put_3 5 rfl rfl)
theorem dX1_put_78 : decode cX1_put 78 = .ok (.iload 5, 2) := dk_21 5 (dk_at dksX1_put_3 6 rfl rfl)
theorem dX1_put_80 : decode cX1_put 80 = .ok (.bipush 127, 2) := dk_16 127 (dk_at dksX1_put_3 8 rfl rfl)
theorem dX1_put_82 : decode cX1_put 82 = .ok (.if_icmp .le 12, 3) := dk_164 0 12 (dk_at dksX1_put_3 10 rfl rfl)
theorem dX1_put_85 : decode cX1_put 85 = .ok (.iload 5, 2) := dk_21 5 (dk_at dksX1_put_3 13 rfl rfl)
theorem dX1_put_87 : decode cX1_put 87 = .ok (.sipush 256, 3) := dk_17 1 0 (dk_at dksX1_put_3 15 rfl rfl)
theorem dX1_put_90 : decode cX1_put 90 = .ok (.isub, 1) := dk_100 (dk_at dksX1_put_3 18 rfl rfl)
theorem dX1_put_91 : decode cX1_put 91 = .ok (.goto 5, 3) := dk_167 0 5 (dk_at dksX1_put_3 19 rfl rfl)
theorem dX1_put_94 : decode cX1_put 94 = .ok (.iload 5, 2) := dk_21 5 (dk_at dksX1_put_3 22 rfl rfl)
theorem dX1_put_96 : decode cX1_put 96 = .ok (.iastore, 1) := dk_79 (dk_at dksX1_put_4 0 rfl rfl)
theorem dX1_put_97 : decode cX1_put 97 = .ok (.iload 4, 2) := dk_21 4 (dk_at dksX1_put_4 1 rfl rfl)
theorem dX1_put_99 : decode cX1_put 99 = .ok (.sipush 1000, 3) := dk_17 3 232 (dk_at dksX1_put_4 3 rfl rfl)
theorem dX1_put_102 : decode cX1_put 102 = .ok (.iadd, 1) := dk_96 (dk_at dksX1_put_4 6 rfl rfl)
theorem dX1_put_103 : decode cX1_put 103 = .ok (.ireturn, 1) := dk_172 (dk_at dksX1_put_4 7 rfl rfl)
abbrev cX1_fault : ByteArray := prog_10_method_24_code
def yX1_fault : MethodName := ⟨RX1, "fault", "(I)I"⟩
def dkwX1_fault_1 : List UInt8 := [167, 0, 8, 42, 27, 182, 0, 114, 172]
abbrev dktX1_fault_1 : List UInt8 := dkwX1_fault_1 ++ []
def dkwX1_fault_0 : List UInt8 := [27, 184, 0, 81, 154, 0, 5, 2, 172, 42, 180, 0, 29, 27, 46, 156, 0, 11, 42, 4, 182, 0, 70]
abbrev dktX1_fault_0 : List UInt8 := dkwX1_fault_0 ++ dktX1_fault_1
theorem dksX1_fault_0 : cX1_fault.data.toList.drop 0 = dktX1_fault_0 := by decide +kernel
theorem dksX1_fault_1 : cX1_fault.data.toList.drop 23 = dktX1_fault_1 := dk_seg dksX1_fault_0 23 rfl rfl
theorem dX1_fault_0 : decode cX1_fault 0 = .ok (.iload_n 1, 1) := dk_27 (dk_at dksX1_fault_0 0 rfl rfl)
theorem dX1_fault_1 : decode cX1_fault 1 = .ok (.invokestatic 81, 3) := dk_184 0 81 (dk_at dksX1_fault_0 1 rfl rfl)
theorem dX1_fault_4 : decode cX1_fault 4 = .ok (.ifCond .ne 5, 3) := dk_154 0 5 (dk_at dksX1_fault_0 4 rfl rfl)
theorem dX1_fault_7 : decode cX1_fault 7 = .ok (.iconst (-1), 1) := dk_2 (dk_at dksX1_fault_0 7 rfl rfl)
theorem dX1_fault_8 : decode cX1_fault 8 = .ok (.ireturn, 1) := dk_172 (dk_at dksX1_fault_0 8 rfl rfl)
theorem dX1_fault_9 : decode cX1_fault 9 = .ok (.aload_n 0, 1) := dk_42 (dk_at dksX1_fault_0 9 rfl rfl)
theorem dX1_fault_10 : decode cX1_fault 10 = .ok (.getfield 29, 3) := dk_180 0 29 (dk_at dksX1_fault_0 10 rfl rfl)
theorem dX1_fault_13 : decode cX1_fault 13 = .ok (.iload_n 1, 1) := dk_27 (dk_at dksX1_fault_0 13 rfl rfl)
theorem dX1_fault_14 : decode cX1_fault 14 = .ok (.iaload, 1) := dk_46 (dk_at dksX1_fault_0 14 rfl rfl)
theorem dX1_fault_15 : decode cX1_fault 15 = .ok (.ifCond .ge 11, 3) := dk_156 0 11 (dk_at dksX1_fault_0 15 rfl rfl)
theorem dX1_fault_18 : decode cX1_fault 18 = .ok (.aload_n 0, 1) := dk_42 (dk_at dksX1_fault_0 18 rfl rfl)
theorem dX1_fault_19 : decode cX1_fault 19 = .ok (.iconst 1, 1) := dk_4 (dk_at dksX1_fault_0 19 rfl rfl)
theorem dX1_fault_20 : decode cX1_fault 20 = .ok (.invokevirtual 70, 3) := dk_182 0 70 (dk_at dksX1_fault_0 20 rfl rfl)
theorem dX1_fault_23 : decode cX1_fault 23 = .ok (.goto 8, 3) := dk_167 0 8 (dk_at dksX1_fault_1 0 rfl rfl)
theorem dX1_fault_26 : decode cX1_fault 26 = .ok (.aload_n 0, 1) := dk_42 (dk_at dksX1_fault_1 3 rfl rfl)
theorem dX1_fault_27 : decode cX1_fault 27 = .ok (.iload_n 1, 1) := dk_27 (dk_at dksX1_fault_1 4 rfl rfl)
theorem dX1_fault_28 : decode cX1_fault 28 = .ok (.invokevirtual 114, 3) := dk_182 0 114 (dk_at dksX1_fault_1 5 rfl rfl)
theorem dX1_fault_31 : decode cX1_fault 31 = .ok (.ireturn, 1) := dk_172 (dk_at dksX1_fault_1 8 rfl rfl)
abbrev cX1_faultOf : ByteArray := prog_10_method_23_code
def yX1_faultOf : MethodName := ⟨RX1, "faultOf", "(I)I"⟩
def dkwX1_faultOf_4 : List UInt8 := [42, 180, 0, 42, 4, 46, 158, 0, 8, 16, 247, 167, 0, 7, 42, 180, 0, 84, 172]
abbrev dktX1_faultOf_4 : List UInt8 := dkwX1_faultOf_4 ++ []
def dkwX1_faultOf_3 : List UInt8 := [153, 255, 214, 42, 27, 182, 0, 104, 167, 255, 206, 28, 153, 0, 26, 42, 180, 0, 42, 3, 46, 158, 0, 17]
abbrev dktX1_faultOf_3 : List UInt8 := dkwX1_faultOf_3 ++ dktX1_faultOf_4
def dkwX1_faultOf_2 : List UInt8 := [182, 0, 87, 16, 98, 160, 0, 11, 42, 27, 182, 0, 108, 167, 0, 8, 42, 27, 182, 0, 111, 61, 28]
abbrev dktX1_faultOf_2 : List UInt8 := dkwX1_faultOf_2 ++ dktX1_faultOf_3
def dkwX1_faultOf_1 : List UInt8 := [182, 0, 104, 28, 153, 0, 52, 42, 180, 0, 84, 42, 180, 0, 29, 27, 46, 162, 0, 39, 42, 27]
abbrev dktX1_faultOf_1 : List UInt8 := dkwX1_faultOf_1 ++ dktX1_faultOf_2
def dkwX1_faultOf_0 : List UInt8 := [4, 61, 42, 3, 181, 0, 84, 42, 180, 0, 42, 3, 3, 79, 42, 180, 0, 42, 4, 3, 79, 42, 27]
abbrev dktX1_faultOf_0 : List UInt8 := dkwX1_faultOf_0 ++ dktX1_faultOf_1
theorem dksX1_faultOf_0 : cX1_faultOf.data.toList.drop 0 = dktX1_faultOf_0 := by decide +kernel
theorem dksX1_faultOf_1 : cX1_faultOf.data.toList.drop 23 = dktX1_faultOf_1 := dk_seg dksX1_faultOf_0 23 rfl rfl
theorem dksX1_faultOf_2 : cX1_faultOf.data.toList.drop 45 = dktX1_faultOf_2 := dk_seg dksX1_faultOf_1 22 rfl rfl
theorem dksX1_faultOf_3 : cX1_faultOf.data.toList.drop 68 = dktX1_faultOf_3 := dk_seg dksX1_faultOf_2 23 rfl rfl
theorem dksX1_faultOf_4 : cX1_faultOf.data.toList.drop 92 = dktX1_faultOf_4 := dk_seg dksX1_faultOf_3 24 rfl rfl
theorem dX1_faultOf_0 : decode cX1_faultOf 0 = .ok (.iconst 1, 1) := dk_4 (dk_at dksX1_faultOf_0 0 rfl rfl)
theorem dX1_faultOf_1 : decode cX1_faultOf 1 = .ok (.istore_n 2, 1) := dk_61 (dk_at dksX1_faultOf_0 1 rfl rfl)
theorem dX1_faultOf_2 : decode cX1_faultOf 2 = .ok (.aload_n 0, 1) := dk_42 (dk_at dksX1_faultOf_0 2 rfl rfl)
theorem dX1_faultOf_3 : decode cX1_faultOf 3 = .ok (.iconst 0, 1) := dk_3 (dk_at dksX1_faultOf_0 3 rfl rfl)
theorem dX1_faultOf_4 : decode cX1_faultOf 4 = .ok (.putfield 84, 3) := dk_181 0 84 (dk_at dksX1_faultOf_0 4 rfl rfl)
theorem dX1_faultOf_7 : decode cX1_faultOf 7 = .ok (.aload_n 0, 1) := dk_42 (dk_at dksX1_faultOf_0 7 rfl rfl)
theorem dX1_faultOf_8 : decode cX1_faultOf 8 = .ok (.getfield 42, 3) := dk_180 0 42 (dk_at dksX1_faultOf_0 8 rfl rfl)
theorem dX1_faultOf_11 : decode cX1_faultOf 11 = .ok (.iconst 0, 1) := dk_3 (dk_at dksX1_faultOf_0 11 rfl rfl)
theorem dX1_faultOf_12 : decode cX1_faultOf 12 = .ok (.iconst 0, 1) := dk_3 (dk_at dksX1_faultOf_0 12 rfl rfl)
theorem dX1_faultOf_13 : decode cX1_faultOf 13 = .ok (.iastore, 1) := dk_79 (dk_at dksX1_faultOf_0 13 rfl rfl)
theorem dX1_faultOf_14 : decode cX1_faultOf 14 = .ok (.aload_n 0, 1) := dk_42 (dk_at dksX1_faultOf_0 14 rfl rfl)
theorem dX1_faultOf_15 : decode cX1_faultOf 15 = .ok (.getfield 42, 3) := dk_180 0 42 (dk_at dksX1_faultOf_0 15 rfl rfl)
theorem dX1_faultOf_18 : decode cX1_faultOf 18 = .ok (.iconst 1, 1) := dk_4 (dk_at dksX1_faultOf_0 18 rfl rfl)
theorem dX1_faultOf_19 : decode cX1_faultOf 19 = .ok (.iconst 0, 1) := dk_3 (dk_at dksX1_faultOf_0 19 rfl rfl)
theorem dX1_faultOf_20 : decode cX1_faultOf 20 = .ok (.iastore, 1) := dk_79 (dk_at dksX1_faultOf_0 20 rfl rfl)
theorem dX1_faultOf_21 : decode cX1_faultOf 21 = .ok (.aload_n 0, 1) := dk_42 (dk_at dksX1_faultOf_0 21 rfl rfl)
theorem dX1_faultOf_22 : decode cX1_faultOf 22 = .ok (.iload_n 1, 1) := dk_27 (dk_at dksX1_faultOf_0 22 rfl rfl)
theorem dX1_faultOf_23 : decode cX1_faultOf 23 = .ok (.invokevirtual 104, 3) := dk_182 0 104 (dk_at dksX1_faultOf_1 0 rfl rfl)
theorem dX1_faultOf_26 : decode cX1_faultOf 26 = .ok (.iload_n 2, 1) := dk_28 (dk_at dksX1_faultOf_1 3 rfl rfl)
theorem dX1_faultOf_27 : decode cX1_faultOf 27 = .ok (.ifCond .eq 52, 3) := dk_153 0 52 (dk_at dksX1_faultOf_1 4 rfl rfl)
theorem dX1_faultOf_30 : decode cX1_faultOf 30 = .ok (.aload_n 0, 1) := dk_42 (dk_at dksX1_faultOf_1 7 rfl rfl)
theorem dX1_faultOf_31 : decode cX1_faultOf 31 = .ok (.getfield 84, 3) := dk_180 0 84 (dk_at dksX1_faultOf_1 8 rfl rfl)
theorem dX1_faultOf_34 : decode cX1_faultOf 34 = .ok (.aload_n 0, 1) := dk_42 (dk_at dksX1_faultOf_1 11 rfl rfl)
theorem dX1_faultOf_35 : decode cX1_faultOf 35 = .ok (.getfield 29, 3) := dk_180 0 29 (dk_at dksX1_faultOf_1 12 rfl rfl)
theorem dX1_faultOf_38 : decode cX1_faultOf 38 = .ok (.iload_n 1, 1) := dk_27 (dk_at dksX1_faultOf_1 15 rfl rfl)
theorem dX1_faultOf_39 : decode cX1_faultOf 39 = .ok (.iaload, 1) := dk_46 (dk_at dksX1_faultOf_1 16 rfl rfl)
theorem dX1_faultOf_40 : decode cX1_faultOf 40 = .ok (.if_icmp .ge 39, 3) := dk_162 0 39 (dk_at dksX1_faultOf_1 17 rfl rfl)
theorem dX1_faultOf_43 : decode cX1_faultOf 43 = .ok (.aload_n 0, 1) := dk_42 (dk_at dksX1_faultOf_1 20 rfl rfl)
theorem dX1_faultOf_44 : decode cX1_faultOf 44 = .ok (.iload_n 1, 1) := dk_27 (dk_at dksX1_faultOf_1 21 rfl rfl)
theorem dX1_faultOf_45 : decode cX1_faultOf 45 = .ok (.invokevirtual 87, 3) := dk_182 0 87 (dk_at dksX1_faultOf_2 0 rfl rfl)
theorem dX1_faultOf_48 : decode cX1_faultOf 48 = .ok (.bipush 98, 2) := dk_16 98 (dk_at dksX1_faultOf_2 3 rfl rfl)
theorem dX1_faultOf_50 : decode cX1_faultOf 50 = .ok (.if_icmp .ne 11, 3) := dk_160 0 11 (dk_at dksX1_faultOf_2 5 rfl rfl)
theorem dX1_faultOf_53 : decode cX1_faultOf 53 = .ok (.aload_n 0, 1) := dk_42 (dk_at dksX1_faultOf_2 8 rfl rfl)
theorem dX1_faultOf_54 : decode cX1_faultOf 54 = .ok (.iload_n 1, 1) := dk_27 (dk_at dksX1_faultOf_2 9 rfl rfl)
theorem dX1_faultOf_55 : decode cX1_faultOf 55 = .ok (.invokevirtual 108, 3) := dk_182 0 108 (dk_at dksX1_faultOf_2 10 rfl rfl)
theorem dX1_faultOf_58 : decode cX1_faultOf 58 = .ok (.goto 8, 3) := dk_167 0 8 (dk_at dksX1_faultOf_2 13 rfl rfl)
theorem dX1_faultOf_61 : decode cX1_faultOf 61 = .ok (.aload_n 0, 1) := dk_42 (dk_at dksX1_faultOf_2 16 rfl rfl)
theorem dX1_faultOf_62 : decode cX1_faultOf 62 = .ok (.iload_n 1, 1) := dk_27 (dk_at dksX1_faultOf_2 17 rfl rfl)
theorem dX1_faultOf_63 : decode cX1_faultOf 63 = .ok (.invokevirtual 111, 3) := dk_182 0 111 (dk_at dksX1_faultOf_2 18 rfl rfl)
theorem dX1_faultOf_66 : decode cX1_faultOf 66 = .ok (.istore_n 2, 1) := dk_61 (dk_at dksX1_faultOf_2 21 rfl rfl)
theorem dX1_faultOf_67 : decode cX1_faultOf 67 = .ok (.iload_n 2, 1) := dk_28 (dk_at dksX1_faultOf_2 22 rfl rfl)
theorem dX1_faultOf_68 : decode cX1_faultOf 68 = .ok (.ifCond .eq (-42), 3) := dk_153 255 214 (dk_at dksX1_faultOf_3 0 rfl rfl)
theorem dX1_faultOf_71 : decode cX1_faultOf 71 = .ok (.aload_n 0, 1) := dk_42 (dk_at dksX1_faultOf_3 3 rfl rfl)
theorem dX1_faultOf_72 : decode cX1_faultOf 72 = .ok (.iload_n 1, 1) := dk_27 (dk_at dksX1_faultOf_3 4 rfl rfl)
theorem dX1_faultOf_73 : decode cX1_faultOf 73 = .ok (.invokevirtual 104, 3) := dk_182 0 104 (dk_at dksX1_faultOf_3 5 rfl rfl)
theorem dX1_faultOf_76 : decode cX1_faultOf 76 = .ok (.goto (-50), 3) := dk_167 255 206 (dk_at dksX1_faultOf_3 8 rfl rfl)
theorem dX1_faultOf_79 : decode cX1_faultOf 79 = .ok (.iload_n 2, 1) := dk_28 (dk_at dksX1_faultOf_3 11 rfl rfl)
theorem dX1_faultOf_80 : decode cX1_faultOf 80 = .ok (.ifCond .eq 26, 3) := dk_153 0 26 (dk_at dksX1_faultOf_3 12 rfl rfl)
theorem dX1_faultOf_83 : decode cX1_faultOf 83 = .ok (.aload_n 0, 1) := dk_42 (dk_at dksX1_faultOf_3 15 rfl rfl)
theorem dX1_faultOf_84 : decode cX1_faultOf 84 = .ok (.getfield 42, 3) := dk_180 0 42 (dk_at dksX1_faultOf_3 16 rfl rfl)
theorem dX1_faultOf_87 : decode cX1_faultOf 87 = .ok (.iconst 0, 1) := dk_3 (dk_at dksX1_faultOf_3 19 rfl rfl)
theorem dX1_faultOf_88 : decode cX1_faultOf 88 = .ok (.iaload, 1) := dk_46 (dk_at dksX1_faultOf_3 20 rfl rfl)
theorem dX1_faultOf_89 : decode cX1_faultOf 89 = .ok (.ifCond .le 17, 3) := dk_158 0 17 (dk_at dksX1_faultOf_3 21 rfl rfl)
theorem dX1_faultOf_92 : decode cX1_faultOf 92 = .ok (.aload_n 0, 1) := dk_42 (dk_at dksX1_faultOf_4 0 rfl rfl)
theorem dX1_faultOf_93 : decode cX1_faultOf 93 = .ok (.getfield 42, 3) := dk_180 0 42 (dk_at dksX1_faultOf_4 1 rfl rfl)
theorem dX1_faultOf_96 : decode cX1_faultOf 96 = .ok (.iconst 1, 1) := dk_4 (dk_at dksX1_faultOf_4 4 rfl rfl)
theorem dX1_faultOf_97 : decode cX1_faultOf 97 = .ok (.iaload, 1) := dk_46 (dk_at dksX1_faultOf_4 5 rfl rfl)
theorem dX1_faultOf_98 : decode cX1_faultOf 98 = .ok (.ifCond .le 8, 3) := dk_158 0 8 (dk_at dksX1_faultOf_4 6 rfl rfl)
theorem dX1_faultOf_101 : decode cX1_faultOf 101 = .ok (.bipush (-9), 2) := dk_16 247 (dk_at dksX1_faultOf_4 9 rfl rfl)
theorem dX1_faultOf_103 : decode cX1_faultOf 103 = .ok (.goto 7, 3) := dk_167 0 7 (dk_at dksX1_faultOf_4 11 rfl rfl)
theorem dX1_faultOf_106 : decode cX1_faultOf 106 = .ok (.aload_n 0, 1) := dk_42 (dk_at dksX1_faultOf_4 14 rfl rfl)
theorem dX1_faultOf_107 : decode cX1_faultOf 107 = .ok (.getfield 84, 3) := dk_180 0 84 (dk_at dksX1_faultOf_4 15 rfl rfl)
theorem dX1_faultOf_110 : decode cX1_faultOf 110 = .ok (.ireturn, 1) := dk_172 (dk_at dksX1_faultOf_4 18 rfl rfl)
abbrev cX1_skip : ByteArray := prog_10_method_17_code
def yX1_skip : MethodName := ⟨RX1, "skip", "(I)V"⟩
def dkwX1_skip_0 : List UInt8 := [42, 27, 182, 0, 87, 16, 32, 160, 0, 16, 42, 89, 180, 0, 84, 4, 96, 181, 0, 84, 167, 255, 236, 177]
abbrev dktX1_skip_0 : List UInt8 := dkwX1_skip_0 ++ []
theorem dksX1_skip_0 : cX1_skip.data.toList.drop 0 = dktX1_skip_0 := by decide +kernel
theorem dX1_skip_0 : decode cX1_skip 0 = .ok (.aload_n 0, 1) := dk_42 (dk_at dksX1_skip_0 0 rfl rfl)
theorem dX1_skip_1 : decode cX1_skip 1 = .ok (.iload_n 1, 1) := dk_27 (dk_at dksX1_skip_0 1 rfl rfl)
theorem dX1_skip_2 : decode cX1_skip 2 = .ok (.invokevirtual 87, 3) := dk_182 0 87 (dk_at dksX1_skip_0 2 rfl rfl)
theorem dX1_skip_5 : decode cX1_skip 5 = .ok (.bipush 32, 2) := dk_16 32 (dk_at dksX1_skip_0 5 rfl rfl)
theorem dX1_skip_7 : decode cX1_skip 7 = .ok (.if_icmp .ne 16, 3) := dk_160 0 16 (dk_at dksX1_skip_0 7 rfl rfl)
theorem dX1_skip_10 : decode cX1_skip 10 = .ok (.aload_n 0, 1) := dk_42 (dk_at dksX1_skip_0 10 rfl rfl)
theorem dX1_skip_11 : decode cX1_skip 11 = .ok (.dup, 1) := dk_89 (dk_at dksX1_skip_0 11 rfl rfl)
theorem dX1_skip_12 : decode cX1_skip 12 = .ok (.getfield 84, 3) := dk_180 0 84 (dk_at dksX1_skip_0 12 rfl rfl)
theorem dX1_skip_15 : decode cX1_skip 15 = .ok (.iconst 1, 1) := dk_4 (dk_at dksX1_skip_0 15 rfl rfl)
theorem dX1_skip_16 : decode cX1_skip 16 = .ok (.iadd, 1) := dk_96 (dk_at dksX1_skip_0 16 rfl rfl)
theorem dX1_skip_17 : decode cX1_skip 17 = .ok (.putfield 84, 3) := dk_181 0 84 (dk_at dksX1_skip_0 17 rfl rfl)
theorem dX1_skip_20 : decode cX1_skip 20 = .ok (.goto (-20), 3) := dk_167 255 236 (dk_at dksX1_skip_0 20 rfl rfl)
theorem dX1_skip_23 : decode cX1_skip 23 = .ok (.return_, 1) := dk_177 (dk_at dksX1_skip_0 23 rfl rfl)
abbrev cX1_here : ByteArray := prog_10_method_16_code
def yX1_here : MethodName := ⟨RX1, "here", "(I)I"⟩
def dkwX1_here_1 : List UInt8 := [180, 0, 84, 96, 46, 167, 0, 5, 16, 247, 172]
abbrev dktX1_here_1 : List UInt8 := dkwX1_here_1 ++ []
def dkwX1_here_0 : List UInt8 := [42, 180, 0, 84, 42, 180, 0, 29, 27, 46, 162, 0, 20, 42, 180, 0, 26, 16, 60, 27, 104, 42]
abbrev dktX1_here_0 : List UInt8 := dkwX1_here_0 ++ dktX1_here_1
theorem dksX1_here_0 : cX1_here.data.toList.drop 0 = dktX1_here_0 := by decide +kernel
theorem dksX1_here_1 : cX1_here.data.toList.drop 22 = dktX1_here_1 := dk_seg dksX1_here_0 22 rfl rfl
theorem dX1_here_0 : decode cX1_here 0 = .ok (.aload_n 0, 1) := dk_42 (dk_at dksX1_here_0 0 rfl rfl)
theorem dX1_here_1 : decode cX1_here 1 = .ok (.getfield 84, 3) := dk_180 0 84 (dk_at dksX1_here_0 1 rfl rfl)
theorem dX1_here_4 : decode cX1_here 4 = .ok (.aload_n 0, 1) := dk_42 (dk_at dksX1_here_0 4 rfl rfl)
theorem dX1_here_5 : decode cX1_here 5 = .ok (.getfield 29, 3) := dk_180 0 29 (dk_at dksX1_here_0 5 rfl rfl)
theorem dX1_here_8 : decode cX1_here 8 = .ok (.iload_n 1, 1) := dk_27 (dk_at dksX1_here_0 8 rfl rfl)
theorem dX1_here_9 : decode cX1_here 9 = .ok (.iaload, 1) := dk_46 (dk_at dksX1_here_0 9 rfl rfl)
theorem dX1_here_10 : decode cX1_here 10 = .ok (.if_icmp .ge 20, 3) := dk_162 0 20 (dk_at dksX1_here_0 10 rfl rfl)
theorem dX1_here_13 : decode cX1_here 13 = .ok (.aload_n 0, 1) := dk_42 (dk_at dksX1_here_0 13 rfl rfl)
theorem dX1_here_14 : decode cX1_here 14 = .ok (.getfield 26, 3) := dk_180 0 26 (dk_at dksX1_here_0 14 rfl rfl)
theorem dX1_here_17 : decode cX1_here 17 = .ok (.bipush 60, 2) := dk_16 60 (dk_at dksX1_here_0 17 rfl rfl)
theorem dX1_here_19 : decode cX1_here 19 = .ok (.iload_n 1, 1) := dk_27 (dk_at dksX1_here_0 19 rfl rfl)
theorem dX1_here_20 : decode cX1_here 20 = .ok (.imul, 1) := dk_104 (dk_at dksX1_here_0 20 rfl rfl)
theorem dX1_here_21 : decode cX1_here 21 = .ok (.aload_n 0, 1) := dk_42 (dk_at dksX1_here_0 21 rfl rfl)
theorem dX1_here_22 : decode cX1_here 22 = .ok (.getfield 84, 3) := dk_180 0 84 (dk_at dksX1_here_1 0 rfl rfl)
theorem dX1_here_25 : decode cX1_here 25 = .ok (.iadd, 1) := dk_96 (dk_at dksX1_here_1 3 rfl rfl)
theorem dX1_here_26 : decode cX1_here 26 = .ok (.iaload, 1) := dk_46 (dk_at dksX1_here_1 4 rfl rfl)
theorem dX1_here_27 : decode cX1_here 27 = .ok (.goto 5, 3) := dk_167 0 5 (dk_at dksX1_here_1 5 rfl rfl)
theorem dX1_here_30 : decode cX1_here 30 = .ok (.bipush (-9), 2) := dk_16 247 (dk_at dksX1_here_1 8 rfl rfl)
theorem dX1_here_32 : decode cX1_here 32 = .ok (.ireturn, 1) := dk_172 (dk_at dksX1_here_1 10 rfl rfl)
abbrev cX1_takesBed : ByteArray := prog_10_method_22_code
def yX1_takesBed : MethodName := ⟨RX1, "takesBed", "(I)Z"⟩
def dkwX1_takesBed_2 : List UInt8 := [182, 0, 100, 154, 0, 5, 3, 172, 42, 180, 0, 42, 4, 92, 46, 4, 96, 79, 4, 172]
abbrev dktX1_takesBed_2 : List UInt8 := dkwX1_takesBed_2 ++ []
def dkwX1_takesBed_1 : List UInt8 := [181, 0, 84, 42, 27, 16, 17, 28, 96, 5, 182, 0, 100, 153, 0, 16, 42, 27, 16, 23, 28, 96, 4]
abbrev dktX1_takesBed_1 : List UInt8 := dkwX1_takesBed_1 ++ dktX1_takesBed_2
def dkwX1_takesBed_0 : List UInt8 := [42, 180, 0, 42, 4, 46, 61, 28, 16, 6, 160, 0, 5, 3, 172, 42, 89, 180, 0, 84, 4, 96]
abbrev dktX1_takesBed_0 : List UInt8 := dkwX1_takesBed_0 ++ dktX1_takesBed_1
theorem dksX1_takesBed_0 : cX1_takesBed.data.toList.drop 0 = dktX1_takesBed_0 := by decide +kernel
theorem dksX1_takesBed_1 : cX1_takesBed.data.toList.drop 22 = dktX1_takesBed_1 := dk_seg dksX1_takesBed_0 22 rfl rfl
theorem dksX1_takesBed_2 : cX1_takesBed.data.toList.drop 45 = dktX1_takesBed_2 := dk_seg dksX1_takesBed_1 23 rfl rfl
theorem dX1_takesBed_0 : decode cX1_takesBed 0 = .ok (.aload_n 0, 1) := dk_42 (dk_at dksX1_takesBed_0 0 rfl rfl)
theorem dX1_takesBed_1 : decode cX1_takesBed 1 = .ok (.getfield 42, 3) := dk_180 0 42 (dk_at dksX1_takesBed_0 1 rfl rfl)
theorem dX1_takesBed_4 : decode cX1_takesBed 4 = .ok (.iconst 1, 1) := dk_4 (dk_at dksX1_takesBed_0 4 rfl rfl)
theorem dX1_takesBed_5 : decode cX1_takesBed 5 = .ok (.iaload, 1) := dk_46 (dk_at dksX1_takesBed_0 5 rfl rfl)
theorem dX1_takesBed_6 : decode cX1_takesBed 6 = .ok (.istore_n 2, 1) := dk_61 (dk_at dksX1_takesBed_0 6 rfl rfl)
theorem dX1_takesBed_7 : decode cX1_takesBed 7 = .ok (.iload_n 2, 1) := dk_28 (dk_at dksX1_takesBed_0 7 rfl rfl)
theorem dX1_takesBed_8 : decode cX1_takesBed 8 = .ok (.bipush 6, 2) := dk_16 6 (dk_at dksX1_takesBed_0 8 rfl rfl)
theorem dX1_takesBed_10 : decode cX1_takesBed 10 = .ok (.if_icmp .ne 5, 3) := dk_160 0 5 (dk_at dksX1_takesBed_0 10 rfl rfl)
theorem dX1_takesBed_13 : decode cX1_takesBed 13 = .ok (.iconst 0, 1) := dk_3 (dk_at dksX1_takesBed_0 13 rfl rfl)
theorem dX1_takesBed_14 : decode cX1_takesBed 14 = .ok (.ireturn, 1) := dk_172 (dk_at dksX1_takesBed_0 14 rfl rfl)
theorem dX1_takesBed_15 : decode cX1_takesBed 15 = .ok (.aload_n 0, 1) := dk_42 (dk_at dksX1_takesBed_0 15 rfl rfl)
theorem dX1_takesBed_16 : decode cX1_takesBed 16 = .ok (.dup, 1) := dk_89 (dk_at dksX1_takesBed_0 16 rfl rfl)
theorem dX1_takesBed_17 : decode cX1_takesBed 17 = .ok (.getfield 84, 3) := dk_180 0 84 (dk_at dksX1_takesBed_0 17 rfl rfl)
theorem dX1_takesBed_20 : decode cX1_takesBed 20 = .ok (.iconst 1, 1) := dk_4 (dk_at dksX1_takesBed_0 20 rfl rfl)
theorem dX1_takesBed_21 : decode cX1_takesBed 21 = .ok (.iadd, 1) := dk_96 (dk_at dksX1_takesBed_0 21 rfl rfl)
theorem dX1_takesBed_22 : decode cX1_takesBed 22 = .ok (.putfield 84, 3) := dk_181 0 84 (dk_at dksX1_takesBed_1 0 rfl rfl)
theorem dX1_takesBed_25 : decode cX1_takesBed 25 = .ok (.aload_n 0, 1) := dk_42 (dk_at dksX1_takesBed_1 3 rfl rfl)
theorem dX1_takesBed_26 : decode cX1_takesBed 26 = .ok (.iload_n 1, 1) := dk_27 (dk_at dksX1_takesBed_1 4 rfl rfl)
theorem dX1_takesBed_27 : decode cX1_takesBed 27 = .ok (.bipush 17, 2) := dk_16 17 (dk_at dksX1_takesBed_1 5 rfl rfl)
theorem dX1_takesBed_29 : decode cX1_takesBed 29 = .ok (.iload_n 2, 1) := dk_28 (dk_at dksX1_takesBed_1 7 rfl rfl)
theorem dX1_takesBed_30 : decode cX1_takesBed 30 = .ok (.iadd, 1) := dk_96 (dk_at dksX1_takesBed_1 8 rfl rfl)
theorem dX1_takesBed_31 : decode cX1_takesBed 31 = .ok (.iconst 2, 1) := dk_5 (dk_at dksX1_takesBed_1 9 rfl rfl)
theorem dX1_takesBed_32 : decode cX1_takesBed 32 = .ok (.invokevirtual 100, 3) := dk_182 0 100 (dk_at dksX1_takesBed_1 10 rfl rfl)
theorem dX1_takesBed_35 : decode cX1_takesBed 35 = .ok (.ifCond .eq 16, 3) := dk_153 0 16 (dk_at dksX1_takesBed_1 13 rfl rfl)
theorem dX1_takesBed_38 : decode cX1_takesBed 38 = .ok (.aload_n 0, 1) := dk_42 (dk_at dksX1_takesBed_1 16 rfl rfl)
theorem dX1_takesBed_39 : decode cX1_takesBed 39 = .ok (.iload_n 1, 1) := dk_27 (dk_at dksX1_takesBed_1 17 rfl rfl)
theorem dX1_takesBed_40 : decode cX1_takesBed 40 = .ok (.bipush 23, 2) := dk_16 23 (dk_at dksX1_takesBed_1 18 rfl rfl)
theorem dX1_takesBed_42 : decode cX1_takesBed 42 = .ok (.iload_n 2, 1) := dk_28 (dk_at dksX1_takesBed_1 20 rfl rfl)
theorem dX1_takesBed_43 : decode cX1_takesBed 43 = .ok (.iadd, 1) := dk_96 (dk_at dksX1_takesBed_1 21 rfl rfl)
theorem dX1_takesBed_44 : decode cX1_takesBed 44 = .ok (.iconst 1, 1) := dk_4 (dk_at dksX1_takesBed_1 22 rfl rfl)
theorem dX1_takesBed_45 : decode cX1_takesBed 45 = .ok (.invokevirtual 100, 3) := dk_182 0 100 (dk_at dksX1_takesBed_2 0 rfl rfl)
theorem dX1_takesBed_48 : decode cX1_takesBed 48 = .ok (.ifCond .ne 5, 3) := dk_154 0 5 (dk_at dksX1_takesBed_2 3 rfl rfl)
theorem dX1_takesBed_51 : decode cX1_takesBed 51 = .ok (.iconst 0, 1) := dk_3 (dk_at dksX1_takesBed_2 6 rfl rfl)
theorem dX1_takesBed_52 : decode cX1_takesBed 52 = .ok (.ireturn, 1) := dk_172 (dk_at dksX1_takesBed_2 7 rfl rfl)
theorem dX1_takesBed_53 : decode cX1_takesBed 53 = .ok (.aload_n 0, 1) := dk_42 (dk_at dksX1_takesBed_2 8 rfl rfl)
theorem dX1_takesBed_54 : decode cX1_takesBed 54 = .ok (.getfield 42, 3) := dk_180 0 42 (dk_at dksX1_takesBed_2 9 rfl rfl)
theorem dX1_takesBed_57 : decode cX1_takesBed 57 = .ok (.iconst 1, 1) := dk_4 (dk_at dksX1_takesBed_2 12 rfl rfl)
theorem dX1_takesBed_58 : decode cX1_takesBed 58 = .ok (.dup2, 1) := dk_92 (dk_at dksX1_takesBed_2 13 rfl rfl)
theorem dX1_takesBed_59 : decode cX1_takesBed 59 = .ok (.iaload, 1) := dk_46 (dk_at dksX1_takesBed_2 14 rfl rfl)
theorem dX1_takesBed_60 : decode cX1_takesBed 60 = .ok (.iconst 1, 1) := dk_4 (dk_at dksX1_takesBed_2 15 rfl rfl)
theorem dX1_takesBed_61 : decode cX1_takesBed 61 = .ok (.iadd, 1) := dk_96 (dk_at dksX1_takesBed_2 16 rfl rfl)
theorem dX1_takesBed_62 : decode cX1_takesBed 62 = .ok (.iastore, 1) := dk_79 (dk_at dksX1_takesBed_2 17 rfl rfl)
theorem dX1_takesBed_63 : decode cX1_takesBed 63 = .ok (.iconst 1, 1) := dk_4 (dk_at dksX1_takesBed_2 18 rfl rfl)
theorem dX1_takesBed_64 : decode cX1_takesBed 64 = .ok (.ireturn, 1) := dk_172 (dk_at dksX1_takesBed_2 19 rfl rfl)
abbrev cX1_takes : ByteArray := prog_10_method_19_code
def yX1_takes : MethodName := ⟨RX1, "takes", "(III)Z"⟩
def dkwX1_takes_2 : List UInt8 := [100, 79, 42, 89, 180, 0, 84, 4, 96, 181, 0, 84, 132, 4, 1, 167, 255, 203, 4, 172]
abbrev dktX1_takes_2 : List UInt8 := dkwX1_takes_2 ++ []
def dkwX1_takes_1 : List UInt8 := [3, 172, 42, 180, 0, 42, 28, 16, 10, 42, 180, 0, 42, 28, 46, 104, 42, 27, 182, 0, 87, 96, 16, 48]
abbrev dktX1_takes_1 : List UInt8 := dkwX1_takes_1 ++ dktX1_takes_2
def dkwX1_takes_0 : List UInt8 := [42, 180, 0, 42, 28, 3, 79, 3, 54, 4, 21, 4, 29, 162, 0, 53, 42, 27, 182, 0, 94, 154, 0, 5]
abbrev dktX1_takes_0 : List UInt8 := dkwX1_takes_0 ++ dktX1_takes_1
theorem dksX1_takes_0 : cX1_takes.data.toList.drop 0 = dktX1_takes_0 := by decide +kernel
theorem dksX1_takes_1 : cX1_takes.data.toList.drop 24 = dktX1_takes_1 := dk_seg dksX1_takes_0 24 rfl rfl
theorem dksX1_takes_2 : cX1_takes.data.toList.drop 48 = dktX1_takes_2 := dk_seg dksX1_takes_1 24 rfl rfl
theorem dX1_takes_0 : decode cX1_takes 0 = .ok (.aload_n 0, 1) := dk_42 (dk_at dksX1_takes_0 0 rfl rfl)
theorem dX1_takes_1 : decode cX1_takes 1 = .ok (.getfield 42, 3) := dk_180 0 42 (dk_at dksX1_takes_0 1 rfl rfl)
theorem dX1_takes_4 : decode cX1_takes 4 = .ok (.iload_n 2, 1) := dk_28 (dk_at dksX1_takes_0 4 rfl rfl)
theorem dX1_takes_5 : decode cX1_takes 5 = .ok (.iconst 0, 1) := dk_3 (dk_at dksX1_takes_0 5 rfl rfl)
theorem dX1_takes_6 : decode cX1_takes 6 = .ok (.iastore, 1) := dk_79 (dk_at dksX1_takes_0 6 rfl rfl)
theorem dX1_takes_7 : decode cX1_takes 7 = .ok (.iconst 0, 1) := dk_3 (dk_at dksX1_takes_0 7 rfl rfl)
theorem dX1_takes_8 : decode cX1_takes 8 = .ok (.istore 4, 2) := dk_54 4 (dk_at dksX1_takes_0 8 rfl rfl)
theorem dX1_takes_10 : decode cX1_takes 10 = .ok (.iload 4, 2) := dk_21 4 (dk_at dksX1_takes_0 10 rfl rfl)
theorem dX1_takes_12 : decode cX1_takes 12 = .ok (.iload_n 3, 1) := dk_29 (dk_at dksX1_takes_0 12 rfl rfl)
theorem dX1_takes_13 : decode cX1_takes 13 = .ok (.if_icmp .ge 53, 3) := dk_162 0 53 (dk_at dksX1_takes_0 13 rfl rfl)
theorem dX1_takes_16 : decode cX1_takes 16 = .ok (.aload_n 0, 1) := dk_42 (dk_at dksX1_takes_0 16 rfl rfl)
theorem dX1_takes_17 : decode cX1_takes 17 = .ok (.iload_n 1, 1) := dk_27 (dk_at dksX1_takes_0 17 rfl rfl)
theorem dX1_takes_18 : decode cX1_takes 18 = .ok (.invokevirtual 94, 3) := dk_182 0 94 (dk_at dksX1_takes_0 18 rfl rfl)
theorem dX1_takes_21 : decode cX1_takes 21 = .ok (.ifCond .ne 5, 3) := dk_154 0 5 (dk_at dksX1_takes_0 21 rfl rfl)
theorem dX1_takes_24 : decode cX1_takes 24 = .ok (.iconst 0, 1) := dk_3 (dk_at dksX1_takes_1 0 rfl rfl)
theorem dX1_takes_25 : decode cX1_takes 25 = .ok (.ireturn, 1) := dk_172 (dk_at dksX1_takes_1 1 rfl rfl)
theorem dX1_takes_26 : decode cX1_takes 26 = .ok (.aload_n 0, 1) := dk_42 (dk_at dksX1_takes_1 2 rfl rfl)
theorem dX1_takes_27 : decode cX1_takes 27 = .ok (.getfield 42, 3) := dk_180 0 42 (dk_at dksX1_takes_1 3 rfl rfl)
theorem dX1_takes_30 : decode cX1_takes 30 = .ok (.iload_n 2, 1) := dk_28 (dk_at dksX1_takes_1 6 rfl rfl)
theorem dX1_takes_31 : decode cX1_takes 31 = .ok (.bipush 10, 2) := dk_16 10 (dk_at dksX1_takes_1 7 rfl rfl)
theorem dX1_takes_33 : decode cX1_takes 33 = .ok (.aload_n 0, 1) := dk_42 (dk_at dksX1_takes_1 9 rfl rfl)
theorem dX1_takes_34 : decode cX1_takes 34 = .ok (.getfield 42, 3) := dk_180 0 42 (dk_at dksX1_takes_1 10 rfl rfl)
theorem dX1_takes_37 : decode cX1_takes 37 = .ok (.iload_n 2, 1) := dk_28 (dk_at dksX1_takes_1 13 rfl rfl)
theorem dX1_takes_38 : decode cX1_takes 38 = .ok (.iaload, 1) := dk_46 (dk_at dksX1_takes_1 14 rfl rfl)
theorem dX1_takes_39 : decode cX1_takes 39 = .ok (.imul, 1) := dk_104 (dk_at dksX1_takes_1 15 rfl rfl)
theorem dX1_takes_40 : decode cX1_takes 40 = .ok (.aload_n 0, 1) := dk_42 (dk_at dksX1_takes_1 16 rfl rfl)
theorem dX1_takes_41 : decode cX1_takes 41 = .ok (.iload_n 1, 1) := dk_27 (dk_at dksX1_takes_1 17 rfl rfl)
theorem dX1_takes_42 : decode cX1_takes 42 = .ok (.invokevirtual 87, 3) := dk_182 0 87 (dk_at dksX1_takes_1 18 rfl rfl)
theorem dX1_takes_45 : decode cX1_takes 45 = .ok (.iadd, 1) := dk_96 (dk_at dksX1_takes_1 21 rfl rfl)
theorem dX1_takes_46 : decode cX1_takes 46 = .ok (.bipush 48, 2) := dk_16 48 (dk_at dksX1_takes_1 22 rfl rfl)
theorem dX1_takes_48 : decode cX1_takes 48 = .ok (.isub, 1) := dk_100 (dk_at dksX1_takes_2 0 rfl rfl)
theorem dX1_takes_49 : decode cX1_takes 49 = .ok (.iastore, 1) := dk_79 (dk_at dksX1_takes_2 1 rfl rfl)
theorem dX1_takes_50 : decode cX1_takes 50 = .ok (.aload_n 0, 1) := dk_42 (dk_at dksX1_takes_2 2 rfl rfl)
theorem dX1_takes_51 : decode cX1_takes 51 = .ok (.dup, 1) := dk_89 (dk_at dksX1_takes_2 3 rfl rfl)
theorem dX1_takes_52 : decode cX1_takes 52 = .ok (.getfield 84, 3) := dk_180 0 84 (dk_at dksX1_takes_2 4 rfl rfl)
theorem dX1_takes_55 : decode cX1_takes 55 = .ok (.iconst 1, 1) := dk_4 (dk_at dksX1_takes_2 7 rfl rfl)
theorem dX1_takes_56 : decode cX1_takes 56 = .ok (.iadd, 1) := dk_96 (dk_at dksX1_takes_2 8 rfl rfl)
theorem dX1_takes_57 : decode cX1_takes 57 = .ok (.putfield 84, 3) := dk_181 0 84 (dk_at dksX1_takes_2 9 rfl rfl)
theorem dX1_takes_60 : decode cX1_takes 60 = .ok (.iinc 4 1, 3) := dk_132 4 1 (dk_at dksX1_takes_2 12 rfl rfl)
theorem dX1_takes_63 : decode cX1_takes 63 = .ok (.goto (-53), 3) := dk_167 255 203 (dk_at dksX1_takes_2 15 rfl rfl)
theorem dX1_takes_66 : decode cX1_takes 66 = .ok (.iconst 1, 1) := dk_4 (dk_at dksX1_takes_2 18 rfl rfl)
theorem dX1_takes_67 : decode cX1_takes 67 = .ok (.ireturn, 1) := dk_172 (dk_at dksX1_takes_2 19 rfl rfl)
abbrev cX1_isFigure : ByteArray := prog_10_method_18_code
def yX1_isFigure : MethodName := ⟨RX1, "isFigure", "(I)Z"⟩
def dkwX1_isFigure_0 : List UInt8 := [42, 27, 182, 0, 87, 133, 20, 0, 90, 20, 0, 92, 184, 0, 60, 172]
abbrev dktX1_isFigure_0 : List UInt8 := dkwX1_isFigure_0 ++ []
theorem dksX1_isFigure_0 : cX1_isFigure.data.toList.drop 0 = dktX1_isFigure_0 := by decide +kernel
theorem dX1_isFigure_0 : decode cX1_isFigure 0 = .ok (.aload_n 0, 1) := dk_42 (dk_at dksX1_isFigure_0 0 rfl rfl)
theorem dX1_isFigure_1 : decode cX1_isFigure 1 = .ok (.iload_n 1, 1) := dk_27 (dk_at dksX1_isFigure_0 1 rfl rfl)
theorem dX1_isFigure_2 : decode cX1_isFigure 2 = .ok (.invokevirtual 87, 3) := dk_182 0 87 (dk_at dksX1_isFigure_0 2 rfl rfl)
theorem dX1_isFigure_5 : decode cX1_isFigure 5 = .ok (.i2l, 1) := dk_133 (dk_at dksX1_isFigure_0 5 rfl rfl)
theorem dX1_isFigure_6 : decode cX1_isFigure 6 = .ok (.ldc2_w 90, 3) := dk_20 0 90 (dk_at dksX1_isFigure_0 6 rfl rfl)
theorem dX1_isFigure_9 : decode cX1_isFigure 9 = .ok (.ldc2_w 92, 3) := dk_20 0 92 (dk_at dksX1_isFigure_0 9 rfl rfl)
theorem dX1_isFigure_12 : decode cX1_isFigure 12 = .ok (.invokestatic 60, 3) := dk_184 0 60 (dk_at dksX1_isFigure_0 12 rfl rfl)
theorem dX1_isFigure_15 : decode cX1_isFigure 15 = .ok (.ireturn, 1) := dk_172 (dk_at dksX1_isFigure_0 15 rfl rfl)
abbrev cX1_takesRing : ByteArray := prog_10_method_21_code
def yX1_takesRing : MethodName := ⟨RX1, "takesRing", "(I)Z"⟩
def dkwX1_takesRing_3 : List UInt8 := [154, 0, 5, 3, 172, 42, 180, 0, 42, 3, 92, 46, 4, 96, 79, 4, 172]
abbrev dktX1_takesRing_3 : List UInt8 := dkwX1_takesRing_3 ++ []
def dkwX1_takesRing_2 : List UInt8 := [42, 27, 16, 7, 28, 96, 5, 182, 0, 100, 153, 0, 16, 42, 27, 16, 12, 28, 96, 4, 182, 0, 100]
abbrev dktX1_takesRing_2 : List UInt8 := dkwX1_takesRing_2 ++ dktX1_takesRing_3
def dkwX1_takesRing_1 : List UInt8 := [160, 0, 5, 3, 172, 42, 180, 0, 42, 5, 28, 96, 29, 79, 42, 89, 180, 0, 84, 4, 96, 181, 0, 84]
abbrev dktX1_takesRing_1 : List UInt8 := dkwX1_takesRing_1 ++ dktX1_takesRing_2
def dkwX1_takesRing_0 : List UInt8 := [42, 180, 0, 42, 3, 46, 61, 42, 27, 182, 0, 87, 184, 0, 97, 62, 28, 8, 159, 0, 9, 29, 16, 247]
abbrev dktX1_takesRing_0 : List UInt8 := dkwX1_takesRing_0 ++ dktX1_takesRing_1
theorem dksX1_takesRing_0 : cX1_takesRing.data.toList.drop 0 = dktX1_takesRing_0 := by decide +kernel
theorem dksX1_takesRing_1 : cX1_takesRing.data.toList.drop 24 = dktX1_takesRing_1 := dk_seg dksX1_takesRing_0 24 rfl rfl
theorem dksX1_takesRing_2 : cX1_takesRing.data.toList.drop 48 = dktX1_takesRing_2 := dk_seg dksX1_takesRing_1 24 rfl rfl
theorem dksX1_takesRing_3 : cX1_takesRing.data.toList.drop 71 = dktX1_takesRing_3 := dk_seg dksX1_takesRing_2 23 rfl rfl
theorem dX1_takesRing_0 : decode cX1_takesRing 0 = .ok (.aload_n 0, 1) := dk_42 (dk_at dksX1_takesRing_0 0 rfl rfl)
theorem dX1_takesRing_1 : decode cX1_takesRing 1 = .ok (.getfield 42, 3) := dk_180 0 42 (dk_at dksX1_takesRing_0 1 rfl rfl)
theorem dX1_takesRing_4 : decode cX1_takesRing 4 = .ok (.iconst 0, 1) := dk_3 (dk_at dksX1_takesRing_0 4 rfl rfl)
theorem dX1_takesRing_5 : decode cX1_takesRing 5 = .ok (.iaload, 1) := dk_46 (dk_at dksX1_takesRing_0 5 rfl rfl)
theorem dX1_takesRing_6 : decode cX1_takesRing 6 = .ok (.istore_n 2, 1) := dk_61 (dk_at dksX1_takesRing_0 6 rfl rfl)
theorem dX1_takesRing_7 : decode cX1_takesRing 7 = .ok (.aload_n 0, 1) := dk_42 (dk_at dksX1_takesRing_0 7 rfl rfl)
theorem dX1_takesRing_8 : decode cX1_takesRing 8 = .ok (.iload_n 1, 1) := dk_27 (dk_at dksX1_takesRing_0 8 rfl rfl)
theorem dX1_takesRing_9 : decode cX1_takesRing 9 = .ok (.invokevirtual 87, 3) := dk_182 0 87 (dk_at dksX1_takesRing_0 9 rfl rfl)
theorem dX1_takesRing_12 : decode cX1_takesRing 12 = .ok (.invokestatic 97, 3) := dk_184 0 97 (dk_at dksX1_takesRing_0 12 rfl rfl)
theorem dX1_takesRing_15 : decode cX1_takesRing 15 = .ok (.istore_n 3, 1) := dk_62 (dk_at dksX1_takesRing_0 15 rfl rfl)
theorem dX1_takesRing_16 : decode cX1_takesRing 16 = .ok (.iload_n 2, 1) := dk_28 (dk_at dksX1_takesRing_0 16 rfl rfl)
theorem dX1_takesRing_17 : decode cX1_takesRing 17 = .ok (.iconst 5, 1) := dk_8 (dk_at dksX1_takesRing_0 17 rfl rfl)
theorem dX1_takesRing_18 : decode cX1_takesRing 18 = .ok (.if_icmp .eq 9, 3) := dk_159 0 9 (dk_at dksX1_takesRing_0 18 rfl rfl)
theorem dX1_takesRing_21 : decode cX1_takesRing 21 = .ok (.iload_n 3, 1) := dk_29 (dk_at dksX1_takesRing_0 21 rfl rfl)
theorem dX1_takesRing_22 : decode cX1_takesRing 22 = .ok (.bipush (-9), 2) := dk_16 247 (dk_at dksX1_takesRing_0 22 rfl rfl)
theorem dX1_takesRing_24 : decode cX1_takesRing 24 = .ok (.if_icmp .ne 5, 3) := dk_160 0 5 (dk_at dksX1_takesRing_1 0 rfl rfl)
theorem dX1_takesRing_27 : decode cX1_takesRing 27 = .ok (.iconst 0, 1) := dk_3 (dk_at dksX1_takesRing_1 3 rfl rfl)
theorem dX1_takesRing_28 : decode cX1_takesRing 28 = .ok (.ireturn, 1) := dk_172 (dk_at dksX1_takesRing_1 4 rfl rfl)
theorem dX1_takesRing_29 : decode cX1_takesRing 29 = .ok (.aload_n 0, 1) := dk_42 (dk_at dksX1_takesRing_1 5 rfl rfl)
theorem dX1_takesRing_30 : decode cX1_takesRing 30 = .ok (.getfield 42, 3) := dk_180 0 42 (dk_at dksX1_takesRing_1 6 rfl rfl)
theorem dX1_takesRing_33 : decode cX1_takesRing 33 = .ok (.iconst 2, 1) := dk_5 (dk_at dksX1_takesRing_1 9 rfl rfl)
theorem dX1_takesRing_34 : decode cX1_takesRing 34 = .ok (.iload_n 2, 1) := dk_28 (dk_at dksX1_takesRing_1 10 rfl rfl)
theorem dX1_takesRing_35 : decode cX1_takesRing 35 = .ok (.iadd, 1) := dk_96 (dk_at dksX1_takesRing_1 11 rfl rfl)
theorem dX1_takesRing_36 : decode cX1_takesRing 36 = .ok (.iload_n 3, 1) := dk_29 (dk_at dksX1_takesRing_1 12 rfl rfl)
theorem dX1_takesRing_37 : decode cX1_takesRing 37 = .ok (.iastore, 1) := dk_79 (dk_at dksX1_takesRing_1 13 rfl rfl)
theorem dX1_takesRing_38 : decode cX1_takesRing 38 = .ok (.aload_n 0, 1) := dk_42 (dk_at dksX1_takesRing_1 14 rfl rfl)
theorem dX1_takesRing_39 : decode cX1_takesRing 39 = .ok (.dup, 1) := dk_89 (dk_at dksX1_takesRing_1 15 rfl rfl)
theorem dX1_takesRing_40 : decode cX1_takesRing 40 = .ok (.getfield 84, 3) := dk_180 0 84 (dk_at dksX1_takesRing_1 16 rfl rfl)
theorem dX1_takesRing_43 : decode cX1_takesRing 43 = .ok (.iconst 1, 1) := dk_4 (dk_at dksX1_takesRing_1 19 rfl rfl)
theorem dX1_takesRing_44 : decode cX1_takesRing 44 = .ok (.iadd, 1) := dk_96 (dk_at dksX1_takesRing_1 20 rfl rfl)
theorem dX1_takesRing_45 : decode cX1_takesRing 45 = .ok (.putfield 84, 3) := dk_181 0 84 (dk_at dksX1_takesRing_1 21 rfl rfl)
theorem dX1_takesRing_48 : decode cX1_takesRing 48 = .ok (.aload_n 0, 1) := dk_42 (dk_at dksX1_takesRing_2 0 rfl rfl)
theorem dX1_takesRing_49 : decode cX1_takesRing 49 = .ok (.iload_n 1, 1) := dk_27 (dk_at dksX1_takesRing_2 1 rfl rfl)
theorem dX1_takesRing_50 : decode cX1_takesRing 50 = .ok (.bipush 7, 2) := dk_16 7 (dk_at dksX1_takesRing_2 2 rfl rfl)
theorem dX1_takesRing_52 : decode cX1_takesRing 52 = .ok (.iload_n 2, 1) := dk_28 (dk_at dksX1_takesRing_2 4 rfl rfl)
theorem dX1_takesRing_53 : decode cX1_takesRing 53 = .ok (.iadd, 1) := dk_96 (dk_at dksX1_takesRing_2 5 rfl rfl)
theorem dX1_takesRing_54 : decode cX1_takesRing 54 = .ok (.iconst 2, 1) := dk_5 (dk_at dksX1_takesRing_2 6 rfl rfl)
theorem dX1_takesRing_55 : decode cX1_takesRing 55 = .ok (.invokevirtual 100, 3) := dk_182 0 100 (dk_at dksX1_takesRing_2 7 rfl rfl)
theorem dX1_takesRing_58 : decode cX1_takesRing 58 = .ok (.ifCond .eq 16, 3) := dk_153 0 16 (dk_at dksX1_takesRing_2 10 rfl rfl)
theorem dX1_takesRing_61 : decode cX1_takesRing 61 = .ok (.aload_n 0, 1) := dk_42 (dk_at dksX1_takesRing_2 13 rfl rfl)
theorem dX1_takesRing_62 : decode cX1_takesRing 62 = .ok (.iload_n 1, 1) := dk_27 (dk_at dksX1_takesRing_2 14 rfl rfl)
theorem dX1_takesRing_63 : decode cX1_takesRing 63 = .ok (.bipush 12, 2) := dk_16 12 (dk_at dksX1_takesRing_2 15 rfl rfl)
theorem dX1_takesRing_65 : decode cX1_takesRing 65 = .ok (.iload_n 2, 1) := dk_28 (dk_at dksX1_takesRing_2 17 rfl rfl)
theorem dX1_takesRing_66 : decode cX1_takesRing 66 = .ok (.iadd, 1) := dk_96 (dk_at dksX1_takesRing_2 18 rfl rfl)
theorem dX1_takesRing_67 : decode cX1_takesRing 67 = .ok (.iconst 1, 1) := dk_4 (dk_at dksX1_takesRing_2 19 rfl rfl)
theorem dX1_takesRing_68 : decode cX1_takesRing 68 = .ok (.invokevirtual 100, 3) := dk_182 0 100 (dk_at dksX1_takesRing_2 20 rfl rfl)
theorem dX1_takesRing_71 : decode cX1_takesRing 71 = .ok (.ifCond .ne 5, 3) := dk_154 0 5 (dk_at dksX1_takesRing_3 0 rfl rfl)
theorem dX1_takesRing_74 : decode cX1_takesRing 74 = .ok (.iconst 0, 1) := dk_3 (dk_at dksX1_takesRing_3 3 rfl rfl)
theorem dX1_takesRing_75 : decode cX1_takesRing 75 = .ok (.ireturn, 1) := dk_172 (dk_at dksX1_takesRing_3 4 rfl rfl)
theorem dX1_takesRing_76 : decode cX1_takesRing 76 = .ok (.aload_n 0, 1) := dk_42 (dk_at dksX1_takesRing_3 5 rfl rfl)
theorem dX1_takesRing_77 : decode cX1_takesRing 77 = .ok (.getfield 42, 3) := dk_180 0 42 (dk_at dksX1_takesRing_3 6 rfl rfl)
theorem dX1_takesRing_80 : decode cX1_takesRing 80 = .ok (.iconst 0, 1) := dk_3 (dk_at dksX1_takesRing_3 9 rfl rfl)
theorem dX1_takesRing_81 : decode cX1_takesRing 81 = .ok (.dup2, 1) := dk_92 (dk_at dksX1_takesRing_3 10 rfl rfl)
theorem dX1_takesRing_82 : decode cX1_takesRing 82 = .ok (.iaload, 1) := dk_46 (dk_at dksX1_takesRing_3 11 rfl rfl)
theorem dX1_takesRing_83 : decode cX1_takesRing 83 = .ok (.iconst 1, 1) := dk_4 (dk_at dksX1_takesRing_3 12 rfl rfl)
theorem dX1_takesRing_84 : decode cX1_takesRing 84 = .ok (.iadd, 1) := dk_96 (dk_at dksX1_takesRing_3 13 rfl rfl)
theorem dX1_takesRing_85 : decode cX1_takesRing 85 = .ok (.iastore, 1) := dk_79 (dk_at dksX1_takesRing_3 14 rfl rfl)
theorem dX1_takesRing_86 : decode cX1_takesRing 86 = .ok (.iconst 1, 1) := dk_4 (dk_at dksX1_takesRing_3 15 rfl rfl)
theorem dX1_takesRing_87 : decode cX1_takesRing 87 = .ok (.ireturn, 1) := dk_172 (dk_at dksX1_takesRing_3 16 rfl rfl)
abbrev cX1_kindBy : ByteArray := prog_10_method_20_code
def yX1_kindBy : MethodName := ⟨RX1, "kindBy", "(I)I"⟩
def dkwX1_kindBy_2 : List UInt8 := [167, 0, 15, 26, 16, 119, 160, 0, 7, 8, 167, 0, 5, 16, 247, 172]
abbrev dktX1_kindBy_2 : List UInt8 := dkwX1_kindBy_2 ++ []
def dkwX1_kindBy_1 : List UInt8 := [160, 0, 7, 5, 167, 0, 35, 26, 16, 112, 160, 0, 7, 6, 167, 0, 25, 26, 16, 100, 160, 0, 7, 7]
abbrev dktX1_kindBy_1 : List UInt8 := dkwX1_kindBy_1 ++ dktX1_kindBy_2
def dkwX1_kindBy_0 : List UInt8 := [26, 16, 114, 160, 0, 7, 3, 167, 0, 55, 26, 16, 111, 160, 0, 7, 4, 167, 0, 45, 26, 16, 97]
abbrev dktX1_kindBy_0 : List UInt8 := dkwX1_kindBy_0 ++ dktX1_kindBy_1
theorem dksX1_kindBy_0 : cX1_kindBy.data.toList.drop 0 = dktX1_kindBy_0 := by decide +kernel
theorem dksX1_kindBy_1 : cX1_kindBy.data.toList.drop 23 = dktX1_kindBy_1 := dk_seg dksX1_kindBy_0 23 rfl rfl
theorem dksX1_kindBy_2 : cX1_kindBy.data.toList.drop 47 = dktX1_kindBy_2 := dk_seg dksX1_kindBy_1 24 rfl rfl
theorem dX1_kindBy_0 : decode cX1_kindBy 0 = .ok (.iload_n 0, 1) := dk_26 (dk_at dksX1_kindBy_0 0 rfl rfl)
theorem dX1_kindBy_1 : decode cX1_kindBy 1 = .ok (.bipush 114, 2) := dk_16 114 (dk_at dksX1_kindBy_0 1 rfl rfl)
theorem dX1_kindBy_3 : decode cX1_kindBy 3 = .ok (.if_icmp .ne 7, 3) := dk_160 0 7 (dk_at dksX1_kindBy_0 3 rfl rfl)
theorem dX1_kindBy_6 : decode cX1_kindBy 6 = .ok (.iconst 0, 1) := dk_3 (dk_at dksX1_kindBy_0 6 rfl rfl)
theorem dX1_kindBy_7 : decode cX1_kindBy 7 = .ok (.goto 55, 3) := dk_167 0 55 (dk_at dksX1_kindBy_0 7 rfl rfl)
theorem dX1_kindBy_10 : decode cX1_kindBy 10 = .ok (.iload_n 0, 1) := dk_26 (dk_at dksX1_kindBy_0 10 rfl rfl)
theorem dX1_kindBy_11 : decode cX1_kindBy 11 = .ok (.bipush 111, 2) := dk_16 111 (dk_at dksX1_kindBy_0 11 rfl rfl)
theorem dX1_kindBy_13 : decode cX1_kindBy 13 = .ok (.if_icmp .ne 7, 3) := dk_160 0 7 (dk_at dksX1_kindBy_0 13 rfl rfl)
theorem dX1_kindBy_16 : decode cX1_kindBy 16 = .ok (.iconst 1, 1) := dk_4 (dk_at dksX1_kindBy_0 16 rfl rfl)
theorem dX1_kindBy_17 : decode cX1_kindBy 17 = .ok (.goto 45, 3) := dk_167 0 45 (dk_at dksX1_kindBy_0 17 rfl rfl)
theorem dX1_kindBy_20 : decode cX1_kindBy 20 = .ok (.iload_n 0, 1) := dk_26 (dk_at dksX1_kindBy_0 20 rfl rfl)
theorem dX1_kindBy_21 : decode cX1_kindBy 21 = .ok (.bipush 97, 2) := dk_16 97 (dk_at dksX1_kindBy_0 21 rfl rfl)
theorem dX1_kindBy_23 : decode cX1_kindBy 23 = .ok (.if_icmp .ne 7, 3) := dk_160 0 7 (dk_at dksX1_kindBy_1 0 rfl rfl)
theorem dX1_kindBy_26 : decode cX1_kindBy 26 = .ok (.iconst 2, 1) := dk_5 (dk_at dksX1_kindBy_1 3 rfl rfl)
theorem dX1_kindBy_27 : decode cX1_kindBy 27 = .ok (.goto 35, 3) := dk_167 0 35 (dk_at dksX1_kindBy_1 4 rfl rfl)
theorem dX1_kindBy_30 : decode cX1_kindBy 30 = .ok (.iload_n 0, 1) := dk_26 (dk_at dksX1_kindBy_1 7 rfl rfl)
theorem dX1_kindBy_31 : decode cX1_kindBy 31 = .ok (.bipush 112, 2) := dk_16 112 (dk_at dksX1_kindBy_1 8 rfl rfl)
theorem dX1_kindBy_33 : decode cX1_kindBy 33 = .ok (.if_icmp .ne 7, 3) := dk_160 0 7 (dk_at dksX1_kindBy_1 10 rfl rfl)
theorem dX1_kindBy_36 : decode cX1_kindBy 36 = .ok (.iconst 3, 1) := dk_6 (dk_at dksX1_kindBy_1 13 rfl rfl)
theorem dX1_kindBy_37 : decode cX1_kindBy 37 = .ok (.goto 25, 3) := dk_167 0 25 (dk_at dksX1_kindBy_1 14 rfl rfl)
theorem dX1_kindBy_40 : decode cX1_kindBy 40 = .ok (.iload_n 0, 1) := dk_26 (dk_at dksX1_kindBy_1 17 rfl rfl)
theorem dX1_kindBy_41 : decode cX1_kindBy 41 = .ok (.bipush 100, 2) := dk_16 100 (dk_at dksX1_kindBy_1 18 rfl rfl)
theorem dX1_kindBy_43 : decode cX1_kindBy 43 = .ok (.if_icmp .ne 7, 3) := dk_160 0 7 (dk_at dksX1_kindBy_1 20 rfl rfl)
theorem dX1_kindBy_46 : decode cX1_kindBy 46 = .ok (.iconst 4, 1) := dk_7 (dk_at dksX1_kindBy_1 23 rfl rfl)
theorem dX1_kindBy_47 : decode cX1_kindBy 47 = .ok (.goto 15, 3) := dk_167 0 15 (dk_at dksX1_kindBy_2 0 rfl rfl)
theorem dX1_kindBy_50 : decode cX1_kindBy 50 = .ok (.iload_n 0, 1) := dk_26 (dk_at dksX1_kindBy_2 3 rfl rfl)
theorem dX1_kindBy_51 : decode cX1_kindBy 51 = .ok (.bipush 119, 2) := dk_16 119 (dk_at dksX1_kindBy_2 4 rfl rfl)
theorem dX1_kindBy_53 : decode cX1_kindBy 53 = .ok (.if_icmp .ne 7, 3) := dk_160 0 7 (dk_at dksX1_kindBy_2 6 rfl rfl)
theorem dX1_kindBy_56 : decode cX1_kindBy 56 = .ok (.iconst 5, 1) := dk_8 (dk_at dksX1_kindBy_2 9 rfl rfl)
theorem dX1_kindBy_57 : decode cX1_kindBy 57 = .ok (.goto 5, 3) := dk_167 0 5 (dk_at dksX1_kindBy_2 10 rfl rfl)
theorem dX1_kindBy_60 : decode cX1_kindBy 60 = .ok (.bipush (-9), 2) := dk_16 247 (dk_at dksX1_kindBy_2 13 rfl rfl)
theorem dX1_kindBy_62 : decode cX1_kindBy 62 = .ok (.ireturn, 1) := dk_172 (dk_at dksX1_kindBy_2 15 rfl rfl)
abbrev cX1_parish : ByteArray := prog_10_method_25_code
def yX1_parish : MethodName := ⟨RX1, "parish", "(I)I"⟩
def dkwX1_parish_4 : List UInt8 := [132, 2, 1, 167, 255, 241, 42, 180, 0, 7, 3, 46, 172]
abbrev dktX1_parish_4 : List UInt8 := dkwX1_parish_4 ++ []
def dkwX1_parish_3 : List UInt8 := [79, 42, 180, 0, 7, 184, 0, 117, 3, 61, 28, 6, 162, 0, 16, 42, 180, 0, 16, 28, 3, 84]
abbrev dktX1_parish_3 : List UInt8 := dkwX1_parish_3 ++ dktX1_parish_4
def dkwX1_parish_2 : List UInt8 := [180, 0, 7, 28, 42, 180, 0, 42, 28, 46, 79, 132, 2, 1, 167, 255, 235, 42, 180, 0, 7, 16, 29, 3]
abbrev dktX1_parish_2 : List UInt8 := dkwX1_parish_2 ++ dktX1_parish_3
def dkwX1_parish_1 : List UInt8 := [42, 27, 182, 0, 114, 16, 247, 159, 0, 6, 16, 252, 172, 3, 61, 28, 16, 29, 162, 0, 21, 42]
abbrev dktX1_parish_1 : List UInt8 := dkwX1_parish_1 ++ dktX1_parish_2
def dkwX1_parish_0 : List UInt8 := [27, 184, 0, 81, 154, 0, 5, 2, 172, 42, 180, 0, 29, 27, 46, 156, 0, 9, 42, 4, 182, 0, 70, 172]
abbrev dktX1_parish_0 : List UInt8 := dkwX1_parish_0 ++ dktX1_parish_1
theorem dksX1_parish_0 : cX1_parish.data.toList.drop 0 = dktX1_parish_0 := by decide +kernel
theorem dksX1_parish_1 : cX1_parish.data.toList.drop 24 = dktX1_parish_1 := dk_seg dksX1_parish_0 24 rfl rfl
theorem dksX1_parish_2 : cX1_parish.data.toList.drop 46 = dktX1_parish_2 := dk_seg dksX1_parish_1 22 rfl rfl
theorem dksX1_parish_3 : cX1_parish.data.toList.drop 70 = dktX1_parish_3 := dk_seg dksX1_parish_2 24 rfl rfl
theorem dksX1_parish_4 : cX1_parish.data.toList.drop 92 = dktX1_parish_4 := dk_seg dksX1_parish_3 22 rfl rfl
theorem dX1_parish_0 : decode cX1_parish 0 = .ok (.iload_n 1, 1) := dk_27 (dk_at dksX1_parish_0 0 rfl rfl)
theorem dX1_parish_1 : decode cX1_parish 1 = .ok (.invokestatic 81, 3) := dk_184 0 81 (dk_at dksX1_parish_0 1 rfl rfl)
theorem dX1_parish_4 : decode cX1_parish 4 = .ok (.ifCond .ne 5, 3) := dk_154 0 5 (dk_at dksX1_parish_0 4 rfl rfl)
theorem dX1_parish_7 : decode cX1_parish 7 = .ok (.iconst (-1), 1) := dk_2 (dk_at dksX1_parish_0 7 rfl rfl)
theorem dX1_parish_8 : decode cX1_parish 8 = .ok (.ireturn, 1) := dk_172 (dk_at dksX1_parish_0 8 rfl rfl)
theorem dX1_parish_9 : decode cX1_parish 9 = .ok (.aload_n 0, 1) := dk_42 (dk_at dksX1_parish_0 9 rfl rfl)
theorem dX1_parish_10 : decode cX1_parish 10 = .ok (.getfield 29, 3) := dk_180 0 29 (dk_at dksX1_parish_0 10 rfl rfl)
theorem dX1_parish_13 : decode cX1_parish 13 = .ok (.iload_n 1, 1) := dk_27 (dk_at dksX1_parish_0 13 rfl rfl)
theorem dX1_parish_14 : decode cX1_parish 14 = .ok (.iaload, 1) := dk_46 (dk_at dksX1_parish_0 14 rfl rfl)
theorem dX1_parish_15 : decode cX1_parish 15 = .ok (.ifCond .ge 9, 3) := dk_156 0 9 (dk_at dksX1_parish_0 15 rfl rfl)
theorem dX1_parish_18 : decode cX1_parish 18 = .ok (.aload_n 0, 1) := dk_42 (dk_at dksX1_parish_0 18 rfl rfl)
theorem dX1_parish_19 : decode cX1_parish 19 = .ok (.iconst 1, 1) := dk_4 (dk_at dksX1_parish_0 19 rfl rfl)
theorem dX1_parish_20 : decode cX1_parish 20 = .ok (.invokevirtual 70, 3) := dk_182 0 70 (dk_at dksX1_parish_0 20 rfl rfl)
theorem dX1_parish_23 : decode cX1_parish 23 = .ok (.ireturn, 1) := dk_172 (dk_at dksX1_parish_0 23 rfl rfl)
theorem dX1_parish_24 : decode cX1_parish 24 = .ok (.aload_n 0, 1) := dk_42 (dk_at dksX1_parish_1 0 rfl rfl)
theorem dX1_parish_25 : decode cX1_parish 25 = .ok (.iload_n 1, 1) := dk_27 (dk_at dksX1_parish_1 1 rfl rfl)
theorem dX1_parish_26 : decode cX1_parish 26 = .ok (.invokevirtual 114, 3) := dk_182 0 114 (dk_at dksX1_parish_1 2 rfl rfl)
theorem dX1_parish_29 : decode cX1_parish 29 = .ok (.bipush (-9), 2) := dk_16 247 (dk_at dksX1_parish_1 5 rfl rfl)
theorem dX1_parish_31 : decode cX1_parish 31 = .ok (.if_icmp .eq 6, 3) := dk_159 0 6 (dk_at dksX1_parish_1 7 rfl rfl)
theorem dX1_parish_34 : decode cX1_parish 34 = .ok (.bipush (-4), 2) := dk_16 252 (dk_at dksX1_parish_1 10 rfl rfl)
theorem dX1_parish_36 : decode cX1_parish 36 = .ok (.ireturn, 1) := dk_172 (dk_at dksX1_parish_1 12 rfl rfl)
theorem dX1_parish_37 : decode cX1_parish 37 = .ok (.iconst 0, 1) := dk_3 (dk_at dksX1_parish_1 13 rfl rfl)
theorem dX1_parish_38 : decode cX1_parish 38 = .ok (.istore_n 2, 1) := dk_61 (dk_at dksX1_parish_1 14 rfl rfl)
theorem dX1_parish_39 : decode cX1_parish 39 = .ok (.iload_n 2, 1) := dk_28 (dk_at dksX1_parish_1 15 rfl rfl)
theorem dX1_parish_40 : decode cX1_parish 40 = .ok (.bipush 29, 2) := dk_16 29 (dk_at dksX1_parish_1 16 rfl rfl)
theorem dX1_parish_42 : decode cX1_parish 42 = .ok (.if_icmp .ge 21, 3) := dk_162 0 21 (dk_at dksX1_parish_1 18 rfl rfl)
theorem dX1_parish_45 : decode cX1_parish 45 = .ok (.aload_n 0, 1) := dk_42 (dk_at dksX1_parish_1 21 rfl rfl)
theorem dX1_parish_46 : decode cX1_parish 46 = .ok (.getfield 7, 3) := dk_180 0 7 (dk_at dksX1_parish_2 0 rfl rfl)
theorem dX1_parish_49 : decode cX1_parish 49 = .ok (.iload_n 2, 1) := dk_28 (dk_at dksX1_parish_2 3 rfl rfl)
theorem dX1_parish_50 : decode cX1_parish 50 = .ok (.aload_n 0, 1) := dk_42 (dk_at dksX1_parish_2 4 rfl rfl)
theorem dX1_parish_51 : decode cX1_parish 51 = .ok (.getfield 42, 3) := dk_180 0 42 (dk_at dksX1_parish_2 5 rfl rfl)
theorem dX1_parish_54 : decode cX1_parish 54 = .ok (.iload_n 2, 1) := dk_28 (dk_at dksX1_parish_2 8 rfl rfl)
theorem dX1_parish_55 : decode cX1_parish 55 = .ok (.iaload, 1) := dk_46 (dk_at dksX1_parish_2 9 rfl rfl)
theorem dX1_parish_56 : decode cX1_parish 56 = .ok (.iastore, 1) := dk_79 (dk_at dksX1_parish_2 10 rfl rfl)
theorem dX1_parish_57 : decode cX1_parish 57 = .ok (.iinc 2 1, 3) := dk_132 2 1 (dk_at dksX1_parish_2 11 rfl rfl)
theorem dX1_parish_60 : decode cX1_parish 60 = .ok (.goto (-21), 3) := dk_167 255 235 (dk_at dksX1_parish_2 14 rfl rfl)
theorem dX1_parish_63 : decode cX1_parish 63 = .ok (.aload_n 0, 1) := dk_42 (dk_at dksX1_parish_2 17 rfl rfl)
theorem dX1_parish_64 : decode cX1_parish 64 = .ok (.getfield 7, 3) := dk_180 0 7 (dk_at dksX1_parish_2 18 rfl rfl)
theorem dX1_parish_67 : decode cX1_parish 67 = .ok (.bipush 29, 2) := dk_16 29 (dk_at dksX1_parish_2 21 rfl rfl)
theorem dX1_parish_69 : decode cX1_parish 69 = .ok (.iconst 0, 1) := dk_3 (dk_at dksX1_parish_2 23 rfl rfl)
theorem dX1_parish_70 : decode cX1_parish 70 = .ok (.iastore, 1) := dk_79 (dk_at dksX1_parish_3 0 rfl rfl)
theorem dX1_parish_71 : decode cX1_parish 71 = .ok (.aload_n 0, 1) := dk_42 (dk_at dksX1_parish_3 1 rfl rfl)
theorem dX1_parish_72 : decode cX1_parish 72 = .ok (.getfield 7, 3) := dk_180 0 7 (dk_at dksX1_parish_3 2 rfl rfl)
theorem dX1_parish_75 : decode cX1_parish 75 = .ok (.invokestatic 117, 3) := dk_184 0 117 (dk_at dksX1_parish_3 5 rfl rfl)
theorem dX1_parish_78 : decode cX1_parish 78 = .ok (.iconst 0, 1) := dk_3 (dk_at dksX1_parish_3 8 rfl rfl)
theorem dX1_parish_79 : decode cX1_parish 79 = .ok (.istore_n 2, 1) := dk_61 (dk_at dksX1_parish_3 9 rfl rfl)
theorem dX1_parish_80 : decode cX1_parish 80 = .ok (.iload_n 2, 1) := dk_28 (dk_at dksX1_parish_3 10 rfl rfl)
theorem dX1_parish_81 : decode cX1_parish 81 = .ok (.iconst 3, 1) := dk_6 (dk_at dksX1_parish_3 11 rfl rfl)
theorem dX1_parish_82 : decode cX1_parish 82 = .ok (.if_icmp .ge 16, 3) := dk_162 0 16 (dk_at dksX1_parish_3 12 rfl rfl)
theorem dX1_parish_85 : decode cX1_parish 85 = .ok (.aload_n 0, 1) := dk_42 (dk_at dksX1_parish_3 15 rfl rfl)
theorem dX1_parish_86 : decode cX1_parish 86 = .ok (.getfield 16, 3) := dk_180 0 16 (dk_at dksX1_parish_3 16 rfl rfl)
theorem dX1_parish_89 : decode cX1_parish 89 = .ok (.iload_n 2, 1) := dk_28 (dk_at dksX1_parish_3 19 rfl rfl)
theorem dX1_parish_90 : decode cX1_parish 90 = .ok (.iconst 0, 1) := dk_3 (dk_at dksX1_parish_3 20 rfl rfl)
theorem dX1_parish_91 : decode cX1_parish 91 = .ok (.bastore, 1) := dk_84 (dk_at dksX1_parish_3 21 rfl rfl)
theorem dX1_parish_92 : decode cX1_parish 92 = .ok (.iinc 2 1, 3) := dk_132 2 1 (dk_at dksX1_parish_4 0 rfl rfl)
theorem dX1_parish_95 : decode cX1_parish 95 = .ok (.goto (-15), 3) := dk_167 255 241 (dk_at dksX1_parish_4 3 rfl rfl)
theorem dX1_parish_98 : decode cX1_parish 98 = .ok (.aload_n 0, 1) := dk_42 (dk_at dksX1_parish_4 6 rfl rfl)
theorem dX1_parish_99 : decode cX1_parish 99 = .ok (.getfield 7, 3) := dk_180 0 7 (dk_at dksX1_parish_4 7 rfl rfl)
theorem dX1_parish_102 : decode cX1_parish 102 = .ok (.iconst 0, 1) := dk_3 (dk_at dksX1_parish_4 10 rfl rfl)
theorem dX1_parish_103 : decode cX1_parish 103 = .ok (.iaload, 1) := dk_46 (dk_at dksX1_parish_4 11 rfl rfl)
theorem dX1_parish_104 : decode cX1_parish 104 = .ok (.ireturn, 1) := dk_172 (dk_at dksX1_parish_4 12 rfl rfl)
abbrev cX1_begin : ByteArray := prog_10_method_26_code
def yX1_begin : MethodName := ⟨RX1, "begin", "([I)V"⟩
def dkwX1_begin_2 : List UInt8 := [132, 1, 1, 167, 255, 223, 177]
abbrev dktX1_begin_2 : List UInt8 := dkwX1_begin_2 ++ []
def dkwX1_begin_1 : List UInt8 := [42, 16, 72, 27, 96, 42, 16, 17, 27, 96, 46, 79, 42, 16, 78, 27, 96, 42, 16, 23, 27, 96, 46, 79]
abbrev dktX1_begin_1 : List UInt8 := dkwX1_begin_1 ++ dktX1_begin_2
def dkwX1_begin_0 : List UInt8 := [42, 16, 70, 3, 79, 42, 16, 71, 4, 42, 3, 46, 120, 4, 100, 79, 3, 60, 27, 16, 6, 162, 0, 33]
abbrev dktX1_begin_0 : List UInt8 := dkwX1_begin_0 ++ dktX1_begin_1
theorem dksX1_begin_0 : cX1_begin.data.toList.drop 0 = dktX1_begin_0 := by decide +kernel
theorem dksX1_begin_1 : cX1_begin.data.toList.drop 24 = dktX1_begin_1 := dk_seg dksX1_begin_0 24 rfl rfl
theorem dksX1_begin_2 : cX1_begin.data.toList.drop 48 = dktX1_begin_2 := dk_seg dksX1_begin_1 24 rfl rfl
theorem dX1_begin_0 : decode cX1_begin 0 = .ok (.aload_n 0, 1) := dk_42 (dk_at dksX1_begin_0 0 rfl rfl)
theorem dX1_begin_1 : decode cX1_begin 1 = .ok (.bipush 70, 2) := dk_16 70 (dk_at dksX1_begin_0 1 rfl rfl)
theorem dX1_begin_3 : decode cX1_begin 3 = .ok (.iconst 0, 1) := dk_3 (dk_at dksX1_begin_0 3 rfl rfl)
theorem dX1_begin_4 : decode cX1_begin 4 = .ok (.iastore, 1) := dk_79 (dk_at dksX1_begin_0 4 rfl rfl)
theorem dX1_begin_5 : decode cX1_begin 5 = .ok (.aload_n 0, 1) := dk_42 (dk_at dksX1_begin_0 5 rfl rfl)
theorem dX1_begin_6 : decode cX1_begin 6 = .ok (.bipush 71, 2) := dk_16 71 (dk_at dksX1_begin_0 6 rfl rfl)
theorem dX1_begin_8 : decode cX1_begin 8 = .ok (.iconst 1, 1) := dk_4 (dk_at dksX1_begin_0 8 rfl rfl)
theorem dX1_begin_9 : decode cX1_begin 9 = .ok (.aload_n 0, 1) := dk_42 (dk_at dksX1_begin_0 9 rfl rfl)
theorem dX1_begin_10 : decode cX1_begin 10 = .ok (.iconst 0, 1) := dk_3 (dk_at dksX1_begin_0 10 rfl rfl)
theorem dX1_begin_11 : decode cX1_begin 11 = .ok (.iaload, 1) := dk_46 (dk_at dksX1_begin_0 11 rfl rfl)
theorem dX1_begin_12 : decode cX1_begin 12 = .ok (.ishl, 1) := dk_120 (dk_at dksX1_begin_0 12 rfl rfl)
theorem dX1_begin_13 : decode cX1_begin 13 = .ok (.iconst 1, 1) := dk_4 (dk_at dksX1_begin_0 13 rfl rfl)
theorem dX1_begin_14 : decode cX1_begin 14 = .ok (.isub, 1) := dk_100 (dk_at dksX1_begin_0 14 rfl rfl)
theorem dX1_begin_15 : decode cX1_begin 15 = .ok (.iastore, 1) := dk_79 (dk_at dksX1_begin_0 15 rfl rfl)
theorem dX1_begin_16 : decode cX1_begin 16 = .ok (.iconst 0, 1) := dk_3 (dk_at dksX1_begin_0 16 rfl rfl)
theorem dX1_begin_17 : decode cX1_begin 17 = .ok (.istore_n 1, 1) := dk_60 (dk_at dksX1_begin_0 17 rfl rfl)
theorem dX1_begin_18 : decode cX1_begin 18 = .ok (.iload_n 1, 1) := dk_27 (dk_at dksX1_begin_0 18 rfl rfl)
theorem dX1_begin_19 : decode cX1_begin 19 = .ok (.bipush 6, 2) := dk_16 6 (dk_at dksX1_begin_0 19 rfl rfl)
theorem dX1_begin_21 : decode cX1_begin 21 = .ok (.if_icmp .ge 33, 3) := dk_162 0 33 (dk_at dksX1_begin_0 21 rfl rfl)
theorem dX1_begin_24 : decode cX1_begin 24 = .ok (.aload_n 0, 1) := dk_42 (dk_at dksX1_begin_1 0 rfl rfl)
theorem dX1_begin_25 : decode cX1_begin 25 = .ok (.bipush 72, 2) := dk_16 72 (dk_at dksX1_begin_1 1 rfl rfl)
theorem dX1_begin_27 : decode cX1_begin 27 = .ok (.iload_n 1, 1) := dk_27 (dk_at dksX1_begin_1 3 rfl rfl)
theorem dX1_begin_28 : decode cX1_begin 28 = .ok (.iadd, 1) := dk_96 (dk_at dksX1_begin_1 4 rfl rfl)
theorem dX1_begin_29 : decode cX1_begin 29 = .ok (.aload_n 0, 1) := dk_42 (dk_at dksX1_begin_1 5 rfl rfl)
theorem dX1_begin_30 : decode cX1_begin 30 = .ok (.bipush 17, 2) := dk_16 17 (dk_at dksX1_begin_1 6 rfl rfl)
theorem dX1_begin_32 : decode cX1_begin 32 = .ok (.iload_n 1, 1) := dk_27 (dk_at dksX1_begin_1 8 rfl rfl)
theorem dX1_begin_33 : decode cX1_begin 33 = .ok (.iadd, 1) := dk_96 (dk_at dksX1_begin_1 9 rfl rfl)
theorem dX1_begin_34 : decode cX1_begin 34 = .ok (.iaload, 1) := dk_46 (dk_at dksX1_begin_1 10 rfl rfl)
theorem dX1_begin_35 : decode cX1_begin 35 = .ok (.iastore, 1) := dk_79 (dk_at dksX1_begin_1 11 rfl rfl)
theorem dX1_begin_36 : decode cX1_begin 36 = .ok (.aload_n 0, 1) := dk_42 (dk_at dksX1_begin_1 12 rfl rfl)
theorem dX1_begin_37 : decode cX1_begin 37 = .ok (.bipush 78, 2) := dk_16 78 (dk_at dksX1_begin_1 13 rfl rfl)
theorem dX1_begin_39 : decode cX1_begin 39 = .ok (.iload_n 1, 1) := dk_27 (dk_at dksX1_begin_1 15 rfl rfl)
theorem dX1_begin_40 : decode cX1_begin 40 = .ok (.iadd, 1) := dk_96 (dk_at dksX1_begin_1 16 rfl rfl)
theorem dX1_begin_41 : decode cX1_begin 41 = .ok (.aload_n 0, 1) := dk_42 (dk_at dksX1_begin_1 17 rfl rfl)
theorem dX1_begin_42 : decode cX1_begin 42 = .ok (.bipush 23, 2) := dk_16 23 (dk_at dksX1_begin_1 18 rfl rfl)
theorem dX1_begin_44 : decode cX1_begin 44 = .ok (.iload_n 1, 1) := dk_27 (dk_at dksX1_begin_1 20 rfl rfl)
theorem dX1_begin_45 : decode cX1_begin 45 = .ok (.iadd, 1) := dk_96 (dk_at dksX1_begin_1 21 rfl rfl)
theorem dX1_begin_46 : decode cX1_begin 46 = .ok (.iaload, 1) := dk_46 (dk_at dksX1_begin_1 22 rfl rfl)
theorem dX1_begin_47 : decode cX1_begin 47 = .ok (.iastore, 1) := dk_79 (dk_at dksX1_begin_1 23 rfl rfl)
theorem dX1_begin_48 : decode cX1_begin 48 = .ok (.iinc 1 1, 3) := dk_132 1 1 (dk_at dksX1_begin_2 0 rfl rfl)
theorem dX1_begin_51 : decode cX1_begin 51 = .ok (.goto (-33), 3) := dk_167 255 223 (dk_at dksX1_begin_2 3 rfl rfl)
theorem dX1_begin_54 : decode cX1_begin 54 = .ok (.return_, 1) := dk_177 (dk_at dksX1_begin_2 6 rfl rfl)
abbrev cX1_ring : ByteArray := prog_10_method_45_code
def yX1_ring : MethodName := ⟨RX1, "ring", "(II)I"⟩
def dkwX1_ring_1 : List UInt8 := [182, 0, 165, 182, 0, 78, 167, 0, 4, 2, 172]
abbrev dktX1_ring_1 : List UInt8 := dkwX1_ring_1 ++ []
def dkwX1_ring_0 : List UInt8 := [42, 27, 182, 0, 160, 153, 0, 28, 28, 133, 9, 20, 0, 163, 184, 0, 60, 153, 0, 16, 42, 42, 27, 28]
abbrev dktX1_ring_0 : List UInt8 := dkwX1_ring_0 ++ dktX1_ring_1
theorem dksX1_ring_0 : cX1_ring.data.toList.drop 0 = dktX1_ring_0 := by decide +kernel
theorem dksX1_ring_1 : cX1_ring.data.toList.drop 24 = dktX1_ring_1 := dk_seg dksX1_ring_0 24 rfl rfl
theorem dX1_ring_0 : decode cX1_ring 0 = .ok (.aload_n 0, 1) := dk_42 (dk_at dksX1_ring_0 0 rfl rfl)
theorem dX1_ring_1 : decode cX1_ring 1 = .ok (.iload_n 1, 1) := dk_27 (dk_at dksX1_ring_0 1 rfl rfl)
theorem dX1_ring_2 : decode cX1_ring 2 = .ok (.invokevirtual 160, 3) := dk_182 0 160 (dk_at dksX1_ring_0 2 rfl rfl)
theorem dX1_ring_5 : decode cX1_ring 5 = .ok (.ifCond .eq 28, 3) := dk_153 0 28 (dk_at dksX1_ring_0 5 rfl rfl)
theorem dX1_ring_8 : decode cX1_ring 8 = .ok (.iload_n 2, 1) := dk_28 (dk_at dksX1_ring_0 8 rfl rfl)
theorem dX1_ring_9 : decode cX1_ring 9 = .ok (.i2l, 1) := dk_133 (dk_at dksX1_ring_0 9 rfl rfl)
theorem dX1_ring_10 : decode cX1_ring 10 = .ok (.lconst 0, 1) := dk_9 (dk_at dksX1_ring_0 10 rfl rfl)
theorem dX1_ring_11 : decode cX1_ring 11 = .ok (.ldc2_w 163, 3) := dk_20 0 163 (dk_at dksX1_ring_0 11 rfl rfl)
theorem dX1_ring_14 : decode cX1_ring 14 = .ok (.invokestatic 60, 3) := dk_184 0 60 (dk_at dksX1_ring_0 14 rfl rfl)
theorem dX1_ring_17 : decode cX1_ring 17 = .ok (.ifCond .eq 16, 3) := dk_153 0 16 (dk_at dksX1_ring_0 17 rfl rfl)
theorem dX1_ring_20 : decode cX1_ring 20 = .ok (.aload_n 0, 1) := dk_42 (dk_at dksX1_ring_0 20 rfl rfl)
theorem dX1_ring_21 : decode cX1_ring 21 = .ok (.aload_n 0, 1) := dk_42 (dk_at dksX1_ring_0 21 rfl rfl)
theorem dX1_ring_22 : decode cX1_ring 22 = .ok (.iload_n 1, 1) := dk_27 (dk_at dksX1_ring_0 22 rfl rfl)
theorem dX1_ring_23 : decode cX1_ring 23 = .ok (.iload_n 2, 1) := dk_28 (dk_at dksX1_ring_0 23 rfl rfl)
theorem dX1_ring_24 : decode cX1_ring 24 = .ok (.invokevirtual 165, 3) := dk_182 0 165 (dk_at dksX1_ring_1 0 rfl rfl)
theorem dX1_ring_27 : decode cX1_ring 27 = .ok (.invokevirtual 78, 3) := dk_182 0 78 (dk_at dksX1_ring_1 3 rfl rfl)
theorem dX1_ring_30 : decode cX1_ring 30 = .ok (.goto 4, 3) := dk_167 0 4 (dk_at dksX1_ring_1 6 rfl rfl)
theorem dX1_ring_33 : decode cX1_ring 33 = .ok (.iconst (-1), 1) := dk_2 (dk_at dksX1_ring_1 9 rfl rfl)
theorem dX1_ring_34 : decode cX1_ring 34 = .ok (.ireturn, 1) := dk_172 (dk_at dksX1_ring_1 10 rfl rfl)
abbrev cX1_isRing : ByteArray := prog_10_method_41_code
def yX1_isRing : MethodName := ⟨RX1, "isRing", "(I)Z"⟩
def dkwX1_isRing_0 : List UInt8 := [27, 133, 9, 42, 180, 0, 7, 3, 46, 4, 100, 133, 184, 0, 60, 172]
abbrev dktX1_isRing_0 : List UInt8 := dkwX1_isRing_0 ++ []
theorem dksX1_isRing_0 : cX1_isRing.data.toList.drop 0 = dktX1_isRing_0 := by decide +kernel
theorem dX1_isRing_0 : decode cX1_isRing 0 = .ok (.iload_n 1, 1) := dk_27 (dk_at dksX1_isRing_0 0 rfl rfl)
theorem dX1_isRing_1 : decode cX1_isRing 1 = .ok (.i2l, 1) := dk_133 (dk_at dksX1_isRing_0 1 rfl rfl)
theorem dX1_isRing_2 : decode cX1_isRing 2 = .ok (.lconst 0, 1) := dk_9 (dk_at dksX1_isRing_0 2 rfl rfl)
theorem dX1_isRing_3 : decode cX1_isRing 3 = .ok (.aload_n 0, 1) := dk_42 (dk_at dksX1_isRing_0 3 rfl rfl)
theorem dX1_isRing_4 : decode cX1_isRing 4 = .ok (.getfield 7, 3) := dk_180 0 7 (dk_at dksX1_isRing_0 4 rfl rfl)
theorem dX1_isRing_7 : decode cX1_isRing 7 = .ok (.iconst 0, 1) := dk_3 (dk_at dksX1_isRing_0 7 rfl rfl)
theorem dX1_isRing_8 : decode cX1_isRing 8 = .ok (.iaload, 1) := dk_46 (dk_at dksX1_isRing_0 8 rfl rfl)
theorem dX1_isRing_9 : decode cX1_isRing 9 = .ok (.iconst 1, 1) := dk_4 (dk_at dksX1_isRing_0 9 rfl rfl)
theorem dX1_isRing_10 : decode cX1_isRing 10 = .ok (.isub, 1) := dk_100 (dk_at dksX1_isRing_0 10 rfl rfl)
theorem dX1_isRing_11 : decode cX1_isRing 11 = .ok (.i2l, 1) := dk_133 (dk_at dksX1_isRing_0 11 rfl rfl)
theorem dX1_isRing_12 : decode cX1_isRing 12 = .ok (.invokestatic 60, 3) := dk_184 0 60 (dk_at dksX1_isRing_0 12 rfl rfl)
theorem dX1_isRing_15 : decode cX1_isRing 15 = .ok (.ireturn, 1) := dk_172 (dk_at dksX1_isRing_0 15 rfl rfl)
abbrev cX1_toldOfRing : ByteArray := prog_10_method_44_code
def yX1_toldOfRing : MethodName := ⟨RX1, "toldOfRing", "(II)I"⟩
def dkwX1_toldOfRing_5 : List UInt8 := [167, 0, 4, 3, 172, 29, 153, 0, 15, 42, 42, 27, 182, 0, 154, 182, 0, 157, 167, 0, 5, 16, 247, 172]
abbrev dktX1_toldOfRing_5 : List UInt8 := dkwX1_toldOfRing_5 ++ []
def dkwX1_toldOfRing_4 : List UInt8 := [184, 0, 121, 172, 29, 153, 0, 7, 4, 167, 0, 4, 3, 172, 29, 153, 0, 11, 42, 27, 182, 0, 154]
abbrev dktX1_toldOfRing_4 : List UInt8 := dkwX1_toldOfRing_4 ++ dktX1_toldOfRing_5
def dkwX1_toldOfRing_3 : List UInt8 := [16, 12, 27, 96, 46, 172, 42, 180, 0, 7, 16, 12, 27, 96, 46, 42, 180, 0, 7, 16, 70, 46]
abbrev dktX1_toldOfRing_3 : List UInt8 := dkwX1_toldOfRing_3 ++ dktX1_toldOfRing_4
def dkwX1_toldOfRing_2 : List UInt8 := [42, 180, 0, 7, 5, 27, 96, 46, 172, 42, 180, 0, 7, 16, 7, 27, 96, 46, 172, 42, 180, 0, 7]
abbrev dktX1_toldOfRing_2 : List UInt8 := dkwX1_toldOfRing_2 ++ dktX1_toldOfRing_3
def dkwX1_toldOfRing_1 : List UInt8 := [170, 0, 0, 0, 0, 0, 112, 0, 0, 0, 0, 0, 0, 0, 5, 0, 0, 0, 39, 0, 0, 0, 48, 0, 0, 0, 58, 0, 0, 0, 68, 0, 0, 0, 88, 0, 0, 0, 98]
abbrev dktX1_toldOfRing_1 : List UInt8 := dkwX1_toldOfRing_1 ++ dktX1_toldOfRing_2
def dkwX1_toldOfRing_0 : List UInt8 := [42, 180, 0, 7, 16, 71, 46, 27, 184, 0, 131, 62, 28]
abbrev dktX1_toldOfRing_0 : List UInt8 := dkwX1_toldOfRing_0 ++ dktX1_toldOfRing_1
theorem dksX1_toldOfRing_0 : cX1_toldOfRing.data.toList.drop 0 = dktX1_toldOfRing_0 := by decide +kernel
theorem dksX1_toldOfRing_1 : cX1_toldOfRing.data.toList.drop 13 = dktX1_toldOfRing_1 := dk_seg dksX1_toldOfRing_0 13 rfl rfl
theorem dksX1_toldOfRing_2 : cX1_toldOfRing.data.toList.drop 52 = dktX1_toldOfRing_2 := dk_seg dksX1_toldOfRing_1 39 rfl rfl
theorem dksX1_toldOfRing_3 : cX1_toldOfRing.data.toList.drop 75 = dktX1_toldOfRing_3 := dk_seg dksX1_toldOfRing_2 23 rfl rfl
theorem dksX1_toldOfRing_4 : cX1_toldOfRing.data.toList.drop 97 = dktX1_toldOfRing_4 := dk_seg dksX1_toldOfRing_3 22 rfl rfl
theorem dksX1_toldOfRing_5 : cX1_toldOfRing.data.toList.drop 120 = dktX1_toldOfRing_5 := dk_seg dksX1_toldOfRing_4 23 rfl rfl
theorem dX1_toldOfRing_0 : decode cX1_toldOfRing 0 = .ok (.aload_n 0, 1) := dk_42 (dk_at dksX1_toldOfRing_0 0 rfl rfl)
theorem dX1_toldOfRing_1 : decode cX1_toldOfRing 1 = .ok (.getfield 7, 3) := dk_180 0 7 (dk_at dksX1_toldOfRing_0 1 rfl rfl)
theorem dX1_toldOfRing_4 : decode cX1_toldOfRing 4 = .ok (.bipush 71, 2) := dk_16 71 (dk_at dksX1_toldOfRing_0 4 rfl rfl)
theorem dX1_toldOfRing_6 : decode cX1_toldOfRing 6 = .ok (.iaload, 1) := dk_46 (dk_at dksX1_toldOfRing_0 6 rfl rfl)
theorem dX1_toldOfRing_7 : decode cX1_toldOfRing 7 = .ok (.iload_n 1, 1) := dk_27 (dk_at dksX1_toldOfRing_0 7 rfl rfl)
theorem dX1_toldOfRing_8 : decode cX1_toldOfRing 8 = .ok (.invokestatic 131, 3) := dk_184 0 131 (dk_at dksX1_toldOfRing_0 8 rfl rfl)
theorem dX1_toldOfRing_11 : decode cX1_toldOfRing 11 = .ok (.istore_n 3, 1) := dk_62 (dk_at dksX1_toldOfRing_0 11 rfl rfl)
theorem dX1_toldOfRing_12 : decode cX1_toldOfRing 12 = .ok (.iload_n 2, 1) := dk_28 (dk_at dksX1_toldOfRing_0 12 rfl rfl)
theorem dX1_toldOfRing_13 : decode cX1_toldOfRing 13 = .ok (.tableswitch 112 0 5 #[39, 48, 58, 68, 88, 98], 39) := by decide +kernel
theorem dX1_toldOfRing_52 : decode cX1_toldOfRing 52 = .ok (.aload_n 0, 1) := dk_42 (dk_at dksX1_toldOfRing_2 0 rfl rfl)
theorem dX1_toldOfRing_53 : decode cX1_toldOfRing 53 = .ok (.getfield 7, 3) := dk_180 0 7 (dk_at dksX1_toldOfRing_2 1 rfl rfl)
theorem dX1_toldOfRing_56 : decode cX1_toldOfRing 56 = .ok (.iconst 2, 1) := dk_5 (dk_at dksX1_toldOfRing_2 4 rfl rfl)
theorem dX1_toldOfRing_57 : decode cX1_toldOfRing 57 = .ok (.iload_n 1, 1) := dk_27 (dk_at dksX1_toldOfRing_2 5 rfl rfl)
theorem dX1_toldOfRing_58 : decode cX1_toldOfRing 58 = .ok (.iadd, 1) := dk_96 (dk_at dksX1_toldOfRing_2 6 rfl rfl)
theorem dX1_toldOfRing_59 : decode cX1_toldOfRing 59 = .ok (.iaload, 1) := dk_46 (dk_at dksX1_toldOfRing_2 7 rfl rfl)
theorem dX1_toldOfRing_60 : decode cX1_toldOfRing 60 = .ok (.ireturn, 1) := dk_172 (dk_at dksX1_toldOfRing_2 8 rfl rfl)
theorem dX1_toldOfRing_61 : decode cX1_toldOfRing 61 = .ok (.aload_n 0, 1) := dk_42 (dk_at dksX1_toldOfRing_2 9 rfl rfl)
theorem dX1_toldOfRing_62 : decode cX1_toldOfRing 62 = .ok (.getfield 7, 3) := dk_180 0 7 (dk_at dksX1_toldOfRing_2 10 rfl rfl)
theorem dX1_toldOfRing_65 : decode cX1_toldOfRing 65 = .ok (.bipush 7, 2) := dk_16 7 (dk_at dksX1_toldOfRing_2 13 rfl rfl)
theorem dX1_toldOfRing_67 : decode cX1_toldOfRing 67 = .ok (.iload_n 1, 1) := dk_27 (dk_at dksX1_toldOfRing_2 15 rfl rfl)
theorem dX1_toldOfRing_68 : decode cX1_toldOfRing 68 = .ok (.iadd, 1) := dk_96 (dk_at dksX1_toldOfRing_2 16 rfl rfl)
theorem dX1_toldOfRing_69 : decode cX1_toldOfRing 69 = .ok (.iaload, 1) := dk_46 (dk_at dksX1_toldOfRing_2 17 rfl rfl)
theorem dX1_toldOfRing_70 : decode cX1_toldOfRing 70 = .ok (.ireturn, 1) := dk_172 (dk_at dksX1_toldOfRing_2 18 rfl rfl)
theorem dX1_toldOfRing_71 : decode cX1_toldOfRing 71 = .ok (.aload_n 0, 1) := dk_42 (dk_at dksX1_toldOfRing_2 19 rfl rfl)
theorem dX1_toldOfRing_72 : decode cX1_toldOfRing 72 = .ok (.getfield 7, 3) := dk_180 0 7 (dk_at dksX1_toldOfRing_2 20 rfl rfl)
theorem dX1_toldOfRing_75 : decode cX1_toldOfRing 75 = .ok (.bipush 12, 2) := dk_16 12 (dk_at dksX1_toldOfRing_3 0 rfl rfl)
theorem dX1_toldOfRing_77 : decode cX1_toldOfRing 77 = .ok (.iload_n 1, 1) := dk_27 (dk_at dksX1_toldOfRing_3 2 rfl rfl)
theorem dX1_toldOfRing_78 : decode cX1_toldOfRing 78 = .ok (.iadd, 1) := dk_96 (dk_at dksX1_toldOfRing_3 3 rfl rfl)
theorem dX1_toldOfRing_79 : decode cX1_toldOfRing 79 = .ok (.iaload, 1) := dk_46 (dk_at dksX1_toldOfRing_3 4 rfl rfl)
theorem dX1_toldOfRing_80 : decode cX1_toldOfRing 80 = .ok (.ireturn, 1) := dk_172 (dk_at dksX1_toldOfRing_3 5 rfl rfl)
theorem dX1_toldOfRing_81 : decode cX1_toldOfRing 81 = .ok (.aload_n 0, 1) := dk_42 (dk_at dksX1_toldOfRing_3 6 rfl rfl)
theorem dX1_toldOfRing_82 : decode cX1_toldOfRing 82 = .ok (.getfield 7, 3) := dk_180 0 7 (dk_at dksX1_toldOfRing_3 7 rfl rfl)
theorem dX1_toldOfRing_85 : decode cX1_toldOfRing 85 = .ok (.bipush 12, 2) := dk_16 12 (dk_at dksX1_toldOfRing_3 10 rfl rfl)
theorem dX1_toldOfRing_87 : decode cX1_toldOfRing 87 = .ok (.iload_n 1, 1) := dk_27 (dk_at dksX1_toldOfRing_3 12 rfl rfl)
theorem dX1_toldOfRing_88 : decode cX1_toldOfRing 88 = .ok (.iadd, 1) := dk_96 (dk_at dksX1_toldOfRing_3 13 rfl rfl)
theorem dX1_toldOfRing_89 : decode cX1_toldOfRing 89 = .ok (.iaload, 1) := dk_46 (dk_at dksX1_toldOfRing_3 14 rfl rfl)
theorem dX1_toldOfRing_90 : decode cX1_toldOfRing 90 = .ok (.aload_n 0, 1) := dk_42 (dk_at dksX1_toldOfRing_3 15 rfl rfl)
theorem dX1_toldOfRing_91 : decode cX1_toldOfRing 91 = .ok (.getfield 7, 3) := dk_180 0 7 (dk_at dksX1_toldOfRing_3 16 rfl rfl)
theorem dX1_toldOfRing_94 : decode cX1_toldOfRing 94 = .ok (.bipush 70, 2) := dk_16 70 (dk_at dksX1_toldOfRing_3 19 rfl rfl)
theorem dX1_toldOfRing_96 : decode cX1_toldOfRing 96 = .ok (.iaload, 1) := dk_46 (dk_at dksX1_toldOfRing_3 21 rfl rfl)
theorem dX1_toldOfRing_97 : decode cX1_toldOfRing 97 = .ok (.invokestatic 121, 3) := dk_184 0 121 (dk_at dksX1_toldOfRing_4 0 rfl rfl)
theorem dX1_toldOfRing_100 : decode cX1_toldOfRing 100 = .ok (.ireturn, 1) := dk_172 (dk_at dksX1_toldOfRing_4 3 rfl rfl)
theorem dX1_toldOfRing_101 : decode cX1_toldOfRing 101 = .ok (.iload_n 3, 1) := dk_29 (dk_at dksX1_toldOfRing_4 4 rfl rfl)
theorem dX1_toldOfRing_102 : decode cX1_toldOfRing 102 = .ok (.ifCond .eq 7, 3) := dk_153 0 7 (dk_at dksX1_toldOfRing_4 5 rfl rfl)
theorem dX1_toldOfRing_105 : decode cX1_toldOfRing 105 = .ok (.iconst 1, 1) := dk_4 (dk_at dksX1_toldOfRing_4 8 rfl rfl)
theorem dX1_toldOfRing_106 : decode cX1_toldOfRing 106 = .ok (.goto 4, 3) := dk_167 0 4 (dk_at dksX1_toldOfRing_4 9 rfl rfl)
theorem dX1_toldOfRing_109 : decode cX1_toldOfRing 109 = .ok (.iconst 0, 1) := dk_3 (dk_at dksX1_toldOfRing_4 12 rfl rfl)
theorem dX1_toldOfRing_110 : decode cX1_toldOfRing 110 = .ok (.ireturn, 1) := dk_172 (dk_at dksX1_toldOfRing_4 13 rfl rfl)
theorem dX1_toldOfRing_111 : decode cX1_toldOfRing 111 = .ok (.iload_n 3, 1) := dk_29 (dk_at dksX1_toldOfRing_4 14 rfl rfl)
theorem dX1_toldOfRing_112 : decode cX1_toldOfRing 112 = .ok (.ifCond .eq 11, 3) := dk_153 0 11 (dk_at dksX1_toldOfRing_4 15 rfl rfl)
theorem dX1_toldOfRing_115 : decode cX1_toldOfRing 115 = .ok (.aload_n 0, 1) := dk_42 (dk_at dksX1_toldOfRing_4 18 rfl rfl)
theorem dX1_toldOfRing_116 : decode cX1_toldOfRing 116 = .ok (.iload_n 1, 1) := dk_27 (dk_at dksX1_toldOfRing_4 19 rfl rfl)
theorem dX1_toldOfRing_117 : decode cX1_toldOfRing 117 = .ok (.invokevirtual 154, 3) := dk_182 0 154 (dk_at dksX1_toldOfRing_4 20 rfl rfl)
theorem dX1_toldOfRing_120 : decode cX1_toldOfRing 120 = .ok (.goto 4, 3) := dk_167 0 4 (dk_at dksX1_toldOfRing_5 0 rfl rfl)
theorem dX1_toldOfRing_123 : decode cX1_toldOfRing 123 = .ok (.iconst 0, 1) := dk_3 (dk_at dksX1_toldOfRing_5 3 rfl rfl)
theorem dX1_toldOfRing_124 : decode cX1_toldOfRing 124 = .ok (.ireturn, 1) := dk_172 (dk_at dksX1_toldOfRing_5 4 rfl rfl)
theorem dX1_toldOfRing_125 : decode cX1_toldOfRing 125 = .ok (.iload_n 3, 1) := dk_29 (dk_at dksX1_toldOfRing_5 5 rfl rfl)
theorem dX1_toldOfRing_126 : decode cX1_toldOfRing 126 = .ok (.ifCond .eq 15, 3) := dk_153 0 15 (dk_at dksX1_toldOfRing_5 6 rfl rfl)
theorem dX1_toldOfRing_129 : decode cX1_toldOfRing 129 = .ok (.aload_n 0, 1) := dk_42 (dk_at dksX1_toldOfRing_5 9 rfl rfl)
theorem dX1_toldOfRing_130 : decode cX1_toldOfRing 130 = .ok (.aload_n 0, 1) := dk_42 (dk_at dksX1_toldOfRing_5 10 rfl rfl)
theorem dX1_toldOfRing_131 : decode cX1_toldOfRing 131 = .ok (.iload_n 1, 1) := dk_27 (dk_at dksX1_toldOfRing_5 11 rfl rfl)
theorem dX1_toldOfRing_132 : decode cX1_toldOfRing 132 = .ok (.invokevirtual 154, 3) := dk_182 0 154 (dk_at dksX1_toldOfRing_5 12 rfl rfl)
theorem dX1_toldOfRing_135 : decode cX1_toldOfRing 135 = .ok (.invokevirtual 157, 3) := dk_182 0 157 (dk_at dksX1_toldOfRing_5 15 rfl rfl)
theorem dX1_toldOfRing_138 : decode cX1_toldOfRing 138 = .ok (.goto 5, 3) := dk_167 0 5 (dk_at dksX1_toldOfRing_5 18 rfl rfl)
theorem dX1_toldOfRing_141 : decode cX1_toldOfRing 141 = .ok (.bipush (-9), 2) := dk_16 247 (dk_at dksX1_toldOfRing_5 21 rfl rfl)
theorem dX1_toldOfRing_143 : decode cX1_toldOfRing 143 = .ok (.ireturn, 1) := dk_172 (dk_at dksX1_toldOfRing_5 23 rfl rfl)
abbrev cX1_has : ByteArray := prog_10_method_27_code
def yX1_has : MethodName := ⟨RX1, "has", "(II)Z"⟩
def dkwX1_has_0 : List UInt8 := [26, 27, 122, 4, 126, 4, 160, 0, 7, 4, 167, 0, 4, 3, 172]
abbrev dktX1_has_0 : List UInt8 := dkwX1_has_0 ++ []
theorem dksX1_has_0 : cX1_has.data.toList.drop 0 = dktX1_has_0 := by decide +kernel
theorem dX1_has_0 : decode cX1_has 0 = .ok (.iload_n 0, 1) := dk_26 (dk_at dksX1_has_0 0 rfl rfl)
theorem dX1_has_1 : decode cX1_has 1 = .ok (.iload_n 1, 1) := dk_27 (dk_at dksX1_has_0 1 rfl rfl)
theorem dX1_has_2 : decode cX1_has 2 = .ok (.ishr, 1) := dk_122 (dk_at dksX1_has_0 2 rfl rfl)
theorem dX1_has_3 : decode cX1_has 3 = .ok (.iconst 1, 1) := dk_4 (dk_at dksX1_has_0 3 rfl rfl)
theorem dX1_has_4 : decode cX1_has 4 = .ok (.iand, 1) := dk_126 (dk_at dksX1_has_0 4 rfl rfl)
theorem dX1_has_5 : decode cX1_has 5 = .ok (.iconst 1, 1) := dk_4 (dk_at dksX1_has_0 5 rfl rfl)
theorem dX1_has_6 : decode cX1_has 6 = .ok (.if_icmp .ne 7, 3) := dk_160 0 7 (dk_at dksX1_has_0 6 rfl rfl)
theorem dX1_has_9 : decode cX1_has 9 = .ok (.iconst 1, 1) := dk_4 (dk_at dksX1_has_0 9 rfl rfl)
theorem dX1_has_10 : decode cX1_has 10 = .ok (.goto 4, 3) := dk_167 0 4 (dk_at dksX1_has_0 10 rfl rfl)
theorem dX1_has_13 : decode cX1_has 13 = .ok (.iconst 0, 1) := dk_3 (dk_at dksX1_has_0 13 rfl rfl)
theorem dX1_has_14 : decode cX1_has 14 = .ok (.ireturn, 1) := dk_172 (dk_at dksX1_has_0 14 rfl rfl)
abbrev cX1_reachOf : ByteArray := prog_10_method_30_code
def yX1_reachOf : MethodName := ⟨RX1, "reachOf", "(II)I"⟩
def dkwX1_reachOf_0 : List UInt8 := [26, 27, 96, 16, 18, 164, 0, 8, 16, 18, 167, 0, 6, 26, 27, 96, 172]
abbrev dktX1_reachOf_0 : List UInt8 := dkwX1_reachOf_0 ++ []
theorem dksX1_reachOf_0 : cX1_reachOf.data.toList.drop 0 = dktX1_reachOf_0 := by decide +kernel
theorem dX1_reachOf_0 : decode cX1_reachOf 0 = .ok (.iload_n 0, 1) := dk_26 (dk_at dksX1_reachOf_0 0 rfl rfl)
theorem dX1_reachOf_1 : decode cX1_reachOf 1 = .ok (.iload_n 1, 1) := dk_27 (dk_at dksX1_reachOf_0 1 rfl rfl)
theorem dX1_reachOf_2 : decode cX1_reachOf 2 = .ok (.iadd, 1) := dk_96 (dk_at dksX1_reachOf_0 2 rfl rfl)
theorem dX1_reachOf_3 : decode cX1_reachOf 3 = .ok (.bipush 18, 2) := dk_16 18 (dk_at dksX1_reachOf_0 3 rfl rfl)
theorem dX1_reachOf_5 : decode cX1_reachOf 5 = .ok (.if_icmp .le 8, 3) := dk_164 0 8 (dk_at dksX1_reachOf_0 5 rfl rfl)
theorem dX1_reachOf_8 : decode cX1_reachOf 8 = .ok (.bipush 18, 2) := dk_16 18 (dk_at dksX1_reachOf_0 8 rfl rfl)
theorem dX1_reachOf_10 : decode cX1_reachOf 10 = .ok (.goto 6, 3) := dk_167 0 6 (dk_at dksX1_reachOf_0 10 rfl rfl)
theorem dX1_reachOf_13 : decode cX1_reachOf 13 = .ok (.iload_n 0, 1) := dk_26 (dk_at dksX1_reachOf_0 13 rfl rfl)
theorem dX1_reachOf_14 : decode cX1_reachOf 14 = .ok (.iload_n 1, 1) := dk_27 (dk_at dksX1_reachOf_0 14 rfl rfl)
theorem dX1_reachOf_15 : decode cX1_reachOf 15 = .ok (.iadd, 1) := dk_96 (dk_at dksX1_reachOf_0 15 rfl rfl)
theorem dX1_reachOf_16 : decode cX1_reachOf 16 = .ok (.ireturn, 1) := dk_172 (dk_at dksX1_reachOf_0 16 rfl rfl)
abbrev cX1_bedsIn : ByteArray := prog_10_method_35_code
def yX1_bedsIn : MethodName := ⟨RX1, "bedsIn", "(I)I"⟩
def dkwX1_bedsIn_2 : List UInt8 := [132, 3, 1, 167, 255, 209, 28, 172]
abbrev dktX1_bedsIn_2 : List UInt8 := dkwX1_bedsIn_2 ++ []
def dkwX1_bedsIn_1 : List UInt8 := [96, 46, 42, 180, 0, 7, 16, 70, 46, 182, 0, 135, 153, 0, 9, 4, 29, 120, 167, 0, 4, 3, 128, 61]
abbrev dktX1_bedsIn_1 : List UInt8 := dkwX1_bedsIn_1 ++ dktX1_bedsIn_2
def dkwX1_bedsIn_0 : List UInt8 := [3, 61, 3, 62, 29, 42, 180, 0, 7, 4, 46, 162, 0, 43, 28, 42, 27, 42, 180, 0, 7, 16, 72, 29]
abbrev dktX1_bedsIn_0 : List UInt8 := dkwX1_bedsIn_0 ++ dktX1_bedsIn_1
theorem dksX1_bedsIn_0 : cX1_bedsIn.data.toList.drop 0 = dktX1_bedsIn_0 := by decide +kernel
theorem dksX1_bedsIn_1 : cX1_bedsIn.data.toList.drop 24 = dktX1_bedsIn_1 := dk_seg dksX1_bedsIn_0 24 rfl rfl
theorem dksX1_bedsIn_2 : cX1_bedsIn.data.toList.drop 48 = dktX1_bedsIn_2 := dk_seg dksX1_bedsIn_1 24 rfl rfl
theorem dX1_bedsIn_0 : decode cX1_bedsIn 0 = .ok (.iconst 0, 1) := dk_3 (dk_at dksX1_bedsIn_0 0 rfl rfl)
theorem dX1_bedsIn_1 : decode cX1_bedsIn 1 = .ok (.istore_n 2, 1) := dk_61 (dk_at dksX1_bedsIn_0 1 rfl rfl)
theorem dX1_bedsIn_2 : decode cX1_bedsIn 2 = .ok (.iconst 0, 1) := dk_3 (dk_at dksX1_bedsIn_0 2 rfl rfl)
theorem dX1_bedsIn_3 : decode cX1_bedsIn 3 = .ok (.istore_n 3, 1) := dk_62 (dk_at dksX1_bedsIn_0 3 rfl rfl)
theorem dX1_bedsIn_4 : decode cX1_bedsIn 4 = .ok (.iload_n 3, 1) := dk_29 (dk_at dksX1_bedsIn_0 4 rfl rfl)
theorem dX1_bedsIn_5 : decode cX1_bedsIn 5 = .ok (.aload_n 0, 1) := dk_42 (dk_at dksX1_bedsIn_0 5 rfl rfl)
theorem dX1_bedsIn_6 : decode cX1_bedsIn 6 = .ok (.getfield 7, 3) := dk_180 0 7 (dk_at dksX1_bedsIn_0 6 rfl rfl)
theorem dX1_bedsIn_9 : decode cX1_bedsIn 9 = .ok (.iconst 1, 1) := dk_4 (dk_at dksX1_bedsIn_0 9 rfl rfl)
theorem dX1_bedsIn_10 : decode cX1_bedsIn 10 = .ok (.iaload, 1) := dk_46 (dk_at dksX1_bedsIn_0 10 rfl rfl)
theorem dX1_bedsIn_11 : decode cX1_bedsIn 11 = .ok (.if_icmp .ge 43, 3) := dk_162 0 43 (dk_at dksX1_bedsIn_0 11 rfl rfl)
theorem dX1_bedsIn_14 : decode cX1_bedsIn 14 = .ok (.iload_n 2, 1) := dk_28 (dk_at dksX1_bedsIn_0 14 rfl rfl)
theorem dX1_bedsIn_15 : decode cX1_bedsIn 15 = .ok (.aload_n 0, 1) := dk_42 (dk_at dksX1_bedsIn_0 15 rfl rfl)
theorem dX1_bedsIn_16 : decode cX1_bedsIn 16 = .ok (.iload_n 1, 1) := dk_27 (dk_at dksX1_bedsIn_0 16 rfl rfl)
theorem dX1_bedsIn_17 : decode cX1_bedsIn 17 = .ok (.aload_n 0, 1) := dk_42 (dk_at dksX1_bedsIn_0 17 rfl rfl)
theorem dX1_bedsIn_18 : decode cX1_bedsIn 18 = .ok (.getfield 7, 3) := dk_180 0 7 (dk_at dksX1_bedsIn_0 18 rfl rfl)
theorem dX1_bedsIn_21 : decode cX1_bedsIn 21 = .ok (.bipush 72, 2) := dk_16 72 (dk_at dksX1_bedsIn_0 21 rfl rfl)
theorem dX1_bedsIn_23 : decode cX1_bedsIn 23 = .ok (.iload_n 3, 1) := dk_29 (dk_at dksX1_bedsIn_0 23 rfl rfl)
theorem dX1_bedsIn_24 : decode cX1_bedsIn 24 = .ok (.iadd, 1) := dk_96 (dk_at dksX1_bedsIn_1 0 rfl rfl)
theorem dX1_bedsIn_25 : decode cX1_bedsIn 25 = .ok (.iaload, 1) := dk_46 (dk_at dksX1_bedsIn_1 1 rfl rfl)
theorem dX1_bedsIn_26 : decode cX1_bedsIn 26 = .ok (.aload_n 0, 1) := dk_42 (dk_at dksX1_bedsIn_1 2 rfl rfl)
theorem dX1_bedsIn_27 : decode cX1_bedsIn 27 = .ok (.getfield 7, 3) := dk_180 0 7 (dk_at dksX1_bedsIn_1 3 rfl rfl)
theorem dX1_bedsIn_30 : decode cX1_bedsIn 30 = .ok (.bipush 70, 2) := dk_16 70 (dk_at dksX1_bedsIn_1 6 rfl rfl)
theorem dX1_bedsIn_32 : decode cX1_bedsIn 32 = .ok (.iaload, 1) := dk_46 (dk_at dksX1_bedsIn_1 8 rfl rfl)
theorem dX1_bedsIn_33 : decode cX1_bedsIn 33 = .ok (.invokevirtual 135, 3) := dk_182 0 135 (dk_at dksX1_bedsIn_1 9 rfl rfl)
theorem dX1_bedsIn_36 : decode cX1_bedsIn 36 = .ok (.ifCond .eq 9, 3) := dk_153 0 9 (dk_at dksX1_bedsIn_1 12 rfl rfl)
theorem dX1_bedsIn_39 : decode cX1_bedsIn 39 = .ok (.iconst 1, 1) := dk_4 (dk_at dksX1_bedsIn_1 15 rfl rfl)
theorem dX1_bedsIn_40 : decode cX1_bedsIn 40 = .ok (.iload_n 3, 1) := dk_29 (dk_at dksX1_bedsIn_1 16 rfl rfl)
theorem dX1_bedsIn_41 : decode cX1_bedsIn 41 = .ok (.ishl, 1) := dk_120 (dk_at dksX1_bedsIn_1 17 rfl rfl)
theorem dX1_bedsIn_42 : decode cX1_bedsIn 42 = .ok (.goto 4, 3) := dk_167 0 4 (dk_at dksX1_bedsIn_1 18 rfl rfl)
theorem dX1_bedsIn_45 : decode cX1_bedsIn 45 = .ok (.iconst 0, 1) := dk_3 (dk_at dksX1_bedsIn_1 21 rfl rfl)
theorem dX1_bedsIn_46 : decode cX1_bedsIn 46 = .ok (.ior, 1) := dk_128 (dk_at dksX1_bedsIn_1 22 rfl rfl)
theorem dX1_bedsIn_47 : decode cX1_bedsIn 47 = .ok (.istore_n 2, 1) := dk_61 (dk_at dksX1_bedsIn_1 23 rfl rfl)
theorem dX1_bedsIn_48 : decode cX1_bedsIn 48 = .ok (.iinc 3 1, 3) := dk_132 3 1 (dk_at dksX1_bedsIn_2 0 rfl rfl)
theorem dX1_bedsIn_51 : decode cX1_bedsIn 51 = .ok (.goto (-47), 3) := dk_167 255 209 (dk_at dksX1_bedsIn_2 3 rfl rfl)
theorem dX1_bedsIn_54 : decode cX1_bedsIn 54 = .ok (.iload_n 2, 1) := dk_28 (dk_at dksX1_bedsIn_2 6 rfl rfl)
theorem dX1_bedsIn_55 : decode cX1_bedsIn 55 = .ok (.ireturn, 1) := dk_172 (dk_at dksX1_bedsIn_2 7 rfl rfl)
abbrev cX1_isIn : ByteArray := prog_10_method_32_code
def yX1_isIn : MethodName := ⟨RX1, "isIn", "(III)Z"⟩
def dkwX1_isIn_1 : List UInt8 := [96, 46, 29, 28, 184, 0, 127, 172]
abbrev dktX1_isIn_1 : List UInt8 := dkwX1_isIn_1 ++ []
def dkwX1_isIn_0 : List UInt8 := [42, 180, 0, 7, 5, 27, 96, 46, 42, 180, 0, 7, 16, 7, 27, 96, 46, 42, 180, 0, 7, 16, 12, 27]
abbrev dktX1_isIn_0 : List UInt8 := dkwX1_isIn_0 ++ dktX1_isIn_1
theorem dksX1_isIn_0 : cX1_isIn.data.toList.drop 0 = dktX1_isIn_0 := by decide +kernel
theorem dksX1_isIn_1 : cX1_isIn.data.toList.drop 24 = dktX1_isIn_1 := dk_seg dksX1_isIn_0 24 rfl rfl
theorem dX1_isIn_0 : decode cX1_isIn 0 = .ok (.aload_n 0, 1) := dk_42 (dk_at dksX1_isIn_0 0 rfl rfl)
theorem dX1_isIn_1 : decode cX1_isIn 1 = .ok (.getfield 7, 3) := dk_180 0 7 (dk_at dksX1_isIn_0 1 rfl rfl)
theorem dX1_isIn_4 : decode cX1_isIn 4 = .ok (.iconst 2, 1) := dk_5 (dk_at dksX1_isIn_0 4 rfl rfl)
theorem dX1_isIn_5 : decode cX1_isIn 5 = .ok (.iload_n 1, 1) := dk_27 (dk_at dksX1_isIn_0 5 rfl rfl)
theorem dX1_isIn_6 : decode cX1_isIn 6 = .ok (.iadd, 1) := dk_96 (dk_at dksX1_isIn_0 6 rfl rfl)
theorem dX1_isIn_7 : decode cX1_isIn 7 = .ok (.iaload, 1) := dk_46 (dk_at dksX1_isIn_0 7 rfl rfl)
theorem dX1_isIn_8 : decode cX1_isIn 8 = .ok (.aload_n 0, 1) := dk_42 (dk_at dksX1_isIn_0 8 rfl rfl)
theorem dX1_isIn_9 : decode cX1_isIn 9 = .ok (.getfield 7, 3) := dk_180 0 7 (dk_at dksX1_isIn_0 9 rfl rfl)
theorem dX1_isIn_12 : decode cX1_isIn 12 = .ok (.bipush 7, 2) := dk_16 7 (dk_at dksX1_isIn_0 12 rfl rfl)
theorem dX1_isIn_14 : decode cX1_isIn 14 = .ok (.iload_n 1, 1) := dk_27 (dk_at dksX1_isIn_0 14 rfl rfl)
theorem dX1_isIn_15 : decode cX1_isIn 15 = .ok (.iadd, 1) := dk_96 (dk_at dksX1_isIn_0 15 rfl rfl)
theorem dX1_isIn_16 : decode cX1_isIn 16 = .ok (.iaload, 1) := dk_46 (dk_at dksX1_isIn_0 16 rfl rfl)
theorem dX1_isIn_17 : decode cX1_isIn 17 = .ok (.aload_n 0, 1) := dk_42 (dk_at dksX1_isIn_0 17 rfl rfl)
theorem dX1_isIn_18 : decode cX1_isIn 18 = .ok (.getfield 7, 3) := dk_180 0 7 (dk_at dksX1_isIn_0 18 rfl rfl)
theorem dX1_isIn_21 : decode cX1_isIn 21 = .ok (.bipush 12, 2) := dk_16 12 (dk_at dksX1_isIn_0 21 rfl rfl)
theorem dX1_isIn_23 : decode cX1_isIn 23 = .ok (.iload_n 1, 1) := dk_27 (dk_at dksX1_isIn_0 23 rfl rfl)
theorem dX1_isIn_24 : decode cX1_isIn 24 = .ok (.iadd, 1) := dk_96 (dk_at dksX1_isIn_1 0 rfl rfl)
theorem dX1_isIn_25 : decode cX1_isIn 25 = .ok (.iaload, 1) := dk_46 (dk_at dksX1_isIn_1 1 rfl rfl)
theorem dX1_isIn_26 : decode cX1_isIn 26 = .ok (.iload_n 3, 1) := dk_29 (dk_at dksX1_isIn_1 2 rfl rfl)
theorem dX1_isIn_27 : decode cX1_isIn 27 = .ok (.iload_n 2, 1) := dk_28 (dk_at dksX1_isIn_1 3 rfl rfl)
theorem dX1_isIn_28 : decode cX1_isIn 28 = .ok (.invokestatic 127, 3) := dk_184 0 127 (dk_at dksX1_isIn_1 4 rfl rfl)
theorem dX1_isIn_31 : decode cX1_isIn 31 = .ok (.ireturn, 1) := dk_172 (dk_at dksX1_isIn_1 7 rfl rfl)
abbrev cX1_isWithin : ByteArray := prog_10_method_31_code
def yX1_isWithin : MethodName := ⟨RX1, "isWithin", "(IIIII)Z"⟩
def dkwX1_isWithin_8 : List UInt8 := [163, 0, 7, 4, 167, 0, 4, 3, 172]
abbrev dktX1_isWithin_8 : List UInt8 := dkwX1_isWithin_8 ++ []
def dkwX1_isWithin_7 : List UInt8 := [167, 0, 19, 3, 167, 0, 15, 21, 6, 21, 5, 163, 0, 7, 4, 167, 0, 4, 3, 172, 21, 6, 21, 5]
abbrev dktX1_isWithin_7 : List UInt8 := dkwX1_isWithin_7 ++ dktX1_isWithin_8
def dkwX1_isWithin_6 : List UInt8 := [161, 0, 7, 4, 167, 0, 4, 3, 172, 21, 7, 153, 0, 20, 21, 6, 21, 5, 5, 108, 162, 0, 7, 4]
abbrev dktX1_isWithin_6 : List UInt8 := dkwX1_isWithin_6 ++ dktX1_isWithin_7
def dkwX1_isWithin_5 : List UInt8 := [5, 112, 154, 0, 7, 4, 167, 0, 4, 3, 172, 21, 6, 21, 5, 162, 0, 16, 21, 6, 21, 5, 5, 108]
abbrev dktX1_isWithin_5 : List UInt8 := dkwX1_isWithin_5 ++ dktX1_isWithin_6
def dkwX1_isWithin_4 : List UInt8 := [21, 5, 163, 0, 12, 21, 7, 154, 0, 7, 4, 167, 0, 4, 3, 172, 21, 6, 21, 5, 163, 0, 13, 29]
abbrev dktX1_isWithin_4 : List UInt8 := dkwX1_isWithin_4 ++ dktX1_isWithin_5
def dkwX1_isWithin_3 : List UInt8 := [21, 6, 21, 5, 163, 0, 16, 21, 6, 21, 5, 5, 108, 161, 0, 7, 4, 167, 0, 4, 3, 172, 21, 6]
abbrev dktX1_isWithin_3 : List UInt8 := dkwX1_isWithin_3 ++ dktX1_isWithin_4
def dkwX1_isWithin_2 : List UInt8 := [170, 0, 0, 0, 149, 0, 0, 0, 1, 0, 0, 0, 5, 0, 0, 0, 33, 0, 0, 0, 55, 0, 0, 0, 73, 0, 0, 0, 92, 0, 0, 0, 114]
abbrev dktX1_isWithin_2 : List UInt8 := dkwX1_isWithin_2 ++ dktX1_isWithin_3
def dkwX1_isWithin_1 : List UInt8 := [162, 0, 7, 4, 167, 0, 4, 3, 54, 7, 26]
abbrev dktX1_isWithin_1 : List UInt8 := dkwX1_isWithin_1 ++ dktX1_isWithin_2
def dkwX1_isWithin_0 : List UInt8 := [28, 29, 184, 0, 121, 54, 5, 27, 21, 4, 184, 0, 124, 54, 6, 21, 4, 16, 10, 112, 27, 16, 10, 112]
abbrev dktX1_isWithin_0 : List UInt8 := dkwX1_isWithin_0 ++ dktX1_isWithin_1
theorem dksX1_isWithin_0 : cX1_isWithin.data.toList.drop 0 = dktX1_isWithin_0 := by decide +kernel
theorem dksX1_isWithin_1 : cX1_isWithin.data.toList.drop 24 = dktX1_isWithin_1 := dk_seg dksX1_isWithin_0 24 rfl rfl
theorem dksX1_isWithin_2 : cX1_isWithin.data.toList.drop 35 = dktX1_isWithin_2 := dk_seg dksX1_isWithin_1 11 rfl rfl
theorem dksX1_isWithin_3 : cX1_isWithin.data.toList.drop 68 = dktX1_isWithin_3 := dk_seg dksX1_isWithin_2 33 rfl rfl
theorem dksX1_isWithin_4 : cX1_isWithin.data.toList.drop 92 = dktX1_isWithin_4 := dk_seg dksX1_isWithin_3 24 rfl rfl
theorem dksX1_isWithin_5 : cX1_isWithin.data.toList.drop 116 = dktX1_isWithin_5 := dk_seg dksX1_isWithin_4 24 rfl rfl
theorem dksX1_isWithin_6 : cX1_isWithin.data.toList.drop 140 = dktX1_isWithin_6 := dk_seg dksX1_isWithin_5 24 rfl rfl
theorem dksX1_isWithin_7 : cX1_isWithin.data.toList.drop 164 = dktX1_isWithin_7 := dk_seg dksX1_isWithin_6 24 rfl rfl
theorem dksX1_isWithin_8 : cX1_isWithin.data.toList.drop 188 = dktX1_isWithin_8 := dk_seg dksX1_isWithin_7 24 rfl rfl
theorem dX1_isWithin_0 : decode cX1_isWithin 0 = .ok (.iload_n 2, 1) := dk_28 (dk_at dksX1_isWithin_0 0 rfl rfl)
theorem dX1_isWithin_1 : decode cX1_isWithin 1 = .ok (.iload_n 3, 1) := dk_29 (dk_at dksX1_isWithin_0 1 rfl rfl)
theorem dX1_isWithin_2 : decode cX1_isWithin 2 = .ok (.invokestatic 121, 3) := dk_184 0 121 (dk_at dksX1_isWithin_0 2 rfl rfl)
theorem dX1_isWithin_5 : decode cX1_isWithin 5 = .ok (.istore 5, 2) := dk_54 5 (dk_at dksX1_isWithin_0 5 rfl rfl)
theorem dX1_isWithin_7 : decode cX1_isWithin 7 = .ok (.iload_n 1, 1) := dk_27 (dk_at dksX1_isWithin_0 7 rfl rfl)
theorem dX1_isWithin_8 : decode cX1_isWithin 8 = .ok (.iload 4, 2) := dk_21 4 (dk_at dksX1_isWithin_0 8 rfl rfl)
theorem dX1_isWithin_10 : decode cX1_isWithin 10 = .ok (.invokestatic 124, 3) := dk_184 0 124 (dk_at dksX1_isWithin_0 10 rfl rfl)
theorem dX1_isWithin_13 : decode cX1_isWithin 13 = .ok (.istore 6, 2) := dk_54 6 (dk_at dksX1_isWithin_0 13 rfl rfl)
theorem dX1_isWithin_15 : decode cX1_isWithin 15 = .ok (.iload 4, 2) := dk_21 4 (dk_at dksX1_isWithin_0 15 rfl rfl)
theorem dX1_isWithin_17 : decode cX1_isWithin 17 = .ok (.bipush 10, 2) := dk_16 10 (dk_at dksX1_isWithin_0 17 rfl rfl)
theorem dX1_isWithin_19 : decode cX1_isWithin 19 = .ok (.irem, 1) := dk_112 (dk_at dksX1_isWithin_0 19 rfl rfl)
theorem dX1_isWithin_20 : decode cX1_isWithin 20 = .ok (.iload_n 1, 1) := dk_27 (dk_at dksX1_isWithin_0 20 rfl rfl)
theorem dX1_isWithin_21 : decode cX1_isWithin 21 = .ok (.bipush 10, 2) := dk_16 10 (dk_at dksX1_isWithin_0 21 rfl rfl)
theorem dX1_isWithin_23 : decode cX1_isWithin 23 = .ok (.irem, 1) := dk_112 (dk_at dksX1_isWithin_0 23 rfl rfl)
theorem dX1_isWithin_24 : decode cX1_isWithin 24 = .ok (.if_icmp .ge 7, 3) := dk_162 0 7 (dk_at dksX1_isWithin_1 0 rfl rfl)
theorem dX1_isWithin_27 : decode cX1_isWithin 27 = .ok (.iconst 1, 1) := dk_4 (dk_at dksX1_isWithin_1 3 rfl rfl)
theorem dX1_isWithin_28 : decode cX1_isWithin 28 = .ok (.goto 4, 3) := dk_167 0 4 (dk_at dksX1_isWithin_1 4 rfl rfl)
theorem dX1_isWithin_31 : decode cX1_isWithin 31 = .ok (.iconst 0, 1) := dk_3 (dk_at dksX1_isWithin_1 7 rfl rfl)
theorem dX1_isWithin_32 : decode cX1_isWithin 32 = .ok (.istore 7, 2) := dk_54 7 (dk_at dksX1_isWithin_1 8 rfl rfl)
theorem dX1_isWithin_34 : decode cX1_isWithin 34 = .ok (.iload_n 0, 1) := dk_26 (dk_at dksX1_isWithin_1 10 rfl rfl)
theorem dX1_isWithin_35 : decode cX1_isWithin 35 = .ok (.tableswitch 149 1 5 #[33, 55, 73, 92, 114], 33) := by decide +kernel
theorem dX1_isWithin_68 : decode cX1_isWithin 68 = .ok (.iload 6, 2) := dk_21 6 (dk_at dksX1_isWithin_3 0 rfl rfl)
theorem dX1_isWithin_70 : decode cX1_isWithin 70 = .ok (.iload 5, 2) := dk_21 5 (dk_at dksX1_isWithin_3 2 rfl rfl)
theorem dX1_isWithin_72 : decode cX1_isWithin 72 = .ok (.if_icmp .gt 16, 3) := dk_163 0 16 (dk_at dksX1_isWithin_3 4 rfl rfl)
theorem dX1_isWithin_75 : decode cX1_isWithin 75 = .ok (.iload 6, 2) := dk_21 6 (dk_at dksX1_isWithin_3 7 rfl rfl)
theorem dX1_isWithin_77 : decode cX1_isWithin 77 = .ok (.iload 5, 2) := dk_21 5 (dk_at dksX1_isWithin_3 9 rfl rfl)
theorem dX1_isWithin_79 : decode cX1_isWithin 79 = .ok (.iconst 2, 1) := dk_5 (dk_at dksX1_isWithin_3 11 rfl rfl)
theorem dX1_isWithin_80 : decode cX1_isWithin 80 = .ok (.idiv, 1) := dk_108 (dk_at dksX1_isWithin_3 12 rfl rfl)
theorem dX1_isWithin_81 : decode cX1_isWithin 81 = .ok (.if_icmp .lt 7, 3) := dk_161 0 7 (dk_at dksX1_isWithin_3 13 rfl rfl)
theorem dX1_isWithin_84 : decode cX1_isWithin 84 = .ok (.iconst 1, 1) := dk_4 (dk_at dksX1_isWithin_3 16 rfl rfl)
theorem dX1_isWithin_85 : decode cX1_isWithin 85 = .ok (.goto 4, 3) := dk_167 0 4 (dk_at dksX1_isWithin_3 17 rfl rfl)
theorem dX1_isWithin_88 : decode cX1_isWithin 88 = .ok (.iconst 0, 1) := dk_3 (dk_at dksX1_isWithin_3 20 rfl rfl)
theorem dX1_isWithin_89 : decode cX1_isWithin 89 = .ok (.ireturn, 1) := dk_172 (dk_at dksX1_isWithin_3 21 rfl rfl)
theorem dX1_isWithin_90 : decode cX1_isWithin 90 = .ok (.iload 6, 2) := dk_21 6 (dk_at dksX1_isWithin_3 22 rfl rfl)
theorem dX1_isWithin_92 : decode cX1_isWithin 92 = .ok (.iload 5, 2) := dk_21 5 (dk_at dksX1_isWithin_4 0 rfl rfl)
theorem dX1_isWithin_94 : decode cX1_isWithin 94 = .ok (.if_icmp .gt 12, 3) := dk_163 0 12 (dk_at dksX1_isWithin_4 2 rfl rfl)
theorem dX1_isWithin_97 : decode cX1_isWithin 97 = .ok (.iload 7, 2) := dk_21 7 (dk_at dksX1_isWithin_4 5 rfl rfl)
theorem dX1_isWithin_99 : decode cX1_isWithin 99 = .ok (.ifCond .ne 7, 3) := dk_154 0 7 (dk_at dksX1_isWithin_4 7 rfl rfl)
theorem dX1_isWithin_102 : decode cX1_isWithin 102 = .ok (.iconst 1, 1) := dk_4 (dk_at dksX1_isWithin_4 10 rfl rfl)
theorem dX1_isWithin_103 : decode cX1_isWithin 103 = .ok (.goto 4, 3) := dk_167 0 4 (dk_at dksX1_isWithin_4 11 rfl rfl)
theorem dX1_isWithin_106 : decode cX1_isWithin 106 = .ok (.iconst 0, 1) := dk_3 (dk_at dksX1_isWithin_4 14 rfl rfl)
theorem dX1_isWithin_107 : decode cX1_isWithin 107 = .ok (.ireturn, 1) := dk_172 (dk_at dksX1_isWithin_4 15 rfl rfl)
theorem dX1_isWithin_108 : decode cX1_isWithin 108 = .ok (.iload 6, 2) := dk_21 6 (dk_at dksX1_isWithin_4 16 rfl rfl)
theorem dX1_isWithin_110 : decode cX1_isWithin 110 = .ok (.iload 5, 2) := dk_21 5 (dk_at dksX1_isWithin_4 18 rfl rfl)
theorem dX1_isWithin_112 : decode cX1_isWithin 112 = .ok (.if_icmp .gt 13, 3) := dk_163 0 13 (dk_at dksX1_isWithin_4 20 rfl rfl)
theorem dX1_isWithin_115 : decode cX1_isWithin 115 = .ok (.iload_n 3, 1) := dk_29 (dk_at dksX1_isWithin_4 23 rfl rfl)
theorem dX1_isWithin_116 : decode cX1_isWithin 116 = .ok (.iconst 2, 1) := dk_5 (dk_at dksX1_isWithin_5 0 rfl rfl)
theorem dX1_isWithin_117 : decode cX1_isWithin 117 = .ok (.irem, 1) := dk_112 (dk_at dksX1_isWithin_5 1 rfl rfl)
theorem dX1_isWithin_118 : decode cX1_isWithin 118 = .ok (.ifCond .ne 7, 3) := dk_154 0 7 (dk_at dksX1_isWithin_5 2 rfl rfl)
theorem dX1_isWithin_121 : decode cX1_isWithin 121 = .ok (.iconst 1, 1) := dk_4 (dk_at dksX1_isWithin_5 5 rfl rfl)
theorem dX1_isWithin_122 : decode cX1_isWithin 122 = .ok (.goto 4, 3) := dk_167 0 4 (dk_at dksX1_isWithin_5 6 rfl rfl)
theorem dX1_isWithin_125 : decode cX1_isWithin 125 = .ok (.iconst 0, 1) := dk_3 (dk_at dksX1_isWithin_5 9 rfl rfl)
theorem dX1_isWithin_126 : decode cX1_isWithin 126 = .ok (.ireturn, 1) := dk_172 (dk_at dksX1_isWithin_5 10 rfl rfl)
theorem dX1_isWithin_127 : decode cX1_isWithin 127 = .ok (.iload 6, 2) := dk_21 6 (dk_at dksX1_isWithin_5 11 rfl rfl)
theorem dX1_isWithin_129 : decode cX1_isWithin 129 = .ok (.iload 5, 2) := dk_21 5 (dk_at dksX1_isWithin_5 13 rfl rfl)
theorem dX1_isWithin_131 : decode cX1_isWithin 131 = .ok (.if_icmp .ge 16, 3) := dk_162 0 16 (dk_at dksX1_isWithin_5 15 rfl rfl)
theorem dX1_isWithin_134 : decode cX1_isWithin 134 = .ok (.iload 6, 2) := dk_21 6 (dk_at dksX1_isWithin_5 18 rfl rfl)
theorem dX1_isWithin_136 : decode cX1_isWithin 136 = .ok (.iload 5, 2) := dk_21 5 (dk_at dksX1_isWithin_5 20 rfl rfl)
theorem dX1_isWithin_138 : decode cX1_isWithin 138 = .ok (.iconst 2, 1) := dk_5 (dk_at dksX1_isWithin_5 22 rfl rfl)
theorem dX1_isWithin_139 : decode cX1_isWithin 139 = .ok (.idiv, 1) := dk_108 (dk_at dksX1_isWithin_5 23 rfl rfl)
theorem dX1_isWithin_140 : decode cX1_isWithin 140 = .ok (.if_icmp .lt 7, 3) := dk_161 0 7 (dk_at dksX1_isWithin_6 0 rfl rfl)
theorem dX1_isWithin_143 : decode cX1_isWithin 143 = .ok (.iconst 1, 1) := dk_4 (dk_at dksX1_isWithin_6 3 rfl rfl)
theorem dX1_isWithin_144 : decode cX1_isWithin 144 = .ok (.goto 4, 3) := dk_167 0 4 (dk_at dksX1_isWithin_6 4 rfl rfl)
theorem dX1_isWithin_147 : decode cX1_isWithin 147 = .ok (.iconst 0, 1) := dk_3 (dk_at dksX1_isWithin_6 7 rfl rfl)
theorem dX1_isWithin_148 : decode cX1_isWithin 148 = .ok (.ireturn, 1) := dk_172 (dk_at dksX1_isWithin_6 8 rfl rfl)
theorem dX1_isWithin_149 : decode cX1_isWithin 149 = .ok (.iload 7, 2) := dk_21 7 (dk_at dksX1_isWithin_6 9 rfl rfl)
theorem dX1_isWithin_151 : decode cX1_isWithin 151 = .ok (.ifCond .eq 20, 3) := dk_153 0 20 (dk_at dksX1_isWithin_6 11 rfl rfl)
theorem dX1_isWithin_154 : decode cX1_isWithin 154 = .ok (.iload 6, 2) := dk_21 6 (dk_at dksX1_isWithin_6 14 rfl rfl)
theorem dX1_isWithin_156 : decode cX1_isWithin 156 = .ok (.iload 5, 2) := dk_21 5 (dk_at dksX1_isWithin_6 16 rfl rfl)
theorem dX1_isWithin_158 : decode cX1_isWithin 158 = .ok (.iconst 2, 1) := dk_5 (dk_at dksX1_isWithin_6 18 rfl rfl)
theorem dX1_isWithin_159 : decode cX1_isWithin 159 = .ok (.idiv, 1) := dk_108 (dk_at dksX1_isWithin_6 19 rfl rfl)
theorem dX1_isWithin_160 : decode cX1_isWithin 160 = .ok (.if_icmp .ge 7, 3) := dk_162 0 7 (dk_at dksX1_isWithin_6 20 rfl rfl)
theorem dX1_isWithin_163 : decode cX1_isWithin 163 = .ok (.iconst 1, 1) := dk_4 (dk_at dksX1_isWithin_6 23 rfl rfl)
theorem dX1_isWithin_164 : decode cX1_isWithin 164 = .ok (.goto 19, 3) := dk_167 0 19 (dk_at dksX1_isWithin_7 0 rfl rfl)
theorem dX1_isWithin_167 : decode cX1_isWithin 167 = .ok (.iconst 0, 1) := dk_3 (dk_at dksX1_isWithin_7 3 rfl rfl)
theorem dX1_isWithin_168 : decode cX1_isWithin 168 = .ok (.goto 15, 3) := dk_167 0 15 (dk_at dksX1_isWithin_7 4 rfl rfl)
theorem dX1_isWithin_171 : decode cX1_isWithin 171 = .ok (.iload 6, 2) := dk_21 6 (dk_at dksX1_isWithin_7 7 rfl rfl)
theorem dX1_isWithin_173 : decode cX1_isWithin 173 = .ok (.iload 5, 2) := dk_21 5 (dk_at dksX1_isWithin_7 9 rfl rfl)
theorem dX1_isWithin_175 : decode cX1_isWithin 175 = .ok (.if_icmp .gt 7, 3) := dk_163 0 7 (dk_at dksX1_isWithin_7 11 rfl rfl)
theorem dX1_isWithin_178 : decode cX1_isWithin 178 = .ok (.iconst 1, 1) := dk_4 (dk_at dksX1_isWithin_7 14 rfl rfl)
theorem dX1_isWithin_179 : decode cX1_isWithin 179 = .ok (.goto 4, 3) := dk_167 0 4 (dk_at dksX1_isWithin_7 15 rfl rfl)
theorem dX1_isWithin_182 : decode cX1_isWithin 182 = .ok (.iconst 0, 1) := dk_3 (dk_at dksX1_isWithin_7 18 rfl rfl)
theorem dX1_isWithin_183 : decode cX1_isWithin 183 = .ok (.ireturn, 1) := dk_172 (dk_at dksX1_isWithin_7 19 rfl rfl)
theorem dX1_isWithin_184 : decode cX1_isWithin 184 = .ok (.iload 6, 2) := dk_21 6 (dk_at dksX1_isWithin_7 20 rfl rfl)
theorem dX1_isWithin_186 : decode cX1_isWithin 186 = .ok (.iload 5, 2) := dk_21 5 (dk_at dksX1_isWithin_7 22 rfl rfl)
theorem dX1_isWithin_188 : decode cX1_isWithin 188 = .ok (.if_icmp .gt 7, 3) := dk_163 0 7 (dk_at dksX1_isWithin_8 0 rfl rfl)
theorem dX1_isWithin_191 : decode cX1_isWithin 191 = .ok (.iconst 1, 1) := dk_4 (dk_at dksX1_isWithin_8 3 rfl rfl)
theorem dX1_isWithin_192 : decode cX1_isWithin 192 = .ok (.goto 4, 3) := dk_167 0 4 (dk_at dksX1_isWithin_8 4 rfl rfl)
theorem dX1_isWithin_195 : decode cX1_isWithin 195 = .ok (.iconst 0, 1) := dk_3 (dk_at dksX1_isWithin_8 7 rfl rfl)
theorem dX1_isWithin_196 : decode cX1_isWithin 196 = .ok (.ireturn, 1) := dk_172 (dk_at dksX1_isWithin_8 8 rfl rfl)
abbrev cX1_distance : ByteArray := prog_10_method_29_code
def yX1_distance : MethodName := ⟨RX1, "distance", "(II)I"⟩
def dkwX1_distance_1 : List UInt8 := [28, 116, 167, 0, 4, 28, 29, 156, 0, 8, 29, 116, 167, 0, 4, 29, 96, 172]
abbrev dktX1_distance_1 : List UInt8 := dkwX1_distance_1 ++ []
def dkwX1_distance_0 : List UInt8 := [26, 16, 10, 108, 27, 16, 10, 108, 100, 61, 26, 16, 10, 112, 27, 16, 10, 112, 100, 62, 28, 156, 0, 8]
abbrev dktX1_distance_0 : List UInt8 := dkwX1_distance_0 ++ dktX1_distance_1
theorem dksX1_distance_0 : cX1_distance.data.toList.drop 0 = dktX1_distance_0 := by decide +kernel
theorem dksX1_distance_1 : cX1_distance.data.toList.drop 24 = dktX1_distance_1 := dk_seg dksX1_distance_0 24 rfl rfl
theorem dX1_distance_0 : decode cX1_distance 0 = .ok (.iload_n 0, 1) := dk_26 (dk_at dksX1_distance_0 0 rfl rfl)
theorem dX1_distance_1 : decode cX1_distance 1 = .ok (.bipush 10, 2) := dk_16 10 (dk_at dksX1_distance_0 1 rfl rfl)
theorem dX1_distance_3 : decode cX1_distance 3 = .ok (.idiv, 1) := dk_108 (dk_at dksX1_distance_0 3 rfl rfl)
theorem dX1_distance_4 : decode cX1_distance 4 = .ok (.iload_n 1, 1) := dk_27 (dk_at dksX1_distance_0 4 rfl rfl)
theorem dX1_distance_5 : decode cX1_distance 5 = .ok (.bipush 10, 2) := dk_16 10 (dk_at dksX1_distance_0 5 rfl rfl)
theorem dX1_distance_7 : decode cX1_distance 7 = .ok (.idiv, 1) := dk_108 (dk_at dksX1_distance_0 7 rfl rfl)
theorem dX1_distance_8 : decode cX1_distance 8 = .ok (.isub, 1) := dk_100 (dk_at dksX1_distance_0 8 rfl rfl)
theorem dX1_distance_9 : decode cX1_distance 9 = .ok (.istore_n 2, 1) := dk_61 (dk_at dksX1_distance_0 9 rfl rfl)
theorem dX1_distance_10 : decode cX1_distance 10 = .ok (.iload_n 0, 1) := dk_26 (dk_at dksX1_distance_0 10 rfl rfl)
theorem dX1_distance_11 : decode cX1_distance 11 = .ok (.bipush 10, 2) := dk_16 10 (dk_at dksX1_distance_0 11 rfl rfl)
theorem dX1_distance_13 : decode cX1_distance 13 = .ok (.irem, 1) := dk_112 (dk_at dksX1_distance_0 13 rfl rfl)
theorem dX1_distance_14 : decode cX1_distance 14 = .ok (.iload_n 1, 1) := dk_27 (dk_at dksX1_distance_0 14 rfl rfl)
theorem dX1_distance_15 : decode cX1_distance 15 = .ok (.bipush 10, 2) := dk_16 10 (dk_at dksX1_distance_0 15 rfl rfl)
theorem dX1_distance_17 : decode cX1_distance 17 = .ok (.irem, 1) := dk_112 (dk_at dksX1_distance_0 17 rfl rfl)
theorem dX1_distance_18 : decode cX1_distance 18 = .ok (.isub, 1) := dk_100 (dk_at dksX1_distance_0 18 rfl rfl)
theorem dX1_distance_19 : decode cX1_distance 19 = .ok (.istore_n 3, 1) := dk_62 (dk_at dksX1_distance_0 19 rfl rfl)
theorem dX1_distance_20 : decode cX1_distance 20 = .ok (.iload_n 2, 1) := dk_28 (dk_at dksX1_distance_0 20 rfl rfl)
theorem dX1_distance_21 : decode cX1_distance 21 = .ok (.ifCond .ge 8, 3) := dk_156 0 8 (dk_at dksX1_distance_0 21 rfl rfl)
theorem dX1_distance_24 : decode cX1_distance 24 = .ok (.iload_n 2, 1) := dk_28 (dk_at dksX1_distance_1 0 rfl rfl)
theorem dX1_distance_25 : decode cX1_distance 25 = .ok (.ineg, 1) := dk_116 (dk_at dksX1_distance_1 1 rfl rfl)
theorem dX1_distance_26 : decode cX1_distance 26 = .ok (.goto 4, 3) := dk_167 0 4 (dk_at dksX1_distance_1 2 rfl rfl)
theorem dX1_distance_29 : decode cX1_distance 29 = .ok (.iload_n 2, 1) := dk_28 (dk_at dksX1_distance_1 5 rfl rfl)
theorem dX1_distance_30 : decode cX1_distance 30 = .ok (.iload_n 3, 1) := dk_29 (dk_at dksX1_distance_1 6 rfl rfl)
theorem dX1_distance_31 : decode cX1_distance 31 = .ok (.ifCond .ge 8, 3) := dk_156 0 8 (dk_at dksX1_distance_1 7 rfl rfl)
theorem dX1_distance_34 : decode cX1_distance 34 = .ok (.iload_n 3, 1) := dk_29 (dk_at dksX1_distance_1 10 rfl rfl)
theorem dX1_distance_35 : decode cX1_distance 35 = .ok (.ineg, 1) := dk_116 (dk_at dksX1_distance_1 11 rfl rfl)
theorem dX1_distance_36 : decode cX1_distance 36 = .ok (.goto 4, 3) := dk_167 0 4 (dk_at dksX1_distance_1 12 rfl rfl)
theorem dX1_distance_39 : decode cX1_distance 39 = .ok (.iload_n 3, 1) := dk_29 (dk_at dksX1_distance_1 15 rfl rfl)
theorem dX1_distance_40 : decode cX1_distance 40 = .ok (.iadd, 1) := dk_96 (dk_at dksX1_distance_1 16 rfl rfl)
theorem dX1_distance_41 : decode cX1_distance 41 = .ok (.ireturn, 1) := dk_172 (dk_at dksX1_distance_1 17 rfl rfl)
abbrev cX1_decided : ByteArray := prog_10_method_36_code
def yX1_decided : MethodName := ⟨RX1, "decided", "(I)I"⟩
def dkwX1_decided_2 : List UInt8 := [16, 247, 167, 0, 7, 28, 16, 10, 112, 172]
abbrev dktX1_decided_2 : List UInt8 := dkwX1_decided_2 ++ []
def dkwX1_decided_1 : List UInt8 := [180, 0, 7, 16, 78, 29, 96, 46, 167, 0, 4, 3, 96, 61, 132, 3, 1, 167, 255, 219, 27, 154, 0, 8]
abbrev dktX1_decided_1 : List UInt8 := dkwX1_decided_1 ++ dktX1_decided_2
def dkwX1_decided_0 : List UInt8 := [3, 61, 3, 62, 29, 42, 180, 0, 7, 4, 46, 162, 0, 33, 28, 27, 29, 184, 0, 131, 153, 0, 15, 42]
abbrev dktX1_decided_0 : List UInt8 := dkwX1_decided_0 ++ dktX1_decided_1
theorem dksX1_decided_0 : cX1_decided.data.toList.drop 0 = dktX1_decided_0 := by decide +kernel
theorem dksX1_decided_1 : cX1_decided.data.toList.drop 24 = dktX1_decided_1 := dk_seg dksX1_decided_0 24 rfl rfl
theorem dksX1_decided_2 : cX1_decided.data.toList.drop 48 = dktX1_decided_2 := dk_seg dksX1_decided_1 24 rfl rfl
theorem dX1_decided_0 : decode cX1_decided 0 = .ok (.iconst 0, 1) := dk_3 (dk_at dksX1_decided_0 0 rfl rfl)
theorem dX1_decided_1 : decode cX1_decided 1 = .ok (.istore_n 2, 1) := dk_61 (dk_at dksX1_decided_0 1 rfl rfl)
theorem dX1_decided_2 : decode cX1_decided 2 = .ok (.iconst 0, 1) := dk_3 (dk_at dksX1_decided_0 2 rfl rfl)
theorem dX1_decided_3 : decode cX1_decided 3 = .ok (.istore_n 3, 1) := dk_62 (dk_at dksX1_decided_0 3 rfl rfl)
theorem dX1_decided_4 : decode cX1_decided 4 = .ok (.iload_n 3, 1) := dk_29 (dk_at dksX1_decided_0 4 rfl rfl)
theorem dX1_decided_5 : decode cX1_decided 5 = .ok (.aload_n 0, 1) := dk_42 (dk_at dksX1_decided_0 5 rfl rfl)
theorem dX1_decided_6 : decode cX1_decided 6 = .ok (.getfield 7, 3) := dk_180 0 7 (dk_at dksX1_decided_0 6 rfl rfl)
theorem dX1_decided_9 : decode cX1_decided 9 = .ok (.iconst 1, 1) := dk_4 (dk_at dksX1_decided_0 9 rfl rfl)
theorem dX1_decided_10 : decode cX1_decided 10 = .ok (.iaload, 1) := dk_46 (dk_at dksX1_decided_0 10 rfl rfl)
theorem dX1_decided_11 : decode cX1_decided 11 = .ok (.if_icmp .ge 33, 3) := dk_162 0 33 (dk_at dksX1_decided_0 11 rfl rfl)
theorem dX1_decided_14 : decode cX1_decided 14 = .ok (.iload_n 2, 1) := dk_28 (dk_at dksX1_decided_0 14 rfl rfl)
theorem dX1_decided_15 : decode cX1_decided 15 = .ok (.iload_n 1, 1) := dk_27 (dk_at dksX1_decided_0 15 rfl rfl)
theorem dX1_decided_16 : decode cX1_decided 16 = .ok (.iload_n 3, 1) := dk_29 (dk_at dksX1_decided_0 16 rfl rfl)
theorem dX1_decided_17 : decode cX1_decided 17 = .ok (.invokestatic 131, 3) := dk_184 0 131 (dk_at dksX1_decided_0 17 rfl rfl)
theorem dX1_decided_20 : decode cX1_decided 20 = .ok (.ifCond .eq 15, 3) := dk_153 0 15 (dk_at dksX1_decided_0 20 rfl rfl)
theorem dX1_decided_23 : decode cX1_decided 23 = .ok (.aload_n 0, 1) := dk_42 (dk_at dksX1_decided_0 23 rfl rfl)
theorem dX1_decided_24 : decode cX1_decided 24 = .ok (.getfield 7, 3) := dk_180 0 7 (dk_at dksX1_decided_1 0 rfl rfl)
theorem dX1_decided_27 : decode cX1_decided 27 = .ok (.bipush 78, 2) := dk_16 78 (dk_at dksX1_decided_1 3 rfl rfl)
theorem dX1_decided_29 : decode cX1_decided 29 = .ok (.iload_n 3, 1) := dk_29 (dk_at dksX1_decided_1 5 rfl rfl)
theorem dX1_decided_30 : decode cX1_decided 30 = .ok (.iadd, 1) := dk_96 (dk_at dksX1_decided_1 6 rfl rfl)
theorem dX1_decided_31 : decode cX1_decided 31 = .ok (.iaload, 1) := dk_46 (dk_at dksX1_decided_1 7 rfl rfl)
theorem dX1_decided_32 : decode cX1_decided 32 = .ok (.goto 4, 3) := dk_167 0 4 (dk_at dksX1_decided_1 8 rfl rfl)
theorem dX1_decided_35 : decode cX1_decided 35 = .ok (.iconst 0, 1) := dk_3 (dk_at dksX1_decided_1 11 rfl rfl)
theorem dX1_decided_36 : decode cX1_decided 36 = .ok (.iadd, 1) := dk_96 (dk_at dksX1_decided_1 12 rfl rfl)
theorem dX1_decided_37 : decode cX1_decided 37 = .ok (.istore_n 2, 1) := dk_61 (dk_at dksX1_decided_1 13 rfl rfl)
theorem dX1_decided_38 : decode cX1_decided 38 = .ok (.iinc 3 1, 3) := dk_132 3 1 (dk_at dksX1_decided_1 14 rfl rfl)
theorem dX1_decided_41 : decode cX1_decided 41 = .ok (.goto (-37), 3) := dk_167 255 219 (dk_at dksX1_decided_1 17 rfl rfl)
theorem dX1_decided_44 : decode cX1_decided 44 = .ok (.iload_n 1, 1) := dk_27 (dk_at dksX1_decided_1 20 rfl rfl)
theorem dX1_decided_45 : decode cX1_decided 45 = .ok (.ifCond .ne 8, 3) := dk_154 0 8 (dk_at dksX1_decided_1 21 rfl rfl)
theorem dX1_decided_48 : decode cX1_decided 48 = .ok (.bipush (-9), 2) := dk_16 247 (dk_at dksX1_decided_2 0 rfl rfl)
theorem dX1_decided_50 : decode cX1_decided 50 = .ok (.goto 7, 3) := dk_167 0 7 (dk_at dksX1_decided_2 2 rfl rfl)
theorem dX1_decided_53 : decode cX1_decided 53 = .ok (.iload_n 2, 1) := dk_28 (dk_at dksX1_decided_2 5 rfl rfl)
theorem dX1_decided_54 : decode cX1_decided 54 = .ok (.bipush 10, 2) := dk_16 10 (dk_at dksX1_decided_2 6 rfl rfl)
theorem dX1_decided_56 : decode cX1_decided 56 = .ok (.irem, 1) := dk_112 (dk_at dksX1_decided_2 8 rfl rfl)
theorem dX1_decided_57 : decode cX1_decided 57 = .ok (.ireturn, 1) := dk_172 (dk_at dksX1_decided_2 9 rfl rfl)
abbrev cX1_bed : ByteArray := prog_10_method_47_code
def yX1_bed : MethodName := ⟨RX1, "bed", "(II)I"⟩
def dkwX1_bed_1 : List UInt8 := [182, 0, 176, 182, 0, 78, 167, 0, 4, 2, 172]
abbrev dktX1_bed_1 : List UInt8 := dkwX1_bed_1 ++ []
def dkwX1_bed_0 : List UInt8 := [42, 27, 182, 0, 171, 153, 0, 28, 28, 133, 9, 20, 0, 174, 184, 0, 60, 153, 0, 16, 42, 42, 27, 28]
abbrev dktX1_bed_0 : List UInt8 := dkwX1_bed_0 ++ dktX1_bed_1
theorem dksX1_bed_0 : cX1_bed.data.toList.drop 0 = dktX1_bed_0 := by decide +kernel
theorem dksX1_bed_1 : cX1_bed.data.toList.drop 24 = dktX1_bed_1 := dk_seg dksX1_bed_0 24 rfl rfl
theorem dX1_bed_0 : decode cX1_bed 0 = .ok (.aload_n 0, 1) := dk_42 (dk_at dksX1_bed_0 0 rfl rfl)
theorem dX1_bed_1 : decode cX1_bed 1 = .ok (.iload_n 1, 1) := dk_27 (dk_at dksX1_bed_0 1 rfl rfl)
theorem dX1_bed_2 : decode cX1_bed 2 = .ok (.invokevirtual 171, 3) := dk_182 0 171 (dk_at dksX1_bed_0 2 rfl rfl)
theorem dX1_bed_5 : decode cX1_bed 5 = .ok (.ifCond .eq 28, 3) := dk_153 0 28 (dk_at dksX1_bed_0 5 rfl rfl)
theorem dX1_bed_8 : decode cX1_bed 8 = .ok (.iload_n 2, 1) := dk_28 (dk_at dksX1_bed_0 8 rfl rfl)
theorem dX1_bed_9 : decode cX1_bed 9 = .ok (.i2l, 1) := dk_133 (dk_at dksX1_bed_0 9 rfl rfl)
theorem dX1_bed_10 : decode cX1_bed 10 = .ok (.lconst 0, 1) := dk_9 (dk_at dksX1_bed_0 10 rfl rfl)
theorem dX1_bed_11 : decode cX1_bed 11 = .ok (.ldc2_w 174, 3) := dk_20 0 174 (dk_at dksX1_bed_0 11 rfl rfl)
theorem dX1_bed_14 : decode cX1_bed 14 = .ok (.invokestatic 60, 3) := dk_184 0 60 (dk_at dksX1_bed_0 14 rfl rfl)
theorem dX1_bed_17 : decode cX1_bed 17 = .ok (.ifCond .eq 16, 3) := dk_153 0 16 (dk_at dksX1_bed_0 17 rfl rfl)
theorem dX1_bed_20 : decode cX1_bed 20 = .ok (.aload_n 0, 1) := dk_42 (dk_at dksX1_bed_0 20 rfl rfl)
theorem dX1_bed_21 : decode cX1_bed 21 = .ok (.aload_n 0, 1) := dk_42 (dk_at dksX1_bed_0 21 rfl rfl)
theorem dX1_bed_22 : decode cX1_bed 22 = .ok (.iload_n 1, 1) := dk_27 (dk_at dksX1_bed_0 22 rfl rfl)
theorem dX1_bed_23 : decode cX1_bed 23 = .ok (.iload_n 2, 1) := dk_28 (dk_at dksX1_bed_0 23 rfl rfl)
theorem dX1_bed_24 : decode cX1_bed 24 = .ok (.invokevirtual 176, 3) := dk_182 0 176 (dk_at dksX1_bed_1 0 rfl rfl)
theorem dX1_bed_27 : decode cX1_bed 27 = .ok (.invokevirtual 78, 3) := dk_182 0 78 (dk_at dksX1_bed_1 3 rfl rfl)
theorem dX1_bed_30 : decode cX1_bed 30 = .ok (.goto 4, 3) := dk_167 0 4 (dk_at dksX1_bed_1 6 rfl rfl)
theorem dX1_bed_33 : decode cX1_bed 33 = .ok (.iconst (-1), 1) := dk_2 (dk_at dksX1_bed_1 9 rfl rfl)
theorem dX1_bed_34 : decode cX1_bed 34 = .ok (.ireturn, 1) := dk_172 (dk_at dksX1_bed_1 10 rfl rfl)
abbrev cX1_isBed : ByteArray := prog_10_method_42_code
def yX1_isBed : MethodName := ⟨RX1, "isBed", "(I)Z"⟩
def dkwX1_isBed_0 : List UInt8 := [27, 133, 9, 42, 180, 0, 7, 4, 46, 4, 100, 133, 184, 0, 60, 172]
abbrev dktX1_isBed_0 : List UInt8 := dkwX1_isBed_0 ++ []
theorem dksX1_isBed_0 : cX1_isBed.data.toList.drop 0 = dktX1_isBed_0 := by decide +kernel
theorem dX1_isBed_0 : decode cX1_isBed 0 = .ok (.iload_n 1, 1) := dk_27 (dk_at dksX1_isBed_0 0 rfl rfl)
theorem dX1_isBed_1 : decode cX1_isBed 1 = .ok (.i2l, 1) := dk_133 (dk_at dksX1_isBed_0 1 rfl rfl)
theorem dX1_isBed_2 : decode cX1_isBed 2 = .ok (.lconst 0, 1) := dk_9 (dk_at dksX1_isBed_0 2 rfl rfl)
theorem dX1_isBed_3 : decode cX1_isBed 3 = .ok (.aload_n 0, 1) := dk_42 (dk_at dksX1_isBed_0 3 rfl rfl)
theorem dX1_isBed_4 : decode cX1_isBed 4 = .ok (.getfield 7, 3) := dk_180 0 7 (dk_at dksX1_isBed_0 4 rfl rfl)
theorem dX1_isBed_7 : decode cX1_isBed 7 = .ok (.iconst 1, 1) := dk_4 (dk_at dksX1_isBed_0 7 rfl rfl)
theorem dX1_isBed_8 : decode cX1_isBed 8 = .ok (.iaload, 1) := dk_46 (dk_at dksX1_isBed_0 8 rfl rfl)
theorem dX1_isBed_9 : decode cX1_isBed 9 = .ok (.iconst 1, 1) := dk_4 (dk_at dksX1_isBed_0 9 rfl rfl)
theorem dX1_isBed_10 : decode cX1_isBed 10 = .ok (.isub, 1) := dk_100 (dk_at dksX1_isBed_0 10 rfl rfl)
theorem dX1_isBed_11 : decode cX1_isBed 11 = .ok (.i2l, 1) := dk_133 (dk_at dksX1_isBed_0 11 rfl rfl)
theorem dX1_isBed_12 : decode cX1_isBed 12 = .ok (.invokestatic 60, 3) := dk_184 0 60 (dk_at dksX1_isBed_0 12 rfl rfl)
theorem dX1_isBed_15 : decode cX1_isBed 15 = .ok (.ireturn, 1) := dk_172 (dk_at dksX1_isBed_0 15 rfl rfl)
abbrev cX1_toldOfBed : ByteArray := prog_10_method_46_code
def yX1_toldOfBed : MethodName := ⟨RX1, "toldOfBed", "(II)I"⟩
def dkwX1_toldOfBed_1 : List UInt8 := [180, 0, 7, 16, 78, 27, 96, 46, 167, 0, 8, 42, 27, 182, 0, 168, 172]
abbrev dktX1_toldOfBed_1 : List UInt8 := dkwX1_toldOfBed_1 ++ []
def dkwX1_toldOfBed_0 : List UInt8 := [28, 154, 0, 15, 42, 180, 0, 7, 16, 72, 27, 96, 46, 167, 0, 25, 28, 4, 160, 0, 15, 42]
abbrev dktX1_toldOfBed_0 : List UInt8 := dkwX1_toldOfBed_0 ++ dktX1_toldOfBed_1
theorem dksX1_toldOfBed_0 : cX1_toldOfBed.data.toList.drop 0 = dktX1_toldOfBed_0 := by decide +kernel
theorem dksX1_toldOfBed_1 : cX1_toldOfBed.data.toList.drop 22 = dktX1_toldOfBed_1 := dk_seg dksX1_toldOfBed_0 22 rfl rfl
theorem dX1_toldOfBed_0 : decode cX1_toldOfBed 0 = .ok (.iload_n 2, 1) := dk_28 (dk_at dksX1_toldOfBed_0 0 rfl rfl)
theorem dX1_toldOfBed_1 : decode cX1_toldOfBed 1 = .ok (.ifCond .ne 15, 3) := dk_154 0 15 (dk_at dksX1_toldOfBed_0 1 rfl rfl)
theorem dX1_toldOfBed_4 : decode cX1_toldOfBed 4 = .ok (.aload_n 0, 1) := dk_42 (dk_at dksX1_toldOfBed_0 4 rfl rfl)
theorem dX1_toldOfBed_5 : decode cX1_toldOfBed 5 = .ok (.getfield 7, 3) := dk_180 0 7 (dk_at dksX1_toldOfBed_0 5 rfl rfl)
theorem dX1_toldOfBed_8 : decode cX1_toldOfBed 8 = .ok (.bipush 72, 2) := dk_16 72 (dk_at dksX1_toldOfBed_0 8 rfl rfl)
theorem dX1_toldOfBed_10 : decode cX1_toldOfBed 10 = .ok (.iload_n 1, 1) := dk_27 (dk_at dksX1_toldOfBed_0 10 rfl rfl)
theorem dX1_toldOfBed_11 : decode cX1_toldOfBed 11 = .ok (.iadd, 1) := dk_96 (dk_at dksX1_toldOfBed_0 11 rfl rfl)
theorem dX1_toldOfBed_12 : decode cX1_toldOfBed 12 = .ok (.iaload, 1) := dk_46 (dk_at dksX1_toldOfBed_0 12 rfl rfl)
theorem dX1_toldOfBed_13 : decode cX1_toldOfBed 13 = .ok (.goto 25, 3) := dk_167 0 25 (dk_at dksX1_toldOfBed_0 13 rfl rfl)
theorem dX1_toldOfBed_16 : decode cX1_toldOfBed 16 = .ok (.iload_n 2, 1) := dk_28 (dk_at dksX1_toldOfBed_0 16 rfl rfl)
theorem dX1_toldOfBed_17 : decode cX1_toldOfBed 17 = .ok (.iconst 1, 1) := dk_4 (dk_at dksX1_toldOfBed_0 17 rfl rfl)
theorem dX1_toldOfBed_18 : decode cX1_toldOfBed 18 = .ok (.if_icmp .ne 15, 3) := dk_160 0 15 (dk_at dksX1_toldOfBed_0 18 rfl rfl)
theorem dX1_toldOfBed_21 : decode cX1_toldOfBed 21 = .ok (.aload_n 0, 1) := dk_42 (dk_at dksX1_toldOfBed_0 21 rfl rfl)
theorem dX1_toldOfBed_22 : decode cX1_toldOfBed 22 = .ok (.getfield 7, 3) := dk_180 0 7 (dk_at dksX1_toldOfBed_1 0 rfl rfl)
theorem dX1_toldOfBed_25 : decode cX1_toldOfBed 25 = .ok (.bipush 78, 2) := dk_16 78 (dk_at dksX1_toldOfBed_1 3 rfl rfl)
theorem dX1_toldOfBed_27 : decode cX1_toldOfBed 27 = .ok (.iload_n 1, 1) := dk_27 (dk_at dksX1_toldOfBed_1 5 rfl rfl)
theorem dX1_toldOfBed_28 : decode cX1_toldOfBed 28 = .ok (.iadd, 1) := dk_96 (dk_at dksX1_toldOfBed_1 6 rfl rfl)
theorem dX1_toldOfBed_29 : decode cX1_toldOfBed 29 = .ok (.iaload, 1) := dk_46 (dk_at dksX1_toldOfBed_1 7 rfl rfl)
theorem dX1_toldOfBed_30 : decode cX1_toldOfBed 30 = .ok (.goto 8, 3) := dk_167 0 8 (dk_at dksX1_toldOfBed_1 8 rfl rfl)
theorem dX1_toldOfBed_33 : decode cX1_toldOfBed 33 = .ok (.aload_n 0, 1) := dk_42 (dk_at dksX1_toldOfBed_1 11 rfl rfl)
theorem dX1_toldOfBed_34 : decode cX1_toldOfBed 34 = .ok (.iload_n 1, 1) := dk_27 (dk_at dksX1_toldOfBed_1 12 rfl rfl)
theorem dX1_toldOfBed_35 : decode cX1_toldOfBed 35 = .ok (.invokevirtual 168, 3) := dk_182 0 168 (dk_at dksX1_toldOfBed_1 13 rfl rfl)
theorem dX1_toldOfBed_38 : decode cX1_toldOfBed 38 = .ok (.ireturn, 1) := dk_172 (dk_at dksX1_toldOfBed_1 16 rfl rfl)
abbrev cX1_ringsOf : ByteArray := prog_10_method_34_code
def yX1_ringsOf : MethodName := ⟨RX1, "ringsOf", "(I)I"⟩
def dkwX1_ringsOf_1 : List UInt8 := [182, 0, 138, 172]
abbrev dktX1_ringsOf_1 : List UInt8 := dkwX1_ringsOf_1 ++ []
def dkwX1_ringsOf_0 : List UInt8 := [42, 42, 180, 0, 7, 16, 72, 27, 96, 46, 42, 180, 0, 7, 16, 71, 46, 42, 180, 0, 7, 16, 70, 46]
abbrev dktX1_ringsOf_0 : List UInt8 := dkwX1_ringsOf_0 ++ dktX1_ringsOf_1
theorem dksX1_ringsOf_0 : cX1_ringsOf.data.toList.drop 0 = dktX1_ringsOf_0 := by decide +kernel
theorem dksX1_ringsOf_1 : cX1_ringsOf.data.toList.drop 24 = dktX1_ringsOf_1 := dk_seg dksX1_ringsOf_0 24 rfl rfl
theorem dX1_ringsOf_0 : decode cX1_ringsOf 0 = .ok (.aload_n 0, 1) := dk_42 (dk_at dksX1_ringsOf_0 0 rfl rfl)
theorem dX1_ringsOf_1 : decode cX1_ringsOf 1 = .ok (.aload_n 0, 1) := dk_42 (dk_at dksX1_ringsOf_0 1 rfl rfl)
theorem dX1_ringsOf_2 : decode cX1_ringsOf 2 = .ok (.getfield 7, 3) := dk_180 0 7 (dk_at dksX1_ringsOf_0 2 rfl rfl)
theorem dX1_ringsOf_5 : decode cX1_ringsOf 5 = .ok (.bipush 72, 2) := dk_16 72 (dk_at dksX1_ringsOf_0 5 rfl rfl)
theorem dX1_ringsOf_7 : decode cX1_ringsOf 7 = .ok (.iload_n 1, 1) := dk_27 (dk_at dksX1_ringsOf_0 7 rfl rfl)
theorem dX1_ringsOf_8 : decode cX1_ringsOf 8 = .ok (.iadd, 1) := dk_96 (dk_at dksX1_ringsOf_0 8 rfl rfl)
theorem dX1_ringsOf_9 : decode cX1_ringsOf 9 = .ok (.iaload, 1) := dk_46 (dk_at dksX1_ringsOf_0 9 rfl rfl)
theorem dX1_ringsOf_10 : decode cX1_ringsOf 10 = .ok (.aload_n 0, 1) := dk_42 (dk_at dksX1_ringsOf_0 10 rfl rfl)
theorem dX1_ringsOf_11 : decode cX1_ringsOf 11 = .ok (.getfield 7, 3) := dk_180 0 7 (dk_at dksX1_ringsOf_0 11 rfl rfl)
theorem dX1_ringsOf_14 : decode cX1_ringsOf 14 = .ok (.bipush 71, 2) := dk_16 71 (dk_at dksX1_ringsOf_0 14 rfl rfl)
theorem dX1_ringsOf_16 : decode cX1_ringsOf 16 = .ok (.iaload, 1) := dk_46 (dk_at dksX1_ringsOf_0 16 rfl rfl)
theorem dX1_ringsOf_17 : decode cX1_ringsOf 17 = .ok (.aload_n 0, 1) := dk_42 (dk_at dksX1_ringsOf_0 17 rfl rfl)
theorem dX1_ringsOf_18 : decode cX1_ringsOf 18 = .ok (.getfield 7, 3) := dk_180 0 7 (dk_at dksX1_ringsOf_0 18 rfl rfl)
theorem dX1_ringsOf_21 : decode cX1_ringsOf 21 = .ok (.bipush 70, 2) := dk_16 70 (dk_at dksX1_ringsOf_0 21 rfl rfl)
theorem dX1_ringsOf_23 : decode cX1_ringsOf 23 = .ok (.iaload, 1) := dk_46 (dk_at dksX1_ringsOf_0 23 rfl rfl)
theorem dX1_ringsOf_24 : decode cX1_ringsOf 24 = .ok (.invokevirtual 138, 3) := dk_182 0 138 (dk_at dksX1_ringsOf_1 0 rfl rfl)
theorem dX1_ringsOf_27 : decode cX1_ringsOf 27 = .ok (.ireturn, 1) := dk_172 (dk_at dksX1_ringsOf_1 3 rfl rfl)
abbrev cX1_ringsAt : ByteArray := prog_10_method_33_code
def yX1_ringsAt : MethodName := ⟨RX1, "ringsAt", "(III)I"⟩
def dkwX1_ringsAt_2 : List UInt8 := [3, 128, 54, 4, 132, 5, 1, 167, 255, 209, 21, 4, 172]
abbrev dktX1_ringsAt_2 : List UInt8 := dkwX1_ringsAt_2 ++ []
def dkwX1_ringsAt_1 : List UInt8 := [184, 0, 131, 153, 0, 21, 42, 21, 5, 27, 29, 182, 0, 135, 153, 0, 10, 4, 21, 5, 120, 167, 0, 4]
abbrev dktX1_ringsAt_1 : List UInt8 := dkwX1_ringsAt_1 ++ dktX1_ringsAt_2
def dkwX1_ringsAt_0 : List UInt8 := [3, 54, 4, 3, 54, 5, 21, 5, 42, 180, 0, 7, 3, 46, 162, 0, 42, 21, 4, 28, 21, 5]
abbrev dktX1_ringsAt_0 : List UInt8 := dkwX1_ringsAt_0 ++ dktX1_ringsAt_1
theorem dksX1_ringsAt_0 : cX1_ringsAt.data.toList.drop 0 = dktX1_ringsAt_0 := by decide +kernel
theorem dksX1_ringsAt_1 : cX1_ringsAt.data.toList.drop 22 = dktX1_ringsAt_1 := dk_seg dksX1_ringsAt_0 22 rfl rfl
theorem dksX1_ringsAt_2 : cX1_ringsAt.data.toList.drop 46 = dktX1_ringsAt_2 := dk_seg dksX1_ringsAt_1 24 rfl rfl
theorem dX1_ringsAt_0 : decode cX1_ringsAt 0 = .ok (.iconst 0, 1) := dk_3 (dk_at dksX1_ringsAt_0 0 rfl rfl)
theorem dX1_ringsAt_1 : decode cX1_ringsAt 1 = .ok (.istore 4, 2) := dk_54 4 (dk_at dksX1_ringsAt_0 1 rfl rfl)
theorem dX1_ringsAt_3 : decode cX1_ringsAt 3 = .ok (.iconst 0, 1) := dk_3 (dk_at dksX1_ringsAt_0 3 rfl rfl)
theorem dX1_ringsAt_4 : decode cX1_ringsAt 4 = .ok (.istore 5, 2) := dk_54 5 (dk_at dksX1_ringsAt_0 4 rfl rfl)
theorem dX1_ringsAt_6 : decode cX1_ringsAt 6 = .ok (.iload 5, 2) := dk_21 5 (dk_at dksX1_ringsAt_0 6 rfl rfl)
theorem dX1_ringsAt_8 : decode cX1_ringsAt 8 = .ok (.aload_n 0, 1) := dk_42 (dk_at dksX1_ringsAt_0 8 rfl rfl)
theorem dX1_ringsAt_9 : decode cX1_ringsAt 9 = .ok (.getfield 7, 3) := dk_180 0 7 (dk_at dksX1_ringsAt_0 9 rfl rfl)
theorem dX1_ringsAt_12 : decode cX1_ringsAt 12 = .ok (.iconst 0, 1) := dk_3 (dk_at dksX1_ringsAt_0 12 rfl rfl)
theorem dX1_ringsAt_13 : decode cX1_ringsAt 13 = .ok (.iaload, 1) := dk_46 (dk_at dksX1_ringsAt_0 13 rfl rfl)
theorem dX1_ringsAt_14 : decode cX1_ringsAt 14 = .ok (.if_icmp .ge 42, 3) := dk_162 0 42 (dk_at dksX1_ringsAt_0 14 rfl rfl)
theorem dX1_ringsAt_17 : decode cX1_ringsAt 17 = .ok (.iload 4, 2) := dk_21 4 (dk_at dksX1_ringsAt_0 17 rfl rfl)
theorem dX1_ringsAt_19 : decode cX1_ringsAt 19 = .ok (.iload_n 2, 1) := dk_28 (dk_at dksX1_ringsAt_0 19 rfl rfl)
theorem dX1_ringsAt_20 : decode cX1_ringsAt 20 = .ok (.iload 5, 2) := dk_21 5 (dk_at dksX1_ringsAt_0 20 rfl rfl)
theorem dX1_ringsAt_22 : decode cX1_ringsAt 22 = .ok (.invokestatic 131, 3) := dk_184 0 131 (dk_at dksX1_ringsAt_1 0 rfl rfl)
theorem dX1_ringsAt_25 : decode cX1_ringsAt 25 = .ok (.ifCond .eq 21, 3) := dk_153 0 21 (dk_at dksX1_ringsAt_1 3 rfl rfl)
theorem dX1_ringsAt_28 : decode cX1_ringsAt 28 = .ok (.aload_n 0, 1) := dk_42 (dk_at dksX1_ringsAt_1 6 rfl rfl)
theorem dX1_ringsAt_29 : decode cX1_ringsAt 29 = .ok (.iload 5, 2) := dk_21 5 (dk_at dksX1_ringsAt_1 7 rfl rfl)
theorem dX1_ringsAt_31 : decode cX1_ringsAt 31 = .ok (.iload_n 1, 1) := dk_27 (dk_at dksX1_ringsAt_1 9 rfl rfl)
theorem dX1_ringsAt_32 : decode cX1_ringsAt 32 = .ok (.iload_n 3, 1) := dk_29 (dk_at dksX1_ringsAt_1 10 rfl rfl)
theorem dX1_ringsAt_33 : decode cX1_ringsAt 33 = .ok (.invokevirtual 135, 3) := dk_182 0 135 (dk_at dksX1_ringsAt_1 11 rfl rfl)
theorem dX1_ringsAt_36 : decode cX1_ringsAt 36 = .ok (.ifCond .eq 10, 3) := dk_153 0 10 (dk_at dksX1_ringsAt_1 14 rfl rfl)
theorem dX1_ringsAt_39 : decode cX1_ringsAt 39 = .ok (.iconst 1, 1) := dk_4 (dk_at dksX1_ringsAt_1 17 rfl rfl)
theorem dX1_ringsAt_40 : decode cX1_ringsAt 40 = .ok (.iload 5, 2) := dk_21 5 (dk_at dksX1_ringsAt_1 18 rfl rfl)
theorem dX1_ringsAt_42 : decode cX1_ringsAt 42 = .ok (.ishl, 1) := dk_120 (dk_at dksX1_ringsAt_1 20 rfl rfl)
theorem dX1_ringsAt_43 : decode cX1_ringsAt 43 = .ok (.goto 4, 3) := dk_167 0 4 (dk_at dksX1_ringsAt_1 21 rfl rfl)
theorem dX1_ringsAt_46 : decode cX1_ringsAt 46 = .ok (.iconst 0, 1) := dk_3 (dk_at dksX1_ringsAt_2 0 rfl rfl)
theorem dX1_ringsAt_47 : decode cX1_ringsAt 47 = .ok (.ior, 1) := dk_128 (dk_at dksX1_ringsAt_2 1 rfl rfl)
theorem dX1_ringsAt_48 : decode cX1_ringsAt 48 = .ok (.istore 4, 2) := dk_54 4 (dk_at dksX1_ringsAt_2 2 rfl rfl)
theorem dX1_ringsAt_50 : decode cX1_ringsAt 50 = .ok (.iinc 5 1, 3) := dk_132 5 1 (dk_at dksX1_ringsAt_2 4 rfl rfl)
theorem dX1_ringsAt_53 : decode cX1_ringsAt 53 = .ok (.goto (-47), 3) := dk_167 255 209 (dk_at dksX1_ringsAt_2 7 rfl rfl)
theorem dX1_ringsAt_56 : decode cX1_ringsAt 56 = .ok (.iload 4, 2) := dk_21 4 (dk_at dksX1_ringsAt_2 10 rfl rfl)
theorem dX1_ringsAt_58 : decode cX1_ringsAt 58 = .ok (.ireturn, 1) := dk_172 (dk_at dksX1_ringsAt_2 12 rfl rfl)
abbrev cX1_mark : ByteArray := prog_10_method_50_code
def yX1_mark : MethodName := ⟨RX1, "mark", "(II)I"⟩
def dkwX1_mark_4 : List UInt8 := [182, 0, 182, 172, 42, 27, 3, 29, 182, 0, 182, 172]
abbrev dktX1_mark_4 : List UInt8 := dkwX1_mark_4 ++ []
def dkwX1_mark_3 : List UInt8 := [42, 180, 0, 7, 16, 70, 46, 5, 112, 172, 42, 27, 4, 7, 182, 0, 182, 172, 42, 27, 8, 5]
abbrev dktX1_mark_3 : List UInt8 := dkwX1_mark_3 ++ dktX1_mark_4
def dkwX1_mark_2 : List UInt8 := [170, 0, 0, 0, 0, 52, 0, 0, 0, 3, 0, 0, 0, 5, 0, 0, 0, 26, 0, 0, 0, 36, 0, 0, 0, 44]
abbrev dktX1_mark_2 : List UInt8 := dkwX1_mark_2 ++ dktX1_mark_3
def dkwX1_mark_1 : List UInt8 := [180, 0, 7, 5, 27, 96, 46, 62, 29, 28, 184, 0, 179, 154, 0, 9, 42, 6, 182, 0, 70, 172, 28]
abbrev dktX1_mark_1 : List UInt8 := dkwX1_mark_1 ++ dktX1_mark_2
def dkwX1_mark_0 : List UInt8 := [42, 27, 182, 0, 160, 153, 0, 15, 28, 133, 10, 20, 0, 58, 184, 0, 60, 154, 0, 5, 2, 172, 42]
abbrev dktX1_mark_0 : List UInt8 := dkwX1_mark_0 ++ dktX1_mark_1
theorem dksX1_mark_0 : cX1_mark.data.toList.drop 0 = dktX1_mark_0 := by decide +kernel
theorem dksX1_mark_1 : cX1_mark.data.toList.drop 23 = dktX1_mark_1 := dk_seg dksX1_mark_0 23 rfl rfl
theorem dksX1_mark_2 : cX1_mark.data.toList.drop 46 = dktX1_mark_2 := dk_seg dksX1_mark_1 23 rfl rfl
theorem dksX1_mark_3 : cX1_mark.data.toList.drop 72 = dktX1_mark_3 := dk_seg dksX1_mark_2 26 rfl rfl
theorem dksX1_mark_4 : cX1_mark.data.toList.drop 94 = dktX1_mark_4 := dk_seg dksX1_mark_3 22 rfl rfl
theorem dX1_mark_0 : decode cX1_mark 0 = .ok (.aload_n 0, 1) := dk_42 (dk_at dksX1_mark_0 0 rfl rfl)
theorem dX1_mark_1 : decode cX1_mark 1 = .ok (.iload_n 1, 1) := dk_27 (dk_at dksX1_mark_0 1 rfl rfl)
theorem dX1_mark_2 : decode cX1_mark 2 = .ok (.invokevirtual 160, 3) := dk_182 0 160 (dk_at dksX1_mark_0 2 rfl rfl)
theorem dX1_mark_5 : decode cX1_mark 5 = .ok (.ifCond .eq 15, 3) := dk_153 0 15 (dk_at dksX1_mark_0 5 rfl rfl)
theorem dX1_mark_8 : decode cX1_mark 8 = .ok (.iload_n 2, 1) := dk_28 (dk_at dksX1_mark_0 8 rfl rfl)
theorem dX1_mark_9 : decode cX1_mark 9 = .ok (.i2l, 1) := dk_133 (dk_at dksX1_mark_0 9 rfl rfl)
theorem dX1_mark_10 : decode cX1_mark 10 = .ok (.lconst 1, 1) := dk_10 (dk_at dksX1_mark_0 10 rfl rfl)
theorem dX1_mark_11 : decode cX1_mark 11 = .ok (.ldc2_w 58, 3) := dk_20 0 58 (dk_at dksX1_mark_0 11 rfl rfl)
theorem dX1_mark_14 : decode cX1_mark 14 = .ok (.invokestatic 60, 3) := dk_184 0 60 (dk_at dksX1_mark_0 14 rfl rfl)
theorem dX1_mark_17 : decode cX1_mark 17 = .ok (.ifCond .ne 5, 3) := dk_154 0 5 (dk_at dksX1_mark_0 17 rfl rfl)
theorem dX1_mark_20 : decode cX1_mark 20 = .ok (.iconst (-1), 1) := dk_2 (dk_at dksX1_mark_0 20 rfl rfl)
theorem dX1_mark_21 : decode cX1_mark 21 = .ok (.ireturn, 1) := dk_172 (dk_at dksX1_mark_0 21 rfl rfl)
theorem dX1_mark_22 : decode cX1_mark 22 = .ok (.aload_n 0, 1) := dk_42 (dk_at dksX1_mark_0 22 rfl rfl)
theorem dX1_mark_23 : decode cX1_mark 23 = .ok (.getfield 7, 3) := dk_180 0 7 (dk_at dksX1_mark_1 0 rfl rfl)
theorem dX1_mark_26 : decode cX1_mark 26 = .ok (.iconst 2, 1) := dk_5 (dk_at dksX1_mark_1 3 rfl rfl)
theorem dX1_mark_27 : decode cX1_mark 27 = .ok (.iload_n 1, 1) := dk_27 (dk_at dksX1_mark_1 4 rfl rfl)
theorem dX1_mark_28 : decode cX1_mark 28 = .ok (.iadd, 1) := dk_96 (dk_at dksX1_mark_1 5 rfl rfl)
theorem dX1_mark_29 : decode cX1_mark 29 = .ok (.iaload, 1) := dk_46 (dk_at dksX1_mark_1 6 rfl rfl)
theorem dX1_mark_30 : decode cX1_mark 30 = .ok (.istore_n 3, 1) := dk_62 (dk_at dksX1_mark_1 7 rfl rfl)
theorem dX1_mark_31 : decode cX1_mark 31 = .ok (.iload_n 3, 1) := dk_29 (dk_at dksX1_mark_1 8 rfl rfl)
theorem dX1_mark_32 : decode cX1_mark 32 = .ok (.iload_n 2, 1) := dk_28 (dk_at dksX1_mark_1 9 rfl rfl)
theorem dX1_mark_33 : decode cX1_mark 33 = .ok (.invokestatic 179, 3) := dk_184 0 179 (dk_at dksX1_mark_1 10 rfl rfl)
theorem dX1_mark_36 : decode cX1_mark 36 = .ok (.ifCond .ne 9, 3) := dk_154 0 9 (dk_at dksX1_mark_1 13 rfl rfl)
theorem dX1_mark_39 : decode cX1_mark 39 = .ok (.aload_n 0, 1) := dk_42 (dk_at dksX1_mark_1 16 rfl rfl)
theorem dX1_mark_40 : decode cX1_mark 40 = .ok (.iconst 3, 1) := dk_6 (dk_at dksX1_mark_1 17 rfl rfl)
theorem dX1_mark_41 : decode cX1_mark 41 = .ok (.invokevirtual 70, 3) := dk_182 0 70 (dk_at dksX1_mark_1 18 rfl rfl)
theorem dX1_mark_44 : decode cX1_mark 44 = .ok (.ireturn, 1) := dk_172 (dk_at dksX1_mark_1 21 rfl rfl)
theorem dX1_mark_45 : decode cX1_mark 45 = .ok (.iload_n 2, 1) := dk_28 (dk_at dksX1_mark_1 22 rfl rfl)
theorem dX1_mark_46 : decode cX1_mark 46 = .ok (.tableswitch 52 3 5 #[26, 36, 44], 26) := by decide +kernel
theorem dX1_mark_72 : decode cX1_mark 72 = .ok (.aload_n 0, 1) := dk_42 (dk_at dksX1_mark_3 0 rfl rfl)
theorem dX1_mark_73 : decode cX1_mark 73 = .ok (.getfield 7, 3) := dk_180 0 7 (dk_at dksX1_mark_3 1 rfl rfl)
theorem dX1_mark_76 : decode cX1_mark 76 = .ok (.bipush 70, 2) := dk_16 70 (dk_at dksX1_mark_3 4 rfl rfl)
theorem dX1_mark_78 : decode cX1_mark 78 = .ok (.iaload, 1) := dk_46 (dk_at dksX1_mark_3 6 rfl rfl)
theorem dX1_mark_79 : decode cX1_mark 79 = .ok (.iconst 2, 1) := dk_5 (dk_at dksX1_mark_3 7 rfl rfl)
theorem dX1_mark_80 : decode cX1_mark 80 = .ok (.irem, 1) := dk_112 (dk_at dksX1_mark_3 8 rfl rfl)
theorem dX1_mark_81 : decode cX1_mark 81 = .ok (.ireturn, 1) := dk_172 (dk_at dksX1_mark_3 9 rfl rfl)
theorem dX1_mark_82 : decode cX1_mark 82 = .ok (.aload_n 0, 1) := dk_42 (dk_at dksX1_mark_3 10 rfl rfl)
theorem dX1_mark_83 : decode cX1_mark 83 = .ok (.iload_n 1, 1) := dk_27 (dk_at dksX1_mark_3 11 rfl rfl)
theorem dX1_mark_84 : decode cX1_mark 84 = .ok (.iconst 1, 1) := dk_4 (dk_at dksX1_mark_3 12 rfl rfl)
theorem dX1_mark_85 : decode cX1_mark 85 = .ok (.iconst 4, 1) := dk_7 (dk_at dksX1_mark_3 13 rfl rfl)
theorem dX1_mark_86 : decode cX1_mark 86 = .ok (.invokevirtual 182, 3) := dk_182 0 182 (dk_at dksX1_mark_3 14 rfl rfl)
theorem dX1_mark_89 : decode cX1_mark 89 = .ok (.ireturn, 1) := dk_172 (dk_at dksX1_mark_3 17 rfl rfl)
theorem dX1_mark_90 : decode cX1_mark 90 = .ok (.aload_n 0, 1) := dk_42 (dk_at dksX1_mark_3 18 rfl rfl)
theorem dX1_mark_91 : decode cX1_mark 91 = .ok (.iload_n 1, 1) := dk_27 (dk_at dksX1_mark_3 19 rfl rfl)
theorem dX1_mark_92 : decode cX1_mark 92 = .ok (.iconst 5, 1) := dk_8 (dk_at dksX1_mark_3 20 rfl rfl)
theorem dX1_mark_93 : decode cX1_mark 93 = .ok (.iconst 2, 1) := dk_5 (dk_at dksX1_mark_3 21 rfl rfl)
theorem dX1_mark_94 : decode cX1_mark 94 = .ok (.invokevirtual 182, 3) := dk_182 0 182 (dk_at dksX1_mark_4 0 rfl rfl)
theorem dX1_mark_97 : decode cX1_mark 97 = .ok (.ireturn, 1) := dk_172 (dk_at dksX1_mark_4 3 rfl rfl)
theorem dX1_mark_98 : decode cX1_mark 98 = .ok (.aload_n 0, 1) := dk_42 (dk_at dksX1_mark_4 4 rfl rfl)
theorem dX1_mark_99 : decode cX1_mark 99 = .ok (.iload_n 1, 1) := dk_27 (dk_at dksX1_mark_4 5 rfl rfl)
theorem dX1_mark_100 : decode cX1_mark 100 = .ok (.iconst 0, 1) := dk_3 (dk_at dksX1_mark_4 6 rfl rfl)
theorem dX1_mark_101 : decode cX1_mark 101 = .ok (.iload_n 3, 1) := dk_29 (dk_at dksX1_mark_4 7 rfl rfl)
theorem dX1_mark_102 : decode cX1_mark 102 = .ok (.invokevirtual 182, 3) := dk_182 0 182 (dk_at dksX1_mark_4 8 rfl rfl)
theorem dX1_mark_105 : decode cX1_mark 105 = .ok (.ireturn, 1) := dk_172 (dk_at dksX1_mark_4 11 rfl rfl)
abbrev cX1_isOf : ByteArray := prog_10_method_48_code
def yX1_isOf : MethodName := ⟨RX1, "isOf", "(II)Z"⟩
def dkwX1_isOf_1 : List UInt8 := [160, 0, 7, 4, 167, 0, 4, 3, 172]
abbrev dktX1_isOf_1 : List UInt8 := dkwX1_isOf_1 ++ []
def dkwX1_isOf_0 : List UInt8 := [26, 27, 159, 0, 23, 27, 4, 160, 0, 8, 26, 7, 159, 0, 13, 27, 5, 160, 0, 12, 26, 8]
abbrev dktX1_isOf_0 : List UInt8 := dkwX1_isOf_0 ++ dktX1_isOf_1
theorem dksX1_isOf_0 : cX1_isOf.data.toList.drop 0 = dktX1_isOf_0 := by decide +kernel
theorem dksX1_isOf_1 : cX1_isOf.data.toList.drop 22 = dktX1_isOf_1 := dk_seg dksX1_isOf_0 22 rfl rfl
theorem dX1_isOf_0 : decode cX1_isOf 0 = .ok (.iload_n 0, 1) := dk_26 (dk_at dksX1_isOf_0 0 rfl rfl)
theorem dX1_isOf_1 : decode cX1_isOf 1 = .ok (.iload_n 1, 1) := dk_27 (dk_at dksX1_isOf_0 1 rfl rfl)
theorem dX1_isOf_2 : decode cX1_isOf 2 = .ok (.if_icmp .eq 23, 3) := dk_159 0 23 (dk_at dksX1_isOf_0 2 rfl rfl)
theorem dX1_isOf_5 : decode cX1_isOf 5 = .ok (.iload_n 1, 1) := dk_27 (dk_at dksX1_isOf_0 5 rfl rfl)
theorem dX1_isOf_6 : decode cX1_isOf 6 = .ok (.iconst 1, 1) := dk_4 (dk_at dksX1_isOf_0 6 rfl rfl)
theorem dX1_isOf_7 : decode cX1_isOf 7 = .ok (.if_icmp .ne 8, 3) := dk_160 0 8 (dk_at dksX1_isOf_0 7 rfl rfl)
theorem dX1_isOf_10 : decode cX1_isOf 10 = .ok (.iload_n 0, 1) := dk_26 (dk_at dksX1_isOf_0 10 rfl rfl)
theorem dX1_isOf_11 : decode cX1_isOf 11 = .ok (.iconst 4, 1) := dk_7 (dk_at dksX1_isOf_0 11 rfl rfl)
theorem dX1_isOf_12 : decode cX1_isOf 12 = .ok (.if_icmp .eq 13, 3) := dk_159 0 13 (dk_at dksX1_isOf_0 12 rfl rfl)
theorem dX1_isOf_15 : decode cX1_isOf 15 = .ok (.iload_n 1, 1) := dk_27 (dk_at dksX1_isOf_0 15 rfl rfl)
theorem dX1_isOf_16 : decode cX1_isOf 16 = .ok (.iconst 2, 1) := dk_5 (dk_at dksX1_isOf_0 16 rfl rfl)
theorem dX1_isOf_17 : decode cX1_isOf 17 = .ok (.if_icmp .ne 12, 3) := dk_160 0 12 (dk_at dksX1_isOf_0 17 rfl rfl)
theorem dX1_isOf_20 : decode cX1_isOf 20 = .ok (.iload_n 0, 1) := dk_26 (dk_at dksX1_isOf_0 20 rfl rfl)
theorem dX1_isOf_21 : decode cX1_isOf 21 = .ok (.iconst 5, 1) := dk_8 (dk_at dksX1_isOf_0 21 rfl rfl)
theorem dX1_isOf_22 : decode cX1_isOf 22 = .ok (.if_icmp .ne 7, 3) := dk_160 0 7 (dk_at dksX1_isOf_1 0 rfl rfl)
theorem dX1_isOf_25 : decode cX1_isOf 25 = .ok (.iconst 1, 1) := dk_4 (dk_at dksX1_isOf_1 3 rfl rfl)
theorem dX1_isOf_26 : decode cX1_isOf 26 = .ok (.goto 4, 3) := dk_167 0 4 (dk_at dksX1_isOf_1 4 rfl rfl)
theorem dX1_isOf_29 : decode cX1_isOf 29 = .ok (.iconst 0, 1) := dk_3 (dk_at dksX1_isOf_1 7 rfl rfl)
theorem dX1_isOf_30 : decode cX1_isOf 30 = .ok (.ireturn, 1) := dk_172 (dk_at dksX1_isOf_1 8 rfl rfl)
abbrev cX1_manyBut : ByteArray := prog_10_method_49_code
def yX1_manyBut : MethodName := ⟨RX1, "manyBut", "(III)I"⟩
def dkwX1_manyBut_4 : List UInt8 := [132, 5, 1, 167, 255, 168, 21, 4, 172]
abbrev dktX1_manyBut_4 : List UInt8 := dkwX1_manyBut_4 ++ []
def dkwX1_manyBut_3 : List UInt8 := [180, 0, 7, 16, 70, 46, 21, 5, 184, 0, 127, 154, 0, 7, 4, 167, 0, 4, 3, 96, 54, 4]
abbrev dktX1_manyBut_3 : List UInt8 := dkwX1_manyBut_3 ++ dktX1_manyBut_4
def dkwX1_manyBut_2 : List UInt8 := [153, 0, 41, 29, 42, 180, 0, 7, 16, 7, 27, 96, 46, 42, 180, 0, 7, 16, 12, 27, 96, 46, 42]
abbrev dktX1_manyBut_2 : List UInt8 := dkwX1_manyBut_2 ++ dktX1_manyBut_3
def dkwX1_manyBut_1 : List UInt8 := [46, 42, 180, 0, 7, 16, 12, 27, 96, 46, 42, 180, 0, 7, 16, 70, 46, 21, 5, 184, 0, 127]
abbrev dktX1_manyBut_1 : List UInt8 := dkwX1_manyBut_1 ++ dktX1_manyBut_2
def dkwX1_manyBut_0 : List UInt8 := [3, 54, 4, 3, 54, 5, 21, 5, 16, 100, 162, 0, 87, 21, 4, 28, 42, 180, 0, 7, 16, 7, 27, 96]
abbrev dktX1_manyBut_0 : List UInt8 := dkwX1_manyBut_0 ++ dktX1_manyBut_1
theorem dksX1_manyBut_0 : cX1_manyBut.data.toList.drop 0 = dktX1_manyBut_0 := by decide +kernel
theorem dksX1_manyBut_1 : cX1_manyBut.data.toList.drop 24 = dktX1_manyBut_1 := dk_seg dksX1_manyBut_0 24 rfl rfl
theorem dksX1_manyBut_2 : cX1_manyBut.data.toList.drop 46 = dktX1_manyBut_2 := dk_seg dksX1_manyBut_1 22 rfl rfl
theorem dksX1_manyBut_3 : cX1_manyBut.data.toList.drop 69 = dktX1_manyBut_3 := dk_seg dksX1_manyBut_2 23 rfl rfl
theorem dksX1_manyBut_4 : cX1_manyBut.data.toList.drop 91 = dktX1_manyBut_4 := dk_seg dksX1_manyBut_3 22 rfl rfl
theorem dX1_manyBut_0 : decode cX1_manyBut 0 = .ok (.iconst 0, 1) := dk_3 (dk_at dksX1_manyBut_0 0 rfl rfl)
theorem dX1_manyBut_1 : decode cX1_manyBut 1 = .ok (.istore 4, 2) := dk_54 4 (dk_at dksX1_manyBut_0 1 rfl rfl)
theorem dX1_manyBut_3 : decode cX1_manyBut 3 = .ok (.iconst 0, 1) := dk_3 (dk_at dksX1_manyBut_0 3 rfl rfl)
theorem dX1_manyBut_4 : decode cX1_manyBut 4 = .ok (.istore 5, 2) := dk_54 5 (dk_at dksX1_manyBut_0 4 rfl rfl)
theorem dX1_manyBut_6 : decode cX1_manyBut 6 = .ok (.iload 5, 2) := dk_21 5 (dk_at dksX1_manyBut_0 6 rfl rfl)
theorem dX1_manyBut_8 : decode cX1_manyBut 8 = .ok (.bipush 100, 2) := dk_16 100 (dk_at dksX1_manyBut_0 8 rfl rfl)
theorem dX1_manyBut_10 : decode cX1_manyBut 10 = .ok (.if_icmp .ge 87, 3) := dk_162 0 87 (dk_at dksX1_manyBut_0 10 rfl rfl)
theorem dX1_manyBut_13 : decode cX1_manyBut 13 = .ok (.iload 4, 2) := dk_21 4 (dk_at dksX1_manyBut_0 13 rfl rfl)
theorem dX1_manyBut_15 : decode cX1_manyBut 15 = .ok (.iload_n 2, 1) := dk_28 (dk_at dksX1_manyBut_0 15 rfl rfl)
theorem dX1_manyBut_16 : decode cX1_manyBut 16 = .ok (.aload_n 0, 1) := dk_42 (dk_at dksX1_manyBut_0 16 rfl rfl)
theorem dX1_manyBut_17 : decode cX1_manyBut 17 = .ok (.getfield 7, 3) := dk_180 0 7 (dk_at dksX1_manyBut_0 17 rfl rfl)
theorem dX1_manyBut_20 : decode cX1_manyBut 20 = .ok (.bipush 7, 2) := dk_16 7 (dk_at dksX1_manyBut_0 20 rfl rfl)
theorem dX1_manyBut_22 : decode cX1_manyBut 22 = .ok (.iload_n 1, 1) := dk_27 (dk_at dksX1_manyBut_0 22 rfl rfl)
theorem dX1_manyBut_23 : decode cX1_manyBut 23 = .ok (.iadd, 1) := dk_96 (dk_at dksX1_manyBut_0 23 rfl rfl)
theorem dX1_manyBut_24 : decode cX1_manyBut 24 = .ok (.iaload, 1) := dk_46 (dk_at dksX1_manyBut_1 0 rfl rfl)
theorem dX1_manyBut_25 : decode cX1_manyBut 25 = .ok (.aload_n 0, 1) := dk_42 (dk_at dksX1_manyBut_1 1 rfl rfl)
theorem dX1_manyBut_26 : decode cX1_manyBut 26 = .ok (.getfield 7, 3) := dk_180 0 7 (dk_at dksX1_manyBut_1 2 rfl rfl)
theorem dX1_manyBut_29 : decode cX1_manyBut 29 = .ok (.bipush 12, 2) := dk_16 12 (dk_at dksX1_manyBut_1 5 rfl rfl)
theorem dX1_manyBut_31 : decode cX1_manyBut 31 = .ok (.iload_n 1, 1) := dk_27 (dk_at dksX1_manyBut_1 7 rfl rfl)
theorem dX1_manyBut_32 : decode cX1_manyBut 32 = .ok (.iadd, 1) := dk_96 (dk_at dksX1_manyBut_1 8 rfl rfl)
theorem dX1_manyBut_33 : decode cX1_manyBut 33 = .ok (.iaload, 1) := dk_46 (dk_at dksX1_manyBut_1 9 rfl rfl)
theorem dX1_manyBut_34 : decode cX1_manyBut 34 = .ok (.aload_n 0, 1) := dk_42 (dk_at dksX1_manyBut_1 10 rfl rfl)
theorem dX1_manyBut_35 : decode cX1_manyBut 35 = .ok (.getfield 7, 3) := dk_180 0 7 (dk_at dksX1_manyBut_1 11 rfl rfl)
theorem dX1_manyBut_38 : decode cX1_manyBut 38 = .ok (.bipush 70, 2) := dk_16 70 (dk_at dksX1_manyBut_1 14 rfl rfl)
theorem dX1_manyBut_40 : decode cX1_manyBut 40 = .ok (.iaload, 1) := dk_46 (dk_at dksX1_manyBut_1 16 rfl rfl)
theorem dX1_manyBut_41 : decode cX1_manyBut 41 = .ok (.iload 5, 2) := dk_21 5 (dk_at dksX1_manyBut_1 17 rfl rfl)
theorem dX1_manyBut_43 : decode cX1_manyBut 43 = .ok (.invokestatic 127, 3) := dk_184 0 127 (dk_at dksX1_manyBut_1 19 rfl rfl)
theorem dX1_manyBut_46 : decode cX1_manyBut 46 = .ok (.ifCond .eq 41, 3) := dk_153 0 41 (dk_at dksX1_manyBut_2 0 rfl rfl)
theorem dX1_manyBut_49 : decode cX1_manyBut 49 = .ok (.iload_n 3, 1) := dk_29 (dk_at dksX1_manyBut_2 3 rfl rfl)
theorem dX1_manyBut_50 : decode cX1_manyBut 50 = .ok (.aload_n 0, 1) := dk_42 (dk_at dksX1_manyBut_2 4 rfl rfl)
theorem dX1_manyBut_51 : decode cX1_manyBut 51 = .ok (.getfield 7, 3) := dk_180 0 7 (dk_at dksX1_manyBut_2 5 rfl rfl)
theorem dX1_manyBut_54 : decode cX1_manyBut 54 = .ok (.bipush 7, 2) := dk_16 7 (dk_at dksX1_manyBut_2 8 rfl rfl)
theorem dX1_manyBut_56 : decode cX1_manyBut 56 = .ok (.iload_n 1, 1) := dk_27 (dk_at dksX1_manyBut_2 10 rfl rfl)
theorem dX1_manyBut_57 : decode cX1_manyBut 57 = .ok (.iadd, 1) := dk_96 (dk_at dksX1_manyBut_2 11 rfl rfl)
theorem dX1_manyBut_58 : decode cX1_manyBut 58 = .ok (.iaload, 1) := dk_46 (dk_at dksX1_manyBut_2 12 rfl rfl)
theorem dX1_manyBut_59 : decode cX1_manyBut 59 = .ok (.aload_n 0, 1) := dk_42 (dk_at dksX1_manyBut_2 13 rfl rfl)
theorem dX1_manyBut_60 : decode cX1_manyBut 60 = .ok (.getfield 7, 3) := dk_180 0 7 (dk_at dksX1_manyBut_2 14 rfl rfl)
theorem dX1_manyBut_63 : decode cX1_manyBut 63 = .ok (.bipush 12, 2) := dk_16 12 (dk_at dksX1_manyBut_2 17 rfl rfl)
theorem dX1_manyBut_65 : decode cX1_manyBut 65 = .ok (.iload_n 1, 1) := dk_27 (dk_at dksX1_manyBut_2 19 rfl rfl)
theorem dX1_manyBut_66 : decode cX1_manyBut 66 = .ok (.iadd, 1) := dk_96 (dk_at dksX1_manyBut_2 20 rfl rfl)
theorem dX1_manyBut_67 : decode cX1_manyBut 67 = .ok (.iaload, 1) := dk_46 (dk_at dksX1_manyBut_2 21 rfl rfl)
theorem dX1_manyBut_68 : decode cX1_manyBut 68 = .ok (.aload_n 0, 1) := dk_42 (dk_at dksX1_manyBut_2 22 rfl rfl)
theorem dX1_manyBut_69 : decode cX1_manyBut 69 = .ok (.getfield 7, 3) := dk_180 0 7 (dk_at dksX1_manyBut_3 0 rfl rfl)
theorem dX1_manyBut_72 : decode cX1_manyBut 72 = .ok (.bipush 70, 2) := dk_16 70 (dk_at dksX1_manyBut_3 3 rfl rfl)
theorem dX1_manyBut_74 : decode cX1_manyBut 74 = .ok (.iaload, 1) := dk_46 (dk_at dksX1_manyBut_3 5 rfl rfl)
theorem dX1_manyBut_75 : decode cX1_manyBut 75 = .ok (.iload 5, 2) := dk_21 5 (dk_at dksX1_manyBut_3 6 rfl rfl)
theorem dX1_manyBut_77 : decode cX1_manyBut 77 = .ok (.invokestatic 127, 3) := dk_184 0 127 (dk_at dksX1_manyBut_3 8 rfl rfl)
theorem dX1_manyBut_80 : decode cX1_manyBut 80 = .ok (.ifCond .ne 7, 3) := dk_154 0 7 (dk_at dksX1_manyBut_3 11 rfl rfl)
theorem dX1_manyBut_83 : decode cX1_manyBut 83 = .ok (.iconst 1, 1) := dk_4 (dk_at dksX1_manyBut_3 14 rfl rfl)
theorem dX1_manyBut_84 : decode cX1_manyBut 84 = .ok (.goto 4, 3) := dk_167 0 4 (dk_at dksX1_manyBut_3 15 rfl rfl)
theorem dX1_manyBut_87 : decode cX1_manyBut 87 = .ok (.iconst 0, 1) := dk_3 (dk_at dksX1_manyBut_3 18 rfl rfl)
theorem dX1_manyBut_88 : decode cX1_manyBut 88 = .ok (.iadd, 1) := dk_96 (dk_at dksX1_manyBut_3 19 rfl rfl)
theorem dX1_manyBut_89 : decode cX1_manyBut 89 = .ok (.istore 4, 2) := dk_54 4 (dk_at dksX1_manyBut_3 20 rfl rfl)
theorem dX1_manyBut_91 : decode cX1_manyBut 91 = .ok (.iinc 5 1, 3) := dk_132 5 1 (dk_at dksX1_manyBut_4 0 rfl rfl)
theorem dX1_manyBut_94 : decode cX1_manyBut 94 = .ok (.goto (-88), 3) := dk_167 255 168 (dk_at dksX1_manyBut_4 3 rfl rfl)
theorem dX1_manyBut_97 : decode cX1_manyBut 97 = .ok (.iload 4, 2) := dk_21 4 (dk_at dksX1_manyBut_4 6 rfl rfl)
theorem dX1_manyBut_99 : decode cX1_manyBut 99 = .ok (.ireturn, 1) := dk_172 (dk_at dksX1_manyBut_4 8 rfl rfl)
abbrev cX1_within : ByteArray := prog_10_method_51_code
def yX1_within : MethodName := ⟨RX1, "within", "(III)I"⟩
def dkwX1_within_1 : List UInt8 := [154, 0, 7, 2, 167, 0, 18, 42, 27, 28, 29, 182, 0, 135, 153, 0, 7, 4, 167, 0, 4, 3, 172]
abbrev dktX1_within_1 : List UInt8 := dkwX1_within_1 ++ []
def dkwX1_within_0 : List UInt8 := [42, 27, 182, 0, 160, 153, 0, 22, 28, 184, 0, 185, 153, 0, 15, 29, 133, 9, 20, 0, 152, 184, 0, 60]
abbrev dktX1_within_0 : List UInt8 := dkwX1_within_0 ++ dktX1_within_1
theorem dksX1_within_0 : cX1_within.data.toList.drop 0 = dktX1_within_0 := by decide +kernel
theorem dksX1_within_1 : cX1_within.data.toList.drop 24 = dktX1_within_1 := dk_seg dksX1_within_0 24 rfl rfl
theorem dX1_within_0 : decode cX1_within 0 = .ok (.aload_n 0, 1) := dk_42 (dk_at dksX1_within_0 0 rfl rfl)
theorem dX1_within_1 : decode cX1_within 1 = .ok (.iload_n 1, 1) := dk_27 (dk_at dksX1_within_0 1 rfl rfl)
theorem dX1_within_2 : decode cX1_within 2 = .ok (.invokevirtual 160, 3) := dk_182 0 160 (dk_at dksX1_within_0 2 rfl rfl)
theorem dX1_within_5 : decode cX1_within 5 = .ok (.ifCond .eq 22, 3) := dk_153 0 22 (dk_at dksX1_within_0 5 rfl rfl)
theorem dX1_within_8 : decode cX1_within 8 = .ok (.iload_n 2, 1) := dk_28 (dk_at dksX1_within_0 8 rfl rfl)
theorem dX1_within_9 : decode cX1_within 9 = .ok (.invokestatic 185, 3) := dk_184 0 185 (dk_at dksX1_within_0 9 rfl rfl)
theorem dX1_within_12 : decode cX1_within 12 = .ok (.ifCond .eq 15, 3) := dk_153 0 15 (dk_at dksX1_within_0 12 rfl rfl)
theorem dX1_within_15 : decode cX1_within 15 = .ok (.iload_n 3, 1) := dk_29 (dk_at dksX1_within_0 15 rfl rfl)
theorem dX1_within_16 : decode cX1_within 16 = .ok (.i2l, 1) := dk_133 (dk_at dksX1_within_0 16 rfl rfl)
theorem dX1_within_17 : decode cX1_within 17 = .ok (.lconst 0, 1) := dk_9 (dk_at dksX1_within_0 17 rfl rfl)
theorem dX1_within_18 : decode cX1_within 18 = .ok (.ldc2_w 152, 3) := dk_20 0 152 (dk_at dksX1_within_0 18 rfl rfl)
theorem dX1_within_21 : decode cX1_within 21 = .ok (.invokestatic 60, 3) := dk_184 0 60 (dk_at dksX1_within_0 21 rfl rfl)
theorem dX1_within_24 : decode cX1_within 24 = .ok (.ifCond .ne 7, 3) := dk_154 0 7 (dk_at dksX1_within_1 0 rfl rfl)
theorem dX1_within_27 : decode cX1_within 27 = .ok (.iconst (-1), 1) := dk_2 (dk_at dksX1_within_1 3 rfl rfl)
theorem dX1_within_28 : decode cX1_within 28 = .ok (.goto 18, 3) := dk_167 0 18 (dk_at dksX1_within_1 4 rfl rfl)
theorem dX1_within_31 : decode cX1_within 31 = .ok (.aload_n 0, 1) := dk_42 (dk_at dksX1_within_1 7 rfl rfl)
theorem dX1_within_32 : decode cX1_within 32 = .ok (.iload_n 1, 1) := dk_27 (dk_at dksX1_within_1 8 rfl rfl)
theorem dX1_within_33 : decode cX1_within 33 = .ok (.iload_n 2, 1) := dk_28 (dk_at dksX1_within_1 9 rfl rfl)
theorem dX1_within_34 : decode cX1_within 34 = .ok (.iload_n 3, 1) := dk_29 (dk_at dksX1_within_1 10 rfl rfl)
theorem dX1_within_35 : decode cX1_within 35 = .ok (.invokevirtual 135, 3) := dk_182 0 135 (dk_at dksX1_within_1 11 rfl rfl)
theorem dX1_within_38 : decode cX1_within 38 = .ok (.ifCond .eq 7, 3) := dk_153 0 7 (dk_at dksX1_within_1 14 rfl rfl)
theorem dX1_within_41 : decode cX1_within 41 = .ok (.iconst 1, 1) := dk_4 (dk_at dksX1_within_1 17 rfl rfl)
theorem dX1_within_42 : decode cX1_within 42 = .ok (.goto 4, 3) := dk_167 0 4 (dk_at dksX1_within_1 18 rfl rfl)
theorem dX1_within_45 : decode cX1_within 45 = .ok (.iconst 0, 1) := dk_3 (dk_at dksX1_within_1 21 rfl rfl)
theorem dX1_within_46 : decode cX1_within 46 = .ok (.ireturn, 1) := dk_172 (dk_at dksX1_within_1 22 rfl rfl)
abbrev cX1_isPlace : ByteArray := prog_10_method_43_code
def yX1_isPlace : MethodName := ⟨RX1, "isPlace", "(I)Z"⟩
def dkwX1_isPlace_0 : List UInt8 := [26, 133, 9, 20, 0, 152, 184, 0, 60, 172]
abbrev dktX1_isPlace_0 : List UInt8 := dkwX1_isPlace_0 ++ []
theorem dksX1_isPlace_0 : cX1_isPlace.data.toList.drop 0 = dktX1_isPlace_0 := by decide +kernel
theorem dX1_isPlace_0 : decode cX1_isPlace 0 = .ok (.iload_n 0, 1) := dk_26 (dk_at dksX1_isPlace_0 0 rfl rfl)
theorem dX1_isPlace_1 : decode cX1_isPlace 1 = .ok (.i2l, 1) := dk_133 (dk_at dksX1_isPlace_0 1 rfl rfl)
theorem dX1_isPlace_2 : decode cX1_isPlace 2 = .ok (.lconst 0, 1) := dk_9 (dk_at dksX1_isPlace_0 2 rfl rfl)
theorem dX1_isPlace_3 : decode cX1_isPlace 3 = .ok (.ldc2_w 152, 3) := dk_20 0 152 (dk_at dksX1_isPlace_0 3 rfl rfl)
theorem dX1_isPlace_6 : decode cX1_isPlace 6 = .ok (.invokestatic 60, 3) := dk_184 0 60 (dk_at dksX1_isPlace_0 6 rfl rfl)
theorem dX1_isPlace_9 : decode cX1_isPlace 9 = .ok (.ireturn, 1) := dk_172 (dk_at dksX1_isPlace_0 9 rfl rfl)
abbrev cX1_year : ByteArray := prog_10_method_52_code
def yX1_year : MethodName := ⟨RX1, "year", "()I"⟩
def dkwX1_year_2 : List UInt8 := [172]
abbrev dktX1_year_2 : List UInt8 := dkwX1_year_2 ++ []
def dkwX1_year_1 : List UInt8 := [42, 180, 0, 7, 16, 29, 46, 16, 40, 160, 0, 6, 16, 254, 172, 42, 3, 182, 0, 188, 42, 182, 0, 191]
abbrev dktX1_year_1 : List UInt8 := dkwX1_year_1 ++ dktX1_year_2
def dkwX1_year_0 : List UInt8 := [42, 180, 0, 7, 3, 46, 153, 0, 15, 42, 180, 0, 7, 16, 70, 46, 16, 40, 160, 0, 6, 16, 252, 172]
abbrev dktX1_year_0 : List UInt8 := dkwX1_year_0 ++ dktX1_year_1
theorem dksX1_year_0 : cX1_year.data.toList.drop 0 = dktX1_year_0 := by decide +kernel
theorem dksX1_year_1 : cX1_year.data.toList.drop 24 = dktX1_year_1 := dk_seg dksX1_year_0 24 rfl rfl
theorem dksX1_year_2 : cX1_year.data.toList.drop 48 = dktX1_year_2 := dk_seg dksX1_year_1 24 rfl rfl
theorem dX1_year_0 : decode cX1_year 0 = .ok (.aload_n 0, 1) := dk_42 (dk_at dksX1_year_0 0 rfl rfl)
theorem dX1_year_1 : decode cX1_year 1 = .ok (.getfield 7, 3) := dk_180 0 7 (dk_at dksX1_year_0 1 rfl rfl)
theorem dX1_year_4 : decode cX1_year 4 = .ok (.iconst 0, 1) := dk_3 (dk_at dksX1_year_0 4 rfl rfl)
theorem dX1_year_5 : decode cX1_year 5 = .ok (.iaload, 1) := dk_46 (dk_at dksX1_year_0 5 rfl rfl)
theorem dX1_year_6 : decode cX1_year 6 = .ok (.ifCond .eq 15, 3) := dk_153 0 15 (dk_at dksX1_year_0 6 rfl rfl)
theorem dX1_year_9 : decode cX1_year 9 = .ok (.aload_n 0, 1) := dk_42 (dk_at dksX1_year_0 9 rfl rfl)
theorem dX1_year_10 : decode cX1_year 10 = .ok (.getfield 7, 3) := dk_180 0 7 (dk_at dksX1_year_0 10 rfl rfl)
theorem dX1_year_13 : decode cX1_year 13 = .ok (.bipush 70, 2) := dk_16 70 (dk_at dksX1_year_0 13 rfl rfl)
theorem dX1_year_15 : decode cX1_year 15 = .ok (.iaload, 1) := dk_46 (dk_at dksX1_year_0 15 rfl rfl)
theorem dX1_year_16 : decode cX1_year 16 = .ok (.bipush 40, 2) := dk_16 40 (dk_at dksX1_year_0 16 rfl rfl)
theorem dX1_year_18 : decode cX1_year 18 = .ok (.if_icmp .ne 6, 3) := dk_160 0 6 (dk_at dksX1_year_0 18 rfl rfl)
theorem dX1_year_21 : decode cX1_year 21 = .ok (.bipush (-4), 2) := dk_16 252 (dk_at dksX1_year_0 21 rfl rfl)
theorem dX1_year_23 : decode cX1_year 23 = .ok (.ireturn, 1) := dk_172 (dk_at dksX1_year_0 23 rfl rfl)
theorem dX1_year_24 : decode cX1_year 24 = .ok (.aload_n 0, 1) := dk_42 (dk_at dksX1_year_1 0 rfl rfl)
theorem dX1_year_25 : decode cX1_year 25 = .ok (.getfield 7, 3) := dk_180 0 7 (dk_at dksX1_year_1 1 rfl rfl)
theorem dX1_year_28 : decode cX1_year 28 = .ok (.bipush 29, 2) := dk_16 29 (dk_at dksX1_year_1 4 rfl rfl)
theorem dX1_year_30 : decode cX1_year 30 = .ok (.iaload, 1) := dk_46 (dk_at dksX1_year_1 6 rfl rfl)
theorem dX1_year_31 : decode cX1_year 31 = .ok (.bipush 40, 2) := dk_16 40 (dk_at dksX1_year_1 7 rfl rfl)
theorem dX1_year_33 : decode cX1_year 33 = .ok (.if_icmp .ne 6, 3) := dk_160 0 6 (dk_at dksX1_year_1 9 rfl rfl)
theorem dX1_year_36 : decode cX1_year 36 = .ok (.bipush (-2), 2) := dk_16 254 (dk_at dksX1_year_1 12 rfl rfl)
theorem dX1_year_38 : decode cX1_year 38 = .ok (.ireturn, 1) := dk_172 (dk_at dksX1_year_1 14 rfl rfl)
theorem dX1_year_39 : decode cX1_year 39 = .ok (.aload_n 0, 1) := dk_42 (dk_at dksX1_year_1 15 rfl rfl)
theorem dX1_year_40 : decode cX1_year 40 = .ok (.iconst 0, 1) := dk_3 (dk_at dksX1_year_1 16 rfl rfl)
theorem dX1_year_41 : decode cX1_year 41 = .ok (.invokevirtual 188, 3) := dk_182 0 188 (dk_at dksX1_year_1 17 rfl rfl)
theorem dX1_year_44 : decode cX1_year 44 = .ok (.aload_n 0, 1) := dk_42 (dk_at dksX1_year_1 20 rfl rfl)
theorem dX1_year_45 : decode cX1_year 45 = .ok (.invokevirtual 191, 3) := dk_182 0 191 (dk_at dksX1_year_1 21 rfl rfl)
theorem dX1_year_48 : decode cX1_year 48 = .ok (.ireturn, 1) := dk_172 (dk_at dksX1_year_2 0 rfl rfl)
abbrev cX1_does : ByteArray := prog_10_method_40_code
def yX1_does : MethodName := ⟨RX1, "does", "(I)V"⟩
def dkwX1_does_1 : List UInt8 := [4, 96, 79, 42, 180, 0, 7, 27, 184, 0, 148, 177]
abbrev dktX1_does_1 : List UInt8 := dkwX1_does_1 ++ []
def dkwX1_does_0 : List UInt8 := [42, 180, 0, 7, 16, 30, 42, 180, 0, 7, 16, 29, 46, 96, 27, 79, 42, 180, 0, 7, 16, 29, 92, 46]
abbrev dktX1_does_0 : List UInt8 := dkwX1_does_0 ++ dktX1_does_1
theorem dksX1_does_0 : cX1_does.data.toList.drop 0 = dktX1_does_0 := by decide +kernel
theorem dksX1_does_1 : cX1_does.data.toList.drop 24 = dktX1_does_1 := dk_seg dksX1_does_0 24 rfl rfl
theorem dX1_does_0 : decode cX1_does 0 = .ok (.aload_n 0, 1) := dk_42 (dk_at dksX1_does_0 0 rfl rfl)
theorem dX1_does_1 : decode cX1_does 1 = .ok (.getfield 7, 3) := dk_180 0 7 (dk_at dksX1_does_0 1 rfl rfl)
theorem dX1_does_4 : decode cX1_does 4 = .ok (.bipush 30, 2) := dk_16 30 (dk_at dksX1_does_0 4 rfl rfl)
theorem dX1_does_6 : decode cX1_does 6 = .ok (.aload_n 0, 1) := dk_42 (dk_at dksX1_does_0 6 rfl rfl)
theorem dX1_does_7 : decode cX1_does 7 = .ok (.getfield 7, 3) := dk_180 0 7 (dk_at dksX1_does_0 7 rfl rfl)
theorem dX1_does_10 : decode cX1_does 10 = .ok (.bipush 29, 2) := dk_16 29 (dk_at dksX1_does_0 10 rfl rfl)
theorem dX1_does_12 : decode cX1_does 12 = .ok (.iaload, 1) := dk_46 (dk_at dksX1_does_0 12 rfl rfl)
theorem dX1_does_13 : decode cX1_does 13 = .ok (.iadd, 1) := dk_96 (dk_at dksX1_does_0 13 rfl rfl)
theorem dX1_does_14 : decode cX1_does 14 = .ok (.iload_n 1, 1) := dk_27 (dk_at dksX1_does_0 14 rfl rfl)
theorem dX1_does_15 : decode cX1_does 15 = .ok (.iastore, 1) := dk_79 (dk_at dksX1_does_0 15 rfl rfl)
theorem dX1_does_16 : decode cX1_does 16 = .ok (.aload_n 0, 1) := dk_42 (dk_at dksX1_does_0 16 rfl rfl)
theorem dX1_does_17 : decode cX1_does 17 = .ok (.getfield 7, 3) := dk_180 0 7 (dk_at dksX1_does_0 17 rfl rfl)
theorem dX1_does_20 : decode cX1_does 20 = .ok (.bipush 29, 2) := dk_16 29 (dk_at dksX1_does_0 20 rfl rfl)
theorem dX1_does_22 : decode cX1_does 22 = .ok (.dup2, 1) := dk_92 (dk_at dksX1_does_0 22 rfl rfl)
theorem dX1_does_23 : decode cX1_does 23 = .ok (.iaload, 1) := dk_46 (dk_at dksX1_does_0 23 rfl rfl)
theorem dX1_does_24 : decode cX1_does 24 = .ok (.iconst 1, 1) := dk_4 (dk_at dksX1_does_1 0 rfl rfl)
theorem dX1_does_25 : decode cX1_does 25 = .ok (.iadd, 1) := dk_96 (dk_at dksX1_does_1 1 rfl rfl)
theorem dX1_does_26 : decode cX1_does 26 = .ok (.iastore, 1) := dk_79 (dk_at dksX1_does_1 2 rfl rfl)
theorem dX1_does_27 : decode cX1_does 27 = .ok (.aload_n 0, 1) := dk_42 (dk_at dksX1_does_1 3 rfl rfl)
theorem dX1_does_28 : decode cX1_does 28 = .ok (.getfield 7, 3) := dk_180 0 7 (dk_at dksX1_does_1 4 rfl rfl)
theorem dX1_does_31 : decode cX1_does 31 = .ok (.iload_n 1, 1) := dk_27 (dk_at dksX1_does_1 7 rfl rfl)
theorem dX1_does_32 : decode cX1_does 32 = .ok (.invokestatic 148, 3) := dk_184 0 148 (dk_at dksX1_does_1 8 rfl rfl)
theorem dX1_does_35 : decode cX1_does 35 = .ok (.return_, 1) := dk_177 (dk_at dksX1_does_1 11 rfl rfl)
abbrev cX1_goDeed : ByteArray := prog_10_method_39_code
def yX1_goDeed : MethodName := ⟨RX1, "goDeed", "([II)V"⟩
def dkwX1_goDeed_4 : List UInt8 := [167, 0, 11, 42, 16, 70, 92, 46, 4, 96, 79, 177]
abbrev dktX1_goDeed_4 : List UInt8 := dkwX1_goDeed_4 ++ []
def dkwX1_goDeed_3 : List UInt8 := [167, 0, 34, 27, 17, 3, 232, 161, 0, 19, 42, 16, 72, 28, 16, 100, 108, 96, 28, 16, 100, 112, 79]
abbrev dktX1_goDeed_3 : List UInt8 := dkwX1_goDeed_3 ++ dktX1_goDeed_4
def dkwX1_goDeed_2 : List UInt8 := [167, 0, 56, 27, 17, 7, 208, 161, 0, 18, 42, 16, 71, 92, 46, 4, 28, 120, 2, 130, 126, 79]
abbrev dktX1_goDeed_2 : List UInt8 := dkwX1_goDeed_2 ++ dktX1_goDeed_3
def dkwX1_goDeed_1 : List UInt8 := [112, 79, 167, 0, 76, 27, 17, 11, 184, 161, 0, 16, 42, 16, 71, 92, 46, 4, 28, 120, 128, 79]
abbrev dktX1_goDeed_1 : List UInt8 := dkwX1_goDeed_1 ++ dktX1_goDeed_2
def dkwX1_goDeed_0 : List UInt8 := [27, 17, 3, 232, 112, 61, 27, 17, 15, 160, 161, 0, 19, 42, 16, 78, 28, 16, 10, 108, 96, 28, 16, 10]
abbrev dktX1_goDeed_0 : List UInt8 := dkwX1_goDeed_0 ++ dktX1_goDeed_1
theorem dksX1_goDeed_0 : cX1_goDeed.data.toList.drop 0 = dktX1_goDeed_0 := by decide +kernel
theorem dksX1_goDeed_1 : cX1_goDeed.data.toList.drop 24 = dktX1_goDeed_1 := dk_seg dksX1_goDeed_0 24 rfl rfl
theorem dksX1_goDeed_2 : cX1_goDeed.data.toList.drop 46 = dktX1_goDeed_2 := dk_seg dksX1_goDeed_1 22 rfl rfl
theorem dksX1_goDeed_3 : cX1_goDeed.data.toList.drop 68 = dktX1_goDeed_3 := dk_seg dksX1_goDeed_2 22 rfl rfl
theorem dksX1_goDeed_4 : cX1_goDeed.data.toList.drop 91 = dktX1_goDeed_4 := dk_seg dksX1_goDeed_3 23 rfl rfl
theorem dX1_goDeed_0 : decode cX1_goDeed 0 = .ok (.iload_n 1, 1) := dk_27 (dk_at dksX1_goDeed_0 0 rfl rfl)
theorem dX1_goDeed_1 : decode cX1_goDeed 1 = .ok (.sipush 1000, 3) := dk_17 3 232 (dk_at dksX1_goDeed_0 1 rfl rfl)
theorem dX1_goDeed_4 : decode cX1_goDeed 4 = .ok (.irem, 1) := dk_112 (dk_at dksX1_goDeed_0 4 rfl rfl)
theorem dX1_goDeed_5 : decode cX1_goDeed 5 = .ok (.istore_n 2, 1) := dk_61 (dk_at dksX1_goDeed_0 5 rfl rfl)
theorem dX1_goDeed_6 : decode cX1_goDeed 6 = .ok (.iload_n 1, 1) := dk_27 (dk_at dksX1_goDeed_0 6 rfl rfl)
theorem dX1_goDeed_7 : decode cX1_goDeed 7 = .ok (.sipush 4000, 3) := dk_17 15 160 (dk_at dksX1_goDeed_0 7 rfl rfl)
theorem dX1_goDeed_10 : decode cX1_goDeed 10 = .ok (.if_icmp .lt 19, 3) := dk_161 0 19 (dk_at dksX1_goDeed_0 10 rfl rfl)
theorem dX1_goDeed_13 : decode cX1_goDeed 13 = .ok (.aload_n 0, 1) := dk_42 (dk_at dksX1_goDeed_0 13 rfl rfl)
theorem dX1_goDeed_14 : decode cX1_goDeed 14 = .ok (.bipush 78, 2) := dk_16 78 (dk_at dksX1_goDeed_0 14 rfl rfl)
theorem dX1_goDeed_16 : decode cX1_goDeed 16 = .ok (.iload_n 2, 1) := dk_28 (dk_at dksX1_goDeed_0 16 rfl rfl)
theorem dX1_goDeed_17 : decode cX1_goDeed 17 = .ok (.bipush 10, 2) := dk_16 10 (dk_at dksX1_goDeed_0 17 rfl rfl)
theorem dX1_goDeed_19 : decode cX1_goDeed 19 = .ok (.idiv, 1) := dk_108 (dk_at dksX1_goDeed_0 19 rfl rfl)
theorem dX1_goDeed_20 : decode cX1_goDeed 20 = .ok (.iadd, 1) := dk_96 (dk_at dksX1_goDeed_0 20 rfl rfl)
theorem dX1_goDeed_21 : decode cX1_goDeed 21 = .ok (.iload_n 2, 1) := dk_28 (dk_at dksX1_goDeed_0 21 rfl rfl)
theorem dX1_goDeed_22 : decode cX1_goDeed 22 = .ok (.bipush 10, 2) := dk_16 10 (dk_at dksX1_goDeed_0 22 rfl rfl)
theorem dX1_goDeed_24 : decode cX1_goDeed 24 = .ok (.irem, 1) := dk_112 (dk_at dksX1_goDeed_1 0 rfl rfl)
theorem dX1_goDeed_25 : decode cX1_goDeed 25 = .ok (.iastore, 1) := dk_79 (dk_at dksX1_goDeed_1 1 rfl rfl)
theorem dX1_goDeed_26 : decode cX1_goDeed 26 = .ok (.goto 76, 3) := dk_167 0 76 (dk_at dksX1_goDeed_1 2 rfl rfl)
theorem dX1_goDeed_29 : decode cX1_goDeed 29 = .ok (.iload_n 1, 1) := dk_27 (dk_at dksX1_goDeed_1 5 rfl rfl)
theorem dX1_goDeed_30 : decode cX1_goDeed 30 = .ok (.sipush 3000, 3) := dk_17 11 184 (dk_at dksX1_goDeed_1 6 rfl rfl)
theorem dX1_goDeed_33 : decode cX1_goDeed 33 = .ok (.if_icmp .lt 16, 3) := dk_161 0 16 (dk_at dksX1_goDeed_1 9 rfl rfl)
theorem dX1_goDeed_36 : decode cX1_goDeed 36 = .ok (.aload_n 0, 1) := dk_42 (dk_at dksX1_goDeed_1 12 rfl rfl)
theorem dX1_goDeed_37 : decode cX1_goDeed 37 = .ok (.bipush 71, 2) := dk_16 71 (dk_at dksX1_goDeed_1 13 rfl rfl)
theorem dX1_goDeed_39 : decode cX1_goDeed 39 = .ok (.dup2, 1) := dk_92 (dk_at dksX1_goDeed_1 15 rfl rfl)
theorem dX1_goDeed_40 : decode cX1_goDeed 40 = .ok (.iaload, 1) := dk_46 (dk_at dksX1_goDeed_1 16 rfl rfl)
theorem dX1_goDeed_41 : decode cX1_goDeed 41 = .ok (.iconst 1, 1) := dk_4 (dk_at dksX1_goDeed_1 17 rfl rfl)
theorem dX1_goDeed_42 : decode cX1_goDeed 42 = .ok (.iload_n 2, 1) := dk_28 (dk_at dksX1_goDeed_1 18 rfl rfl)
theorem dX1_goDeed_43 : decode cX1_goDeed 43 = .ok (.ishl, 1) := dk_120 (dk_at dksX1_goDeed_1 19 rfl rfl)
theorem dX1_goDeed_44 : decode cX1_goDeed 44 = .ok (.ior, 1) := dk_128 (dk_at dksX1_goDeed_1 20 rfl rfl)
theorem dX1_goDeed_45 : decode cX1_goDeed 45 = .ok (.iastore, 1) := dk_79 (dk_at dksX1_goDeed_1 21 rfl rfl)
theorem dX1_goDeed_46 : decode cX1_goDeed 46 = .ok (.goto 56, 3) := dk_167 0 56 (dk_at dksX1_goDeed_2 0 rfl rfl)
theorem dX1_goDeed_49 : decode cX1_goDeed 49 = .ok (.iload_n 1, 1) := dk_27 (dk_at dksX1_goDeed_2 3 rfl rfl)
theorem dX1_goDeed_50 : decode cX1_goDeed 50 = .ok (.sipush 2000, 3) := dk_17 7 208 (dk_at dksX1_goDeed_2 4 rfl rfl)
theorem dX1_goDeed_53 : decode cX1_goDeed 53 = .ok (.if_icmp .lt 18, 3) := dk_161 0 18 (dk_at dksX1_goDeed_2 7 rfl rfl)
theorem dX1_goDeed_56 : decode cX1_goDeed 56 = .ok (.aload_n 0, 1) := dk_42 (dk_at dksX1_goDeed_2 10 rfl rfl)
theorem dX1_goDeed_57 : decode cX1_goDeed 57 = .ok (.bipush 71, 2) := dk_16 71 (dk_at dksX1_goDeed_2 11 rfl rfl)
theorem dX1_goDeed_59 : decode cX1_goDeed 59 = .ok (.dup2, 1) := dk_92 (dk_at dksX1_goDeed_2 13 rfl rfl)
theorem dX1_goDeed_60 : decode cX1_goDeed 60 = .ok (.iaload, 1) := dk_46 (dk_at dksX1_goDeed_2 14 rfl rfl)
theorem dX1_goDeed_61 : decode cX1_goDeed 61 = .ok (.iconst 1, 1) := dk_4 (dk_at dksX1_goDeed_2 15 rfl rfl)
theorem dX1_goDeed_62 : decode cX1_goDeed 62 = .ok (.iload_n 2, 1) := dk_28 (dk_at dksX1_goDeed_2 16 rfl rfl)
theorem dX1_goDeed_63 : decode cX1_goDeed 63 = .ok (.ishl, 1) := dk_120 (dk_at dksX1_goDeed_2 17 rfl rfl)
theorem dX1_goDeed_64 : decode cX1_goDeed 64 = .ok (.iconst (-1), 1) := dk_2 (dk_at dksX1_goDeed_2 18 rfl rfl)
theorem dX1_goDeed_65 : decode cX1_goDeed 65 = .ok (.ixor, 1) := dk_130 (dk_at dksX1_goDeed_2 19 rfl rfl)
theorem dX1_goDeed_66 : decode cX1_goDeed 66 = .ok (.iand, 1) := dk_126 (dk_at dksX1_goDeed_2 20 rfl rfl)
theorem dX1_goDeed_67 : decode cX1_goDeed 67 = .ok (.iastore, 1) := dk_79 (dk_at dksX1_goDeed_2 21 rfl rfl)
theorem dX1_goDeed_68 : decode cX1_goDeed 68 = .ok (.goto 34, 3) := dk_167 0 34 (dk_at dksX1_goDeed_3 0 rfl rfl)
theorem dX1_goDeed_71 : decode cX1_goDeed 71 = .ok (.iload_n 1, 1) := dk_27 (dk_at dksX1_goDeed_3 3 rfl rfl)
theorem dX1_goDeed_72 : decode cX1_goDeed 72 = .ok (.sipush 1000, 3) := dk_17 3 232 (dk_at dksX1_goDeed_3 4 rfl rfl)
theorem dX1_goDeed_75 : decode cX1_goDeed 75 = .ok (.if_icmp .lt 19, 3) := dk_161 0 19 (dk_at dksX1_goDeed_3 7 rfl rfl)
theorem dX1_goDeed_78 : decode cX1_goDeed 78 = .ok (.aload_n 0, 1) := dk_42 (dk_at dksX1_goDeed_3 10 rfl rfl)
theorem dX1_goDeed_79 : decode cX1_goDeed 79 = .ok (.bipush 72, 2) := dk_16 72 (dk_at dksX1_goDeed_3 11 rfl rfl)
theorem dX1_goDeed_81 : decode cX1_goDeed 81 = .ok (.iload_n 2, 1) := dk_28 (dk_at dksX1_goDeed_3 13 rfl rfl)
theorem dX1_goDeed_82 : decode cX1_goDeed 82 = .ok (.bipush 100, 2) := dk_16 100 (dk_at dksX1_goDeed_3 14 rfl rfl)
theorem dX1_goDeed_84 : decode cX1_goDeed 84 = .ok (.idiv, 1) := dk_108 (dk_at dksX1_goDeed_3 16 rfl rfl)
theorem dX1_goDeed_85 : decode cX1_goDeed 85 = .ok (.iadd, 1) := dk_96 (dk_at dksX1_goDeed_3 17 rfl rfl)
theorem dX1_goDeed_86 : decode cX1_goDeed 86 = .ok (.iload_n 2, 1) := dk_28 (dk_at dksX1_goDeed_3 18 rfl rfl)
theorem dX1_goDeed_87 : decode cX1_goDeed 87 = .ok (.bipush 100, 2) := dk_16 100 (dk_at dksX1_goDeed_3 19 rfl rfl)
theorem dX1_goDeed_89 : decode cX1_goDeed 89 = .ok (.irem, 1) := dk_112 (dk_at dksX1_goDeed_3 21 rfl rfl)
theorem dX1_goDeed_90 : decode cX1_goDeed 90 = .ok (.iastore, 1) := dk_79 (dk_at dksX1_goDeed_3 22 rfl rfl)
theorem dX1_goDeed_91 : decode cX1_goDeed 91 = .ok (.goto 11, 3) := dk_167 0 11 (dk_at dksX1_goDeed_4 0 rfl rfl)
theorem dX1_goDeed_94 : decode cX1_goDeed 94 = .ok (.aload_n 0, 1) := dk_42 (dk_at dksX1_goDeed_4 3 rfl rfl)
theorem dX1_goDeed_95 : decode cX1_goDeed 95 = .ok (.bipush 70, 2) := dk_16 70 (dk_at dksX1_goDeed_4 4 rfl rfl)
theorem dX1_goDeed_97 : decode cX1_goDeed 97 = .ok (.dup2, 1) := dk_92 (dk_at dksX1_goDeed_4 6 rfl rfl)
theorem dX1_goDeed_98 : decode cX1_goDeed 98 = .ok (.iaload, 1) := dk_46 (dk_at dksX1_goDeed_4 7 rfl rfl)
theorem dX1_goDeed_99 : decode cX1_goDeed 99 = .ok (.iconst 1, 1) := dk_4 (dk_at dksX1_goDeed_4 8 rfl rfl)
theorem dX1_goDeed_100 : decode cX1_goDeed 100 = .ok (.iadd, 1) := dk_96 (dk_at dksX1_goDeed_4 9 rfl rfl)
theorem dX1_goDeed_101 : decode cX1_goDeed 101 = .ok (.iastore, 1) := dk_79 (dk_at dksX1_goDeed_4 10 rfl rfl)
theorem dX1_goDeed_102 : decode cX1_goDeed 102 = .ok (.return_, 1) := dk_177 (dk_at dksX1_goDeed_4 11 rfl rfl)
abbrev cX1_seated : ByteArray := prog_10_method_38_code
def yX1_seated : MethodName := ⟨RX1, "seated", "()I"⟩
def dkwX1_seated_0 : List UInt8 := [42, 42, 180, 0, 7, 16, 71, 46, 182, 0, 142, 184, 0, 145, 172]
abbrev dktX1_seated_0 : List UInt8 := dkwX1_seated_0 ++ []
theorem dksX1_seated_0 : cX1_seated.data.toList.drop 0 = dktX1_seated_0 := by decide +kernel
theorem dX1_seated_0 : decode cX1_seated 0 = .ok (.aload_n 0, 1) := dk_42 (dk_at dksX1_seated_0 0 rfl rfl)
theorem dX1_seated_1 : decode cX1_seated 1 = .ok (.aload_n 0, 1) := dk_42 (dk_at dksX1_seated_0 1 rfl rfl)
theorem dX1_seated_2 : decode cX1_seated 2 = .ok (.getfield 7, 3) := dk_180 0 7 (dk_at dksX1_seated_0 2 rfl rfl)
theorem dX1_seated_5 : decode cX1_seated 5 = .ok (.bipush 71, 2) := dk_16 71 (dk_at dksX1_seated_0 5 rfl rfl)
theorem dX1_seated_7 : decode cX1_seated 7 = .ok (.iaload, 1) := dk_46 (dk_at dksX1_seated_0 7 rfl rfl)
theorem dX1_seated_8 : decode cX1_seated 8 = .ok (.invokevirtual 142, 3) := dk_182 0 142 (dk_at dksX1_seated_0 8 rfl rfl)
theorem dX1_seated_11 : decode cX1_seated 11 = .ok (.invokestatic 145, 3) := dk_184 0 145 (dk_at dksX1_seated_0 11 rfl rfl)
theorem dX1_seated_14 : decode cX1_seated 14 = .ok (.ireturn, 1) := dk_172 (dk_at dksX1_seated_0 14 rfl rfl)
abbrev cX1_bedsBy : ByteArray := prog_10_method_37_code
def yX1_bedsBy : MethodName := ⟨RX1, "bedsBy", "(I)I"⟩
def dkwX1_bedsBy_2 : List UInt8 := [132, 3, 1, 167, 255, 209, 28, 172]
abbrev dktX1_bedsBy_2 : List UInt8 := dkwX1_bedsBy_2 ++ []
def dkwX1_bedsBy_1 : List UInt8 := [46, 27, 42, 180, 0, 7, 16, 70, 46, 182, 0, 138, 153, 0, 9, 4, 29, 120, 167, 0, 4, 3, 128, 61]
abbrev dktX1_bedsBy_1 : List UInt8 := dkwX1_bedsBy_1 ++ dktX1_bedsBy_2
def dkwX1_bedsBy_0 : List UInt8 := [3, 61, 3, 62, 29, 42, 180, 0, 7, 4, 46, 162, 0, 43, 28, 42, 42, 180, 0, 7, 16, 72, 29, 96]
abbrev dktX1_bedsBy_0 : List UInt8 := dkwX1_bedsBy_0 ++ dktX1_bedsBy_1
theorem dksX1_bedsBy_0 : cX1_bedsBy.data.toList.drop 0 = dktX1_bedsBy_0 := by decide +kernel
theorem dksX1_bedsBy_1 : cX1_bedsBy.data.toList.drop 24 = dktX1_bedsBy_1 := dk_seg dksX1_bedsBy_0 24 rfl rfl
theorem dksX1_bedsBy_2 : cX1_bedsBy.data.toList.drop 48 = dktX1_bedsBy_2 := dk_seg dksX1_bedsBy_1 24 rfl rfl
theorem dX1_bedsBy_0 : decode cX1_bedsBy 0 = .ok (.iconst 0, 1) := dk_3 (dk_at dksX1_bedsBy_0 0 rfl rfl)
theorem dX1_bedsBy_1 : decode cX1_bedsBy 1 = .ok (.istore_n 2, 1) := dk_61 (dk_at dksX1_bedsBy_0 1 rfl rfl)
theorem dX1_bedsBy_2 : decode cX1_bedsBy 2 = .ok (.iconst 0, 1) := dk_3 (dk_at dksX1_bedsBy_0 2 rfl rfl)
theorem dX1_bedsBy_3 : decode cX1_bedsBy 3 = .ok (.istore_n 3, 1) := dk_62 (dk_at dksX1_bedsBy_0 3 rfl rfl)
theorem dX1_bedsBy_4 : decode cX1_bedsBy 4 = .ok (.iload_n 3, 1) := dk_29 (dk_at dksX1_bedsBy_0 4 rfl rfl)
theorem dX1_bedsBy_5 : decode cX1_bedsBy 5 = .ok (.aload_n 0, 1) := dk_42 (dk_at dksX1_bedsBy_0 5 rfl rfl)
theorem dX1_bedsBy_6 : decode cX1_bedsBy 6 = .ok (.getfield 7, 3) := dk_180 0 7 (dk_at dksX1_bedsBy_0 6 rfl rfl)
theorem dX1_bedsBy_9 : decode cX1_bedsBy 9 = .ok (.iconst 1, 1) := dk_4 (dk_at dksX1_bedsBy_0 9 rfl rfl)
theorem dX1_bedsBy_10 : decode cX1_bedsBy 10 = .ok (.iaload, 1) := dk_46 (dk_at dksX1_bedsBy_0 10 rfl rfl)
theorem dX1_bedsBy_11 : decode cX1_bedsBy 11 = .ok (.if_icmp .ge 43, 3) := dk_162 0 43 (dk_at dksX1_bedsBy_0 11 rfl rfl)
theorem dX1_bedsBy_14 : decode cX1_bedsBy 14 = .ok (.iload_n 2, 1) := dk_28 (dk_at dksX1_bedsBy_0 14 rfl rfl)
theorem dX1_bedsBy_15 : decode cX1_bedsBy 15 = .ok (.aload_n 0, 1) := dk_42 (dk_at dksX1_bedsBy_0 15 rfl rfl)
theorem dX1_bedsBy_16 : decode cX1_bedsBy 16 = .ok (.aload_n 0, 1) := dk_42 (dk_at dksX1_bedsBy_0 16 rfl rfl)
theorem dX1_bedsBy_17 : decode cX1_bedsBy 17 = .ok (.getfield 7, 3) := dk_180 0 7 (dk_at dksX1_bedsBy_0 17 rfl rfl)
theorem dX1_bedsBy_20 : decode cX1_bedsBy 20 = .ok (.bipush 72, 2) := dk_16 72 (dk_at dksX1_bedsBy_0 20 rfl rfl)
theorem dX1_bedsBy_22 : decode cX1_bedsBy 22 = .ok (.iload_n 3, 1) := dk_29 (dk_at dksX1_bedsBy_0 22 rfl rfl)
theorem dX1_bedsBy_23 : decode cX1_bedsBy 23 = .ok (.iadd, 1) := dk_96 (dk_at dksX1_bedsBy_0 23 rfl rfl)
theorem dX1_bedsBy_24 : decode cX1_bedsBy 24 = .ok (.iaload, 1) := dk_46 (dk_at dksX1_bedsBy_1 0 rfl rfl)
theorem dX1_bedsBy_25 : decode cX1_bedsBy 25 = .ok (.iload_n 1, 1) := dk_27 (dk_at dksX1_bedsBy_1 1 rfl rfl)
theorem dX1_bedsBy_26 : decode cX1_bedsBy 26 = .ok (.aload_n 0, 1) := dk_42 (dk_at dksX1_bedsBy_1 2 rfl rfl)
theorem dX1_bedsBy_27 : decode cX1_bedsBy 27 = .ok (.getfield 7, 3) := dk_180 0 7 (dk_at dksX1_bedsBy_1 3 rfl rfl)
theorem dX1_bedsBy_30 : decode cX1_bedsBy 30 = .ok (.bipush 70, 2) := dk_16 70 (dk_at dksX1_bedsBy_1 6 rfl rfl)
theorem dX1_bedsBy_32 : decode cX1_bedsBy 32 = .ok (.iaload, 1) := dk_46 (dk_at dksX1_bedsBy_1 8 rfl rfl)
theorem dX1_bedsBy_33 : decode cX1_bedsBy 33 = .ok (.invokevirtual 138, 3) := dk_182 0 138 (dk_at dksX1_bedsBy_1 9 rfl rfl)
theorem dX1_bedsBy_36 : decode cX1_bedsBy 36 = .ok (.ifCond .eq 9, 3) := dk_153 0 9 (dk_at dksX1_bedsBy_1 12 rfl rfl)
theorem dX1_bedsBy_39 : decode cX1_bedsBy 39 = .ok (.iconst 1, 1) := dk_4 (dk_at dksX1_bedsBy_1 15 rfl rfl)
theorem dX1_bedsBy_40 : decode cX1_bedsBy 40 = .ok (.iload_n 3, 1) := dk_29 (dk_at dksX1_bedsBy_1 16 rfl rfl)
theorem dX1_bedsBy_41 : decode cX1_bedsBy 41 = .ok (.ishl, 1) := dk_120 (dk_at dksX1_bedsBy_1 17 rfl rfl)
theorem dX1_bedsBy_42 : decode cX1_bedsBy 42 = .ok (.goto 4, 3) := dk_167 0 4 (dk_at dksX1_bedsBy_1 18 rfl rfl)
theorem dX1_bedsBy_45 : decode cX1_bedsBy 45 = .ok (.iconst 0, 1) := dk_3 (dk_at dksX1_bedsBy_1 21 rfl rfl)
theorem dX1_bedsBy_46 : decode cX1_bedsBy 46 = .ok (.ior, 1) := dk_128 (dk_at dksX1_bedsBy_1 22 rfl rfl)
theorem dX1_bedsBy_47 : decode cX1_bedsBy 47 = .ok (.istore_n 2, 1) := dk_61 (dk_at dksX1_bedsBy_1 23 rfl rfl)
theorem dX1_bedsBy_48 : decode cX1_bedsBy 48 = .ok (.iinc 3 1, 3) := dk_132 3 1 (dk_at dksX1_bedsBy_2 0 rfl rfl)
theorem dX1_bedsBy_51 : decode cX1_bedsBy 51 = .ok (.goto (-47), 3) := dk_167 255 209 (dk_at dksX1_bedsBy_2 3 rfl rfl)
theorem dX1_bedsBy_54 : decode cX1_bedsBy 54 = .ok (.iload_n 2, 1) := dk_28 (dk_at dksX1_bedsBy_2 6 rfl rfl)
theorem dX1_bedsBy_55 : decode cX1_bedsBy 55 = .ok (.ireturn, 1) := dk_172 (dk_at dksX1_bedsBy_2 7 rfl rfl)
abbrev cX1_bits : ByteArray := prog_10_method_28_code
def yX1_bits : MethodName := ⟨RX1, "bits", "(I)I"⟩
def dkwX1_bits_0 : List UInt8 := [3, 60, 26, 61, 28, 158, 0, 16, 27, 28, 4, 126, 96, 60, 28, 4, 122, 61, 167, 255, 242, 27, 172]
abbrev dktX1_bits_0 : List UInt8 := dkwX1_bits_0 ++ []
theorem dksX1_bits_0 : cX1_bits.data.toList.drop 0 = dktX1_bits_0 := by decide +kernel
theorem dX1_bits_0 : decode cX1_bits 0 = .ok (.iconst 0, 1) := dk_3 (dk_at dksX1_bits_0 0 rfl rfl)
theorem dX1_bits_1 : decode cX1_bits 1 = .ok (.istore_n 1, 1) := dk_60 (dk_at dksX1_bits_0 1 rfl rfl)
theorem dX1_bits_2 : decode cX1_bits 2 = .ok (.iload_n 0, 1) := dk_26 (dk_at dksX1_bits_0 2 rfl rfl)
theorem dX1_bits_3 : decode cX1_bits 3 = .ok (.istore_n 2, 1) := dk_61 (dk_at dksX1_bits_0 3 rfl rfl)
theorem dX1_bits_4 : decode cX1_bits 4 = .ok (.iload_n 2, 1) := dk_28 (dk_at dksX1_bits_0 4 rfl rfl)
theorem dX1_bits_5 : decode cX1_bits 5 = .ok (.ifCond .le 16, 3) := dk_158 0 16 (dk_at dksX1_bits_0 5 rfl rfl)
theorem dX1_bits_8 : decode cX1_bits 8 = .ok (.iload_n 1, 1) := dk_27 (dk_at dksX1_bits_0 8 rfl rfl)
theorem dX1_bits_9 : decode cX1_bits 9 = .ok (.iload_n 2, 1) := dk_28 (dk_at dksX1_bits_0 9 rfl rfl)
theorem dX1_bits_10 : decode cX1_bits 10 = .ok (.iconst 1, 1) := dk_4 (dk_at dksX1_bits_0 10 rfl rfl)
theorem dX1_bits_11 : decode cX1_bits 11 = .ok (.iand, 1) := dk_126 (dk_at dksX1_bits_0 11 rfl rfl)
theorem dX1_bits_12 : decode cX1_bits 12 = .ok (.iadd, 1) := dk_96 (dk_at dksX1_bits_0 12 rfl rfl)
theorem dX1_bits_13 : decode cX1_bits 13 = .ok (.istore_n 1, 1) := dk_60 (dk_at dksX1_bits_0 13 rfl rfl)
theorem dX1_bits_14 : decode cX1_bits 14 = .ok (.iload_n 2, 1) := dk_28 (dk_at dksX1_bits_0 14 rfl rfl)
theorem dX1_bits_15 : decode cX1_bits 15 = .ok (.iconst 1, 1) := dk_4 (dk_at dksX1_bits_0 15 rfl rfl)
theorem dX1_bits_16 : decode cX1_bits 16 = .ok (.ishr, 1) := dk_122 (dk_at dksX1_bits_0 16 rfl rfl)
theorem dX1_bits_17 : decode cX1_bits 17 = .ok (.istore_n 2, 1) := dk_61 (dk_at dksX1_bits_0 17 rfl rfl)
theorem dX1_bits_18 : decode cX1_bits 18 = .ok (.goto (-14), 3) := dk_167 255 242 (dk_at dksX1_bits_0 18 rfl rfl)
theorem dX1_bits_21 : decode cX1_bits 21 = .ok (.iload_n 1, 1) := dk_27 (dk_at dksX1_bits_0 21 rfl rfl)
theorem dX1_bits_22 : decode cX1_bits 22 = .ok (.ireturn, 1) := dk_172 (dk_at dksX1_bits_0 22 rfl rfl)
abbrev cX1_move : ByteArray := prog_10_method_53_code
def yX1_move : MethodName := ⟨RX1, "move", "(II)I"⟩
def dkwX1_move_2 : List UInt8 := [42, 17, 3, 232, 16, 100, 27, 104, 96, 28, 96, 182, 0, 188, 42, 27, 182, 0, 168, 172]
abbrev dktX1_move_2 : List UInt8 := dkwX1_move_2 ++ []
def dkwX1_move_1 : List UInt8 := [96, 46, 28, 160, 0, 6, 16, 252, 172, 42, 180, 0, 7, 16, 29, 46, 16, 40, 160, 0, 6, 16, 254, 172]
abbrev dktX1_move_1 : List UInt8 := dkwX1_move_1 ++ dktX1_move_2
def dkwX1_move_0 : List UInt8 := [42, 27, 182, 0, 171, 153, 0, 10, 28, 184, 0, 185, 154, 0, 5, 2, 172, 42, 180, 0, 7, 16, 72, 27]
abbrev dktX1_move_0 : List UInt8 := dkwX1_move_0 ++ dktX1_move_1
theorem dksX1_move_0 : cX1_move.data.toList.drop 0 = dktX1_move_0 := by decide +kernel
theorem dksX1_move_1 : cX1_move.data.toList.drop 24 = dktX1_move_1 := dk_seg dksX1_move_0 24 rfl rfl
theorem dksX1_move_2 : cX1_move.data.toList.drop 48 = dktX1_move_2 := dk_seg dksX1_move_1 24 rfl rfl
theorem dX1_move_0 : decode cX1_move 0 = .ok (.aload_n 0, 1) := dk_42 (dk_at dksX1_move_0 0 rfl rfl)
theorem dX1_move_1 : decode cX1_move 1 = .ok (.iload_n 1, 1) := dk_27 (dk_at dksX1_move_0 1 rfl rfl)
theorem dX1_move_2 : decode cX1_move 2 = .ok (.invokevirtual 171, 3) := dk_182 0 171 (dk_at dksX1_move_0 2 rfl rfl)
theorem dX1_move_5 : decode cX1_move 5 = .ok (.ifCond .eq 10, 3) := dk_153 0 10 (dk_at dksX1_move_0 5 rfl rfl)
theorem dX1_move_8 : decode cX1_move 8 = .ok (.iload_n 2, 1) := dk_28 (dk_at dksX1_move_0 8 rfl rfl)
theorem dX1_move_9 : decode cX1_move 9 = .ok (.invokestatic 185, 3) := dk_184 0 185 (dk_at dksX1_move_0 9 rfl rfl)
theorem dX1_move_12 : decode cX1_move 12 = .ok (.ifCond .ne 5, 3) := dk_154 0 5 (dk_at dksX1_move_0 12 rfl rfl)
theorem dX1_move_15 : decode cX1_move 15 = .ok (.iconst (-1), 1) := dk_2 (dk_at dksX1_move_0 15 rfl rfl)
theorem dX1_move_16 : decode cX1_move 16 = .ok (.ireturn, 1) := dk_172 (dk_at dksX1_move_0 16 rfl rfl)
theorem dX1_move_17 : decode cX1_move 17 = .ok (.aload_n 0, 1) := dk_42 (dk_at dksX1_move_0 17 rfl rfl)
theorem dX1_move_18 : decode cX1_move 18 = .ok (.getfield 7, 3) := dk_180 0 7 (dk_at dksX1_move_0 18 rfl rfl)
theorem dX1_move_21 : decode cX1_move 21 = .ok (.bipush 72, 2) := dk_16 72 (dk_at dksX1_move_0 21 rfl rfl)
theorem dX1_move_23 : decode cX1_move 23 = .ok (.iload_n 1, 1) := dk_27 (dk_at dksX1_move_0 23 rfl rfl)
theorem dX1_move_24 : decode cX1_move 24 = .ok (.iadd, 1) := dk_96 (dk_at dksX1_move_1 0 rfl rfl)
theorem dX1_move_25 : decode cX1_move 25 = .ok (.iaload, 1) := dk_46 (dk_at dksX1_move_1 1 rfl rfl)
theorem dX1_move_26 : decode cX1_move 26 = .ok (.iload_n 2, 1) := dk_28 (dk_at dksX1_move_1 2 rfl rfl)
theorem dX1_move_27 : decode cX1_move 27 = .ok (.if_icmp .ne 6, 3) := dk_160 0 6 (dk_at dksX1_move_1 3 rfl rfl)
theorem dX1_move_30 : decode cX1_move 30 = .ok (.bipush (-4), 2) := dk_16 252 (dk_at dksX1_move_1 6 rfl rfl)
theorem dX1_move_32 : decode cX1_move 32 = .ok (.ireturn, 1) := dk_172 (dk_at dksX1_move_1 8 rfl rfl)
theorem dX1_move_33 : decode cX1_move 33 = .ok (.aload_n 0, 1) := dk_42 (dk_at dksX1_move_1 9 rfl rfl)
theorem dX1_move_34 : decode cX1_move 34 = .ok (.getfield 7, 3) := dk_180 0 7 (dk_at dksX1_move_1 10 rfl rfl)
theorem dX1_move_37 : decode cX1_move 37 = .ok (.bipush 29, 2) := dk_16 29 (dk_at dksX1_move_1 13 rfl rfl)
theorem dX1_move_39 : decode cX1_move 39 = .ok (.iaload, 1) := dk_46 (dk_at dksX1_move_1 15 rfl rfl)
theorem dX1_move_40 : decode cX1_move 40 = .ok (.bipush 40, 2) := dk_16 40 (dk_at dksX1_move_1 16 rfl rfl)
theorem dX1_move_42 : decode cX1_move 42 = .ok (.if_icmp .ne 6, 3) := dk_160 0 6 (dk_at dksX1_move_1 18 rfl rfl)
theorem dX1_move_45 : decode cX1_move 45 = .ok (.bipush (-2), 2) := dk_16 254 (dk_at dksX1_move_1 21 rfl rfl)
theorem dX1_move_47 : decode cX1_move 47 = .ok (.ireturn, 1) := dk_172 (dk_at dksX1_move_1 23 rfl rfl)
theorem dX1_move_48 : decode cX1_move 48 = .ok (.aload_n 0, 1) := dk_42 (dk_at dksX1_move_2 0 rfl rfl)
theorem dX1_move_49 : decode cX1_move 49 = .ok (.sipush 1000, 3) := dk_17 3 232 (dk_at dksX1_move_2 1 rfl rfl)
theorem dX1_move_52 : decode cX1_move 52 = .ok (.bipush 100, 2) := dk_16 100 (dk_at dksX1_move_2 4 rfl rfl)
theorem dX1_move_54 : decode cX1_move 54 = .ok (.iload_n 1, 1) := dk_27 (dk_at dksX1_move_2 6 rfl rfl)
theorem dX1_move_55 : decode cX1_move 55 = .ok (.imul, 1) := dk_104 (dk_at dksX1_move_2 7 rfl rfl)
theorem dX1_move_56 : decode cX1_move 56 = .ok (.iadd, 1) := dk_96 (dk_at dksX1_move_2 8 rfl rfl)
theorem dX1_move_57 : decode cX1_move 57 = .ok (.iload_n 2, 1) := dk_28 (dk_at dksX1_move_2 9 rfl rfl)
theorem dX1_move_58 : decode cX1_move 58 = .ok (.iadd, 1) := dk_96 (dk_at dksX1_move_2 10 rfl rfl)
theorem dX1_move_59 : decode cX1_move 59 = .ok (.invokevirtual 188, 3) := dk_182 0 188 (dk_at dksX1_move_2 11 rfl rfl)
theorem dX1_move_62 : decode cX1_move 62 = .ok (.aload_n 0, 1) := dk_42 (dk_at dksX1_move_2 14 rfl rfl)
theorem dX1_move_63 : decode cX1_move 63 = .ok (.iload_n 1, 1) := dk_27 (dk_at dksX1_move_2 15 rfl rfl)
theorem dX1_move_64 : decode cX1_move 64 = .ok (.invokevirtual 168, 3) := dk_182 0 168 (dk_at dksX1_move_2 16 rfl rfl)
theorem dX1_move_67 : decode cX1_move 67 = .ok (.ireturn, 1) := dk_172 (dk_at dksX1_move_2 19 rfl rfl)
abbrev cX1_gather : ByteArray := prog_10_method_55_code
def yX1_gather : MethodName := ⟨RX1, "gather", "(I)I"⟩
def dkwX1_gather_0 : List UInt8 := [42, 27, 4, 17, 7, 208, 182, 0, 195, 172]
abbrev dktX1_gather_0 : List UInt8 := dkwX1_gather_0 ++ []
theorem dksX1_gather_0 : cX1_gather.data.toList.drop 0 = dktX1_gather_0 := by decide +kernel
theorem dX1_gather_0 : decode cX1_gather 0 = .ok (.aload_n 0, 1) := dk_42 (dk_at dksX1_gather_0 0 rfl rfl)
theorem dX1_gather_1 : decode cX1_gather 1 = .ok (.iload_n 1, 1) := dk_27 (dk_at dksX1_gather_0 1 rfl rfl)
theorem dX1_gather_2 : decode cX1_gather 2 = .ok (.iconst 1, 1) := dk_4 (dk_at dksX1_gather_0 2 rfl rfl)
theorem dX1_gather_3 : decode cX1_gather 3 = .ok (.sipush 2000, 3) := dk_17 7 208 (dk_at dksX1_gather_0 3 rfl rfl)
theorem dX1_gather_6 : decode cX1_gather 6 = .ok (.invokevirtual 195, 3) := dk_182 0 195 (dk_at dksX1_gather_0 6 rfl rfl)
theorem dX1_gather_9 : decode cX1_gather 9 = .ok (.ireturn, 1) := dk_172 (dk_at dksX1_gather_0 9 rfl rfl)
abbrev cX1_turn : ByteArray := prog_10_method_54_code
def yX1_turn : MethodName := ⟨RX1, "turn", "(IZI)I"⟩
def dkwX1_turn_2 : List UInt8 := [96, 182, 0, 188, 42, 27, 182, 0, 154, 172]
abbrev dktX1_turn_2 : List UInt8 := dkwX1_turn_2 ++ []
def dkwX1_turn_1 : List UInt8 := [159, 0, 6, 16, 252, 172, 42, 180, 0, 7, 16, 29, 46, 16, 40, 160, 0, 6, 16, 254, 172, 42, 29, 27]
abbrev dktX1_turn_1 : List UInt8 := dkwX1_turn_1 ++ dktX1_turn_2
def dkwX1_turn_0 : List UInt8 := [42, 27, 182, 0, 160, 154, 0, 5, 2, 172, 42, 180, 0, 7, 16, 71, 46, 27, 184, 0, 131, 28]
abbrev dktX1_turn_0 : List UInt8 := dkwX1_turn_0 ++ dktX1_turn_1
theorem dksX1_turn_0 : cX1_turn.data.toList.drop 0 = dktX1_turn_0 := by decide +kernel
theorem dksX1_turn_1 : cX1_turn.data.toList.drop 22 = dktX1_turn_1 := dk_seg dksX1_turn_0 22 rfl rfl
theorem dksX1_turn_2 : cX1_turn.data.toList.drop 46 = dktX1_turn_2 := dk_seg dksX1_turn_1 24 rfl rfl
theorem dX1_turn_0 : decode cX1_turn 0 = .ok (.aload_n 0, 1) := dk_42 (dk_at dksX1_turn_0 0 rfl rfl)
theorem dX1_turn_1 : decode cX1_turn 1 = .ok (.iload_n 1, 1) := dk_27 (dk_at dksX1_turn_0 1 rfl rfl)
theorem dX1_turn_2 : decode cX1_turn 2 = .ok (.invokevirtual 160, 3) := dk_182 0 160 (dk_at dksX1_turn_0 2 rfl rfl)
theorem dX1_turn_5 : decode cX1_turn 5 = .ok (.ifCond .ne 5, 3) := dk_154 0 5 (dk_at dksX1_turn_0 5 rfl rfl)
theorem dX1_turn_8 : decode cX1_turn 8 = .ok (.iconst (-1), 1) := dk_2 (dk_at dksX1_turn_0 8 rfl rfl)
theorem dX1_turn_9 : decode cX1_turn 9 = .ok (.ireturn, 1) := dk_172 (dk_at dksX1_turn_0 9 rfl rfl)
theorem dX1_turn_10 : decode cX1_turn 10 = .ok (.aload_n 0, 1) := dk_42 (dk_at dksX1_turn_0 10 rfl rfl)
theorem dX1_turn_11 : decode cX1_turn 11 = .ok (.getfield 7, 3) := dk_180 0 7 (dk_at dksX1_turn_0 11 rfl rfl)
theorem dX1_turn_14 : decode cX1_turn 14 = .ok (.bipush 71, 2) := dk_16 71 (dk_at dksX1_turn_0 14 rfl rfl)
theorem dX1_turn_16 : decode cX1_turn 16 = .ok (.iaload, 1) := dk_46 (dk_at dksX1_turn_0 16 rfl rfl)
theorem dX1_turn_17 : decode cX1_turn 17 = .ok (.iload_n 1, 1) := dk_27 (dk_at dksX1_turn_0 17 rfl rfl)
theorem dX1_turn_18 : decode cX1_turn 18 = .ok (.invokestatic 131, 3) := dk_184 0 131 (dk_at dksX1_turn_0 18 rfl rfl)
theorem dX1_turn_21 : decode cX1_turn 21 = .ok (.iload_n 2, 1) := dk_28 (dk_at dksX1_turn_0 21 rfl rfl)
theorem dX1_turn_22 : decode cX1_turn 22 = .ok (.if_icmp .eq 6, 3) := dk_159 0 6 (dk_at dksX1_turn_1 0 rfl rfl)
theorem dX1_turn_25 : decode cX1_turn 25 = .ok (.bipush (-4), 2) := dk_16 252 (dk_at dksX1_turn_1 3 rfl rfl)
theorem dX1_turn_27 : decode cX1_turn 27 = .ok (.ireturn, 1) := dk_172 (dk_at dksX1_turn_1 5 rfl rfl)
theorem dX1_turn_28 : decode cX1_turn 28 = .ok (.aload_n 0, 1) := dk_42 (dk_at dksX1_turn_1 6 rfl rfl)
theorem dX1_turn_29 : decode cX1_turn 29 = .ok (.getfield 7, 3) := dk_180 0 7 (dk_at dksX1_turn_1 7 rfl rfl)
theorem dX1_turn_32 : decode cX1_turn 32 = .ok (.bipush 29, 2) := dk_16 29 (dk_at dksX1_turn_1 10 rfl rfl)
theorem dX1_turn_34 : decode cX1_turn 34 = .ok (.iaload, 1) := dk_46 (dk_at dksX1_turn_1 12 rfl rfl)
theorem dX1_turn_35 : decode cX1_turn 35 = .ok (.bipush 40, 2) := dk_16 40 (dk_at dksX1_turn_1 13 rfl rfl)
theorem dX1_turn_37 : decode cX1_turn 37 = .ok (.if_icmp .ne 6, 3) := dk_160 0 6 (dk_at dksX1_turn_1 15 rfl rfl)
theorem dX1_turn_40 : decode cX1_turn 40 = .ok (.bipush (-2), 2) := dk_16 254 (dk_at dksX1_turn_1 18 rfl rfl)
theorem dX1_turn_42 : decode cX1_turn 42 = .ok (.ireturn, 1) := dk_172 (dk_at dksX1_turn_1 20 rfl rfl)
theorem dX1_turn_43 : decode cX1_turn 43 = .ok (.aload_n 0, 1) := dk_42 (dk_at dksX1_turn_1 21 rfl rfl)
theorem dX1_turn_44 : decode cX1_turn 44 = .ok (.iload_n 3, 1) := dk_29 (dk_at dksX1_turn_1 22 rfl rfl)
theorem dX1_turn_45 : decode cX1_turn 45 = .ok (.iload_n 1, 1) := dk_27 (dk_at dksX1_turn_1 23 rfl rfl)
theorem dX1_turn_46 : decode cX1_turn 46 = .ok (.iadd, 1) := dk_96 (dk_at dksX1_turn_2 0 rfl rfl)
theorem dX1_turn_47 : decode cX1_turn 47 = .ok (.invokevirtual 188, 3) := dk_182 0 188 (dk_at dksX1_turn_2 1 rfl rfl)
theorem dX1_turn_50 : decode cX1_turn 50 = .ok (.aload_n 0, 1) := dk_42 (dk_at dksX1_turn_2 4 rfl rfl)
theorem dX1_turn_51 : decode cX1_turn 51 = .ok (.iload_n 1, 1) := dk_27 (dk_at dksX1_turn_2 5 rfl rfl)
theorem dX1_turn_52 : decode cX1_turn 52 = .ok (.invokevirtual 154, 3) := dk_182 0 154 (dk_at dksX1_turn_2 6 rfl rfl)
theorem dX1_turn_55 : decode cX1_turn 55 = .ok (.ireturn, 1) := dk_172 (dk_at dksX1_turn_2 9 rfl rfl)
abbrev cX1_make : ByteArray := prog_10_method_56_code
def yX1_make : MethodName := ⟨RX1, "make", "(I)I"⟩
def dkwX1_make_0 : List UInt8 := [42, 27, 3, 17, 11, 184, 182, 0, 195, 172]
abbrev dktX1_make_0 : List UInt8 := dkwX1_make_0 ++ []
theorem dksX1_make_0 : cX1_make.data.toList.drop 0 = dktX1_make_0 := by decide +kernel
theorem dX1_make_0 : decode cX1_make 0 = .ok (.aload_n 0, 1) := dk_42 (dk_at dksX1_make_0 0 rfl rfl)
theorem dX1_make_1 : decode cX1_make 1 = .ok (.iload_n 1, 1) := dk_27 (dk_at dksX1_make_0 1 rfl rfl)
theorem dX1_make_2 : decode cX1_make 2 = .ok (.iconst 0, 1) := dk_3 (dk_at dksX1_make_0 2 rfl rfl)
theorem dX1_make_3 : decode cX1_make 3 = .ok (.sipush 3000, 3) := dk_17 11 184 (dk_at dksX1_make_0 3 rfl rfl)
theorem dX1_make_6 : decode cX1_make 6 = .ok (.invokevirtual 195, 3) := dk_182 0 195 (dk_at dksX1_make_0 6 rfl rfl)
theorem dX1_make_9 : decode cX1_make 9 = .ok (.ireturn, 1) := dk_172 (dk_at dksX1_make_0 9 rfl rfl)
abbrev cX1_think : ByteArray := prog_10_method_57_code
def yX1_think : MethodName := ⟨RX1, "think", "(II)I"⟩
def dkwX1_think_2 : List UInt8 := [42, 17, 15, 160, 16, 10, 27, 104, 96, 28, 96, 182, 0, 188, 29, 172]
abbrev dktX1_think_2 : List UInt8 := dkwX1_think_2 ++ []
def dkwX1_think_1 : List UInt8 := [180, 0, 7, 16, 29, 46, 16, 40, 160, 0, 6, 16, 254, 172, 42, 180, 0, 7, 16, 78, 27, 96, 46, 62]
abbrev dktX1_think_1 : List UInt8 := dkwX1_think_1 ++ dktX1_think_2
def dkwX1_think_0 : List UInt8 := [42, 27, 182, 0, 171, 153, 0, 15, 28, 133, 9, 20, 0, 199, 184, 0, 60, 154, 0, 5, 2, 172, 42]
abbrev dktX1_think_0 : List UInt8 := dkwX1_think_0 ++ dktX1_think_1
theorem dksX1_think_0 : cX1_think.data.toList.drop 0 = dktX1_think_0 := by decide +kernel
theorem dksX1_think_1 : cX1_think.data.toList.drop 23 = dktX1_think_1 := dk_seg dksX1_think_0 23 rfl rfl
theorem dksX1_think_2 : cX1_think.data.toList.drop 47 = dktX1_think_2 := dk_seg dksX1_think_1 24 rfl rfl
theorem dX1_think_0 : decode cX1_think 0 = .ok (.aload_n 0, 1) := dk_42 (dk_at dksX1_think_0 0 rfl rfl)
theorem dX1_think_1 : decode cX1_think 1 = .ok (.iload_n 1, 1) := dk_27 (dk_at dksX1_think_0 1 rfl rfl)
theorem dX1_think_2 : decode cX1_think 2 = .ok (.invokevirtual 171, 3) := dk_182 0 171 (dk_at dksX1_think_0 2 rfl rfl)
theorem dX1_think_5 : decode cX1_think 5 = .ok (.ifCond .eq 15, 3) := dk_153 0 15 (dk_at dksX1_think_0 5 rfl rfl)
theorem dX1_think_8 : decode cX1_think 8 = .ok (.iload_n 2, 1) := dk_28 (dk_at dksX1_think_0 8 rfl rfl)
theorem dX1_think_9 : decode cX1_think 9 = .ok (.i2l, 1) := dk_133 (dk_at dksX1_think_0 9 rfl rfl)
theorem dX1_think_10 : decode cX1_think 10 = .ok (.lconst 0, 1) := dk_9 (dk_at dksX1_think_0 10 rfl rfl)
theorem dX1_think_11 : decode cX1_think 11 = .ok (.ldc2_w 199, 3) := dk_20 0 199 (dk_at dksX1_think_0 11 rfl rfl)
theorem dX1_think_14 : decode cX1_think 14 = .ok (.invokestatic 60, 3) := dk_184 0 60 (dk_at dksX1_think_0 14 rfl rfl)
theorem dX1_think_17 : decode cX1_think 17 = .ok (.ifCond .ne 5, 3) := dk_154 0 5 (dk_at dksX1_think_0 17 rfl rfl)
theorem dX1_think_20 : decode cX1_think 20 = .ok (.iconst (-1), 1) := dk_2 (dk_at dksX1_think_0 20 rfl rfl)
theorem dX1_think_21 : decode cX1_think 21 = .ok (.ireturn, 1) := dk_172 (dk_at dksX1_think_0 21 rfl rfl)
theorem dX1_think_22 : decode cX1_think 22 = .ok (.aload_n 0, 1) := dk_42 (dk_at dksX1_think_0 22 rfl rfl)
theorem dX1_think_23 : decode cX1_think 23 = .ok (.getfield 7, 3) := dk_180 0 7 (dk_at dksX1_think_1 0 rfl rfl)
theorem dX1_think_26 : decode cX1_think 26 = .ok (.bipush 29, 2) := dk_16 29 (dk_at dksX1_think_1 3 rfl rfl)
theorem dX1_think_28 : decode cX1_think 28 = .ok (.iaload, 1) := dk_46 (dk_at dksX1_think_1 5 rfl rfl)
theorem dX1_think_29 : decode cX1_think 29 = .ok (.bipush 40, 2) := dk_16 40 (dk_at dksX1_think_1 6 rfl rfl)
theorem dX1_think_31 : decode cX1_think 31 = .ok (.if_icmp .ne 6, 3) := dk_160 0 6 (dk_at dksX1_think_1 8 rfl rfl)
theorem dX1_think_34 : decode cX1_think 34 = .ok (.bipush (-2), 2) := dk_16 254 (dk_at dksX1_think_1 11 rfl rfl)
theorem dX1_think_36 : decode cX1_think 36 = .ok (.ireturn, 1) := dk_172 (dk_at dksX1_think_1 13 rfl rfl)
theorem dX1_think_37 : decode cX1_think 37 = .ok (.aload_n 0, 1) := dk_42 (dk_at dksX1_think_1 14 rfl rfl)
theorem dX1_think_38 : decode cX1_think 38 = .ok (.getfield 7, 3) := dk_180 0 7 (dk_at dksX1_think_1 15 rfl rfl)
theorem dX1_think_41 : decode cX1_think 41 = .ok (.bipush 78, 2) := dk_16 78 (dk_at dksX1_think_1 18 rfl rfl)
theorem dX1_think_43 : decode cX1_think 43 = .ok (.iload_n 1, 1) := dk_27 (dk_at dksX1_think_1 20 rfl rfl)
theorem dX1_think_44 : decode cX1_think 44 = .ok (.iadd, 1) := dk_96 (dk_at dksX1_think_1 21 rfl rfl)
theorem dX1_think_45 : decode cX1_think 45 = .ok (.iaload, 1) := dk_46 (dk_at dksX1_think_1 22 rfl rfl)
theorem dX1_think_46 : decode cX1_think 46 = .ok (.istore_n 3, 1) := dk_62 (dk_at dksX1_think_1 23 rfl rfl)
theorem dX1_think_47 : decode cX1_think 47 = .ok (.aload_n 0, 1) := dk_42 (dk_at dksX1_think_2 0 rfl rfl)
theorem dX1_think_48 : decode cX1_think 48 = .ok (.sipush 4000, 3) := dk_17 15 160 (dk_at dksX1_think_2 1 rfl rfl)
theorem dX1_think_51 : decode cX1_think 51 = .ok (.bipush 10, 2) := dk_16 10 (dk_at dksX1_think_2 4 rfl rfl)
theorem dX1_think_53 : decode cX1_think 53 = .ok (.iload_n 1, 1) := dk_27 (dk_at dksX1_think_2 6 rfl rfl)
theorem dX1_think_54 : decode cX1_think 54 = .ok (.imul, 1) := dk_104 (dk_at dksX1_think_2 7 rfl rfl)
theorem dX1_think_55 : decode cX1_think 55 = .ok (.iadd, 1) := dk_96 (dk_at dksX1_think_2 8 rfl rfl)
theorem dX1_think_56 : decode cX1_think 56 = .ok (.iload_n 2, 1) := dk_28 (dk_at dksX1_think_2 9 rfl rfl)
theorem dX1_think_57 : decode cX1_think 57 = .ok (.iadd, 1) := dk_96 (dk_at dksX1_think_2 10 rfl rfl)
theorem dX1_think_58 : decode cX1_think 58 = .ok (.invokevirtual 188, 3) := dk_182 0 188 (dk_at dksX1_think_2 11 rfl rfl)
theorem dX1_think_61 : decode cX1_think 61 = .ok (.iload_n 3, 1) := dk_29 (dk_at dksX1_think_2 14 rfl rfl)
theorem dX1_think_62 : decode cX1_think 62 = .ok (.ireturn, 1) := dk_172 (dk_at dksX1_think_2 15 rfl rfl)
abbrev cX1_undo : ByteArray := prog_10_method_58_code
def yX1_undo : MethodName := ⟨RX1, "undo", "(I)I"⟩
def dkwX1_undo_3 : List UInt8 := [27, 79, 28, 172]
abbrev dktX1_undo_3 : List UInt8 := dkwX1_undo_3 ++ []
def dkwX1_undo_2 : List UInt8 := [42, 180, 0, 7, 16, 30, 29, 96, 46, 184, 0, 148, 132, 3, 1, 167, 255, 232, 42, 180, 0, 7, 16, 29]
abbrev dktX1_undo_2 : List UInt8 := dkwX1_undo_2 ++ dktX1_undo_3
def dkwX1_undo_1 : List UInt8 := [16, 29, 46, 27, 100, 61, 42, 180, 0, 7, 184, 0, 117, 3, 62, 29, 27, 162, 0, 25, 42, 180, 0, 7]
abbrev dktX1_undo_1 : List UInt8 := dkwX1_undo_1 ++ dktX1_undo_2
def dkwX1_undo_0 : List UInt8 := [27, 133, 9, 42, 180, 0, 7, 16, 29, 46, 133, 184, 0, 60, 154, 0, 5, 2, 172, 42, 180, 0, 7]
abbrev dktX1_undo_0 : List UInt8 := dkwX1_undo_0 ++ dktX1_undo_1
theorem dksX1_undo_0 : cX1_undo.data.toList.drop 0 = dktX1_undo_0 := by decide +kernel
theorem dksX1_undo_1 : cX1_undo.data.toList.drop 23 = dktX1_undo_1 := dk_seg dksX1_undo_0 23 rfl rfl
theorem dksX1_undo_2 : cX1_undo.data.toList.drop 47 = dktX1_undo_2 := dk_seg dksX1_undo_1 24 rfl rfl
theorem dksX1_undo_3 : cX1_undo.data.toList.drop 71 = dktX1_undo_3 := dk_seg dksX1_undo_2 24 rfl rfl
theorem dX1_undo_0 : decode cX1_undo 0 = .ok (.iload_n 1, 1) := dk_27 (dk_at dksX1_undo_0 0 rfl rfl)
theorem dX1_undo_1 : decode cX1_undo 1 = .ok (.i2l, 1) := dk_133 (dk_at dksX1_undo_0 1 rfl rfl)
theorem dX1_undo_2 : decode cX1_undo 2 = .ok (.lconst 0, 1) := dk_9 (dk_at dksX1_undo_0 2 rfl rfl)
theorem dX1_undo_3 : decode cX1_undo 3 = .ok (.aload_n 0, 1) := dk_42 (dk_at dksX1_undo_0 3 rfl rfl)
theorem dX1_undo_4 : decode cX1_undo 4 = .ok (.getfield 7, 3) := dk_180 0 7 (dk_at dksX1_undo_0 4 rfl rfl)
theorem dX1_undo_7 : decode cX1_undo 7 = .ok (.bipush 29, 2) := dk_16 29 (dk_at dksX1_undo_0 7 rfl rfl)
theorem dX1_undo_9 : decode cX1_undo 9 = .ok (.iaload, 1) := dk_46 (dk_at dksX1_undo_0 9 rfl rfl)
theorem dX1_undo_10 : decode cX1_undo 10 = .ok (.i2l, 1) := dk_133 (dk_at dksX1_undo_0 10 rfl rfl)
theorem dX1_undo_11 : decode cX1_undo 11 = .ok (.invokestatic 60, 3) := dk_184 0 60 (dk_at dksX1_undo_0 11 rfl rfl)
theorem dX1_undo_14 : decode cX1_undo 14 = .ok (.ifCond .ne 5, 3) := dk_154 0 5 (dk_at dksX1_undo_0 14 rfl rfl)
theorem dX1_undo_17 : decode cX1_undo 17 = .ok (.iconst (-1), 1) := dk_2 (dk_at dksX1_undo_0 17 rfl rfl)
theorem dX1_undo_18 : decode cX1_undo 18 = .ok (.ireturn, 1) := dk_172 (dk_at dksX1_undo_0 18 rfl rfl)
theorem dX1_undo_19 : decode cX1_undo 19 = .ok (.aload_n 0, 1) := dk_42 (dk_at dksX1_undo_0 19 rfl rfl)
theorem dX1_undo_20 : decode cX1_undo 20 = .ok (.getfield 7, 3) := dk_180 0 7 (dk_at dksX1_undo_0 20 rfl rfl)
theorem dX1_undo_23 : decode cX1_undo 23 = .ok (.bipush 29, 2) := dk_16 29 (dk_at dksX1_undo_1 0 rfl rfl)
theorem dX1_undo_25 : decode cX1_undo 25 = .ok (.iaload, 1) := dk_46 (dk_at dksX1_undo_1 2 rfl rfl)
theorem dX1_undo_26 : decode cX1_undo 26 = .ok (.iload_n 1, 1) := dk_27 (dk_at dksX1_undo_1 3 rfl rfl)
theorem dX1_undo_27 : decode cX1_undo 27 = .ok (.isub, 1) := dk_100 (dk_at dksX1_undo_1 4 rfl rfl)
theorem dX1_undo_28 : decode cX1_undo 28 = .ok (.istore_n 2, 1) := dk_61 (dk_at dksX1_undo_1 5 rfl rfl)
theorem dX1_undo_29 : decode cX1_undo 29 = .ok (.aload_n 0, 1) := dk_42 (dk_at dksX1_undo_1 6 rfl rfl)
theorem dX1_undo_30 : decode cX1_undo 30 = .ok (.getfield 7, 3) := dk_180 0 7 (dk_at dksX1_undo_1 7 rfl rfl)
theorem dX1_undo_33 : decode cX1_undo 33 = .ok (.invokestatic 117, 3) := dk_184 0 117 (dk_at dksX1_undo_1 10 rfl rfl)
theorem dX1_undo_36 : decode cX1_undo 36 = .ok (.iconst 0, 1) := dk_3 (dk_at dksX1_undo_1 13 rfl rfl)
theorem dX1_undo_37 : decode cX1_undo 37 = .ok (.istore_n 3, 1) := dk_62 (dk_at dksX1_undo_1 14 rfl rfl)
theorem dX1_undo_38 : decode cX1_undo 38 = .ok (.iload_n 3, 1) := dk_29 (dk_at dksX1_undo_1 15 rfl rfl)
theorem dX1_undo_39 : decode cX1_undo 39 = .ok (.iload_n 1, 1) := dk_27 (dk_at dksX1_undo_1 16 rfl rfl)
theorem dX1_undo_40 : decode cX1_undo 40 = .ok (.if_icmp .ge 25, 3) := dk_162 0 25 (dk_at dksX1_undo_1 17 rfl rfl)
theorem dX1_undo_43 : decode cX1_undo 43 = .ok (.aload_n 0, 1) := dk_42 (dk_at dksX1_undo_1 20 rfl rfl)
theorem dX1_undo_44 : decode cX1_undo 44 = .ok (.getfield 7, 3) := dk_180 0 7 (dk_at dksX1_undo_1 21 rfl rfl)
theorem dX1_undo_47 : decode cX1_undo 47 = .ok (.aload_n 0, 1) := dk_42 (dk_at dksX1_undo_2 0 rfl rfl)
theorem dX1_undo_48 : decode cX1_undo 48 = .ok (.getfield 7, 3) := dk_180 0 7 (dk_at dksX1_undo_2 1 rfl rfl)
theorem dX1_undo_51 : decode cX1_undo 51 = .ok (.bipush 30, 2) := dk_16 30 (dk_at dksX1_undo_2 4 rfl rfl)
theorem dX1_undo_53 : decode cX1_undo 53 = .ok (.iload_n 3, 1) := dk_29 (dk_at dksX1_undo_2 6 rfl rfl)
theorem dX1_undo_54 : decode cX1_undo 54 = .ok (.iadd, 1) := dk_96 (dk_at dksX1_undo_2 7 rfl rfl)
theorem dX1_undo_55 : decode cX1_undo 55 = .ok (.iaload, 1) := dk_46 (dk_at dksX1_undo_2 8 rfl rfl)
theorem dX1_undo_56 : decode cX1_undo 56 = .ok (.invokestatic 148, 3) := dk_184 0 148 (dk_at dksX1_undo_2 9 rfl rfl)
theorem dX1_undo_59 : decode cX1_undo 59 = .ok (.iinc 3 1, 3) := dk_132 3 1 (dk_at dksX1_undo_2 12 rfl rfl)
theorem dX1_undo_62 : decode cX1_undo 62 = .ok (.goto (-24), 3) := dk_167 255 232 (dk_at dksX1_undo_2 15 rfl rfl)
theorem dX1_undo_65 : decode cX1_undo 65 = .ok (.aload_n 0, 1) := dk_42 (dk_at dksX1_undo_2 18 rfl rfl)
theorem dX1_undo_66 : decode cX1_undo 66 = .ok (.getfield 7, 3) := dk_180 0 7 (dk_at dksX1_undo_2 19 rfl rfl)
theorem dX1_undo_69 : decode cX1_undo 69 = .ok (.bipush 29, 2) := dk_16 29 (dk_at dksX1_undo_2 22 rfl rfl)
theorem dX1_undo_71 : decode cX1_undo 71 = .ok (.iload_n 1, 1) := dk_27 (dk_at dksX1_undo_3 0 rfl rfl)
theorem dX1_undo_72 : decode cX1_undo 72 = .ok (.iastore, 1) := dk_79 (dk_at dksX1_undo_3 1 rfl rfl)
theorem dX1_undo_73 : decode cX1_undo 73 = .ok (.iload_n 2, 1) := dk_28 (dk_at dksX1_undo_3 2 rfl rfl)
theorem dX1_undo_74 : decode cX1_undo 74 = .ok (.ireturn, 1) := dk_172 (dk_at dksX1_undo_3 3 rfl rfl)
abbrev cX1_keep : ByteArray := prog_10_method_60_code
def yX1_keep : MethodName := ⟨RX1, "keep", "(I)I"⟩
def dkwX1_keep_2 : List UInt8 := [132, 2, 1, 167, 255, 230, 42, 180, 0, 16, 27, 4, 84, 42, 180, 0, 7, 16, 29, 46, 172]
abbrev dktX1_keep_2 : List UInt8 := dkwX1_keep_2 ++ []
def dkwX1_keep_1 : List UInt8 := [16, 84, 162, 0, 26, 42, 180, 0, 13, 16, 84, 27, 104, 28, 96, 42, 180, 0, 7, 28, 46, 79]
abbrev dktX1_keep_1 : List UInt8 := dkwX1_keep_1 ++ dktX1_keep_2
def dkwX1_keep_0 : List UInt8 := [27, 184, 0, 201, 154, 0, 5, 2, 172, 42, 180, 0, 7, 3, 46, 154, 0, 6, 16, 252, 172, 3, 61, 28]
abbrev dktX1_keep_0 : List UInt8 := dkwX1_keep_0 ++ dktX1_keep_1
theorem dksX1_keep_0 : cX1_keep.data.toList.drop 0 = dktX1_keep_0 := by decide +kernel
theorem dksX1_keep_1 : cX1_keep.data.toList.drop 24 = dktX1_keep_1 := dk_seg dksX1_keep_0 24 rfl rfl
theorem dksX1_keep_2 : cX1_keep.data.toList.drop 46 = dktX1_keep_2 := dk_seg dksX1_keep_1 22 rfl rfl
theorem dX1_keep_0 : decode cX1_keep 0 = .ok (.iload_n 1, 1) := dk_27 (dk_at dksX1_keep_0 0 rfl rfl)
theorem dX1_keep_1 : decode cX1_keep 1 = .ok (.invokestatic 201, 3) := dk_184 0 201 (dk_at dksX1_keep_0 1 rfl rfl)
theorem dX1_keep_4 : decode cX1_keep 4 = .ok (.ifCond .ne 5, 3) := dk_154 0 5 (dk_at dksX1_keep_0 4 rfl rfl)
theorem dX1_keep_7 : decode cX1_keep 7 = .ok (.iconst (-1), 1) := dk_2 (dk_at dksX1_keep_0 7 rfl rfl)
theorem dX1_keep_8 : decode cX1_keep 8 = .ok (.ireturn, 1) := dk_172 (dk_at dksX1_keep_0 8 rfl rfl)
theorem dX1_keep_9 : decode cX1_keep 9 = .ok (.aload_n 0, 1) := dk_42 (dk_at dksX1_keep_0 9 rfl rfl)
theorem dX1_keep_10 : decode cX1_keep 10 = .ok (.getfield 7, 3) := dk_180 0 7 (dk_at dksX1_keep_0 10 rfl rfl)
theorem dX1_keep_13 : decode cX1_keep 13 = .ok (.iconst 0, 1) := dk_3 (dk_at dksX1_keep_0 13 rfl rfl)
theorem dX1_keep_14 : decode cX1_keep 14 = .ok (.iaload, 1) := dk_46 (dk_at dksX1_keep_0 14 rfl rfl)
theorem dX1_keep_15 : decode cX1_keep 15 = .ok (.ifCond .ne 6, 3) := dk_154 0 6 (dk_at dksX1_keep_0 15 rfl rfl)
theorem dX1_keep_18 : decode cX1_keep 18 = .ok (.bipush (-4), 2) := dk_16 252 (dk_at dksX1_keep_0 18 rfl rfl)
theorem dX1_keep_20 : decode cX1_keep 20 = .ok (.ireturn, 1) := dk_172 (dk_at dksX1_keep_0 20 rfl rfl)
theorem dX1_keep_21 : decode cX1_keep 21 = .ok (.iconst 0, 1) := dk_3 (dk_at dksX1_keep_0 21 rfl rfl)
theorem dX1_keep_22 : decode cX1_keep 22 = .ok (.istore_n 2, 1) := dk_61 (dk_at dksX1_keep_0 22 rfl rfl)
theorem dX1_keep_23 : decode cX1_keep 23 = .ok (.iload_n 2, 1) := dk_28 (dk_at dksX1_keep_0 23 rfl rfl)
theorem dX1_keep_24 : decode cX1_keep 24 = .ok (.bipush 84, 2) := dk_16 84 (dk_at dksX1_keep_1 0 rfl rfl)
theorem dX1_keep_26 : decode cX1_keep 26 = .ok (.if_icmp .ge 26, 3) := dk_162 0 26 (dk_at dksX1_keep_1 2 rfl rfl)
theorem dX1_keep_29 : decode cX1_keep 29 = .ok (.aload_n 0, 1) := dk_42 (dk_at dksX1_keep_1 5 rfl rfl)
theorem dX1_keep_30 : decode cX1_keep 30 = .ok (.getfield 13, 3) := dk_180 0 13 (dk_at dksX1_keep_1 6 rfl rfl)
theorem dX1_keep_33 : decode cX1_keep 33 = .ok (.bipush 84, 2) := dk_16 84 (dk_at dksX1_keep_1 9 rfl rfl)
theorem dX1_keep_35 : decode cX1_keep 35 = .ok (.iload_n 1, 1) := dk_27 (dk_at dksX1_keep_1 11 rfl rfl)
theorem dX1_keep_36 : decode cX1_keep 36 = .ok (.imul, 1) := dk_104 (dk_at dksX1_keep_1 12 rfl rfl)
theorem dX1_keep_37 : decode cX1_keep 37 = .ok (.iload_n 2, 1) := dk_28 (dk_at dksX1_keep_1 13 rfl rfl)
theorem dX1_keep_38 : decode cX1_keep 38 = .ok (.iadd, 1) := dk_96 (dk_at dksX1_keep_1 14 rfl rfl)
theorem dX1_keep_39 : decode cX1_keep 39 = .ok (.aload_n 0, 1) := dk_42 (dk_at dksX1_keep_1 15 rfl rfl)
theorem dX1_keep_40 : decode cX1_keep 40 = .ok (.getfield 7, 3) := dk_180 0 7 (dk_at dksX1_keep_1 16 rfl rfl)
theorem dX1_keep_43 : decode cX1_keep 43 = .ok (.iload_n 2, 1) := dk_28 (dk_at dksX1_keep_1 19 rfl rfl)
theorem dX1_keep_44 : decode cX1_keep 44 = .ok (.iaload, 1) := dk_46 (dk_at dksX1_keep_1 20 rfl rfl)
theorem dX1_keep_45 : decode cX1_keep 45 = .ok (.iastore, 1) := dk_79 (dk_at dksX1_keep_1 21 rfl rfl)
theorem dX1_keep_46 : decode cX1_keep 46 = .ok (.iinc 2 1, 3) := dk_132 2 1 (dk_at dksX1_keep_2 0 rfl rfl)
theorem dX1_keep_49 : decode cX1_keep 49 = .ok (.goto (-26), 3) := dk_167 255 230 (dk_at dksX1_keep_2 3 rfl rfl)
theorem dX1_keep_52 : decode cX1_keep 52 = .ok (.aload_n 0, 1) := dk_42 (dk_at dksX1_keep_2 6 rfl rfl)
theorem dX1_keep_53 : decode cX1_keep 53 = .ok (.getfield 16, 3) := dk_180 0 16 (dk_at dksX1_keep_2 7 rfl rfl)
theorem dX1_keep_56 : decode cX1_keep 56 = .ok (.iload_n 1, 1) := dk_27 (dk_at dksX1_keep_2 10 rfl rfl)
theorem dX1_keep_57 : decode cX1_keep 57 = .ok (.iconst 1, 1) := dk_4 (dk_at dksX1_keep_2 11 rfl rfl)
theorem dX1_keep_58 : decode cX1_keep 58 = .ok (.bastore, 1) := dk_84 (dk_at dksX1_keep_2 12 rfl rfl)
theorem dX1_keep_59 : decode cX1_keep 59 = .ok (.aload_n 0, 1) := dk_42 (dk_at dksX1_keep_2 13 rfl rfl)
theorem dX1_keep_60 : decode cX1_keep 60 = .ok (.getfield 7, 3) := dk_180 0 7 (dk_at dksX1_keep_2 14 rfl rfl)
theorem dX1_keep_63 : decode cX1_keep 63 = .ok (.bipush 29, 2) := dk_16 29 (dk_at dksX1_keep_2 17 rfl rfl)
theorem dX1_keep_65 : decode cX1_keep 65 = .ok (.iaload, 1) := dk_46 (dk_at dksX1_keep_2 19 rfl rfl)
theorem dX1_keep_66 : decode cX1_keep 66 = .ok (.ireturn, 1) := dk_172 (dk_at dksX1_keep_2 20 rfl rfl)
abbrev cX1_isShelf : ByteArray := prog_10_method_59_code
def yX1_isShelf : MethodName := ⟨RX1, "isShelf", "(I)Z"⟩
def dkwX1_isShelf_0 : List UInt8 := [26, 133, 9, 20, 0, 174, 184, 0, 60, 172]
abbrev dktX1_isShelf_0 : List UInt8 := dkwX1_isShelf_0 ++ []
theorem dksX1_isShelf_0 : cX1_isShelf.data.toList.drop 0 = dktX1_isShelf_0 := by decide +kernel
theorem dX1_isShelf_0 : decode cX1_isShelf 0 = .ok (.iload_n 0, 1) := dk_26 (dk_at dksX1_isShelf_0 0 rfl rfl)
theorem dX1_isShelf_1 : decode cX1_isShelf 1 = .ok (.i2l, 1) := dk_133 (dk_at dksX1_isShelf_0 1 rfl rfl)
theorem dX1_isShelf_2 : decode cX1_isShelf 2 = .ok (.lconst 0, 1) := dk_9 (dk_at dksX1_isShelf_0 2 rfl rfl)
theorem dX1_isShelf_3 : decode cX1_isShelf 3 = .ok (.ldc2_w 174, 3) := dk_20 0 174 (dk_at dksX1_isShelf_0 3 rfl rfl)
theorem dX1_isShelf_6 : decode cX1_isShelf 6 = .ok (.invokestatic 60, 3) := dk_184 0 60 (dk_at dksX1_isShelf_0 6 rfl rfl)
theorem dX1_isShelf_9 : decode cX1_isShelf 9 = .ok (.ireturn, 1) := dk_172 (dk_at dksX1_isShelf_0 9 rfl rfl)
abbrev cX1_on : ByteArray := prog_10_method_61_code
def yX1_on : MethodName := ⟨RX1, "on", "(I)I"⟩
def dkwX1_on_2 : List UInt8 := [79, 132, 2, 1, 167, 255, 230, 42, 180, 0, 7, 16, 29, 46, 172]
abbrev dktX1_on_2 : List UInt8 := dkwX1_on_2 ++ []
def dkwX1_on_1 : List UInt8 := [3, 61, 28, 16, 84, 162, 0, 26, 42, 180, 0, 7, 28, 42, 180, 0, 13, 16, 84, 27, 104, 28, 96, 46]
abbrev dktX1_on_1 : List UInt8 := dkwX1_on_1 ++ dktX1_on_2
def dkwX1_on_0 : List UInt8 := [27, 184, 0, 201, 154, 0, 5, 2, 172, 42, 180, 0, 16, 27, 51, 154, 0, 9, 42, 4, 182, 0, 70, 172]
abbrev dktX1_on_0 : List UInt8 := dkwX1_on_0 ++ dktX1_on_1
theorem dksX1_on_0 : cX1_on.data.toList.drop 0 = dktX1_on_0 := by decide +kernel
theorem dksX1_on_1 : cX1_on.data.toList.drop 24 = dktX1_on_1 := dk_seg dksX1_on_0 24 rfl rfl
theorem dksX1_on_2 : cX1_on.data.toList.drop 48 = dktX1_on_2 := dk_seg dksX1_on_1 24 rfl rfl
theorem dX1_on_0 : decode cX1_on 0 = .ok (.iload_n 1, 1) := dk_27 (dk_at dksX1_on_0 0 rfl rfl)
theorem dX1_on_1 : decode cX1_on 1 = .ok (.invokestatic 201, 3) := dk_184 0 201 (dk_at dksX1_on_0 1 rfl rfl)
theorem dX1_on_4 : decode cX1_on 4 = .ok (.ifCond .ne 5, 3) := dk_154 0 5 (dk_at dksX1_on_0 4 rfl rfl)
theorem dX1_on_7 : decode cX1_on 7 = .ok (.iconst (-1), 1) := dk_2 (dk_at dksX1_on_0 7 rfl rfl)
theorem dX1_on_8 : decode cX1_on 8 = .ok (.ireturn, 1) := dk_172 (dk_at dksX1_on_0 8 rfl rfl)
theorem dX1_on_9 : decode cX1_on 9 = .ok (.aload_n 0, 1) := dk_42 (dk_at dksX1_on_0 9 rfl rfl)
theorem dX1_on_10 : decode cX1_on 10 = .ok (.getfield 16, 3) := dk_180 0 16 (dk_at dksX1_on_0 10 rfl rfl)
theorem dX1_on_13 : decode cX1_on 13 = .ok (.iload_n 1, 1) := dk_27 (dk_at dksX1_on_0 13 rfl rfl)
theorem dX1_on_14 : decode cX1_on 14 = .ok (.baload, 1) := dk_51 (dk_at dksX1_on_0 14 rfl rfl)
theorem dX1_on_15 : decode cX1_on 15 = .ok (.ifCond .ne 9, 3) := dk_154 0 9 (dk_at dksX1_on_0 15 rfl rfl)
theorem dX1_on_18 : decode cX1_on 18 = .ok (.aload_n 0, 1) := dk_42 (dk_at dksX1_on_0 18 rfl rfl)
theorem dX1_on_19 : decode cX1_on 19 = .ok (.iconst 1, 1) := dk_4 (dk_at dksX1_on_0 19 rfl rfl)
theorem dX1_on_20 : decode cX1_on 20 = .ok (.invokevirtual 70, 3) := dk_182 0 70 (dk_at dksX1_on_0 20 rfl rfl)
theorem dX1_on_23 : decode cX1_on 23 = .ok (.ireturn, 1) := dk_172 (dk_at dksX1_on_0 23 rfl rfl)
theorem dX1_on_24 : decode cX1_on 24 = .ok (.iconst 0, 1) := dk_3 (dk_at dksX1_on_1 0 rfl rfl)
theorem dX1_on_25 : decode cX1_on 25 = .ok (.istore_n 2, 1) := dk_61 (dk_at dksX1_on_1 1 rfl rfl)
theorem dX1_on_26 : decode cX1_on 26 = .ok (.iload_n 2, 1) := dk_28 (dk_at dksX1_on_1 2 rfl rfl)
theorem dX1_on_27 : decode cX1_on 27 = .ok (.bipush 84, 2) := dk_16 84 (dk_at dksX1_on_1 3 rfl rfl)
theorem dX1_on_29 : decode cX1_on 29 = .ok (.if_icmp .ge 26, 3) := dk_162 0 26 (dk_at dksX1_on_1 5 rfl rfl)
theorem dX1_on_32 : decode cX1_on 32 = .ok (.aload_n 0, 1) := dk_42 (dk_at dksX1_on_1 8 rfl rfl)
theorem dX1_on_33 : decode cX1_on 33 = .ok (.getfield 7, 3) := dk_180 0 7 (dk_at dksX1_on_1 9 rfl rfl)
theorem dX1_on_36 : decode cX1_on 36 = .ok (.iload_n 2, 1) := dk_28 (dk_at dksX1_on_1 12 rfl rfl)
theorem dX1_on_37 : decode cX1_on 37 = .ok (.aload_n 0, 1) := dk_42 (dk_at dksX1_on_1 13 rfl rfl)
theorem dX1_on_38 : decode cX1_on 38 = .ok (.getfield 13, 3) := dk_180 0 13 (dk_at dksX1_on_1 14 rfl rfl)
theorem dX1_on_41 : decode cX1_on 41 = .ok (.bipush 84, 2) := dk_16 84 (dk_at dksX1_on_1 17 rfl rfl)
theorem dX1_on_43 : decode cX1_on 43 = .ok (.iload_n 1, 1) := dk_27 (dk_at dksX1_on_1 19 rfl rfl)
theorem dX1_on_44 : decode cX1_on 44 = .ok (.imul, 1) := dk_104 (dk_at dksX1_on_1 20 rfl rfl)
theorem dX1_on_45 : decode cX1_on 45 = .ok (.iload_n 2, 1) := dk_28 (dk_at dksX1_on_1 21 rfl rfl)
theorem dX1_on_46 : decode cX1_on 46 = .ok (.iadd, 1) := dk_96 (dk_at dksX1_on_1 22 rfl rfl)
theorem dX1_on_47 : decode cX1_on 47 = .ok (.iaload, 1) := dk_46 (dk_at dksX1_on_1 23 rfl rfl)
theorem dX1_on_48 : decode cX1_on 48 = .ok (.iastore, 1) := dk_79 (dk_at dksX1_on_2 0 rfl rfl)
theorem dX1_on_49 : decode cX1_on 49 = .ok (.iinc 2 1, 3) := dk_132 2 1 (dk_at dksX1_on_2 1 rfl rfl)
theorem dX1_on_52 : decode cX1_on 52 = .ok (.goto (-26), 3) := dk_167 255 230 (dk_at dksX1_on_2 4 rfl rfl)
theorem dX1_on_55 : decode cX1_on 55 = .ok (.aload_n 0, 1) := dk_42 (dk_at dksX1_on_2 7 rfl rfl)
theorem dX1_on_56 : decode cX1_on 56 = .ok (.getfield 7, 3) := dk_180 0 7 (dk_at dksX1_on_2 8 rfl rfl)
theorem dX1_on_59 : decode cX1_on 59 = .ok (.bipush 29, 2) := dk_16 29 (dk_at dksX1_on_2 11 rfl rfl)
theorem dX1_on_61 : decode cX1_on 61 = .ok (.iaload, 1) := dk_46 (dk_at dksX1_on_2 13 rfl rfl)
theorem dX1_on_62 : decode cX1_on 62 = .ok (.ireturn, 1) := dk_172 (dk_at dksX1_on_2 14 rfl rfl)
abbrev cX1_sits : ByteArray := prog_10_method_62_code
def yX1_sits : MethodName := ⟨RX1, "sits", "(I)I"⟩
def dkwX1_sits_2 : List UInt8 := [184, 0, 145, 27, 161, 0, 9, 4, 29, 120, 167, 0, 4, 3, 128, 61, 132, 3, 1, 167, 255, 221, 28, 172]
abbrev dktX1_sits_2 : List UInt8 := dkwX1_sits_2 ++ []
def dkwX1_sits_1 : List UInt8 := [16, 252, 172, 3, 61, 3, 62, 29, 42, 180, 0, 7, 4, 46, 162, 0, 31, 28, 42, 29, 182, 0, 168]
abbrev dktX1_sits_1 : List UInt8 := dkwX1_sits_1 ++ dktX1_sits_2
def dkwX1_sits_0 : List UInt8 := [27, 133, 9, 20, 0, 58, 184, 0, 60, 154, 0, 5, 2, 172, 42, 180, 0, 7, 3, 46, 154, 0, 6]
abbrev dktX1_sits_0 : List UInt8 := dkwX1_sits_0 ++ dktX1_sits_1
theorem dksX1_sits_0 : cX1_sits.data.toList.drop 0 = dktX1_sits_0 := by decide +kernel
theorem dksX1_sits_1 : cX1_sits.data.toList.drop 23 = dktX1_sits_1 := dk_seg dksX1_sits_0 23 rfl rfl
theorem dksX1_sits_2 : cX1_sits.data.toList.drop 46 = dktX1_sits_2 := dk_seg dksX1_sits_1 23 rfl rfl
theorem dX1_sits_0 : decode cX1_sits 0 = .ok (.iload_n 1, 1) := dk_27 (dk_at dksX1_sits_0 0 rfl rfl)
theorem dX1_sits_1 : decode cX1_sits 1 = .ok (.i2l, 1) := dk_133 (dk_at dksX1_sits_0 1 rfl rfl)
theorem dX1_sits_2 : decode cX1_sits 2 = .ok (.lconst 0, 1) := dk_9 (dk_at dksX1_sits_0 2 rfl rfl)
theorem dX1_sits_3 : decode cX1_sits 3 = .ok (.ldc2_w 58, 3) := dk_20 0 58 (dk_at dksX1_sits_0 3 rfl rfl)
theorem dX1_sits_6 : decode cX1_sits 6 = .ok (.invokestatic 60, 3) := dk_184 0 60 (dk_at dksX1_sits_0 6 rfl rfl)
theorem dX1_sits_9 : decode cX1_sits 9 = .ok (.ifCond .ne 5, 3) := dk_154 0 5 (dk_at dksX1_sits_0 9 rfl rfl)
theorem dX1_sits_12 : decode cX1_sits 12 = .ok (.iconst (-1), 1) := dk_2 (dk_at dksX1_sits_0 12 rfl rfl)
theorem dX1_sits_13 : decode cX1_sits 13 = .ok (.ireturn, 1) := dk_172 (dk_at dksX1_sits_0 13 rfl rfl)
theorem dX1_sits_14 : decode cX1_sits 14 = .ok (.aload_n 0, 1) := dk_42 (dk_at dksX1_sits_0 14 rfl rfl)
theorem dX1_sits_15 : decode cX1_sits 15 = .ok (.getfield 7, 3) := dk_180 0 7 (dk_at dksX1_sits_0 15 rfl rfl)
theorem dX1_sits_18 : decode cX1_sits 18 = .ok (.iconst 0, 1) := dk_3 (dk_at dksX1_sits_0 18 rfl rfl)
theorem dX1_sits_19 : decode cX1_sits 19 = .ok (.iaload, 1) := dk_46 (dk_at dksX1_sits_0 19 rfl rfl)
theorem dX1_sits_20 : decode cX1_sits 20 = .ok (.ifCond .ne 6, 3) := dk_154 0 6 (dk_at dksX1_sits_0 20 rfl rfl)
theorem dX1_sits_23 : decode cX1_sits 23 = .ok (.bipush (-4), 2) := dk_16 252 (dk_at dksX1_sits_1 0 rfl rfl)
theorem dX1_sits_25 : decode cX1_sits 25 = .ok (.ireturn, 1) := dk_172 (dk_at dksX1_sits_1 2 rfl rfl)
theorem dX1_sits_26 : decode cX1_sits 26 = .ok (.iconst 0, 1) := dk_3 (dk_at dksX1_sits_1 3 rfl rfl)
theorem dX1_sits_27 : decode cX1_sits 27 = .ok (.istore_n 2, 1) := dk_61 (dk_at dksX1_sits_1 4 rfl rfl)
theorem dX1_sits_28 : decode cX1_sits 28 = .ok (.iconst 0, 1) := dk_3 (dk_at dksX1_sits_1 5 rfl rfl)
theorem dX1_sits_29 : decode cX1_sits 29 = .ok (.istore_n 3, 1) := dk_62 (dk_at dksX1_sits_1 6 rfl rfl)
theorem dX1_sits_30 : decode cX1_sits 30 = .ok (.iload_n 3, 1) := dk_29 (dk_at dksX1_sits_1 7 rfl rfl)
theorem dX1_sits_31 : decode cX1_sits 31 = .ok (.aload_n 0, 1) := dk_42 (dk_at dksX1_sits_1 8 rfl rfl)
theorem dX1_sits_32 : decode cX1_sits 32 = .ok (.getfield 7, 3) := dk_180 0 7 (dk_at dksX1_sits_1 9 rfl rfl)
theorem dX1_sits_35 : decode cX1_sits 35 = .ok (.iconst 1, 1) := dk_4 (dk_at dksX1_sits_1 12 rfl rfl)
theorem dX1_sits_36 : decode cX1_sits 36 = .ok (.iaload, 1) := dk_46 (dk_at dksX1_sits_1 13 rfl rfl)
theorem dX1_sits_37 : decode cX1_sits 37 = .ok (.if_icmp .ge 31, 3) := dk_162 0 31 (dk_at dksX1_sits_1 14 rfl rfl)
theorem dX1_sits_40 : decode cX1_sits 40 = .ok (.iload_n 2, 1) := dk_28 (dk_at dksX1_sits_1 17 rfl rfl)
theorem dX1_sits_41 : decode cX1_sits 41 = .ok (.aload_n 0, 1) := dk_42 (dk_at dksX1_sits_1 18 rfl rfl)
theorem dX1_sits_42 : decode cX1_sits 42 = .ok (.iload_n 3, 1) := dk_29 (dk_at dksX1_sits_1 19 rfl rfl)
theorem dX1_sits_43 : decode cX1_sits 43 = .ok (.invokevirtual 168, 3) := dk_182 0 168 (dk_at dksX1_sits_1 20 rfl rfl)
theorem dX1_sits_46 : decode cX1_sits 46 = .ok (.invokestatic 145, 3) := dk_184 0 145 (dk_at dksX1_sits_2 0 rfl rfl)
theorem dX1_sits_49 : decode cX1_sits 49 = .ok (.iload_n 1, 1) := dk_27 (dk_at dksX1_sits_2 3 rfl rfl)
theorem dX1_sits_50 : decode cX1_sits 50 = .ok (.if_icmp .lt 9, 3) := dk_161 0 9 (dk_at dksX1_sits_2 4 rfl rfl)
theorem dX1_sits_53 : decode cX1_sits 53 = .ok (.iconst 1, 1) := dk_4 (dk_at dksX1_sits_2 7 rfl rfl)
theorem dX1_sits_54 : decode cX1_sits 54 = .ok (.iload_n 3, 1) := dk_29 (dk_at dksX1_sits_2 8 rfl rfl)
theorem dX1_sits_55 : decode cX1_sits 55 = .ok (.ishl, 1) := dk_120 (dk_at dksX1_sits_2 9 rfl rfl)
theorem dX1_sits_56 : decode cX1_sits 56 = .ok (.goto 4, 3) := dk_167 0 4 (dk_at dksX1_sits_2 10 rfl rfl)
theorem dX1_sits_59 : decode cX1_sits 59 = .ok (.iconst 0, 1) := dk_3 (dk_at dksX1_sits_2 13 rfl rfl)
theorem dX1_sits_60 : decode cX1_sits 60 = .ok (.ior, 1) := dk_128 (dk_at dksX1_sits_2 14 rfl rfl)
theorem dX1_sits_61 : decode cX1_sits 61 = .ok (.istore_n 2, 1) := dk_61 (dk_at dksX1_sits_2 15 rfl rfl)
theorem dX1_sits_62 : decode cX1_sits 62 = .ok (.iinc 3 1, 3) := dk_132 3 1 (dk_at dksX1_sits_2 16 rfl rfl)
theorem dX1_sits_65 : decode cX1_sits 65 = .ok (.goto (-35), 3) := dk_167 255 221 (dk_at dksX1_sits_2 19 rfl rfl)
theorem dX1_sits_68 : decode cX1_sits 68 = .ok (.iload_n 2, 1) := dk_28 (dk_at dksX1_sits_2 22 rfl rfl)
theorem dX1_sits_69 : decode cX1_sits 69 = .ok (.ireturn, 1) := dk_172 (dk_at dksX1_sits_2 23 rfl rfl)
abbrev cX1_common : ByteArray := prog_10_method_63_code
def yX1_common : MethodName := ⟨RX1, "common", "(I)I"⟩
def dkwX1_common_3 : List UInt8 := [167, 255, 214, 28, 154, 0, 7, 3, 167, 0, 8, 42, 29, 182, 0, 78, 54, 4, 28, 172]
abbrev dktX1_common_3 : List UInt8 := dkwX1_common_3 ++ []
def dkwX1_common_2 : List UInt8 := [182, 0, 138, 27, 160, 0, 17, 28, 154, 0, 8, 21, 4, 167, 0, 4, 29, 62, 132, 2, 1, 132, 4, 1]
abbrev dktX1_common_2 : List UInt8 := dkwX1_common_2 ++ dktX1_common_3
def dkwX1_common_1 : List UInt8 := [16, 247, 62, 3, 54, 4, 21, 4, 16, 100, 162, 0, 41, 42, 21, 4, 27, 42, 180, 0, 7, 16, 70, 46]
abbrev dktX1_common_1 : List UInt8 := dkwX1_common_1 ++ dktX1_common_2
def dkwX1_common_0 : List UInt8 := [27, 133, 9, 4, 42, 180, 0, 7, 3, 46, 120, 4, 100, 133, 184, 0, 60, 154, 0, 5, 2, 172, 3, 61]
abbrev dktX1_common_0 : List UInt8 := dkwX1_common_0 ++ dktX1_common_1
theorem dksX1_common_0 : cX1_common.data.toList.drop 0 = dktX1_common_0 := by decide +kernel
theorem dksX1_common_1 : cX1_common.data.toList.drop 24 = dktX1_common_1 := dk_seg dksX1_common_0 24 rfl rfl
theorem dksX1_common_2 : cX1_common.data.toList.drop 48 = dktX1_common_2 := dk_seg dksX1_common_1 24 rfl rfl
theorem dksX1_common_3 : cX1_common.data.toList.drop 72 = dktX1_common_3 := dk_seg dksX1_common_2 24 rfl rfl
theorem dX1_common_0 : decode cX1_common 0 = .ok (.iload_n 1, 1) := dk_27 (dk_at dksX1_common_0 0 rfl rfl)
theorem dX1_common_1 : decode cX1_common 1 = .ok (.i2l, 1) := dk_133 (dk_at dksX1_common_0 1 rfl rfl)
theorem dX1_common_2 : decode cX1_common 2 = .ok (.lconst 0, 1) := dk_9 (dk_at dksX1_common_0 2 rfl rfl)
theorem dX1_common_3 : decode cX1_common 3 = .ok (.iconst 1, 1) := dk_4 (dk_at dksX1_common_0 3 rfl rfl)
theorem dX1_common_4 : decode cX1_common 4 = .ok (.aload_n 0, 1) := dk_42 (dk_at dksX1_common_0 4 rfl rfl)
theorem dX1_common_5 : decode cX1_common 5 = .ok (.getfield 7, 3) := dk_180 0 7 (dk_at dksX1_common_0 5 rfl rfl)
theorem dX1_common_8 : decode cX1_common 8 = .ok (.iconst 0, 1) := dk_3 (dk_at dksX1_common_0 8 rfl rfl)
theorem dX1_common_9 : decode cX1_common 9 = .ok (.iaload, 1) := dk_46 (dk_at dksX1_common_0 9 rfl rfl)
theorem dX1_common_10 : decode cX1_common 10 = .ok (.ishl, 1) := dk_120 (dk_at dksX1_common_0 10 rfl rfl)
theorem dX1_common_11 : decode cX1_common 11 = .ok (.iconst 1, 1) := dk_4 (dk_at dksX1_common_0 11 rfl rfl)
theorem dX1_common_12 : decode cX1_common 12 = .ok (.isub, 1) := dk_100 (dk_at dksX1_common_0 12 rfl rfl)
theorem dX1_common_13 : decode cX1_common 13 = .ok (.i2l, 1) := dk_133 (dk_at dksX1_common_0 13 rfl rfl)
theorem dX1_common_14 : decode cX1_common 14 = .ok (.invokestatic 60, 3) := dk_184 0 60 (dk_at dksX1_common_0 14 rfl rfl)
theorem dX1_common_17 : decode cX1_common 17 = .ok (.ifCond .ne 5, 3) := dk_154 0 5 (dk_at dksX1_common_0 17 rfl rfl)
theorem dX1_common_20 : decode cX1_common 20 = .ok (.iconst (-1), 1) := dk_2 (dk_at dksX1_common_0 20 rfl rfl)
theorem dX1_common_21 : decode cX1_common 21 = .ok (.ireturn, 1) := dk_172 (dk_at dksX1_common_0 21 rfl rfl)
theorem dX1_common_22 : decode cX1_common 22 = .ok (.iconst 0, 1) := dk_3 (dk_at dksX1_common_0 22 rfl rfl)
theorem dX1_common_23 : decode cX1_common 23 = .ok (.istore_n 2, 1) := dk_61 (dk_at dksX1_common_0 23 rfl rfl)
theorem dX1_common_24 : decode cX1_common 24 = .ok (.bipush (-9), 2) := dk_16 247 (dk_at dksX1_common_1 0 rfl rfl)
theorem dX1_common_26 : decode cX1_common 26 = .ok (.istore_n 3, 1) := dk_62 (dk_at dksX1_common_1 2 rfl rfl)
theorem dX1_common_27 : decode cX1_common 27 = .ok (.iconst 0, 1) := dk_3 (dk_at dksX1_common_1 3 rfl rfl)
theorem dX1_common_28 : decode cX1_common 28 = .ok (.istore 4, 2) := dk_54 4 (dk_at dksX1_common_1 4 rfl rfl)
theorem dX1_common_30 : decode cX1_common 30 = .ok (.iload 4, 2) := dk_21 4 (dk_at dksX1_common_1 6 rfl rfl)
theorem dX1_common_32 : decode cX1_common 32 = .ok (.bipush 100, 2) := dk_16 100 (dk_at dksX1_common_1 8 rfl rfl)
theorem dX1_common_34 : decode cX1_common 34 = .ok (.if_icmp .ge 41, 3) := dk_162 0 41 (dk_at dksX1_common_1 10 rfl rfl)
theorem dX1_common_37 : decode cX1_common 37 = .ok (.aload_n 0, 1) := dk_42 (dk_at dksX1_common_1 13 rfl rfl)
theorem dX1_common_38 : decode cX1_common 38 = .ok (.iload 4, 2) := dk_21 4 (dk_at dksX1_common_1 14 rfl rfl)
theorem dX1_common_40 : decode cX1_common 40 = .ok (.iload_n 1, 1) := dk_27 (dk_at dksX1_common_1 16 rfl rfl)
theorem dX1_common_41 : decode cX1_common 41 = .ok (.aload_n 0, 1) := dk_42 (dk_at dksX1_common_1 17 rfl rfl)
theorem dX1_common_42 : decode cX1_common 42 = .ok (.getfield 7, 3) := dk_180 0 7 (dk_at dksX1_common_1 18 rfl rfl)
theorem dX1_common_45 : decode cX1_common 45 = .ok (.bipush 70, 2) := dk_16 70 (dk_at dksX1_common_1 21 rfl rfl)
theorem dX1_common_47 : decode cX1_common 47 = .ok (.iaload, 1) := dk_46 (dk_at dksX1_common_1 23 rfl rfl)
theorem dX1_common_48 : decode cX1_common 48 = .ok (.invokevirtual 138, 3) := dk_182 0 138 (dk_at dksX1_common_2 0 rfl rfl)
theorem dX1_common_51 : decode cX1_common 51 = .ok (.iload_n 1, 1) := dk_27 (dk_at dksX1_common_2 3 rfl rfl)
theorem dX1_common_52 : decode cX1_common 52 = .ok (.if_icmp .ne 17, 3) := dk_160 0 17 (dk_at dksX1_common_2 4 rfl rfl)
theorem dX1_common_55 : decode cX1_common 55 = .ok (.iload_n 2, 1) := dk_28 (dk_at dksX1_common_2 7 rfl rfl)
theorem dX1_common_56 : decode cX1_common 56 = .ok (.ifCond .ne 8, 3) := dk_154 0 8 (dk_at dksX1_common_2 8 rfl rfl)
theorem dX1_common_59 : decode cX1_common 59 = .ok (.iload 4, 2) := dk_21 4 (dk_at dksX1_common_2 11 rfl rfl)
theorem dX1_common_61 : decode cX1_common 61 = .ok (.goto 4, 3) := dk_167 0 4 (dk_at dksX1_common_2 13 rfl rfl)
theorem dX1_common_64 : decode cX1_common 64 = .ok (.iload_n 3, 1) := dk_29 (dk_at dksX1_common_2 16 rfl rfl)
theorem dX1_common_65 : decode cX1_common 65 = .ok (.istore_n 3, 1) := dk_62 (dk_at dksX1_common_2 17 rfl rfl)
theorem dX1_common_66 : decode cX1_common 66 = .ok (.iinc 2 1, 3) := dk_132 2 1 (dk_at dksX1_common_2 18 rfl rfl)
theorem dX1_common_69 : decode cX1_common 69 = .ok (.iinc 4 1, 3) := dk_132 4 1 (dk_at dksX1_common_2 21 rfl rfl)
theorem dX1_common_72 : decode cX1_common 72 = .ok (.goto (-42), 3) := dk_167 255 214 (dk_at dksX1_common_3 0 rfl rfl)
theorem dX1_common_75 : decode cX1_common 75 = .ok (.iload_n 2, 1) := dk_28 (dk_at dksX1_common_3 3 rfl rfl)
theorem dX1_common_76 : decode cX1_common 76 = .ok (.ifCond .ne 7, 3) := dk_154 0 7 (dk_at dksX1_common_3 4 rfl rfl)
theorem dX1_common_79 : decode cX1_common 79 = .ok (.iconst 0, 1) := dk_3 (dk_at dksX1_common_3 7 rfl rfl)
theorem dX1_common_80 : decode cX1_common 80 = .ok (.goto 8, 3) := dk_167 0 8 (dk_at dksX1_common_3 8 rfl rfl)
theorem dX1_common_83 : decode cX1_common 83 = .ok (.aload_n 0, 1) := dk_42 (dk_at dksX1_common_3 11 rfl rfl)
theorem dX1_common_84 : decode cX1_common 84 = .ok (.iload_n 3, 1) := dk_29 (dk_at dksX1_common_3 12 rfl rfl)
theorem dX1_common_85 : decode cX1_common 85 = .ok (.invokevirtual 78, 3) := dk_182 0 78 (dk_at dksX1_common_3 13 rfl rfl)
theorem dX1_common_88 : decode cX1_common 88 = .ok (.istore 4, 2) := dk_54 4 (dk_at dksX1_common_3 16 rfl rfl)
theorem dX1_common_90 : decode cX1_common 90 = .ok (.iload_n 2, 1) := dk_28 (dk_at dksX1_common_3 18 rfl rfl)
theorem dX1_common_91 : decode cX1_common 91 = .ok (.ireturn, 1) := dk_172 (dk_at dksX1_common_3 19 rfl rfl)
abbrev cX1_best : ByteArray := prog_10_method_64_code
def yX1_best : MethodName := ⟨RX1, "best", "(I)I"⟩
def dkwX1_best_4 : List UInt8 := [180, 0, 7, 16, 70, 46, 182, 0, 138, 184, 0, 145, 182, 0, 78, 62, 28, 172]
abbrev dktX1_best_4 : List UInt8 := dkwX1_best_4 ++ []
def dkwX1_best_3 : List UInt8 := [167, 0, 4, 28, 61, 132, 3, 1, 167, 255, 194, 42, 42, 28, 42, 180, 0, 7, 16, 71, 46, 42]
abbrev dktX1_best_3 : List UInt8 := dkwX1_best_3 ++ dktX1_best_4
def dkwX1_best_2 : List UInt8 := [180, 0, 7, 16, 71, 46, 42, 180, 0, 7, 16, 70, 46, 182, 0, 138, 184, 0, 145, 164, 0, 7, 29]
abbrev dktX1_best_2 : List UInt8 := dkwX1_best_2 ++ dktX1_best_3
def dkwX1_best_1 : List UInt8 := [180, 0, 7, 16, 71, 46, 42, 180, 0, 7, 16, 70, 46, 182, 0, 138, 184, 0, 145, 42, 28, 42]
abbrev dktX1_best_1 : List UInt8 := dkwX1_best_1 ++ dktX1_best_2
def dkwX1_best_0 : List UInt8 := [42, 27, 182, 0, 171, 154, 0, 5, 2, 172, 3, 61, 4, 62, 29, 16, 100, 162, 0, 62, 42, 29, 42]
abbrev dktX1_best_0 : List UInt8 := dkwX1_best_0 ++ dktX1_best_1
theorem dksX1_best_0 : cX1_best.data.toList.drop 0 = dktX1_best_0 := by decide +kernel
theorem dksX1_best_1 : cX1_best.data.toList.drop 23 = dktX1_best_1 := dk_seg dksX1_best_0 23 rfl rfl
theorem dksX1_best_2 : cX1_best.data.toList.drop 45 = dktX1_best_2 := dk_seg dksX1_best_1 22 rfl rfl
theorem dksX1_best_3 : cX1_best.data.toList.drop 68 = dktX1_best_3 := dk_seg dksX1_best_2 23 rfl rfl
theorem dksX1_best_4 : cX1_best.data.toList.drop 90 = dktX1_best_4 := dk_seg dksX1_best_3 22 rfl rfl
theorem dX1_best_0 : decode cX1_best 0 = .ok (.aload_n 0, 1) := dk_42 (dk_at dksX1_best_0 0 rfl rfl)
theorem dX1_best_1 : decode cX1_best 1 = .ok (.iload_n 1, 1) := dk_27 (dk_at dksX1_best_0 1 rfl rfl)
theorem dX1_best_2 : decode cX1_best 2 = .ok (.invokevirtual 171, 3) := dk_182 0 171 (dk_at dksX1_best_0 2 rfl rfl)
theorem dX1_best_5 : decode cX1_best 5 = .ok (.ifCond .ne 5, 3) := dk_154 0 5 (dk_at dksX1_best_0 5 rfl rfl)
theorem dX1_best_8 : decode cX1_best 8 = .ok (.iconst (-1), 1) := dk_2 (dk_at dksX1_best_0 8 rfl rfl)
theorem dX1_best_9 : decode cX1_best 9 = .ok (.ireturn, 1) := dk_172 (dk_at dksX1_best_0 9 rfl rfl)
theorem dX1_best_10 : decode cX1_best 10 = .ok (.iconst 0, 1) := dk_3 (dk_at dksX1_best_0 10 rfl rfl)
theorem dX1_best_11 : decode cX1_best 11 = .ok (.istore_n 2, 1) := dk_61 (dk_at dksX1_best_0 11 rfl rfl)
theorem dX1_best_12 : decode cX1_best 12 = .ok (.iconst 1, 1) := dk_4 (dk_at dksX1_best_0 12 rfl rfl)
theorem dX1_best_13 : decode cX1_best 13 = .ok (.istore_n 3, 1) := dk_62 (dk_at dksX1_best_0 13 rfl rfl)
theorem dX1_best_14 : decode cX1_best 14 = .ok (.iload_n 3, 1) := dk_29 (dk_at dksX1_best_0 14 rfl rfl)
theorem dX1_best_15 : decode cX1_best 15 = .ok (.bipush 100, 2) := dk_16 100 (dk_at dksX1_best_0 15 rfl rfl)
theorem dX1_best_17 : decode cX1_best 17 = .ok (.if_icmp .ge 62, 3) := dk_162 0 62 (dk_at dksX1_best_0 17 rfl rfl)
theorem dX1_best_20 : decode cX1_best 20 = .ok (.aload_n 0, 1) := dk_42 (dk_at dksX1_best_0 20 rfl rfl)
theorem dX1_best_21 : decode cX1_best 21 = .ok (.iload_n 3, 1) := dk_29 (dk_at dksX1_best_0 21 rfl rfl)
theorem dX1_best_22 : decode cX1_best 22 = .ok (.aload_n 0, 1) := dk_42 (dk_at dksX1_best_0 22 rfl rfl)
theorem dX1_best_23 : decode cX1_best 23 = .ok (.getfield 7, 3) := dk_180 0 7 (dk_at dksX1_best_1 0 rfl rfl)
theorem dX1_best_26 : decode cX1_best 26 = .ok (.bipush 71, 2) := dk_16 71 (dk_at dksX1_best_1 3 rfl rfl)
theorem dX1_best_28 : decode cX1_best 28 = .ok (.iaload, 1) := dk_46 (dk_at dksX1_best_1 5 rfl rfl)
theorem dX1_best_29 : decode cX1_best 29 = .ok (.aload_n 0, 1) := dk_42 (dk_at dksX1_best_1 6 rfl rfl)
theorem dX1_best_30 : decode cX1_best 30 = .ok (.getfield 7, 3) := dk_180 0 7 (dk_at dksX1_best_1 7 rfl rfl)
theorem dX1_best_33 : decode cX1_best 33 = .ok (.bipush 70, 2) := dk_16 70 (dk_at dksX1_best_1 10 rfl rfl)
theorem dX1_best_35 : decode cX1_best 35 = .ok (.iaload, 1) := dk_46 (dk_at dksX1_best_1 12 rfl rfl)
theorem dX1_best_36 : decode cX1_best 36 = .ok (.invokevirtual 138, 3) := dk_182 0 138 (dk_at dksX1_best_1 13 rfl rfl)
theorem dX1_best_39 : decode cX1_best 39 = .ok (.invokestatic 145, 3) := dk_184 0 145 (dk_at dksX1_best_1 16 rfl rfl)
theorem dX1_best_42 : decode cX1_best 42 = .ok (.aload_n 0, 1) := dk_42 (dk_at dksX1_best_1 19 rfl rfl)
theorem dX1_best_43 : decode cX1_best 43 = .ok (.iload_n 2, 1) := dk_28 (dk_at dksX1_best_1 20 rfl rfl)
theorem dX1_best_44 : decode cX1_best 44 = .ok (.aload_n 0, 1) := dk_42 (dk_at dksX1_best_1 21 rfl rfl)
theorem dX1_best_45 : decode cX1_best 45 = .ok (.getfield 7, 3) := dk_180 0 7 (dk_at dksX1_best_2 0 rfl rfl)
theorem dX1_best_48 : decode cX1_best 48 = .ok (.bipush 71, 2) := dk_16 71 (dk_at dksX1_best_2 3 rfl rfl)
theorem dX1_best_50 : decode cX1_best 50 = .ok (.iaload, 1) := dk_46 (dk_at dksX1_best_2 5 rfl rfl)
theorem dX1_best_51 : decode cX1_best 51 = .ok (.aload_n 0, 1) := dk_42 (dk_at dksX1_best_2 6 rfl rfl)
theorem dX1_best_52 : decode cX1_best 52 = .ok (.getfield 7, 3) := dk_180 0 7 (dk_at dksX1_best_2 7 rfl rfl)
theorem dX1_best_55 : decode cX1_best 55 = .ok (.bipush 70, 2) := dk_16 70 (dk_at dksX1_best_2 10 rfl rfl)
theorem dX1_best_57 : decode cX1_best 57 = .ok (.iaload, 1) := dk_46 (dk_at dksX1_best_2 12 rfl rfl)
theorem dX1_best_58 : decode cX1_best 58 = .ok (.invokevirtual 138, 3) := dk_182 0 138 (dk_at dksX1_best_2 13 rfl rfl)
theorem dX1_best_61 : decode cX1_best 61 = .ok (.invokestatic 145, 3) := dk_184 0 145 (dk_at dksX1_best_2 16 rfl rfl)
theorem dX1_best_64 : decode cX1_best 64 = .ok (.if_icmp .le 7, 3) := dk_164 0 7 (dk_at dksX1_best_2 19 rfl rfl)
theorem dX1_best_67 : decode cX1_best 67 = .ok (.iload_n 3, 1) := dk_29 (dk_at dksX1_best_2 22 rfl rfl)
theorem dX1_best_68 : decode cX1_best 68 = .ok (.goto 4, 3) := dk_167 0 4 (dk_at dksX1_best_3 0 rfl rfl)
theorem dX1_best_71 : decode cX1_best 71 = .ok (.iload_n 2, 1) := dk_28 (dk_at dksX1_best_3 3 rfl rfl)
theorem dX1_best_72 : decode cX1_best 72 = .ok (.istore_n 2, 1) := dk_61 (dk_at dksX1_best_3 4 rfl rfl)
theorem dX1_best_73 : decode cX1_best 73 = .ok (.iinc 3 1, 3) := dk_132 3 1 (dk_at dksX1_best_3 5 rfl rfl)
theorem dX1_best_76 : decode cX1_best 76 = .ok (.goto (-62), 3) := dk_167 255 194 (dk_at dksX1_best_3 8 rfl rfl)
theorem dX1_best_79 : decode cX1_best 79 = .ok (.aload_n 0, 1) := dk_42 (dk_at dksX1_best_3 11 rfl rfl)
theorem dX1_best_80 : decode cX1_best 80 = .ok (.aload_n 0, 1) := dk_42 (dk_at dksX1_best_3 12 rfl rfl)
theorem dX1_best_81 : decode cX1_best 81 = .ok (.iload_n 2, 1) := dk_28 (dk_at dksX1_best_3 13 rfl rfl)
theorem dX1_best_82 : decode cX1_best 82 = .ok (.aload_n 0, 1) := dk_42 (dk_at dksX1_best_3 14 rfl rfl)
theorem dX1_best_83 : decode cX1_best 83 = .ok (.getfield 7, 3) := dk_180 0 7 (dk_at dksX1_best_3 15 rfl rfl)
theorem dX1_best_86 : decode cX1_best 86 = .ok (.bipush 71, 2) := dk_16 71 (dk_at dksX1_best_3 18 rfl rfl)
theorem dX1_best_88 : decode cX1_best 88 = .ok (.iaload, 1) := dk_46 (dk_at dksX1_best_3 20 rfl rfl)
theorem dX1_best_89 : decode cX1_best 89 = .ok (.aload_n 0, 1) := dk_42 (dk_at dksX1_best_3 21 rfl rfl)
theorem dX1_best_90 : decode cX1_best 90 = .ok (.getfield 7, 3) := dk_180 0 7 (dk_at dksX1_best_4 0 rfl rfl)
theorem dX1_best_93 : decode cX1_best 93 = .ok (.bipush 70, 2) := dk_16 70 (dk_at dksX1_best_4 3 rfl rfl)
theorem dX1_best_95 : decode cX1_best 95 = .ok (.iaload, 1) := dk_46 (dk_at dksX1_best_4 5 rfl rfl)
theorem dX1_best_96 : decode cX1_best 96 = .ok (.invokevirtual 138, 3) := dk_182 0 138 (dk_at dksX1_best_4 6 rfl rfl)
theorem dX1_best_99 : decode cX1_best 99 = .ok (.invokestatic 145, 3) := dk_184 0 145 (dk_at dksX1_best_4 9 rfl rfl)
theorem dX1_best_102 : decode cX1_best 102 = .ok (.invokevirtual 78, 3) := dk_182 0 78 (dk_at dksX1_best_4 12 rfl rfl)
theorem dX1_best_105 : decode cX1_best 105 = .ok (.istore_n 3, 1) := dk_62 (dk_at dksX1_best_4 15 rfl rfl)
theorem dX1_best_106 : decode cX1_best 106 = .ok (.iload_n 2, 1) := dk_28 (dk_at dksX1_best_4 16 rfl rfl)
theorem dX1_best_107 : decode cX1_best 107 = .ok (.ireturn, 1) := dk_172 (dk_at dksX1_best_4 17 rfl rfl)
abbrev cX1_when : ByteArray := prog_10_method_65_code
def yX1_when : MethodName := ⟨RX1, "when", "(I)I"⟩
def dkwX1_when_2 : List UInt8 := [62, 29, 153, 0, 12, 42, 29, 182, 0, 78, 54, 4, 28, 172, 132, 2, 1, 167, 255, 204, 16, 247, 172]
abbrev dktX1_when_2 : List UInt8 := dkwX1_when_2 ++ []
def dkwX1_when_1 : List UInt8 := [16, 72, 27, 96, 46, 42, 180, 0, 7, 16, 71, 46, 42, 180, 0, 7, 16, 70, 46, 28, 96, 182, 0, 138]
abbrev dktX1_when_1 : List UInt8 := dkwX1_when_1 ++ dktX1_when_2
def dkwX1_when_0 : List UInt8 := [42, 27, 182, 0, 171, 154, 0, 5, 2, 172, 3, 61, 28, 16, 40, 163, 0, 52, 42, 42, 180, 0, 7]
abbrev dktX1_when_0 : List UInt8 := dkwX1_when_0 ++ dktX1_when_1
theorem dksX1_when_0 : cX1_when.data.toList.drop 0 = dktX1_when_0 := by decide +kernel
theorem dksX1_when_1 : cX1_when.data.toList.drop 23 = dktX1_when_1 := dk_seg dksX1_when_0 23 rfl rfl
theorem dksX1_when_2 : cX1_when.data.toList.drop 47 = dktX1_when_2 := dk_seg dksX1_when_1 24 rfl rfl
theorem dX1_when_0 : decode cX1_when 0 = .ok (.aload_n 0, 1) := dk_42 (dk_at dksX1_when_0 0 rfl rfl)
theorem dX1_when_1 : decode cX1_when 1 = .ok (.iload_n 1, 1) := dk_27 (dk_at dksX1_when_0 1 rfl rfl)
theorem dX1_when_2 : decode cX1_when 2 = .ok (.invokevirtual 171, 3) := dk_182 0 171 (dk_at dksX1_when_0 2 rfl rfl)
theorem dX1_when_5 : decode cX1_when 5 = .ok (.ifCond .ne 5, 3) := dk_154 0 5 (dk_at dksX1_when_0 5 rfl rfl)
theorem dX1_when_8 : decode cX1_when 8 = .ok (.iconst (-1), 1) := dk_2 (dk_at dksX1_when_0 8 rfl rfl)
theorem dX1_when_9 : decode cX1_when 9 = .ok (.ireturn, 1) := dk_172 (dk_at dksX1_when_0 9 rfl rfl)
theorem dX1_when_10 : decode cX1_when 10 = .ok (.iconst 0, 1) := dk_3 (dk_at dksX1_when_0 10 rfl rfl)
theorem dX1_when_11 : decode cX1_when 11 = .ok (.istore_n 2, 1) := dk_61 (dk_at dksX1_when_0 11 rfl rfl)
theorem dX1_when_12 : decode cX1_when 12 = .ok (.iload_n 2, 1) := dk_28 (dk_at dksX1_when_0 12 rfl rfl)
theorem dX1_when_13 : decode cX1_when 13 = .ok (.bipush 40, 2) := dk_16 40 (dk_at dksX1_when_0 13 rfl rfl)
theorem dX1_when_15 : decode cX1_when 15 = .ok (.if_icmp .gt 52, 3) := dk_163 0 52 (dk_at dksX1_when_0 15 rfl rfl)
theorem dX1_when_18 : decode cX1_when 18 = .ok (.aload_n 0, 1) := dk_42 (dk_at dksX1_when_0 18 rfl rfl)
theorem dX1_when_19 : decode cX1_when 19 = .ok (.aload_n 0, 1) := dk_42 (dk_at dksX1_when_0 19 rfl rfl)
theorem dX1_when_20 : decode cX1_when 20 = .ok (.getfield 7, 3) := dk_180 0 7 (dk_at dksX1_when_0 20 rfl rfl)
theorem dX1_when_23 : decode cX1_when 23 = .ok (.bipush 72, 2) := dk_16 72 (dk_at dksX1_when_1 0 rfl rfl)
theorem dX1_when_25 : decode cX1_when 25 = .ok (.iload_n 1, 1) := dk_27 (dk_at dksX1_when_1 2 rfl rfl)
theorem dX1_when_26 : decode cX1_when 26 = .ok (.iadd, 1) := dk_96 (dk_at dksX1_when_1 3 rfl rfl)
theorem dX1_when_27 : decode cX1_when 27 = .ok (.iaload, 1) := dk_46 (dk_at dksX1_when_1 4 rfl rfl)
theorem dX1_when_28 : decode cX1_when 28 = .ok (.aload_n 0, 1) := dk_42 (dk_at dksX1_when_1 5 rfl rfl)
theorem dX1_when_29 : decode cX1_when 29 = .ok (.getfield 7, 3) := dk_180 0 7 (dk_at dksX1_when_1 6 rfl rfl)
theorem dX1_when_32 : decode cX1_when 32 = .ok (.bipush 71, 2) := dk_16 71 (dk_at dksX1_when_1 9 rfl rfl)
theorem dX1_when_34 : decode cX1_when 34 = .ok (.iaload, 1) := dk_46 (dk_at dksX1_when_1 11 rfl rfl)
theorem dX1_when_35 : decode cX1_when 35 = .ok (.aload_n 0, 1) := dk_42 (dk_at dksX1_when_1 12 rfl rfl)
theorem dX1_when_36 : decode cX1_when 36 = .ok (.getfield 7, 3) := dk_180 0 7 (dk_at dksX1_when_1 13 rfl rfl)
theorem dX1_when_39 : decode cX1_when 39 = .ok (.bipush 70, 2) := dk_16 70 (dk_at dksX1_when_1 16 rfl rfl)
theorem dX1_when_41 : decode cX1_when 41 = .ok (.iaload, 1) := dk_46 (dk_at dksX1_when_1 18 rfl rfl)
theorem dX1_when_42 : decode cX1_when 42 = .ok (.iload_n 2, 1) := dk_28 (dk_at dksX1_when_1 19 rfl rfl)
theorem dX1_when_43 : decode cX1_when 43 = .ok (.iadd, 1) := dk_96 (dk_at dksX1_when_1 20 rfl rfl)
theorem dX1_when_44 : decode cX1_when 44 = .ok (.invokevirtual 138, 3) := dk_182 0 138 (dk_at dksX1_when_1 21 rfl rfl)
theorem dX1_when_47 : decode cX1_when 47 = .ok (.istore_n 3, 1) := dk_62 (dk_at dksX1_when_2 0 rfl rfl)
theorem dX1_when_48 : decode cX1_when 48 = .ok (.iload_n 3, 1) := dk_29 (dk_at dksX1_when_2 1 rfl rfl)
theorem dX1_when_49 : decode cX1_when 49 = .ok (.ifCond .eq 12, 3) := dk_153 0 12 (dk_at dksX1_when_2 2 rfl rfl)
theorem dX1_when_52 : decode cX1_when 52 = .ok (.aload_n 0, 1) := dk_42 (dk_at dksX1_when_2 5 rfl rfl)
theorem dX1_when_53 : decode cX1_when 53 = .ok (.iload_n 3, 1) := dk_29 (dk_at dksX1_when_2 6 rfl rfl)
theorem dX1_when_54 : decode cX1_when 54 = .ok (.invokevirtual 78, 3) := dk_182 0 78 (dk_at dksX1_when_2 7 rfl rfl)
theorem dX1_when_57 : decode cX1_when 57 = .ok (.istore 4, 2) := dk_54 4 (dk_at dksX1_when_2 10 rfl rfl)
theorem dX1_when_59 : decode cX1_when 59 = .ok (.iload_n 2, 1) := dk_28 (dk_at dksX1_when_2 12 rfl rfl)
theorem dX1_when_60 : decode cX1_when 60 = .ok (.ireturn, 1) := dk_172 (dk_at dksX1_when_2 13 rfl rfl)
theorem dX1_when_61 : decode cX1_when 61 = .ok (.iinc 2 1, 3) := dk_132 2 1 (dk_at dksX1_when_2 14 rfl rfl)
theorem dX1_when_64 : decode cX1_when 64 = .ok (.goto (-52), 3) := dk_167 255 204 (dk_at dksX1_when_2 17 rfl rfl)
theorem dX1_when_67 : decode cX1_when 67 = .ok (.bipush (-9), 2) := dk_16 247 (dk_at dksX1_when_2 20 rfl rfl)
theorem dX1_when_69 : decode cX1_when 69 = .ok (.ireturn, 1) := dk_172 (dk_at dksX1_when_2 22 rfl rfl)
abbrev cX1_years : ByteArray := prog_10_method_66_code
def yX1_years : MethodName := ⟨RX1, "years", "(II)I"⟩
def dkwX1_years_4 : List UInt8 := [167, 0, 5, 21, 4, 54, 4, 132, 5, 1, 167, 255, 183, 42, 21, 4, 182, 0, 78, 54, 5, 29, 172]
abbrev dktX1_years_4 : List UInt8 := dkwX1_years_4 ++ []
def dkwX1_years_3 : List UInt8 := [29, 21, 6, 158, 0, 7, 4, 167, 0, 4, 3, 96, 62, 21, 6, 21, 4, 164, 0, 8, 21, 6]
abbrev dktX1_years_3 : List UInt8 := dkwX1_years_3 ++ dktX1_years_4
def dkwX1_years_2 : List UInt8 := [180, 0, 7, 16, 71, 46, 42, 180, 0, 7, 16, 70, 46, 21, 5, 96, 182, 0, 138, 184, 0, 145, 54, 6]
abbrev dktX1_years_2 : List UInt8 := dkwX1_years_2 ++ dktX1_years_3
def dkwX1_years_1 : List UInt8 := [3, 54, 4, 3, 54, 5, 21, 5, 28, 162, 0, 73, 42, 42, 180, 0, 7, 16, 72, 27, 96, 46, 42]
abbrev dktX1_years_1 : List UInt8 := dkwX1_years_1 ++ dktX1_years_2
def dkwX1_years_0 : List UInt8 := [42, 27, 182, 0, 171, 153, 0, 15, 28, 133, 9, 20, 0, 204, 184, 0, 60, 154, 0, 5, 2, 172, 3, 62]
abbrev dktX1_years_0 : List UInt8 := dkwX1_years_0 ++ dktX1_years_1
theorem dksX1_years_0 : cX1_years.data.toList.drop 0 = dktX1_years_0 := by decide +kernel
theorem dksX1_years_1 : cX1_years.data.toList.drop 24 = dktX1_years_1 := dk_seg dksX1_years_0 24 rfl rfl
theorem dksX1_years_2 : cX1_years.data.toList.drop 47 = dktX1_years_2 := dk_seg dksX1_years_1 23 rfl rfl
theorem dksX1_years_3 : cX1_years.data.toList.drop 71 = dktX1_years_3 := dk_seg dksX1_years_2 24 rfl rfl
theorem dksX1_years_4 : cX1_years.data.toList.drop 93 = dktX1_years_4 := dk_seg dksX1_years_3 22 rfl rfl
theorem dX1_years_0 : decode cX1_years 0 = .ok (.aload_n 0, 1) := dk_42 (dk_at dksX1_years_0 0 rfl rfl)
theorem dX1_years_1 : decode cX1_years 1 = .ok (.iload_n 1, 1) := dk_27 (dk_at dksX1_years_0 1 rfl rfl)
theorem dX1_years_2 : decode cX1_years 2 = .ok (.invokevirtual 171, 3) := dk_182 0 171 (dk_at dksX1_years_0 2 rfl rfl)
theorem dX1_years_5 : decode cX1_years 5 = .ok (.ifCond .eq 15, 3) := dk_153 0 15 (dk_at dksX1_years_0 5 rfl rfl)
theorem dX1_years_8 : decode cX1_years 8 = .ok (.iload_n 2, 1) := dk_28 (dk_at dksX1_years_0 8 rfl rfl)
theorem dX1_years_9 : decode cX1_years 9 = .ok (.i2l, 1) := dk_133 (dk_at dksX1_years_0 9 rfl rfl)
theorem dX1_years_10 : decode cX1_years 10 = .ok (.lconst 0, 1) := dk_9 (dk_at dksX1_years_0 10 rfl rfl)
theorem dX1_years_11 : decode cX1_years 11 = .ok (.ldc2_w 204, 3) := dk_20 0 204 (dk_at dksX1_years_0 11 rfl rfl)
theorem dX1_years_14 : decode cX1_years 14 = .ok (.invokestatic 60, 3) := dk_184 0 60 (dk_at dksX1_years_0 14 rfl rfl)
theorem dX1_years_17 : decode cX1_years 17 = .ok (.ifCond .ne 5, 3) := dk_154 0 5 (dk_at dksX1_years_0 17 rfl rfl)
theorem dX1_years_20 : decode cX1_years 20 = .ok (.iconst (-1), 1) := dk_2 (dk_at dksX1_years_0 20 rfl rfl)
theorem dX1_years_21 : decode cX1_years 21 = .ok (.ireturn, 1) := dk_172 (dk_at dksX1_years_0 21 rfl rfl)
theorem dX1_years_22 : decode cX1_years 22 = .ok (.iconst 0, 1) := dk_3 (dk_at dksX1_years_0 22 rfl rfl)
theorem dX1_years_23 : decode cX1_years 23 = .ok (.istore_n 3, 1) := dk_62 (dk_at dksX1_years_0 23 rfl rfl)
theorem dX1_years_24 : decode cX1_years 24 = .ok (.iconst 0, 1) := dk_3 (dk_at dksX1_years_1 0 rfl rfl)
theorem dX1_years_25 : decode cX1_years 25 = .ok (.istore 4, 2) := dk_54 4 (dk_at dksX1_years_1 1 rfl rfl)
theorem dX1_years_27 : decode cX1_years 27 = .ok (.iconst 0, 1) := dk_3 (dk_at dksX1_years_1 3 rfl rfl)
theorem dX1_years_28 : decode cX1_years 28 = .ok (.istore 5, 2) := dk_54 5 (dk_at dksX1_years_1 4 rfl rfl)
theorem dX1_years_30 : decode cX1_years 30 = .ok (.iload 5, 2) := dk_21 5 (dk_at dksX1_years_1 6 rfl rfl)
theorem dX1_years_32 : decode cX1_years 32 = .ok (.iload_n 2, 1) := dk_28 (dk_at dksX1_years_1 8 rfl rfl)
theorem dX1_years_33 : decode cX1_years 33 = .ok (.if_icmp .ge 73, 3) := dk_162 0 73 (dk_at dksX1_years_1 9 rfl rfl)
theorem dX1_years_36 : decode cX1_years 36 = .ok (.aload_n 0, 1) := dk_42 (dk_at dksX1_years_1 12 rfl rfl)
theorem dX1_years_37 : decode cX1_years 37 = .ok (.aload_n 0, 1) := dk_42 (dk_at dksX1_years_1 13 rfl rfl)
theorem dX1_years_38 : decode cX1_years 38 = .ok (.getfield 7, 3) := dk_180 0 7 (dk_at dksX1_years_1 14 rfl rfl)
theorem dX1_years_41 : decode cX1_years 41 = .ok (.bipush 72, 2) := dk_16 72 (dk_at dksX1_years_1 17 rfl rfl)
theorem dX1_years_43 : decode cX1_years 43 = .ok (.iload_n 1, 1) := dk_27 (dk_at dksX1_years_1 19 rfl rfl)
theorem dX1_years_44 : decode cX1_years 44 = .ok (.iadd, 1) := dk_96 (dk_at dksX1_years_1 20 rfl rfl)
theorem dX1_years_45 : decode cX1_years 45 = .ok (.iaload, 1) := dk_46 (dk_at dksX1_years_1 21 rfl rfl)
theorem dX1_years_46 : decode cX1_years 46 = .ok (.aload_n 0, 1) := dk_42 (dk_at dksX1_years_1 22 rfl rfl)
theorem dX1_years_47 : decode cX1_years 47 = .ok (.getfield 7, 3) := dk_180 0 7 (dk_at dksX1_years_2 0 rfl rfl)
theorem dX1_years_50 : decode cX1_years 50 = .ok (.bipush 71, 2) := dk_16 71 (dk_at dksX1_years_2 3 rfl rfl)
theorem dX1_years_52 : decode cX1_years 52 = .ok (.iaload, 1) := dk_46 (dk_at dksX1_years_2 5 rfl rfl)
theorem dX1_years_53 : decode cX1_years 53 = .ok (.aload_n 0, 1) := dk_42 (dk_at dksX1_years_2 6 rfl rfl)
theorem dX1_years_54 : decode cX1_years 54 = .ok (.getfield 7, 3) := dk_180 0 7 (dk_at dksX1_years_2 7 rfl rfl)
theorem dX1_years_57 : decode cX1_years 57 = .ok (.bipush 70, 2) := dk_16 70 (dk_at dksX1_years_2 10 rfl rfl)
theorem dX1_years_59 : decode cX1_years 59 = .ok (.iaload, 1) := dk_46 (dk_at dksX1_years_2 12 rfl rfl)
theorem dX1_years_60 : decode cX1_years 60 = .ok (.iload 5, 2) := dk_21 5 (dk_at dksX1_years_2 13 rfl rfl)
theorem dX1_years_62 : decode cX1_years 62 = .ok (.iadd, 1) := dk_96 (dk_at dksX1_years_2 15 rfl rfl)
theorem dX1_years_63 : decode cX1_years 63 = .ok (.invokevirtual 138, 3) := dk_182 0 138 (dk_at dksX1_years_2 16 rfl rfl)
theorem dX1_years_66 : decode cX1_years 66 = .ok (.invokestatic 145, 3) := dk_184 0 145 (dk_at dksX1_years_2 19 rfl rfl)
theorem dX1_years_69 : decode cX1_years 69 = .ok (.istore 6, 2) := dk_54 6 (dk_at dksX1_years_2 22 rfl rfl)
theorem dX1_years_71 : decode cX1_years 71 = .ok (.iload_n 3, 1) := dk_29 (dk_at dksX1_years_3 0 rfl rfl)
theorem dX1_years_72 : decode cX1_years 72 = .ok (.iload 6, 2) := dk_21 6 (dk_at dksX1_years_3 1 rfl rfl)
theorem dX1_years_74 : decode cX1_years 74 = .ok (.ifCond .le 7, 3) := dk_158 0 7 (dk_at dksX1_years_3 3 rfl rfl)
theorem dX1_years_77 : decode cX1_years 77 = .ok (.iconst 1, 1) := dk_4 (dk_at dksX1_years_3 6 rfl rfl)
theorem dX1_years_78 : decode cX1_years 78 = .ok (.goto 4, 3) := dk_167 0 4 (dk_at dksX1_years_3 7 rfl rfl)
theorem dX1_years_81 : decode cX1_years 81 = .ok (.iconst 0, 1) := dk_3 (dk_at dksX1_years_3 10 rfl rfl)
theorem dX1_years_82 : decode cX1_years 82 = .ok (.iadd, 1) := dk_96 (dk_at dksX1_years_3 11 rfl rfl)
theorem dX1_years_83 : decode cX1_years 83 = .ok (.istore_n 3, 1) := dk_62 (dk_at dksX1_years_3 12 rfl rfl)
theorem dX1_years_84 : decode cX1_years 84 = .ok (.iload 6, 2) := dk_21 6 (dk_at dksX1_years_3 13 rfl rfl)
theorem dX1_years_86 : decode cX1_years 86 = .ok (.iload 4, 2) := dk_21 4 (dk_at dksX1_years_3 15 rfl rfl)
theorem dX1_years_88 : decode cX1_years 88 = .ok (.if_icmp .le 8, 3) := dk_164 0 8 (dk_at dksX1_years_3 17 rfl rfl)
theorem dX1_years_91 : decode cX1_years 91 = .ok (.iload 6, 2) := dk_21 6 (dk_at dksX1_years_3 20 rfl rfl)
theorem dX1_years_93 : decode cX1_years 93 = .ok (.goto 5, 3) := dk_167 0 5 (dk_at dksX1_years_4 0 rfl rfl)
theorem dX1_years_96 : decode cX1_years 96 = .ok (.iload 4, 2) := dk_21 4 (dk_at dksX1_years_4 3 rfl rfl)
theorem dX1_years_98 : decode cX1_years 98 = .ok (.istore 4, 2) := dk_54 4 (dk_at dksX1_years_4 5 rfl rfl)
theorem dX1_years_100 : decode cX1_years 100 = .ok (.iinc 5 1, 3) := dk_132 5 1 (dk_at dksX1_years_4 7 rfl rfl)
theorem dX1_years_103 : decode cX1_years 103 = .ok (.goto (-73), 3) := dk_167 255 183 (dk_at dksX1_years_4 10 rfl rfl)
theorem dX1_years_106 : decode cX1_years 106 = .ok (.aload_n 0, 1) := dk_42 (dk_at dksX1_years_4 13 rfl rfl)
theorem dX1_years_107 : decode cX1_years 107 = .ok (.iload 4, 2) := dk_21 4 (dk_at dksX1_years_4 14 rfl rfl)
theorem dX1_years_109 : decode cX1_years 109 = .ok (.invokevirtual 78, 3) := dk_182 0 78 (dk_at dksX1_years_4 16 rfl rfl)
theorem dX1_years_112 : decode cX1_years 112 = .ok (.istore 5, 2) := dk_54 5 (dk_at dksX1_years_4 19 rfl rfl)
theorem dX1_years_114 : decode cX1_years 114 = .ok (.iload_n 3, 1) := dk_29 (dk_at dksX1_years_4 21 rfl rfl)
theorem dX1_years_115 : decode cX1_years 115 = .ok (.ireturn, 1) := dk_172 (dk_at dksX1_years_4 22 rfl rfl)
abbrev cX1_near : ByteArray := prog_10_method_67_code
def yX1_near : MethodName := ⟨RX1, "near", "(II)I"⟩
def dkwX1_near_6 : List UInt8 := [54, 5, 29, 16, 247, 160, 0, 8, 16, 247, 167, 0, 5, 21, 4, 172]
abbrev dktX1_near_6 : List UInt8 := dkwX1_near_6 ++ []
def dkwX1_near_5 : List UInt8 := [54, 4, 132, 5, 1, 167, 255, 164, 29, 16, 247, 160, 0, 7, 3, 167, 0, 8, 42, 29, 182, 0, 78]
abbrev dktX1_near_5 : List UInt8 := dkwX1_near_5 ++ dktX1_near_6
def dkwX1_near_4 : List UInt8 := [162, 0, 8, 21, 5, 167, 0, 4, 29, 62, 21, 6, 21, 4, 162, 0, 8, 21, 6, 167, 0, 5, 21, 4]
abbrev dktX1_near_4 : List UInt8 := dkwX1_near_4 ++ dktX1_near_5
def dkwX1_near_3 : List UInt8 := [180, 0, 7, 16, 72, 27, 96, 46, 184, 0, 124, 167, 0, 5, 18, 206, 54, 6, 21, 6, 21, 4]
abbrev dktX1_near_3 : List UInt8 := dkwX1_near_3 ++ dktX1_near_4
def dkwX1_near_2 : List UInt8 := [153, 0, 37, 42, 28, 21, 5, 42, 180, 0, 7, 16, 70, 46, 182, 0, 135, 153, 0, 20, 21, 5, 42]
abbrev dktX1_near_2 : List UInt8 := dkwX1_near_2 ++ dktX1_near_3
def dkwX1_near_1 : List UInt8 := [54, 4, 3, 54, 5, 21, 5, 16, 100, 162, 0, 91, 42, 180, 0, 7, 16, 71, 46, 28, 184, 0, 131]
abbrev dktX1_near_1 : List UInt8 := dkwX1_near_1 ++ dktX1_near_2
def dkwX1_near_0 : List UInt8 := [42, 27, 182, 0, 171, 153, 0, 11, 42, 28, 182, 0, 160, 154, 0, 5, 2, 172, 16, 247, 62, 18, 206]
abbrev dktX1_near_0 : List UInt8 := dkwX1_near_0 ++ dktX1_near_1
theorem dksX1_near_0 : cX1_near.data.toList.drop 0 = dktX1_near_0 := by decide +kernel
theorem dksX1_near_1 : cX1_near.data.toList.drop 23 = dktX1_near_1 := dk_seg dksX1_near_0 23 rfl rfl
theorem dksX1_near_2 : cX1_near.data.toList.drop 46 = dktX1_near_2 := dk_seg dksX1_near_1 23 rfl rfl
theorem dksX1_near_3 : cX1_near.data.toList.drop 69 = dktX1_near_3 := dk_seg dksX1_near_2 23 rfl rfl
theorem dksX1_near_4 : cX1_near.data.toList.drop 91 = dktX1_near_4 := dk_seg dksX1_near_3 22 rfl rfl
theorem dksX1_near_5 : cX1_near.data.toList.drop 115 = dktX1_near_5 := dk_seg dksX1_near_4 24 rfl rfl
theorem dksX1_near_6 : cX1_near.data.toList.drop 138 = dktX1_near_6 := dk_seg dksX1_near_5 23 rfl rfl
theorem dX1_near_0 : decode cX1_near 0 = .ok (.aload_n 0, 1) := dk_42 (dk_at dksX1_near_0 0 rfl rfl)
theorem dX1_near_1 : decode cX1_near 1 = .ok (.iload_n 1, 1) := dk_27 (dk_at dksX1_near_0 1 rfl rfl)
theorem dX1_near_2 : decode cX1_near 2 = .ok (.invokevirtual 171, 3) := dk_182 0 171 (dk_at dksX1_near_0 2 rfl rfl)
theorem dX1_near_5 : decode cX1_near 5 = .ok (.ifCond .eq 11, 3) := dk_153 0 11 (dk_at dksX1_near_0 5 rfl rfl)
theorem dX1_near_8 : decode cX1_near 8 = .ok (.aload_n 0, 1) := dk_42 (dk_at dksX1_near_0 8 rfl rfl)
theorem dX1_near_9 : decode cX1_near 9 = .ok (.iload_n 2, 1) := dk_28 (dk_at dksX1_near_0 9 rfl rfl)
theorem dX1_near_10 : decode cX1_near 10 = .ok (.invokevirtual 160, 3) := dk_182 0 160 (dk_at dksX1_near_0 10 rfl rfl)
theorem dX1_near_13 : decode cX1_near 13 = .ok (.ifCond .ne 5, 3) := dk_154 0 5 (dk_at dksX1_near_0 13 rfl rfl)
theorem dX1_near_16 : decode cX1_near 16 = .ok (.iconst (-1), 1) := dk_2 (dk_at dksX1_near_0 16 rfl rfl)
theorem dX1_near_17 : decode cX1_near 17 = .ok (.ireturn, 1) := dk_172 (dk_at dksX1_near_0 17 rfl rfl)
theorem dX1_near_18 : decode cX1_near 18 = .ok (.bipush (-9), 2) := dk_16 247 (dk_at dksX1_near_0 18 rfl rfl)
theorem dX1_near_20 : decode cX1_near 20 = .ok (.istore_n 3, 1) := dk_62 (dk_at dksX1_near_0 20 rfl rfl)
theorem dX1_near_21 : decode cX1_near 21 = .ok (.ldc 206, 2) := dk_18 206 (dk_at dksX1_near_0 21 rfl rfl)
theorem dX1_near_23 : decode cX1_near 23 = .ok (.istore 4, 2) := dk_54 4 (dk_at dksX1_near_1 0 rfl rfl)
theorem dX1_near_25 : decode cX1_near 25 = .ok (.iconst 0, 1) := dk_3 (dk_at dksX1_near_1 2 rfl rfl)
theorem dX1_near_26 : decode cX1_near 26 = .ok (.istore 5, 2) := dk_54 5 (dk_at dksX1_near_1 3 rfl rfl)
theorem dX1_near_28 : decode cX1_near 28 = .ok (.iload 5, 2) := dk_21 5 (dk_at dksX1_near_1 5 rfl rfl)
theorem dX1_near_30 : decode cX1_near 30 = .ok (.bipush 100, 2) := dk_16 100 (dk_at dksX1_near_1 7 rfl rfl)
theorem dX1_near_32 : decode cX1_near 32 = .ok (.if_icmp .ge 91, 3) := dk_162 0 91 (dk_at dksX1_near_1 9 rfl rfl)
theorem dX1_near_35 : decode cX1_near 35 = .ok (.aload_n 0, 1) := dk_42 (dk_at dksX1_near_1 12 rfl rfl)
theorem dX1_near_36 : decode cX1_near 36 = .ok (.getfield 7, 3) := dk_180 0 7 (dk_at dksX1_near_1 13 rfl rfl)
theorem dX1_near_39 : decode cX1_near 39 = .ok (.bipush 71, 2) := dk_16 71 (dk_at dksX1_near_1 16 rfl rfl)
theorem dX1_near_41 : decode cX1_near 41 = .ok (.iaload, 1) := dk_46 (dk_at dksX1_near_1 18 rfl rfl)
theorem dX1_near_42 : decode cX1_near 42 = .ok (.iload_n 2, 1) := dk_28 (dk_at dksX1_near_1 19 rfl rfl)
theorem dX1_near_43 : decode cX1_near 43 = .ok (.invokestatic 131, 3) := dk_184 0 131 (dk_at dksX1_near_1 20 rfl rfl)
theorem dX1_near_46 : decode cX1_near 46 = .ok (.ifCond .eq 37, 3) := dk_153 0 37 (dk_at dksX1_near_2 0 rfl rfl)
theorem dX1_near_49 : decode cX1_near 49 = .ok (.aload_n 0, 1) := dk_42 (dk_at dksX1_near_2 3 rfl rfl)
theorem dX1_near_50 : decode cX1_near 50 = .ok (.iload_n 2, 1) := dk_28 (dk_at dksX1_near_2 4 rfl rfl)
theorem dX1_near_51 : decode cX1_near 51 = .ok (.iload 5, 2) := dk_21 5 (dk_at dksX1_near_2 5 rfl rfl)
theorem dX1_near_53 : decode cX1_near 53 = .ok (.aload_n 0, 1) := dk_42 (dk_at dksX1_near_2 7 rfl rfl)
theorem dX1_near_54 : decode cX1_near 54 = .ok (.getfield 7, 3) := dk_180 0 7 (dk_at dksX1_near_2 8 rfl rfl)
theorem dX1_near_57 : decode cX1_near 57 = .ok (.bipush 70, 2) := dk_16 70 (dk_at dksX1_near_2 11 rfl rfl)
theorem dX1_near_59 : decode cX1_near 59 = .ok (.iaload, 1) := dk_46 (dk_at dksX1_near_2 13 rfl rfl)
theorem dX1_near_60 : decode cX1_near 60 = .ok (.invokevirtual 135, 3) := dk_182 0 135 (dk_at dksX1_near_2 14 rfl rfl)
theorem dX1_near_63 : decode cX1_near 63 = .ok (.ifCond .eq 20, 3) := dk_153 0 20 (dk_at dksX1_near_2 17 rfl rfl)
theorem dX1_near_66 : decode cX1_near 66 = .ok (.iload 5, 2) := dk_21 5 (dk_at dksX1_near_2 20 rfl rfl)
theorem dX1_near_68 : decode cX1_near 68 = .ok (.aload_n 0, 1) := dk_42 (dk_at dksX1_near_2 22 rfl rfl)
theorem dX1_near_69 : decode cX1_near 69 = .ok (.getfield 7, 3) := dk_180 0 7 (dk_at dksX1_near_3 0 rfl rfl)
theorem dX1_near_72 : decode cX1_near 72 = .ok (.bipush 72, 2) := dk_16 72 (dk_at dksX1_near_3 3 rfl rfl)
theorem dX1_near_74 : decode cX1_near 74 = .ok (.iload_n 1, 1) := dk_27 (dk_at dksX1_near_3 5 rfl rfl)
theorem dX1_near_75 : decode cX1_near 75 = .ok (.iadd, 1) := dk_96 (dk_at dksX1_near_3 6 rfl rfl)
theorem dX1_near_76 : decode cX1_near 76 = .ok (.iaload, 1) := dk_46 (dk_at dksX1_near_3 7 rfl rfl)
theorem dX1_near_77 : decode cX1_near 77 = .ok (.invokestatic 124, 3) := dk_184 0 124 (dk_at dksX1_near_3 8 rfl rfl)
theorem dX1_near_80 : decode cX1_near 80 = .ok (.goto 5, 3) := dk_167 0 5 (dk_at dksX1_near_3 11 rfl rfl)
theorem dX1_near_83 : decode cX1_near 83 = .ok (.ldc 206, 2) := dk_18 206 (dk_at dksX1_near_3 14 rfl rfl)
theorem dX1_near_85 : decode cX1_near 85 = .ok (.istore 6, 2) := dk_54 6 (dk_at dksX1_near_3 16 rfl rfl)
theorem dX1_near_87 : decode cX1_near 87 = .ok (.iload 6, 2) := dk_21 6 (dk_at dksX1_near_3 18 rfl rfl)
theorem dX1_near_89 : decode cX1_near 89 = .ok (.iload 4, 2) := dk_21 4 (dk_at dksX1_near_3 20 rfl rfl)
theorem dX1_near_91 : decode cX1_near 91 = .ok (.if_icmp .ge 8, 3) := dk_162 0 8 (dk_at dksX1_near_4 0 rfl rfl)
theorem dX1_near_94 : decode cX1_near 94 = .ok (.iload 5, 2) := dk_21 5 (dk_at dksX1_near_4 3 rfl rfl)
theorem dX1_near_96 : decode cX1_near 96 = .ok (.goto 4, 3) := dk_167 0 4 (dk_at dksX1_near_4 5 rfl rfl)
theorem dX1_near_99 : decode cX1_near 99 = .ok (.iload_n 3, 1) := dk_29 (dk_at dksX1_near_4 8 rfl rfl)
theorem dX1_near_100 : decode cX1_near 100 = .ok (.istore_n 3, 1) := dk_62 (dk_at dksX1_near_4 9 rfl rfl)
theorem dX1_near_101 : decode cX1_near 101 = .ok (.iload 6, 2) := dk_21 6 (dk_at dksX1_near_4 10 rfl rfl)
theorem dX1_near_103 : decode cX1_near 103 = .ok (.iload 4, 2) := dk_21 4 (dk_at dksX1_near_4 12 rfl rfl)
theorem dX1_near_105 : decode cX1_near 105 = .ok (.if_icmp .ge 8, 3) := dk_162 0 8 (dk_at dksX1_near_4 14 rfl rfl)
theorem dX1_near_108 : decode cX1_near 108 = .ok (.iload 6, 2) := dk_21 6 (dk_at dksX1_near_4 17 rfl rfl)
theorem dX1_near_110 : decode cX1_near 110 = .ok (.goto 5, 3) := dk_167 0 5 (dk_at dksX1_near_4 19 rfl rfl)
theorem dX1_near_113 : decode cX1_near 113 = .ok (.iload 4, 2) := dk_21 4 (dk_at dksX1_near_4 22 rfl rfl)
theorem dX1_near_115 : decode cX1_near 115 = .ok (.istore 4, 2) := dk_54 4 (dk_at dksX1_near_5 0 rfl rfl)
theorem dX1_near_117 : decode cX1_near 117 = .ok (.iinc 5 1, 3) := dk_132 5 1 (dk_at dksX1_near_5 2 rfl rfl)
theorem dX1_near_120 : decode cX1_near 120 = .ok (.goto (-92), 3) := dk_167 255 164 (dk_at dksX1_near_5 5 rfl rfl)
theorem dX1_near_123 : decode cX1_near 123 = .ok (.iload_n 3, 1) := dk_29 (dk_at dksX1_near_5 8 rfl rfl)
theorem dX1_near_124 : decode cX1_near 124 = .ok (.bipush (-9), 2) := dk_16 247 (dk_at dksX1_near_5 9 rfl rfl)
theorem dX1_near_126 : decode cX1_near 126 = .ok (.if_icmp .ne 7, 3) := dk_160 0 7 (dk_at dksX1_near_5 11 rfl rfl)
theorem dX1_near_129 : decode cX1_near 129 = .ok (.iconst 0, 1) := dk_3 (dk_at dksX1_near_5 14 rfl rfl)
theorem dX1_near_130 : decode cX1_near 130 = .ok (.goto 8, 3) := dk_167 0 8 (dk_at dksX1_near_5 15 rfl rfl)
theorem dX1_near_133 : decode cX1_near 133 = .ok (.aload_n 0, 1) := dk_42 (dk_at dksX1_near_5 18 rfl rfl)
theorem dX1_near_134 : decode cX1_near 134 = .ok (.iload_n 3, 1) := dk_29 (dk_at dksX1_near_5 19 rfl rfl)
theorem dX1_near_135 : decode cX1_near 135 = .ok (.invokevirtual 78, 3) := dk_182 0 78 (dk_at dksX1_near_5 20 rfl rfl)
theorem dX1_near_138 : decode cX1_near 138 = .ok (.istore 5, 2) := dk_54 5 (dk_at dksX1_near_6 0 rfl rfl)
theorem dX1_near_140 : decode cX1_near 140 = .ok (.iload_n 3, 1) := dk_29 (dk_at dksX1_near_6 2 rfl rfl)
theorem dX1_near_141 : decode cX1_near 141 = .ok (.bipush (-9), 2) := dk_16 247 (dk_at dksX1_near_6 3 rfl rfl)
theorem dX1_near_143 : decode cX1_near 143 = .ok (.if_icmp .ne 8, 3) := dk_160 0 8 (dk_at dksX1_near_6 5 rfl rfl)
theorem dX1_near_146 : decode cX1_near 146 = .ok (.bipush (-9), 2) := dk_16 247 (dk_at dksX1_near_6 8 rfl rfl)
theorem dX1_near_148 : decode cX1_near 148 = .ok (.goto 5, 3) := dk_167 0 5 (dk_at dksX1_near_6 10 rfl rfl)
theorem dX1_near_151 : decode cX1_near 151 = .ok (.iload 4, 2) := dk_21 4 (dk_at dksX1_near_6 13 rfl rfl)
theorem dX1_near_153 : decode cX1_near 153 = .ok (.ireturn, 1) := dk_172 (dk_at dksX1_near_6 15 rfl rfl)
abbrev cX1_unmake : ByteArray := prog_10_method_68_code
def yX1_unmake : MethodName := ⟨RX1, "unmake", "(II)I"⟩
def dkwX1_unmake_8 : List UInt8 := [21, 4, 184, 0, 145, 172]
abbrev dktX1_unmake_8 : List UInt8 := dkwX1_unmake_8 ++ []
def dkwX1_unmake_7 : List UInt8 := [167, 0, 9, 42, 21, 4, 182, 0, 78, 54, 5, 21, 4, 16, 247, 160, 0, 8, 16, 247, 167, 0, 8]
abbrev dktX1_unmake_7 : List UInt8 := dkwX1_unmake_7 ++ dktX1_unmake_8
def dkwX1_unmake_6 : List UInt8 := [21, 5, 167, 0, 5, 21, 4, 54, 4, 132, 5, 1, 167, 255, 150, 21, 4, 16, 247, 160, 0, 7, 3]
abbrev dktX1_unmake_6 : List UInt8 := dkwX1_unmake_6 ++ dktX1_unmake_7
def dkwX1_unmake_5 : List UInt8 := [153, 0, 28, 21, 4, 16, 247, 159, 0, 16, 21, 5, 184, 0, 145, 21, 4, 184, 0, 145, 162, 0, 8]
abbrev dktX1_unmake_5 : List UInt8 := dkwX1_unmake_5 ++ dktX1_unmake_6
def dkwX1_unmake_4 : List UInt8 := [21, 6, 2, 130, 126, 154, 0, 14, 28, 21, 6, 126, 154, 0, 7, 4, 167, 0, 4, 3, 54, 7, 21, 7]
abbrev dktX1_unmake_4 : List UInt8 := dkwX1_unmake_4 ++ dktX1_unmake_5
def dkwX1_unmake_3 : List UInt8 := [130, 126, 182, 0, 142, 54, 6, 21, 5, 42, 180, 0, 7, 16, 71, 46, 2, 130, 126, 154, 0, 23, 27]
abbrev dktX1_unmake_3 : List UInt8 := dkwX1_unmake_3 ++ dktX1_unmake_4
def dkwX1_unmake_2 : List UInt8 := [21, 5, 4, 42, 180, 0, 7, 3, 46, 120, 162, 0, 99, 42, 42, 180, 0, 7, 16, 71, 46, 21, 5, 2]
abbrev dktX1_unmake_2 : List UInt8 := dkwX1_unmake_2 ++ dktX1_unmake_3
def dkwX1_unmake_1 : List UInt8 := [9, 29, 133, 184, 0, 60, 153, 0, 9, 27, 28, 126, 153, 0, 5, 2, 172, 16, 247, 54, 4, 3, 54, 5]
abbrev dktX1_unmake_1 : List UInt8 := dkwX1_unmake_1 ++ dktX1_unmake_2
def dkwX1_unmake_0 : List UInt8 := [4, 42, 180, 0, 7, 4, 46, 120, 4, 100, 62, 27, 133, 9, 29, 133, 184, 0, 60, 153, 0, 20, 28, 133]
abbrev dktX1_unmake_0 : List UInt8 := dkwX1_unmake_0 ++ dktX1_unmake_1
theorem dksX1_unmake_0 : cX1_unmake.data.toList.drop 0 = dktX1_unmake_0 := by decide +kernel
theorem dksX1_unmake_1 : cX1_unmake.data.toList.drop 24 = dktX1_unmake_1 := dk_seg dksX1_unmake_0 24 rfl rfl
theorem dksX1_unmake_2 : cX1_unmake.data.toList.drop 48 = dktX1_unmake_2 := dk_seg dksX1_unmake_1 24 rfl rfl
theorem dksX1_unmake_3 : cX1_unmake.data.toList.drop 72 = dktX1_unmake_3 := dk_seg dksX1_unmake_2 24 rfl rfl
theorem dksX1_unmake_4 : cX1_unmake.data.toList.drop 95 = dktX1_unmake_4 := dk_seg dksX1_unmake_3 23 rfl rfl
theorem dksX1_unmake_5 : cX1_unmake.data.toList.drop 119 = dktX1_unmake_5 := dk_seg dksX1_unmake_4 24 rfl rfl
theorem dksX1_unmake_6 : cX1_unmake.data.toList.drop 142 = dktX1_unmake_6 := dk_seg dksX1_unmake_5 23 rfl rfl
theorem dksX1_unmake_7 : cX1_unmake.data.toList.drop 165 = dktX1_unmake_7 := dk_seg dksX1_unmake_6 23 rfl rfl
theorem dksX1_unmake_8 : cX1_unmake.data.toList.drop 188 = dktX1_unmake_8 := dk_seg dksX1_unmake_7 23 rfl rfl
theorem dX1_unmake_0 : decode cX1_unmake 0 = .ok (.iconst 1, 1) := dk_4 (dk_at dksX1_unmake_0 0 rfl rfl)
theorem dX1_unmake_1 : decode cX1_unmake 1 = .ok (.aload_n 0, 1) := dk_42 (dk_at dksX1_unmake_0 1 rfl rfl)
theorem dX1_unmake_2 : decode cX1_unmake 2 = .ok (.getfield 7, 3) := dk_180 0 7 (dk_at dksX1_unmake_0 2 rfl rfl)
theorem dX1_unmake_5 : decode cX1_unmake 5 = .ok (.iconst 1, 1) := dk_4 (dk_at dksX1_unmake_0 5 rfl rfl)
theorem dX1_unmake_6 : decode cX1_unmake 6 = .ok (.iaload, 1) := dk_46 (dk_at dksX1_unmake_0 6 rfl rfl)
theorem dX1_unmake_7 : decode cX1_unmake 7 = .ok (.ishl, 1) := dk_120 (dk_at dksX1_unmake_0 7 rfl rfl)
theorem dX1_unmake_8 : decode cX1_unmake 8 = .ok (.iconst 1, 1) := dk_4 (dk_at dksX1_unmake_0 8 rfl rfl)
theorem dX1_unmake_9 : decode cX1_unmake 9 = .ok (.isub, 1) := dk_100 (dk_at dksX1_unmake_0 9 rfl rfl)
theorem dX1_unmake_10 : decode cX1_unmake 10 = .ok (.istore_n 3, 1) := dk_62 (dk_at dksX1_unmake_0 10 rfl rfl)
theorem dX1_unmake_11 : decode cX1_unmake 11 = .ok (.iload_n 1, 1) := dk_27 (dk_at dksX1_unmake_0 11 rfl rfl)
theorem dX1_unmake_12 : decode cX1_unmake 12 = .ok (.i2l, 1) := dk_133 (dk_at dksX1_unmake_0 12 rfl rfl)
theorem dX1_unmake_13 : decode cX1_unmake 13 = .ok (.lconst 0, 1) := dk_9 (dk_at dksX1_unmake_0 13 rfl rfl)
theorem dX1_unmake_14 : decode cX1_unmake 14 = .ok (.iload_n 3, 1) := dk_29 (dk_at dksX1_unmake_0 14 rfl rfl)
theorem dX1_unmake_15 : decode cX1_unmake 15 = .ok (.i2l, 1) := dk_133 (dk_at dksX1_unmake_0 15 rfl rfl)
theorem dX1_unmake_16 : decode cX1_unmake 16 = .ok (.invokestatic 60, 3) := dk_184 0 60 (dk_at dksX1_unmake_0 16 rfl rfl)
theorem dX1_unmake_19 : decode cX1_unmake 19 = .ok (.ifCond .eq 20, 3) := dk_153 0 20 (dk_at dksX1_unmake_0 19 rfl rfl)
theorem dX1_unmake_22 : decode cX1_unmake 22 = .ok (.iload_n 2, 1) := dk_28 (dk_at dksX1_unmake_0 22 rfl rfl)
theorem dX1_unmake_23 : decode cX1_unmake 23 = .ok (.i2l, 1) := dk_133 (dk_at dksX1_unmake_0 23 rfl rfl)
theorem dX1_unmake_24 : decode cX1_unmake 24 = .ok (.lconst 0, 1) := dk_9 (dk_at dksX1_unmake_1 0 rfl rfl)
theorem dX1_unmake_25 : decode cX1_unmake 25 = .ok (.iload_n 3, 1) := dk_29 (dk_at dksX1_unmake_1 1 rfl rfl)
theorem dX1_unmake_26 : decode cX1_unmake 26 = .ok (.i2l, 1) := dk_133 (dk_at dksX1_unmake_1 2 rfl rfl)
theorem dX1_unmake_27 : decode cX1_unmake 27 = .ok (.invokestatic 60, 3) := dk_184 0 60 (dk_at dksX1_unmake_1 3 rfl rfl)
theorem dX1_unmake_30 : decode cX1_unmake 30 = .ok (.ifCond .eq 9, 3) := dk_153 0 9 (dk_at dksX1_unmake_1 6 rfl rfl)
theorem dX1_unmake_33 : decode cX1_unmake 33 = .ok (.iload_n 1, 1) := dk_27 (dk_at dksX1_unmake_1 9 rfl rfl)
theorem dX1_unmake_34 : decode cX1_unmake 34 = .ok (.iload_n 2, 1) := dk_28 (dk_at dksX1_unmake_1 10 rfl rfl)
theorem dX1_unmake_35 : decode cX1_unmake 35 = .ok (.iand, 1) := dk_126 (dk_at dksX1_unmake_1 11 rfl rfl)
theorem dX1_unmake_36 : decode cX1_unmake 36 = .ok (.ifCond .eq 5, 3) := dk_153 0 5 (dk_at dksX1_unmake_1 12 rfl rfl)
theorem dX1_unmake_39 : decode cX1_unmake 39 = .ok (.iconst (-1), 1) := dk_2 (dk_at dksX1_unmake_1 15 rfl rfl)
theorem dX1_unmake_40 : decode cX1_unmake 40 = .ok (.ireturn, 1) := dk_172 (dk_at dksX1_unmake_1 16 rfl rfl)
theorem dX1_unmake_41 : decode cX1_unmake 41 = .ok (.bipush (-9), 2) := dk_16 247 (dk_at dksX1_unmake_1 17 rfl rfl)
theorem dX1_unmake_43 : decode cX1_unmake 43 = .ok (.istore 4, 2) := dk_54 4 (dk_at dksX1_unmake_1 19 rfl rfl)
theorem dX1_unmake_45 : decode cX1_unmake 45 = .ok (.iconst 0, 1) := dk_3 (dk_at dksX1_unmake_1 21 rfl rfl)
theorem dX1_unmake_46 : decode cX1_unmake 46 = .ok (.istore 5, 2) := dk_54 5 (dk_at dksX1_unmake_1 22 rfl rfl)
theorem dX1_unmake_48 : decode cX1_unmake 48 = .ok (.iload 5, 2) := dk_21 5 (dk_at dksX1_unmake_2 0 rfl rfl)
theorem dX1_unmake_50 : decode cX1_unmake 50 = .ok (.iconst 1, 1) := dk_4 (dk_at dksX1_unmake_2 2 rfl rfl)
theorem dX1_unmake_51 : decode cX1_unmake 51 = .ok (.aload_n 0, 1) := dk_42 (dk_at dksX1_unmake_2 3 rfl rfl)
theorem dX1_unmake_52 : decode cX1_unmake 52 = .ok (.getfield 7, 3) := dk_180 0 7 (dk_at dksX1_unmake_2 4 rfl rfl)
theorem dX1_unmake_55 : decode cX1_unmake 55 = .ok (.iconst 0, 1) := dk_3 (dk_at dksX1_unmake_2 7 rfl rfl)
theorem dX1_unmake_56 : decode cX1_unmake 56 = .ok (.iaload, 1) := dk_46 (dk_at dksX1_unmake_2 8 rfl rfl)
theorem dX1_unmake_57 : decode cX1_unmake 57 = .ok (.ishl, 1) := dk_120 (dk_at dksX1_unmake_2 9 rfl rfl)
theorem dX1_unmake_58 : decode cX1_unmake 58 = .ok (.if_icmp .ge 99, 3) := dk_162 0 99 (dk_at dksX1_unmake_2 10 rfl rfl)
theorem dX1_unmake_61 : decode cX1_unmake 61 = .ok (.aload_n 0, 1) := dk_42 (dk_at dksX1_unmake_2 13 rfl rfl)
theorem dX1_unmake_62 : decode cX1_unmake 62 = .ok (.aload_n 0, 1) := dk_42 (dk_at dksX1_unmake_2 14 rfl rfl)
theorem dX1_unmake_63 : decode cX1_unmake 63 = .ok (.getfield 7, 3) := dk_180 0 7 (dk_at dksX1_unmake_2 15 rfl rfl)
theorem dX1_unmake_66 : decode cX1_unmake 66 = .ok (.bipush 71, 2) := dk_16 71 (dk_at dksX1_unmake_2 18 rfl rfl)
theorem dX1_unmake_68 : decode cX1_unmake 68 = .ok (.iaload, 1) := dk_46 (dk_at dksX1_unmake_2 20 rfl rfl)
theorem dX1_unmake_69 : decode cX1_unmake 69 = .ok (.iload 5, 2) := dk_21 5 (dk_at dksX1_unmake_2 21 rfl rfl)
theorem dX1_unmake_71 : decode cX1_unmake 71 = .ok (.iconst (-1), 1) := dk_2 (dk_at dksX1_unmake_2 23 rfl rfl)
theorem dX1_unmake_72 : decode cX1_unmake 72 = .ok (.ixor, 1) := dk_130 (dk_at dksX1_unmake_3 0 rfl rfl)
theorem dX1_unmake_73 : decode cX1_unmake 73 = .ok (.iand, 1) := dk_126 (dk_at dksX1_unmake_3 1 rfl rfl)
theorem dX1_unmake_74 : decode cX1_unmake 74 = .ok (.invokevirtual 142, 3) := dk_182 0 142 (dk_at dksX1_unmake_3 2 rfl rfl)
theorem dX1_unmake_77 : decode cX1_unmake 77 = .ok (.istore 6, 2) := dk_54 6 (dk_at dksX1_unmake_3 5 rfl rfl)
theorem dX1_unmake_79 : decode cX1_unmake 79 = .ok (.iload 5, 2) := dk_21 5 (dk_at dksX1_unmake_3 7 rfl rfl)
theorem dX1_unmake_81 : decode cX1_unmake 81 = .ok (.aload_n 0, 1) := dk_42 (dk_at dksX1_unmake_3 9 rfl rfl)
theorem dX1_unmake_82 : decode cX1_unmake 82 = .ok (.getfield 7, 3) := dk_180 0 7 (dk_at dksX1_unmake_3 10 rfl rfl)
theorem dX1_unmake_85 : decode cX1_unmake 85 = .ok (.bipush 71, 2) := dk_16 71 (dk_at dksX1_unmake_3 13 rfl rfl)
theorem dX1_unmake_87 : decode cX1_unmake 87 = .ok (.iaload, 1) := dk_46 (dk_at dksX1_unmake_3 15 rfl rfl)
theorem dX1_unmake_88 : decode cX1_unmake 88 = .ok (.iconst (-1), 1) := dk_2 (dk_at dksX1_unmake_3 16 rfl rfl)
theorem dX1_unmake_89 : decode cX1_unmake 89 = .ok (.ixor, 1) := dk_130 (dk_at dksX1_unmake_3 17 rfl rfl)
theorem dX1_unmake_90 : decode cX1_unmake 90 = .ok (.iand, 1) := dk_126 (dk_at dksX1_unmake_3 18 rfl rfl)
theorem dX1_unmake_91 : decode cX1_unmake 91 = .ok (.ifCond .ne 23, 3) := dk_154 0 23 (dk_at dksX1_unmake_3 19 rfl rfl)
theorem dX1_unmake_94 : decode cX1_unmake 94 = .ok (.iload_n 1, 1) := dk_27 (dk_at dksX1_unmake_3 22 rfl rfl)
theorem dX1_unmake_95 : decode cX1_unmake 95 = .ok (.iload 6, 2) := dk_21 6 (dk_at dksX1_unmake_4 0 rfl rfl)
theorem dX1_unmake_97 : decode cX1_unmake 97 = .ok (.iconst (-1), 1) := dk_2 (dk_at dksX1_unmake_4 2 rfl rfl)
theorem dX1_unmake_98 : decode cX1_unmake 98 = .ok (.ixor, 1) := dk_130 (dk_at dksX1_unmake_4 3 rfl rfl)
theorem dX1_unmake_99 : decode cX1_unmake 99 = .ok (.iand, 1) := dk_126 (dk_at dksX1_unmake_4 4 rfl rfl)
theorem dX1_unmake_100 : decode cX1_unmake 100 = .ok (.ifCond .ne 14, 3) := dk_154 0 14 (dk_at dksX1_unmake_4 5 rfl rfl)
theorem dX1_unmake_103 : decode cX1_unmake 103 = .ok (.iload_n 2, 1) := dk_28 (dk_at dksX1_unmake_4 8 rfl rfl)
theorem dX1_unmake_104 : decode cX1_unmake 104 = .ok (.iload 6, 2) := dk_21 6 (dk_at dksX1_unmake_4 9 rfl rfl)
theorem dX1_unmake_106 : decode cX1_unmake 106 = .ok (.iand, 1) := dk_126 (dk_at dksX1_unmake_4 11 rfl rfl)
theorem dX1_unmake_107 : decode cX1_unmake 107 = .ok (.ifCond .ne 7, 3) := dk_154 0 7 (dk_at dksX1_unmake_4 12 rfl rfl)
theorem dX1_unmake_110 : decode cX1_unmake 110 = .ok (.iconst 1, 1) := dk_4 (dk_at dksX1_unmake_4 15 rfl rfl)
theorem dX1_unmake_111 : decode cX1_unmake 111 = .ok (.goto 4, 3) := dk_167 0 4 (dk_at dksX1_unmake_4 16 rfl rfl)
theorem dX1_unmake_114 : decode cX1_unmake 114 = .ok (.iconst 0, 1) := dk_3 (dk_at dksX1_unmake_4 19 rfl rfl)
theorem dX1_unmake_115 : decode cX1_unmake 115 = .ok (.istore 7, 2) := dk_54 7 (dk_at dksX1_unmake_4 20 rfl rfl)
theorem dX1_unmake_117 : decode cX1_unmake 117 = .ok (.iload 7, 2) := dk_21 7 (dk_at dksX1_unmake_4 22 rfl rfl)
theorem dX1_unmake_119 : decode cX1_unmake 119 = .ok (.ifCond .eq 28, 3) := dk_153 0 28 (dk_at dksX1_unmake_5 0 rfl rfl)
theorem dX1_unmake_122 : decode cX1_unmake 122 = .ok (.iload 4, 2) := dk_21 4 (dk_at dksX1_unmake_5 3 rfl rfl)
theorem dX1_unmake_124 : decode cX1_unmake 124 = .ok (.bipush (-9), 2) := dk_16 247 (dk_at dksX1_unmake_5 5 rfl rfl)
theorem dX1_unmake_126 : decode cX1_unmake 126 = .ok (.if_icmp .eq 16, 3) := dk_159 0 16 (dk_at dksX1_unmake_5 7 rfl rfl)
theorem dX1_unmake_129 : decode cX1_unmake 129 = .ok (.iload 5, 2) := dk_21 5 (dk_at dksX1_unmake_5 10 rfl rfl)
theorem dX1_unmake_131 : decode cX1_unmake 131 = .ok (.invokestatic 145, 3) := dk_184 0 145 (dk_at dksX1_unmake_5 12 rfl rfl)
theorem dX1_unmake_134 : decode cX1_unmake 134 = .ok (.iload 4, 2) := dk_21 4 (dk_at dksX1_unmake_5 15 rfl rfl)
theorem dX1_unmake_136 : decode cX1_unmake 136 = .ok (.invokestatic 145, 3) := dk_184 0 145 (dk_at dksX1_unmake_5 17 rfl rfl)
theorem dX1_unmake_139 : decode cX1_unmake 139 = .ok (.if_icmp .ge 8, 3) := dk_162 0 8 (dk_at dksX1_unmake_5 20 rfl rfl)
theorem dX1_unmake_142 : decode cX1_unmake 142 = .ok (.iload 5, 2) := dk_21 5 (dk_at dksX1_unmake_6 0 rfl rfl)
theorem dX1_unmake_144 : decode cX1_unmake 144 = .ok (.goto 5, 3) := dk_167 0 5 (dk_at dksX1_unmake_6 2 rfl rfl)
theorem dX1_unmake_147 : decode cX1_unmake 147 = .ok (.iload 4, 2) := dk_21 4 (dk_at dksX1_unmake_6 5 rfl rfl)
theorem dX1_unmake_149 : decode cX1_unmake 149 = .ok (.istore 4, 2) := dk_54 4 (dk_at dksX1_unmake_6 7 rfl rfl)
theorem dX1_unmake_151 : decode cX1_unmake 151 = .ok (.iinc 5 1, 3) := dk_132 5 1 (dk_at dksX1_unmake_6 9 rfl rfl)
theorem dX1_unmake_154 : decode cX1_unmake 154 = .ok (.goto (-106), 3) := dk_167 255 150 (dk_at dksX1_unmake_6 12 rfl rfl)
theorem dX1_unmake_157 : decode cX1_unmake 157 = .ok (.iload 4, 2) := dk_21 4 (dk_at dksX1_unmake_6 15 rfl rfl)
theorem dX1_unmake_159 : decode cX1_unmake 159 = .ok (.bipush (-9), 2) := dk_16 247 (dk_at dksX1_unmake_6 17 rfl rfl)
theorem dX1_unmake_161 : decode cX1_unmake 161 = .ok (.if_icmp .ne 7, 3) := dk_160 0 7 (dk_at dksX1_unmake_6 19 rfl rfl)
theorem dX1_unmake_164 : decode cX1_unmake 164 = .ok (.iconst 0, 1) := dk_3 (dk_at dksX1_unmake_6 22 rfl rfl)
theorem dX1_unmake_165 : decode cX1_unmake 165 = .ok (.goto 9, 3) := dk_167 0 9 (dk_at dksX1_unmake_7 0 rfl rfl)
theorem dX1_unmake_168 : decode cX1_unmake 168 = .ok (.aload_n 0, 1) := dk_42 (dk_at dksX1_unmake_7 3 rfl rfl)
theorem dX1_unmake_169 : decode cX1_unmake 169 = .ok (.iload 4, 2) := dk_21 4 (dk_at dksX1_unmake_7 4 rfl rfl)
theorem dX1_unmake_171 : decode cX1_unmake 171 = .ok (.invokevirtual 78, 3) := dk_182 0 78 (dk_at dksX1_unmake_7 6 rfl rfl)
theorem dX1_unmake_174 : decode cX1_unmake 174 = .ok (.istore 5, 2) := dk_54 5 (dk_at dksX1_unmake_7 9 rfl rfl)
theorem dX1_unmake_176 : decode cX1_unmake 176 = .ok (.iload 4, 2) := dk_21 4 (dk_at dksX1_unmake_7 11 rfl rfl)
theorem dX1_unmake_178 : decode cX1_unmake 178 = .ok (.bipush (-9), 2) := dk_16 247 (dk_at dksX1_unmake_7 13 rfl rfl)
theorem dX1_unmake_180 : decode cX1_unmake 180 = .ok (.if_icmp .ne 8, 3) := dk_160 0 8 (dk_at dksX1_unmake_7 15 rfl rfl)
theorem dX1_unmake_183 : decode cX1_unmake 183 = .ok (.bipush (-9), 2) := dk_16 247 (dk_at dksX1_unmake_7 18 rfl rfl)
theorem dX1_unmake_185 : decode cX1_unmake 185 = .ok (.goto 8, 3) := dk_167 0 8 (dk_at dksX1_unmake_7 20 rfl rfl)
theorem dX1_unmake_188 : decode cX1_unmake 188 = .ok (.iload 4, 2) := dk_21 4 (dk_at dksX1_unmake_8 0 rfl rfl)
theorem dX1_unmake_190 : decode cX1_unmake 190 = .ok (.invokestatic 145, 3) := dk_184 0 145 (dk_at dksX1_unmake_8 2 rfl rfl)
theorem dX1_unmake_193 : decode cX1_unmake 193 = .ok (.ireturn, 1) := dk_172 (dk_at dksX1_unmake_8 5 rfl rfl)
abbrev cX1_sway : ByteArray := prog_10_method_70_code
def yX1_sway : MethodName := ⟨RX1, "sway", "(I)I"⟩
def dkwX1_sway_6 : List UInt8 := [180, 0, 7, 16, 71, 46, 130, 184, 0, 145, 172]
abbrev dktX1_sway_6 : List UInt8 := dkwX1_sway_6 ++ []
def dkwX1_sway_5 : List UInt8 := [167, 0, 8, 42, 28, 182, 0, 78, 62, 28, 16, 247, 160, 0, 8, 16, 247, 167, 0, 15, 28, 42]
abbrev dktX1_sway_5 : List UInt8 := dkwX1_sway_5 ++ dktX1_sway_6
def dkwX1_sway_4 : List UInt8 := [160, 0, 7, 29, 167, 0, 4, 28, 61, 132, 3, 1, 167, 255, 181, 28, 16, 247, 160, 0, 7, 3]
abbrev dktX1_sway_4 : List UInt8 := dkwX1_sway_4 ++ dktX1_sway_5
def dkwX1_sway_3 : List UInt8 := [184, 0, 145, 162, 0, 7, 4, 167, 0, 4, 3, 54, 4, 21, 4, 153, 0, 16, 42, 29, 182, 0, 209, 27]
abbrev dktX1_sway_3 : List UInt8 := dkwX1_sway_3 ++ dktX1_sway_4
def dkwX1_sway_2 : List UInt8 := [159, 0, 30, 29, 42, 180, 0, 7, 16, 71, 46, 130, 184, 0, 145, 28, 42, 180, 0, 7, 16, 71, 46, 130]
abbrev dktX1_sway_2 : List UInt8 := dkwX1_sway_2 ++ dktX1_sway_3
def dkwX1_sway_1 : List UInt8 := [16, 252, 172, 16, 247, 61, 3, 62, 29, 4, 42, 180, 0, 7, 3, 46, 120, 162, 0, 69, 28, 16, 247]
abbrev dktX1_sway_1 : List UInt8 := dkwX1_sway_1 ++ dktX1_sway_2
def dkwX1_sway_0 : List UInt8 := [27, 133, 9, 20, 0, 207, 184, 0, 60, 154, 0, 5, 2, 172, 42, 180, 0, 7, 3, 46, 154, 0, 6]
abbrev dktX1_sway_0 : List UInt8 := dkwX1_sway_0 ++ dktX1_sway_1
theorem dksX1_sway_0 : cX1_sway.data.toList.drop 0 = dktX1_sway_0 := by decide +kernel
theorem dksX1_sway_1 : cX1_sway.data.toList.drop 23 = dktX1_sway_1 := dk_seg dksX1_sway_0 23 rfl rfl
theorem dksX1_sway_2 : cX1_sway.data.toList.drop 46 = dktX1_sway_2 := dk_seg dksX1_sway_1 23 rfl rfl
theorem dksX1_sway_3 : cX1_sway.data.toList.drop 70 = dktX1_sway_3 := dk_seg dksX1_sway_2 24 rfl rfl
theorem dksX1_sway_4 : cX1_sway.data.toList.drop 94 = dktX1_sway_4 := dk_seg dksX1_sway_3 24 rfl rfl
theorem dksX1_sway_5 : cX1_sway.data.toList.drop 116 = dktX1_sway_5 := dk_seg dksX1_sway_4 22 rfl rfl
theorem dksX1_sway_6 : cX1_sway.data.toList.drop 138 = dktX1_sway_6 := dk_seg dksX1_sway_5 22 rfl rfl
theorem dX1_sway_0 : decode cX1_sway 0 = .ok (.iload_n 1, 1) := dk_27 (dk_at dksX1_sway_0 0 rfl rfl)
theorem dX1_sway_1 : decode cX1_sway 1 = .ok (.i2l, 1) := dk_133 (dk_at dksX1_sway_0 1 rfl rfl)
theorem dX1_sway_2 : decode cX1_sway 2 = .ok (.lconst 0, 1) := dk_9 (dk_at dksX1_sway_0 2 rfl rfl)
theorem dX1_sway_3 : decode cX1_sway 3 = .ok (.ldc2_w 207, 3) := dk_20 0 207 (dk_at dksX1_sway_0 3 rfl rfl)
theorem dX1_sway_6 : decode cX1_sway 6 = .ok (.invokestatic 60, 3) := dk_184 0 60 (dk_at dksX1_sway_0 6 rfl rfl)
theorem dX1_sway_9 : decode cX1_sway 9 = .ok (.ifCond .ne 5, 3) := dk_154 0 5 (dk_at dksX1_sway_0 9 rfl rfl)
theorem dX1_sway_12 : decode cX1_sway 12 = .ok (.iconst (-1), 1) := dk_2 (dk_at dksX1_sway_0 12 rfl rfl)
theorem dX1_sway_13 : decode cX1_sway 13 = .ok (.ireturn, 1) := dk_172 (dk_at dksX1_sway_0 13 rfl rfl)
theorem dX1_sway_14 : decode cX1_sway 14 = .ok (.aload_n 0, 1) := dk_42 (dk_at dksX1_sway_0 14 rfl rfl)
theorem dX1_sway_15 : decode cX1_sway 15 = .ok (.getfield 7, 3) := dk_180 0 7 (dk_at dksX1_sway_0 15 rfl rfl)
theorem dX1_sway_18 : decode cX1_sway 18 = .ok (.iconst 0, 1) := dk_3 (dk_at dksX1_sway_0 18 rfl rfl)
theorem dX1_sway_19 : decode cX1_sway 19 = .ok (.iaload, 1) := dk_46 (dk_at dksX1_sway_0 19 rfl rfl)
theorem dX1_sway_20 : decode cX1_sway 20 = .ok (.ifCond .ne 6, 3) := dk_154 0 6 (dk_at dksX1_sway_0 20 rfl rfl)
theorem dX1_sway_23 : decode cX1_sway 23 = .ok (.bipush (-4), 2) := dk_16 252 (dk_at dksX1_sway_1 0 rfl rfl)
theorem dX1_sway_25 : decode cX1_sway 25 = .ok (.ireturn, 1) := dk_172 (dk_at dksX1_sway_1 2 rfl rfl)
theorem dX1_sway_26 : decode cX1_sway 26 = .ok (.bipush (-9), 2) := dk_16 247 (dk_at dksX1_sway_1 3 rfl rfl)
theorem dX1_sway_28 : decode cX1_sway 28 = .ok (.istore_n 2, 1) := dk_61 (dk_at dksX1_sway_1 5 rfl rfl)
theorem dX1_sway_29 : decode cX1_sway 29 = .ok (.iconst 0, 1) := dk_3 (dk_at dksX1_sway_1 6 rfl rfl)
theorem dX1_sway_30 : decode cX1_sway 30 = .ok (.istore_n 3, 1) := dk_62 (dk_at dksX1_sway_1 7 rfl rfl)
theorem dX1_sway_31 : decode cX1_sway 31 = .ok (.iload_n 3, 1) := dk_29 (dk_at dksX1_sway_1 8 rfl rfl)
theorem dX1_sway_32 : decode cX1_sway 32 = .ok (.iconst 1, 1) := dk_4 (dk_at dksX1_sway_1 9 rfl rfl)
theorem dX1_sway_33 : decode cX1_sway 33 = .ok (.aload_n 0, 1) := dk_42 (dk_at dksX1_sway_1 10 rfl rfl)
theorem dX1_sway_34 : decode cX1_sway 34 = .ok (.getfield 7, 3) := dk_180 0 7 (dk_at dksX1_sway_1 11 rfl rfl)
theorem dX1_sway_37 : decode cX1_sway 37 = .ok (.iconst 0, 1) := dk_3 (dk_at dksX1_sway_1 14 rfl rfl)
theorem dX1_sway_38 : decode cX1_sway 38 = .ok (.iaload, 1) := dk_46 (dk_at dksX1_sway_1 15 rfl rfl)
theorem dX1_sway_39 : decode cX1_sway 39 = .ok (.ishl, 1) := dk_120 (dk_at dksX1_sway_1 16 rfl rfl)
theorem dX1_sway_40 : decode cX1_sway 40 = .ok (.if_icmp .ge 69, 3) := dk_162 0 69 (dk_at dksX1_sway_1 17 rfl rfl)
theorem dX1_sway_43 : decode cX1_sway 43 = .ok (.iload_n 2, 1) := dk_28 (dk_at dksX1_sway_1 20 rfl rfl)
theorem dX1_sway_44 : decode cX1_sway 44 = .ok (.bipush (-9), 2) := dk_16 247 (dk_at dksX1_sway_1 21 rfl rfl)
theorem dX1_sway_46 : decode cX1_sway 46 = .ok (.if_icmp .eq 30, 3) := dk_159 0 30 (dk_at dksX1_sway_2 0 rfl rfl)
theorem dX1_sway_49 : decode cX1_sway 49 = .ok (.iload_n 3, 1) := dk_29 (dk_at dksX1_sway_2 3 rfl rfl)
theorem dX1_sway_50 : decode cX1_sway 50 = .ok (.aload_n 0, 1) := dk_42 (dk_at dksX1_sway_2 4 rfl rfl)
theorem dX1_sway_51 : decode cX1_sway 51 = .ok (.getfield 7, 3) := dk_180 0 7 (dk_at dksX1_sway_2 5 rfl rfl)
theorem dX1_sway_54 : decode cX1_sway 54 = .ok (.bipush 71, 2) := dk_16 71 (dk_at dksX1_sway_2 8 rfl rfl)
theorem dX1_sway_56 : decode cX1_sway 56 = .ok (.iaload, 1) := dk_46 (dk_at dksX1_sway_2 10 rfl rfl)
theorem dX1_sway_57 : decode cX1_sway 57 = .ok (.ixor, 1) := dk_130 (dk_at dksX1_sway_2 11 rfl rfl)
theorem dX1_sway_58 : decode cX1_sway 58 = .ok (.invokestatic 145, 3) := dk_184 0 145 (dk_at dksX1_sway_2 12 rfl rfl)
theorem dX1_sway_61 : decode cX1_sway 61 = .ok (.iload_n 2, 1) := dk_28 (dk_at dksX1_sway_2 15 rfl rfl)
theorem dX1_sway_62 : decode cX1_sway 62 = .ok (.aload_n 0, 1) := dk_42 (dk_at dksX1_sway_2 16 rfl rfl)
theorem dX1_sway_63 : decode cX1_sway 63 = .ok (.getfield 7, 3) := dk_180 0 7 (dk_at dksX1_sway_2 17 rfl rfl)
theorem dX1_sway_66 : decode cX1_sway 66 = .ok (.bipush 71, 2) := dk_16 71 (dk_at dksX1_sway_2 20 rfl rfl)
theorem dX1_sway_68 : decode cX1_sway 68 = .ok (.iaload, 1) := dk_46 (dk_at dksX1_sway_2 22 rfl rfl)
theorem dX1_sway_69 : decode cX1_sway 69 = .ok (.ixor, 1) := dk_130 (dk_at dksX1_sway_2 23 rfl rfl)
theorem dX1_sway_70 : decode cX1_sway 70 = .ok (.invokestatic 145, 3) := dk_184 0 145 (dk_at dksX1_sway_3 0 rfl rfl)
theorem dX1_sway_73 : decode cX1_sway 73 = .ok (.if_icmp .ge 7, 3) := dk_162 0 7 (dk_at dksX1_sway_3 3 rfl rfl)
theorem dX1_sway_76 : decode cX1_sway 76 = .ok (.iconst 1, 1) := dk_4 (dk_at dksX1_sway_3 6 rfl rfl)
theorem dX1_sway_77 : decode cX1_sway 77 = .ok (.goto 4, 3) := dk_167 0 4 (dk_at dksX1_sway_3 7 rfl rfl)
theorem dX1_sway_80 : decode cX1_sway 80 = .ok (.iconst 0, 1) := dk_3 (dk_at dksX1_sway_3 10 rfl rfl)
theorem dX1_sway_81 : decode cX1_sway 81 = .ok (.istore 4, 2) := dk_54 4 (dk_at dksX1_sway_3 11 rfl rfl)
theorem dX1_sway_83 : decode cX1_sway 83 = .ok (.iload 4, 2) := dk_21 4 (dk_at dksX1_sway_3 13 rfl rfl)
theorem dX1_sway_85 : decode cX1_sway 85 = .ok (.ifCond .eq 16, 3) := dk_153 0 16 (dk_at dksX1_sway_3 15 rfl rfl)
theorem dX1_sway_88 : decode cX1_sway 88 = .ok (.aload_n 0, 1) := dk_42 (dk_at dksX1_sway_3 18 rfl rfl)
theorem dX1_sway_89 : decode cX1_sway 89 = .ok (.iload_n 3, 1) := dk_29 (dk_at dksX1_sway_3 19 rfl rfl)
theorem dX1_sway_90 : decode cX1_sway 90 = .ok (.invokevirtual 209, 3) := dk_182 0 209 (dk_at dksX1_sway_3 20 rfl rfl)
theorem dX1_sway_93 : decode cX1_sway 93 = .ok (.iload_n 1, 1) := dk_27 (dk_at dksX1_sway_3 23 rfl rfl)
theorem dX1_sway_94 : decode cX1_sway 94 = .ok (.if_icmp .ne 7, 3) := dk_160 0 7 (dk_at dksX1_sway_4 0 rfl rfl)
theorem dX1_sway_97 : decode cX1_sway 97 = .ok (.iload_n 3, 1) := dk_29 (dk_at dksX1_sway_4 3 rfl rfl)
theorem dX1_sway_98 : decode cX1_sway 98 = .ok (.goto 4, 3) := dk_167 0 4 (dk_at dksX1_sway_4 4 rfl rfl)
theorem dX1_sway_101 : decode cX1_sway 101 = .ok (.iload_n 2, 1) := dk_28 (dk_at dksX1_sway_4 7 rfl rfl)
theorem dX1_sway_102 : decode cX1_sway 102 = .ok (.istore_n 2, 1) := dk_61 (dk_at dksX1_sway_4 8 rfl rfl)
theorem dX1_sway_103 : decode cX1_sway 103 = .ok (.iinc 3 1, 3) := dk_132 3 1 (dk_at dksX1_sway_4 9 rfl rfl)
theorem dX1_sway_106 : decode cX1_sway 106 = .ok (.goto (-75), 3) := dk_167 255 181 (dk_at dksX1_sway_4 12 rfl rfl)
theorem dX1_sway_109 : decode cX1_sway 109 = .ok (.iload_n 2, 1) := dk_28 (dk_at dksX1_sway_4 15 rfl rfl)
theorem dX1_sway_110 : decode cX1_sway 110 = .ok (.bipush (-9), 2) := dk_16 247 (dk_at dksX1_sway_4 16 rfl rfl)
theorem dX1_sway_112 : decode cX1_sway 112 = .ok (.if_icmp .ne 7, 3) := dk_160 0 7 (dk_at dksX1_sway_4 18 rfl rfl)
theorem dX1_sway_115 : decode cX1_sway 115 = .ok (.iconst 0, 1) := dk_3 (dk_at dksX1_sway_4 21 rfl rfl)
theorem dX1_sway_116 : decode cX1_sway 116 = .ok (.goto 8, 3) := dk_167 0 8 (dk_at dksX1_sway_5 0 rfl rfl)
theorem dX1_sway_119 : decode cX1_sway 119 = .ok (.aload_n 0, 1) := dk_42 (dk_at dksX1_sway_5 3 rfl rfl)
theorem dX1_sway_120 : decode cX1_sway 120 = .ok (.iload_n 2, 1) := dk_28 (dk_at dksX1_sway_5 4 rfl rfl)
theorem dX1_sway_121 : decode cX1_sway 121 = .ok (.invokevirtual 78, 3) := dk_182 0 78 (dk_at dksX1_sway_5 5 rfl rfl)
theorem dX1_sway_124 : decode cX1_sway 124 = .ok (.istore_n 3, 1) := dk_62 (dk_at dksX1_sway_5 8 rfl rfl)
theorem dX1_sway_125 : decode cX1_sway 125 = .ok (.iload_n 2, 1) := dk_28 (dk_at dksX1_sway_5 9 rfl rfl)
theorem dX1_sway_126 : decode cX1_sway 126 = .ok (.bipush (-9), 2) := dk_16 247 (dk_at dksX1_sway_5 10 rfl rfl)
theorem dX1_sway_128 : decode cX1_sway 128 = .ok (.if_icmp .ne 8, 3) := dk_160 0 8 (dk_at dksX1_sway_5 12 rfl rfl)
theorem dX1_sway_131 : decode cX1_sway 131 = .ok (.bipush (-9), 2) := dk_16 247 (dk_at dksX1_sway_5 15 rfl rfl)
theorem dX1_sway_133 : decode cX1_sway 133 = .ok (.goto 15, 3) := dk_167 0 15 (dk_at dksX1_sway_5 17 rfl rfl)
theorem dX1_sway_136 : decode cX1_sway 136 = .ok (.iload_n 2, 1) := dk_28 (dk_at dksX1_sway_5 20 rfl rfl)
theorem dX1_sway_137 : decode cX1_sway 137 = .ok (.aload_n 0, 1) := dk_42 (dk_at dksX1_sway_5 21 rfl rfl)
theorem dX1_sway_138 : decode cX1_sway 138 = .ok (.getfield 7, 3) := dk_180 0 7 (dk_at dksX1_sway_6 0 rfl rfl)
theorem dX1_sway_141 : decode cX1_sway 141 = .ok (.bipush 71, 2) := dk_16 71 (dk_at dksX1_sway_6 3 rfl rfl)
theorem dX1_sway_143 : decode cX1_sway 143 = .ok (.iaload, 1) := dk_46 (dk_at dksX1_sway_6 5 rfl rfl)
theorem dX1_sway_144 : decode cX1_sway 144 = .ok (.ixor, 1) := dk_130 (dk_at dksX1_sway_6 6 rfl rfl)
theorem dX1_sway_145 : decode cX1_sway 145 = .ok (.invokestatic 145, 3) := dk_184 0 145 (dk_at dksX1_sway_6 7 rfl rfl)
theorem dX1_sway_148 : decode cX1_sway 148 = .ok (.ireturn, 1) := dk_172 (dk_at dksX1_sway_6 10 rfl rfl)
abbrev cX1_decidedBy : ByteArray := prog_10_method_69_code
def yX1_decidedBy : MethodName := ⟨RX1, "decidedBy", "(I)I"⟩
def dkwX1_decidedBy_2 : List UInt8 := [167, 0, 5, 21, 4, 96, 61, 132, 3, 1, 167, 255, 204, 28, 172]
abbrev dktX1_decidedBy_2 : List UInt8 := dkwX1_decidedBy_2 ++ []
def dkwX1_decidedBy_1 : List UInt8 := [29, 182, 0, 154, 182, 0, 157, 167, 0, 4, 3, 54, 4, 28, 21, 4, 16, 247, 160, 0, 7, 3]
abbrev dktX1_decidedBy_1 : List UInt8 := dkwX1_decidedBy_1 ++ dktX1_decidedBy_2
def dkwX1_decidedBy_0 : List UInt8 := [3, 61, 3, 62, 29, 42, 180, 0, 7, 3, 46, 162, 0, 48, 27, 29, 184, 0, 131, 153, 0, 15, 42, 42]
abbrev dktX1_decidedBy_0 : List UInt8 := dkwX1_decidedBy_0 ++ dktX1_decidedBy_1
theorem dksX1_decidedBy_0 : cX1_decidedBy.data.toList.drop 0 = dktX1_decidedBy_0 := by decide +kernel
theorem dksX1_decidedBy_1 : cX1_decidedBy.data.toList.drop 24 = dktX1_decidedBy_1 := dk_seg dksX1_decidedBy_0 24 rfl rfl
theorem dksX1_decidedBy_2 : cX1_decidedBy.data.toList.drop 46 = dktX1_decidedBy_2 := dk_seg dksX1_decidedBy_1 22 rfl rfl
theorem dX1_decidedBy_0 : decode cX1_decidedBy 0 = .ok (.iconst 0, 1) := dk_3 (dk_at dksX1_decidedBy_0 0 rfl rfl)
theorem dX1_decidedBy_1 : decode cX1_decidedBy 1 = .ok (.istore_n 2, 1) := dk_61 (dk_at dksX1_decidedBy_0 1 rfl rfl)
theorem dX1_decidedBy_2 : decode cX1_decidedBy 2 = .ok (.iconst 0, 1) := dk_3 (dk_at dksX1_decidedBy_0 2 rfl rfl)
theorem dX1_decidedBy_3 : decode cX1_decidedBy 3 = .ok (.istore_n 3, 1) := dk_62 (dk_at dksX1_decidedBy_0 3 rfl rfl)
theorem dX1_decidedBy_4 : decode cX1_decidedBy 4 = .ok (.iload_n 3, 1) := dk_29 (dk_at dksX1_decidedBy_0 4 rfl rfl)
theorem dX1_decidedBy_5 : decode cX1_decidedBy 5 = .ok (.aload_n 0, 1) := dk_42 (dk_at dksX1_decidedBy_0 5 rfl rfl)
theorem dX1_decidedBy_6 : decode cX1_decidedBy 6 = .ok (.getfield 7, 3) := dk_180 0 7 (dk_at dksX1_decidedBy_0 6 rfl rfl)
theorem dX1_decidedBy_9 : decode cX1_decidedBy 9 = .ok (.iconst 0, 1) := dk_3 (dk_at dksX1_decidedBy_0 9 rfl rfl)
theorem dX1_decidedBy_10 : decode cX1_decidedBy 10 = .ok (.iaload, 1) := dk_46 (dk_at dksX1_decidedBy_0 10 rfl rfl)
theorem dX1_decidedBy_11 : decode cX1_decidedBy 11 = .ok (.if_icmp .ge 48, 3) := dk_162 0 48 (dk_at dksX1_decidedBy_0 11 rfl rfl)
theorem dX1_decidedBy_14 : decode cX1_decidedBy 14 = .ok (.iload_n 1, 1) := dk_27 (dk_at dksX1_decidedBy_0 14 rfl rfl)
theorem dX1_decidedBy_15 : decode cX1_decidedBy 15 = .ok (.iload_n 3, 1) := dk_29 (dk_at dksX1_decidedBy_0 15 rfl rfl)
theorem dX1_decidedBy_16 : decode cX1_decidedBy 16 = .ok (.invokestatic 131, 3) := dk_184 0 131 (dk_at dksX1_decidedBy_0 16 rfl rfl)
theorem dX1_decidedBy_19 : decode cX1_decidedBy 19 = .ok (.ifCond .eq 15, 3) := dk_153 0 15 (dk_at dksX1_decidedBy_0 19 rfl rfl)
theorem dX1_decidedBy_22 : decode cX1_decidedBy 22 = .ok (.aload_n 0, 1) := dk_42 (dk_at dksX1_decidedBy_0 22 rfl rfl)
theorem dX1_decidedBy_23 : decode cX1_decidedBy 23 = .ok (.aload_n 0, 1) := dk_42 (dk_at dksX1_decidedBy_0 23 rfl rfl)
theorem dX1_decidedBy_24 : decode cX1_decidedBy 24 = .ok (.iload_n 3, 1) := dk_29 (dk_at dksX1_decidedBy_1 0 rfl rfl)
theorem dX1_decidedBy_25 : decode cX1_decidedBy 25 = .ok (.invokevirtual 154, 3) := dk_182 0 154 (dk_at dksX1_decidedBy_1 1 rfl rfl)
theorem dX1_decidedBy_28 : decode cX1_decidedBy 28 = .ok (.invokevirtual 157, 3) := dk_182 0 157 (dk_at dksX1_decidedBy_1 4 rfl rfl)
theorem dX1_decidedBy_31 : decode cX1_decidedBy 31 = .ok (.goto 4, 3) := dk_167 0 4 (dk_at dksX1_decidedBy_1 7 rfl rfl)
theorem dX1_decidedBy_34 : decode cX1_decidedBy 34 = .ok (.iconst 0, 1) := dk_3 (dk_at dksX1_decidedBy_1 10 rfl rfl)
theorem dX1_decidedBy_35 : decode cX1_decidedBy 35 = .ok (.istore 4, 2) := dk_54 4 (dk_at dksX1_decidedBy_1 11 rfl rfl)
theorem dX1_decidedBy_37 : decode cX1_decidedBy 37 = .ok (.iload_n 2, 1) := dk_28 (dk_at dksX1_decidedBy_1 13 rfl rfl)
theorem dX1_decidedBy_38 : decode cX1_decidedBy 38 = .ok (.iload 4, 2) := dk_21 4 (dk_at dksX1_decidedBy_1 14 rfl rfl)
theorem dX1_decidedBy_40 : decode cX1_decidedBy 40 = .ok (.bipush (-9), 2) := dk_16 247 (dk_at dksX1_decidedBy_1 16 rfl rfl)
theorem dX1_decidedBy_42 : decode cX1_decidedBy 42 = .ok (.if_icmp .ne 7, 3) := dk_160 0 7 (dk_at dksX1_decidedBy_1 18 rfl rfl)
theorem dX1_decidedBy_45 : decode cX1_decidedBy 45 = .ok (.iconst 0, 1) := dk_3 (dk_at dksX1_decidedBy_1 21 rfl rfl)
theorem dX1_decidedBy_46 : decode cX1_decidedBy 46 = .ok (.goto 5, 3) := dk_167 0 5 (dk_at dksX1_decidedBy_2 0 rfl rfl)
theorem dX1_decidedBy_49 : decode cX1_decidedBy 49 = .ok (.iload 4, 2) := dk_21 4 (dk_at dksX1_decidedBy_2 3 rfl rfl)
theorem dX1_decidedBy_51 : decode cX1_decidedBy 51 = .ok (.iadd, 1) := dk_96 (dk_at dksX1_decidedBy_2 5 rfl rfl)
theorem dX1_decidedBy_52 : decode cX1_decidedBy 52 = .ok (.istore_n 2, 1) := dk_61 (dk_at dksX1_decidedBy_2 6 rfl rfl)
theorem dX1_decidedBy_53 : decode cX1_decidedBy 53 = .ok (.iinc 3 1, 3) := dk_132 3 1 (dk_at dksX1_decidedBy_2 7 rfl rfl)
theorem dX1_decidedBy_56 : decode cX1_decidedBy 56 = .ok (.goto (-52), 3) := dk_167 255 204 (dk_at dksX1_decidedBy_2 10 rfl rfl)
theorem dX1_decidedBy_59 : decode cX1_decidedBy 59 = .ok (.iload_n 2, 1) := dk_28 (dk_at dksX1_decidedBy_2 13 rfl rfl)
theorem dX1_decidedBy_60 : decode cX1_decidedBy 60 = .ok (.ireturn, 1) := dk_172 (dk_at dksX1_decidedBy_2 14 rfl rfl)
abbrev cX1_middles : ByteArray := prog_10_method_73_code
def yX1_middles : MethodName := ⟨RX1, "middles", "(II)I"⟩
def dkwX1_middles_4 : List UInt8 := [54, 6, 21, 4, 154, 0, 8, 16, 247, 167, 0, 5, 21, 4, 172]
abbrev dktX1_middles_4 : List UInt8 := dkwX1_middles_4 ++ []
def dkwX1_middles_3 : List UInt8 := [132, 4, 1, 132, 6, 1, 167, 255, 202, 21, 4, 154, 0, 7, 3, 167, 0, 9, 42, 21, 5, 182, 0, 78]
abbrev dktX1_middles_3 : List UInt8 := dkwX1_middles_3 ++ dktX1_middles_4
def dkwX1_middles_2 : List UInt8 := [27, 96, 46, 28, 182, 0, 215, 153, 0, 20, 21, 4, 154, 0, 8, 21, 6, 167, 0, 5, 21, 5, 54, 5]
abbrev dktX1_middles_2 : List UInt8 := dkwX1_middles_2 ++ dktX1_middles_3
def dkwX1_middles_1 : List UInt8 := [21, 6, 16, 100, 162, 0, 53, 42, 42, 180, 0, 7, 5, 27, 96, 46, 21, 6, 42, 180, 0, 7, 16, 12]
abbrev dktX1_middles_1 : List UInt8 := dkwX1_middles_1 ++ dktX1_middles_2
def dkwX1_middles_0 : List UInt8 := [42, 27, 28, 182, 0, 212, 62, 29, 153, 0, 5, 29, 172, 3, 54, 4, 16, 247, 54, 5, 3, 54, 6]
abbrev dktX1_middles_0 : List UInt8 := dkwX1_middles_0 ++ dktX1_middles_1
theorem dksX1_middles_0 : cX1_middles.data.toList.drop 0 = dktX1_middles_0 := by decide +kernel
theorem dksX1_middles_1 : cX1_middles.data.toList.drop 23 = dktX1_middles_1 := dk_seg dksX1_middles_0 23 rfl rfl
theorem dksX1_middles_2 : cX1_middles.data.toList.drop 47 = dktX1_middles_2 := dk_seg dksX1_middles_1 24 rfl rfl
theorem dksX1_middles_3 : cX1_middles.data.toList.drop 71 = dktX1_middles_3 := dk_seg dksX1_middles_2 24 rfl rfl
theorem dksX1_middles_4 : cX1_middles.data.toList.drop 95 = dktX1_middles_4 := dk_seg dksX1_middles_3 24 rfl rfl
theorem dX1_middles_0 : decode cX1_middles 0 = .ok (.aload_n 0, 1) := dk_42 (dk_at dksX1_middles_0 0 rfl rfl)
theorem dX1_middles_1 : decode cX1_middles 1 = .ok (.iload_n 1, 1) := dk_27 (dk_at dksX1_middles_0 1 rfl rfl)
theorem dX1_middles_2 : decode cX1_middles 2 = .ok (.iload_n 2, 1) := dk_28 (dk_at dksX1_middles_0 2 rfl rfl)
theorem dX1_middles_3 : decode cX1_middles 3 = .ok (.invokevirtual 212, 3) := dk_182 0 212 (dk_at dksX1_middles_0 3 rfl rfl)
theorem dX1_middles_6 : decode cX1_middles 6 = .ok (.istore_n 3, 1) := dk_62 (dk_at dksX1_middles_0 6 rfl rfl)
theorem dX1_middles_7 : decode cX1_middles 7 = .ok (.iload_n 3, 1) := dk_29 (dk_at dksX1_middles_0 7 rfl rfl)
theorem dX1_middles_8 : decode cX1_middles 8 = .ok (.ifCond .eq 5, 3) := dk_153 0 5 (dk_at dksX1_middles_0 8 rfl rfl)
theorem dX1_middles_11 : decode cX1_middles 11 = .ok (.iload_n 3, 1) := dk_29 (dk_at dksX1_middles_0 11 rfl rfl)
theorem dX1_middles_12 : decode cX1_middles 12 = .ok (.ireturn, 1) := dk_172 (dk_at dksX1_middles_0 12 rfl rfl)
theorem dX1_middles_13 : decode cX1_middles 13 = .ok (.iconst 0, 1) := dk_3 (dk_at dksX1_middles_0 13 rfl rfl)
theorem dX1_middles_14 : decode cX1_middles 14 = .ok (.istore 4, 2) := dk_54 4 (dk_at dksX1_middles_0 14 rfl rfl)
theorem dX1_middles_16 : decode cX1_middles 16 = .ok (.bipush (-9), 2) := dk_16 247 (dk_at dksX1_middles_0 16 rfl rfl)
theorem dX1_middles_18 : decode cX1_middles 18 = .ok (.istore 5, 2) := dk_54 5 (dk_at dksX1_middles_0 18 rfl rfl)
theorem dX1_middles_20 : decode cX1_middles 20 = .ok (.iconst 0, 1) := dk_3 (dk_at dksX1_middles_0 20 rfl rfl)
theorem dX1_middles_21 : decode cX1_middles 21 = .ok (.istore 6, 2) := dk_54 6 (dk_at dksX1_middles_0 21 rfl rfl)
theorem dX1_middles_23 : decode cX1_middles 23 = .ok (.iload 6, 2) := dk_21 6 (dk_at dksX1_middles_1 0 rfl rfl)
theorem dX1_middles_25 : decode cX1_middles 25 = .ok (.bipush 100, 2) := dk_16 100 (dk_at dksX1_middles_1 2 rfl rfl)
theorem dX1_middles_27 : decode cX1_middles 27 = .ok (.if_icmp .ge 53, 3) := dk_162 0 53 (dk_at dksX1_middles_1 4 rfl rfl)
theorem dX1_middles_30 : decode cX1_middles 30 = .ok (.aload_n 0, 1) := dk_42 (dk_at dksX1_middles_1 7 rfl rfl)
theorem dX1_middles_31 : decode cX1_middles 31 = .ok (.aload_n 0, 1) := dk_42 (dk_at dksX1_middles_1 8 rfl rfl)
theorem dX1_middles_32 : decode cX1_middles 32 = .ok (.getfield 7, 3) := dk_180 0 7 (dk_at dksX1_middles_1 9 rfl rfl)
theorem dX1_middles_35 : decode cX1_middles 35 = .ok (.iconst 2, 1) := dk_5 (dk_at dksX1_middles_1 12 rfl rfl)
theorem dX1_middles_36 : decode cX1_middles 36 = .ok (.iload_n 1, 1) := dk_27 (dk_at dksX1_middles_1 13 rfl rfl)
theorem dX1_middles_37 : decode cX1_middles 37 = .ok (.iadd, 1) := dk_96 (dk_at dksX1_middles_1 14 rfl rfl)
theorem dX1_middles_38 : decode cX1_middles 38 = .ok (.iaload, 1) := dk_46 (dk_at dksX1_middles_1 15 rfl rfl)
theorem dX1_middles_39 : decode cX1_middles 39 = .ok (.iload 6, 2) := dk_21 6 (dk_at dksX1_middles_1 16 rfl rfl)
theorem dX1_middles_41 : decode cX1_middles 41 = .ok (.aload_n 0, 1) := dk_42 (dk_at dksX1_middles_1 18 rfl rfl)
theorem dX1_middles_42 : decode cX1_middles 42 = .ok (.getfield 7, 3) := dk_180 0 7 (dk_at dksX1_middles_1 19 rfl rfl)
theorem dX1_middles_45 : decode cX1_middles 45 = .ok (.bipush 12, 2) := dk_16 12 (dk_at dksX1_middles_1 22 rfl rfl)
theorem dX1_middles_47 : decode cX1_middles 47 = .ok (.iload_n 1, 1) := dk_27 (dk_at dksX1_middles_2 0 rfl rfl)
theorem dX1_middles_48 : decode cX1_middles 48 = .ok (.iadd, 1) := dk_96 (dk_at dksX1_middles_2 1 rfl rfl)
theorem dX1_middles_49 : decode cX1_middles 49 = .ok (.iaload, 1) := dk_46 (dk_at dksX1_middles_2 2 rfl rfl)
theorem dX1_middles_50 : decode cX1_middles 50 = .ok (.iload_n 2, 1) := dk_28 (dk_at dksX1_middles_2 3 rfl rfl)
theorem dX1_middles_51 : decode cX1_middles 51 = .ok (.invokevirtual 215, 3) := dk_182 0 215 (dk_at dksX1_middles_2 4 rfl rfl)
theorem dX1_middles_54 : decode cX1_middles 54 = .ok (.ifCond .eq 20, 3) := dk_153 0 20 (dk_at dksX1_middles_2 7 rfl rfl)
theorem dX1_middles_57 : decode cX1_middles 57 = .ok (.iload 4, 2) := dk_21 4 (dk_at dksX1_middles_2 10 rfl rfl)
theorem dX1_middles_59 : decode cX1_middles 59 = .ok (.ifCond .ne 8, 3) := dk_154 0 8 (dk_at dksX1_middles_2 12 rfl rfl)
theorem dX1_middles_62 : decode cX1_middles 62 = .ok (.iload 6, 2) := dk_21 6 (dk_at dksX1_middles_2 15 rfl rfl)
theorem dX1_middles_64 : decode cX1_middles 64 = .ok (.goto 5, 3) := dk_167 0 5 (dk_at dksX1_middles_2 17 rfl rfl)
theorem dX1_middles_67 : decode cX1_middles 67 = .ok (.iload 5, 2) := dk_21 5 (dk_at dksX1_middles_2 20 rfl rfl)
theorem dX1_middles_69 : decode cX1_middles 69 = .ok (.istore 5, 2) := dk_54 5 (dk_at dksX1_middles_2 22 rfl rfl)
theorem dX1_middles_71 : decode cX1_middles 71 = .ok (.iinc 4 1, 3) := dk_132 4 1 (dk_at dksX1_middles_3 0 rfl rfl)
theorem dX1_middles_74 : decode cX1_middles 74 = .ok (.iinc 6 1, 3) := dk_132 6 1 (dk_at dksX1_middles_3 3 rfl rfl)
theorem dX1_middles_77 : decode cX1_middles 77 = .ok (.goto (-54), 3) := dk_167 255 202 (dk_at dksX1_middles_3 6 rfl rfl)
theorem dX1_middles_80 : decode cX1_middles 80 = .ok (.iload 4, 2) := dk_21 4 (dk_at dksX1_middles_3 9 rfl rfl)
theorem dX1_middles_82 : decode cX1_middles 82 = .ok (.ifCond .ne 7, 3) := dk_154 0 7 (dk_at dksX1_middles_3 11 rfl rfl)
theorem dX1_middles_85 : decode cX1_middles 85 = .ok (.iconst 0, 1) := dk_3 (dk_at dksX1_middles_3 14 rfl rfl)
theorem dX1_middles_86 : decode cX1_middles 86 = .ok (.goto 9, 3) := dk_167 0 9 (dk_at dksX1_middles_3 15 rfl rfl)
theorem dX1_middles_89 : decode cX1_middles 89 = .ok (.aload_n 0, 1) := dk_42 (dk_at dksX1_middles_3 18 rfl rfl)
theorem dX1_middles_90 : decode cX1_middles 90 = .ok (.iload 5, 2) := dk_21 5 (dk_at dksX1_middles_3 19 rfl rfl)
theorem dX1_middles_92 : decode cX1_middles 92 = .ok (.invokevirtual 78, 3) := dk_182 0 78 (dk_at dksX1_middles_3 21 rfl rfl)
theorem dX1_middles_95 : decode cX1_middles 95 = .ok (.istore 6, 2) := dk_54 6 (dk_at dksX1_middles_4 0 rfl rfl)
theorem dX1_middles_97 : decode cX1_middles 97 = .ok (.iload 4, 2) := dk_21 4 (dk_at dksX1_middles_4 2 rfl rfl)
theorem dX1_middles_99 : decode cX1_middles 99 = .ok (.ifCond .ne 8, 3) := dk_154 0 8 (dk_at dksX1_middles_4 4 rfl rfl)
theorem dX1_middles_102 : decode cX1_middles 102 = .ok (.bipush (-9), 2) := dk_16 247 (dk_at dksX1_middles_4 7 rfl rfl)
theorem dX1_middles_104 : decode cX1_middles 104 = .ok (.goto 5, 3) := dk_167 0 5 (dk_at dksX1_middles_4 9 rfl rfl)
theorem dX1_middles_107 : decode cX1_middles 107 = .ok (.iload 4, 2) := dk_21 4 (dk_at dksX1_middles_4 12 rfl rfl)
theorem dX1_middles_109 : decode cX1_middles 109 = .ok (.ireturn, 1) := dk_172 (dk_at dksX1_middles_4 14 rfl rfl)
abbrev cX1_refusesPairs : ByteArray := prog_10_method_71_code
def yX1_refusesPairs : MethodName := ⟨RX1, "refusesPairs", "(II)I"⟩
def dkwX1_refusesPairs_4 : List UInt8 := [42, 6, 182, 0, 70, 172, 132, 3, 1, 167, 255, 205, 3, 172]
abbrev dktX1_refusesPairs_4 : List UInt8 := dkwX1_refusesPairs_4 ++ []
def dkwX1_refusesPairs_3 : List UInt8 := [29, 96, 46, 133, 9, 29, 5, 112, 154, 0, 9, 20, 0, 152, 167, 0, 4, 10, 184, 0, 60, 154, 0, 9]
abbrev dktX1_refusesPairs_3 : List UInt8 := dkwX1_refusesPairs_3 ++ dktX1_refusesPairs_4
def dkwX1_refusesPairs_2 : List UInt8 := [182, 0, 70, 172, 3, 62, 29, 42, 180, 0, 23, 28, 46, 162, 0, 47, 42, 180, 0, 20, 16, 40, 28, 104]
abbrev dktX1_refusesPairs_2 : List UInt8 := dkwX1_refusesPairs_2 ++ dktX1_refusesPairs_3
def dkwX1_refusesPairs_1 : List UInt8 := [156, 0, 9, 42, 4, 182, 0, 70, 172, 42, 180, 0, 23, 28, 46, 5, 112, 153, 0, 9, 42, 8]
abbrev dktX1_refusesPairs_1 : List UInt8 := dkwX1_refusesPairs_1 ++ dktX1_refusesPairs_2
def dkwX1_refusesPairs_0 : List UInt8 := [42, 27, 182, 0, 160, 153, 0, 10, 28, 184, 0, 66, 154, 0, 5, 2, 172, 42, 180, 0, 23, 28, 46]
abbrev dktX1_refusesPairs_0 : List UInt8 := dkwX1_refusesPairs_0 ++ dktX1_refusesPairs_1
theorem dksX1_refusesPairs_0 : cX1_refusesPairs.data.toList.drop 0 = dktX1_refusesPairs_0 := by decide +kernel
theorem dksX1_refusesPairs_1 : cX1_refusesPairs.data.toList.drop 23 = dktX1_refusesPairs_1 := dk_seg dksX1_refusesPairs_0 23 rfl rfl
theorem dksX1_refusesPairs_2 : cX1_refusesPairs.data.toList.drop 45 = dktX1_refusesPairs_2 := dk_seg dksX1_refusesPairs_1 22 rfl rfl
theorem dksX1_refusesPairs_3 : cX1_refusesPairs.data.toList.drop 69 = dktX1_refusesPairs_3 := dk_seg dksX1_refusesPairs_2 24 rfl rfl
theorem dksX1_refusesPairs_4 : cX1_refusesPairs.data.toList.drop 93 = dktX1_refusesPairs_4 := dk_seg dksX1_refusesPairs_3 24 rfl rfl
theorem dX1_refusesPairs_0 : decode cX1_refusesPairs 0 = .ok (.aload_n 0, 1) := dk_42 (dk_at dksX1_refusesPairs_0 0 rfl rfl)
theorem dX1_refusesPairs_1 : decode cX1_refusesPairs 1 = .ok (.iload_n 1, 1) := dk_27 (dk_at dksX1_refusesPairs_0 1 rfl rfl)
theorem dX1_refusesPairs_2 : decode cX1_refusesPairs 2 = .ok (.invokevirtual 160, 3) := dk_182 0 160 (dk_at dksX1_refusesPairs_0 2 rfl rfl)
theorem dX1_refusesPairs_5 : decode cX1_refusesPairs 5 = .ok (.ifCond .eq 10, 3) := dk_153 0 10 (dk_at dksX1_refusesPairs_0 5 rfl rfl)
theorem dX1_refusesPairs_8 : decode cX1_refusesPairs 8 = .ok (.iload_n 2, 1) := dk_28 (dk_at dksX1_refusesPairs_0 8 rfl rfl)
theorem dX1_refusesPairs_9 : decode cX1_refusesPairs 9 = .ok (.invokestatic 66, 3) := dk_184 0 66 (dk_at dksX1_refusesPairs_0 9 rfl rfl)
theorem dX1_refusesPairs_12 : decode cX1_refusesPairs 12 = .ok (.ifCond .ne 5, 3) := dk_154 0 5 (dk_at dksX1_refusesPairs_0 12 rfl rfl)
theorem dX1_refusesPairs_15 : decode cX1_refusesPairs 15 = .ok (.iconst (-1), 1) := dk_2 (dk_at dksX1_refusesPairs_0 15 rfl rfl)
theorem dX1_refusesPairs_16 : decode cX1_refusesPairs 16 = .ok (.ireturn, 1) := dk_172 (dk_at dksX1_refusesPairs_0 16 rfl rfl)
theorem dX1_refusesPairs_17 : decode cX1_refusesPairs 17 = .ok (.aload_n 0, 1) := dk_42 (dk_at dksX1_refusesPairs_0 17 rfl rfl)
theorem dX1_refusesPairs_18 : decode cX1_refusesPairs 18 = .ok (.getfield 23, 3) := dk_180 0 23 (dk_at dksX1_refusesPairs_0 18 rfl rfl)
theorem dX1_refusesPairs_21 : decode cX1_refusesPairs 21 = .ok (.iload_n 2, 1) := dk_28 (dk_at dksX1_refusesPairs_0 21 rfl rfl)
theorem dX1_refusesPairs_22 : decode cX1_refusesPairs 22 = .ok (.iaload, 1) := dk_46 (dk_at dksX1_refusesPairs_0 22 rfl rfl)
theorem dX1_refusesPairs_23 : decode cX1_refusesPairs 23 = .ok (.ifCond .ge 9, 3) := dk_156 0 9 (dk_at dksX1_refusesPairs_1 0 rfl rfl)
theorem dX1_refusesPairs_26 : decode cX1_refusesPairs 26 = .ok (.aload_n 0, 1) := dk_42 (dk_at dksX1_refusesPairs_1 3 rfl rfl)
theorem dX1_refusesPairs_27 : decode cX1_refusesPairs 27 = .ok (.iconst 1, 1) := dk_4 (dk_at dksX1_refusesPairs_1 4 rfl rfl)
theorem dX1_refusesPairs_28 : decode cX1_refusesPairs 28 = .ok (.invokevirtual 70, 3) := dk_182 0 70 (dk_at dksX1_refusesPairs_1 5 rfl rfl)
theorem dX1_refusesPairs_31 : decode cX1_refusesPairs 31 = .ok (.ireturn, 1) := dk_172 (dk_at dksX1_refusesPairs_1 8 rfl rfl)
theorem dX1_refusesPairs_32 : decode cX1_refusesPairs 32 = .ok (.aload_n 0, 1) := dk_42 (dk_at dksX1_refusesPairs_1 9 rfl rfl)
theorem dX1_refusesPairs_33 : decode cX1_refusesPairs 33 = .ok (.getfield 23, 3) := dk_180 0 23 (dk_at dksX1_refusesPairs_1 10 rfl rfl)
theorem dX1_refusesPairs_36 : decode cX1_refusesPairs 36 = .ok (.iload_n 2, 1) := dk_28 (dk_at dksX1_refusesPairs_1 13 rfl rfl)
theorem dX1_refusesPairs_37 : decode cX1_refusesPairs 37 = .ok (.iaload, 1) := dk_46 (dk_at dksX1_refusesPairs_1 14 rfl rfl)
theorem dX1_refusesPairs_38 : decode cX1_refusesPairs 38 = .ok (.iconst 2, 1) := dk_5 (dk_at dksX1_refusesPairs_1 15 rfl rfl)
theorem dX1_refusesPairs_39 : decode cX1_refusesPairs 39 = .ok (.irem, 1) := dk_112 (dk_at dksX1_refusesPairs_1 16 rfl rfl)
theorem dX1_refusesPairs_40 : decode cX1_refusesPairs 40 = .ok (.ifCond .eq 9, 3) := dk_153 0 9 (dk_at dksX1_refusesPairs_1 17 rfl rfl)
theorem dX1_refusesPairs_43 : decode cX1_refusesPairs 43 = .ok (.aload_n 0, 1) := dk_42 (dk_at dksX1_refusesPairs_1 20 rfl rfl)
theorem dX1_refusesPairs_44 : decode cX1_refusesPairs 44 = .ok (.iconst 5, 1) := dk_8 (dk_at dksX1_refusesPairs_1 21 rfl rfl)
theorem dX1_refusesPairs_45 : decode cX1_refusesPairs 45 = .ok (.invokevirtual 70, 3) := dk_182 0 70 (dk_at dksX1_refusesPairs_2 0 rfl rfl)
theorem dX1_refusesPairs_48 : decode cX1_refusesPairs 48 = .ok (.ireturn, 1) := dk_172 (dk_at dksX1_refusesPairs_2 3 rfl rfl)
theorem dX1_refusesPairs_49 : decode cX1_refusesPairs 49 = .ok (.iconst 0, 1) := dk_3 (dk_at dksX1_refusesPairs_2 4 rfl rfl)
theorem dX1_refusesPairs_50 : decode cX1_refusesPairs 50 = .ok (.istore_n 3, 1) := dk_62 (dk_at dksX1_refusesPairs_2 5 rfl rfl)
theorem dX1_refusesPairs_51 : decode cX1_refusesPairs 51 = .ok (.iload_n 3, 1) := dk_29 (dk_at dksX1_refusesPairs_2 6 rfl rfl)
theorem dX1_refusesPairs_52 : decode cX1_refusesPairs 52 = .ok (.aload_n 0, 1) := dk_42 (dk_at dksX1_refusesPairs_2 7 rfl rfl)
theorem dX1_refusesPairs_53 : decode cX1_refusesPairs 53 = .ok (.getfield 23, 3) := dk_180 0 23 (dk_at dksX1_refusesPairs_2 8 rfl rfl)
theorem dX1_refusesPairs_56 : decode cX1_refusesPairs 56 = .ok (.iload_n 2, 1) := dk_28 (dk_at dksX1_refusesPairs_2 11 rfl rfl)
theorem dX1_refusesPairs_57 : decode cX1_refusesPairs 57 = .ok (.iaload, 1) := dk_46 (dk_at dksX1_refusesPairs_2 12 rfl rfl)
theorem dX1_refusesPairs_58 : decode cX1_refusesPairs 58 = .ok (.if_icmp .ge 47, 3) := dk_162 0 47 (dk_at dksX1_refusesPairs_2 13 rfl rfl)
theorem dX1_refusesPairs_61 : decode cX1_refusesPairs 61 = .ok (.aload_n 0, 1) := dk_42 (dk_at dksX1_refusesPairs_2 16 rfl rfl)
theorem dX1_refusesPairs_62 : decode cX1_refusesPairs 62 = .ok (.getfield 20, 3) := dk_180 0 20 (dk_at dksX1_refusesPairs_2 17 rfl rfl)
theorem dX1_refusesPairs_65 : decode cX1_refusesPairs 65 = .ok (.bipush 40, 2) := dk_16 40 (dk_at dksX1_refusesPairs_2 20 rfl rfl)
theorem dX1_refusesPairs_67 : decode cX1_refusesPairs 67 = .ok (.iload_n 2, 1) := dk_28 (dk_at dksX1_refusesPairs_2 22 rfl rfl)
theorem dX1_refusesPairs_68 : decode cX1_refusesPairs 68 = .ok (.imul, 1) := dk_104 (dk_at dksX1_refusesPairs_2 23 rfl rfl)
theorem dX1_refusesPairs_69 : decode cX1_refusesPairs 69 = .ok (.iload_n 3, 1) := dk_29 (dk_at dksX1_refusesPairs_3 0 rfl rfl)
theorem dX1_refusesPairs_70 : decode cX1_refusesPairs 70 = .ok (.iadd, 1) := dk_96 (dk_at dksX1_refusesPairs_3 1 rfl rfl)
theorem dX1_refusesPairs_71 : decode cX1_refusesPairs 71 = .ok (.iaload, 1) := dk_46 (dk_at dksX1_refusesPairs_3 2 rfl rfl)
theorem dX1_refusesPairs_72 : decode cX1_refusesPairs 72 = .ok (.i2l, 1) := dk_133 (dk_at dksX1_refusesPairs_3 3 rfl rfl)
theorem dX1_refusesPairs_73 : decode cX1_refusesPairs 73 = .ok (.lconst 0, 1) := dk_9 (dk_at dksX1_refusesPairs_3 4 rfl rfl)
theorem dX1_refusesPairs_74 : decode cX1_refusesPairs 74 = .ok (.iload_n 3, 1) := dk_29 (dk_at dksX1_refusesPairs_3 5 rfl rfl)
theorem dX1_refusesPairs_75 : decode cX1_refusesPairs 75 = .ok (.iconst 2, 1) := dk_5 (dk_at dksX1_refusesPairs_3 6 rfl rfl)
theorem dX1_refusesPairs_76 : decode cX1_refusesPairs 76 = .ok (.irem, 1) := dk_112 (dk_at dksX1_refusesPairs_3 7 rfl rfl)
theorem dX1_refusesPairs_77 : decode cX1_refusesPairs 77 = .ok (.ifCond .ne 9, 3) := dk_154 0 9 (dk_at dksX1_refusesPairs_3 8 rfl rfl)
theorem dX1_refusesPairs_80 : decode cX1_refusesPairs 80 = .ok (.ldc2_w 152, 3) := dk_20 0 152 (dk_at dksX1_refusesPairs_3 11 rfl rfl)
theorem dX1_refusesPairs_83 : decode cX1_refusesPairs 83 = .ok (.goto 4, 3) := dk_167 0 4 (dk_at dksX1_refusesPairs_3 14 rfl rfl)
theorem dX1_refusesPairs_86 : decode cX1_refusesPairs 86 = .ok (.lconst 1, 1) := dk_10 (dk_at dksX1_refusesPairs_3 17 rfl rfl)
theorem dX1_refusesPairs_87 : decode cX1_refusesPairs 87 = .ok (.invokestatic 60, 3) := dk_184 0 60 (dk_at dksX1_refusesPairs_3 18 rfl rfl)
theorem dX1_refusesPairs_90 : decode cX1_refusesPairs 90 = .ok (.ifCond .ne 9, 3) := dk_154 0 9 (dk_at dksX1_refusesPairs_3 21 rfl rfl)
theorem dX1_refusesPairs_93 : decode cX1_refusesPairs 93 = .ok (.aload_n 0, 1) := dk_42 (dk_at dksX1_refusesPairs_4 0 rfl rfl)
theorem dX1_refusesPairs_94 : decode cX1_refusesPairs 94 = .ok (.iconst 3, 1) := dk_6 (dk_at dksX1_refusesPairs_4 1 rfl rfl)
theorem dX1_refusesPairs_95 : decode cX1_refusesPairs 95 = .ok (.invokevirtual 70, 3) := dk_182 0 70 (dk_at dksX1_refusesPairs_4 2 rfl rfl)
theorem dX1_refusesPairs_98 : decode cX1_refusesPairs 98 = .ok (.ireturn, 1) := dk_172 (dk_at dksX1_refusesPairs_4 5 rfl rfl)
theorem dX1_refusesPairs_99 : decode cX1_refusesPairs 99 = .ok (.iinc 3 1, 3) := dk_132 3 1 (dk_at dksX1_refusesPairs_4 6 rfl rfl)
theorem dX1_refusesPairs_102 : decode cX1_refusesPairs 102 = .ok (.goto (-51), 3) := dk_167 255 205 (dk_at dksX1_refusesPairs_4 9 rfl rfl)
theorem dX1_refusesPairs_105 : decode cX1_refusesPairs 105 = .ok (.iconst 0, 1) := dk_3 (dk_at dksX1_refusesPairs_4 12 rfl rfl)
theorem dX1_refusesPairs_106 : decode cX1_refusesPairs 106 = .ok (.ireturn, 1) := dk_172 (dk_at dksX1_refusesPairs_4 13 rfl rfl)
abbrev cX1_fits : ByteArray := prog_10_method_72_code
def yX1_fits : MethodName := ⟨RX1, "fits", "(IIII)Z"⟩
def dkwX1_fits_3 : List UInt8 := [4, 167, 0, 4, 3, 160, 0, 7, 4, 167, 0, 4, 3, 54, 5, 132, 6, 2, 167, 255, 174, 21, 5, 172]
abbrev dktX1_fits_3 : List UInt8 := dkwX1_fits_3 ++ []
def dkwX1_fits_2 : List UInt8 := [96, 46, 184, 0, 127, 42, 180, 0, 20, 16, 40, 21, 4, 104, 21, 6, 96, 4, 96, 46, 4, 160, 0, 7]
abbrev dktX1_fits_2 : List UInt8 := dkwX1_fits_2 ++ dktX1_fits_3
def dkwX1_fits_1 : List UInt8 := [153, 0, 60, 27, 28, 29, 42, 180, 0, 7, 16, 70, 46, 42, 180, 0, 20, 16, 40, 21, 4, 104, 21, 6]
abbrev dktX1_fits_1 : List UInt8 := dkwX1_fits_1 ++ dktX1_fits_2
def dkwX1_fits_0 : List UInt8 := [4, 54, 5, 3, 54, 6, 21, 6, 4, 96, 42, 180, 0, 23, 21, 4, 46, 162, 0, 74, 21, 5]
abbrev dktX1_fits_0 : List UInt8 := dkwX1_fits_0 ++ dktX1_fits_1
theorem dksX1_fits_0 : cX1_fits.data.toList.drop 0 = dktX1_fits_0 := by decide +kernel
theorem dksX1_fits_1 : cX1_fits.data.toList.drop 22 = dktX1_fits_1 := dk_seg dksX1_fits_0 22 rfl rfl
theorem dksX1_fits_2 : cX1_fits.data.toList.drop 46 = dktX1_fits_2 := dk_seg dksX1_fits_1 24 rfl rfl
theorem dksX1_fits_3 : cX1_fits.data.toList.drop 70 = dktX1_fits_3 := dk_seg dksX1_fits_2 24 rfl rfl
theorem dX1_fits_0 : decode cX1_fits 0 = .ok (.iconst 1, 1) := dk_4 (dk_at dksX1_fits_0 0 rfl rfl)
theorem dX1_fits_1 : decode cX1_fits 1 = .ok (.istore 5, 2) := dk_54 5 (dk_at dksX1_fits_0 1 rfl rfl)
theorem dX1_fits_3 : decode cX1_fits 3 = .ok (.iconst 0, 1) := dk_3 (dk_at dksX1_fits_0 3 rfl rfl)
theorem dX1_fits_4 : decode cX1_fits 4 = .ok (.istore 6, 2) := dk_54 6 (dk_at dksX1_fits_0 4 rfl rfl)
theorem dX1_fits_6 : decode cX1_fits 6 = .ok (.iload 6, 2) := dk_21 6 (dk_at dksX1_fits_0 6 rfl rfl)
theorem dX1_fits_8 : decode cX1_fits 8 = .ok (.iconst 1, 1) := dk_4 (dk_at dksX1_fits_0 8 rfl rfl)
theorem dX1_fits_9 : decode cX1_fits 9 = .ok (.iadd, 1) := dk_96 (dk_at dksX1_fits_0 9 rfl rfl)
theorem dX1_fits_10 : decode cX1_fits 10 = .ok (.aload_n 0, 1) := dk_42 (dk_at dksX1_fits_0 10 rfl rfl)
theorem dX1_fits_11 : decode cX1_fits 11 = .ok (.getfield 23, 3) := dk_180 0 23 (dk_at dksX1_fits_0 11 rfl rfl)
theorem dX1_fits_14 : decode cX1_fits 14 = .ok (.iload 4, 2) := dk_21 4 (dk_at dksX1_fits_0 14 rfl rfl)
theorem dX1_fits_16 : decode cX1_fits 16 = .ok (.iaload, 1) := dk_46 (dk_at dksX1_fits_0 16 rfl rfl)
theorem dX1_fits_17 : decode cX1_fits 17 = .ok (.if_icmp .ge 74, 3) := dk_162 0 74 (dk_at dksX1_fits_0 17 rfl rfl)
theorem dX1_fits_20 : decode cX1_fits 20 = .ok (.iload 5, 2) := dk_21 5 (dk_at dksX1_fits_0 20 rfl rfl)
theorem dX1_fits_22 : decode cX1_fits 22 = .ok (.ifCond .eq 60, 3) := dk_153 0 60 (dk_at dksX1_fits_1 0 rfl rfl)
theorem dX1_fits_25 : decode cX1_fits 25 = .ok (.iload_n 1, 1) := dk_27 (dk_at dksX1_fits_1 3 rfl rfl)
theorem dX1_fits_26 : decode cX1_fits 26 = .ok (.iload_n 2, 1) := dk_28 (dk_at dksX1_fits_1 4 rfl rfl)
theorem dX1_fits_27 : decode cX1_fits 27 = .ok (.iload_n 3, 1) := dk_29 (dk_at dksX1_fits_1 5 rfl rfl)
theorem dX1_fits_28 : decode cX1_fits 28 = .ok (.aload_n 0, 1) := dk_42 (dk_at dksX1_fits_1 6 rfl rfl)
theorem dX1_fits_29 : decode cX1_fits 29 = .ok (.getfield 7, 3) := dk_180 0 7 (dk_at dksX1_fits_1 7 rfl rfl)
theorem dX1_fits_32 : decode cX1_fits 32 = .ok (.bipush 70, 2) := dk_16 70 (dk_at dksX1_fits_1 10 rfl rfl)
theorem dX1_fits_34 : decode cX1_fits 34 = .ok (.iaload, 1) := dk_46 (dk_at dksX1_fits_1 12 rfl rfl)
theorem dX1_fits_35 : decode cX1_fits 35 = .ok (.aload_n 0, 1) := dk_42 (dk_at dksX1_fits_1 13 rfl rfl)
theorem dX1_fits_36 : decode cX1_fits 36 = .ok (.getfield 20, 3) := dk_180 0 20 (dk_at dksX1_fits_1 14 rfl rfl)
theorem dX1_fits_39 : decode cX1_fits 39 = .ok (.bipush 40, 2) := dk_16 40 (dk_at dksX1_fits_1 17 rfl rfl)
theorem dX1_fits_41 : decode cX1_fits 41 = .ok (.iload 4, 2) := dk_21 4 (dk_at dksX1_fits_1 19 rfl rfl)
theorem dX1_fits_43 : decode cX1_fits 43 = .ok (.imul, 1) := dk_104 (dk_at dksX1_fits_1 21 rfl rfl)
theorem dX1_fits_44 : decode cX1_fits 44 = .ok (.iload 6, 2) := dk_21 6 (dk_at dksX1_fits_1 22 rfl rfl)
theorem dX1_fits_46 : decode cX1_fits 46 = .ok (.iadd, 1) := dk_96 (dk_at dksX1_fits_2 0 rfl rfl)
theorem dX1_fits_47 : decode cX1_fits 47 = .ok (.iaload, 1) := dk_46 (dk_at dksX1_fits_2 1 rfl rfl)
theorem dX1_fits_48 : decode cX1_fits 48 = .ok (.invokestatic 127, 3) := dk_184 0 127 (dk_at dksX1_fits_2 2 rfl rfl)
theorem dX1_fits_51 : decode cX1_fits 51 = .ok (.aload_n 0, 1) := dk_42 (dk_at dksX1_fits_2 5 rfl rfl)
theorem dX1_fits_52 : decode cX1_fits 52 = .ok (.getfield 20, 3) := dk_180 0 20 (dk_at dksX1_fits_2 6 rfl rfl)
theorem dX1_fits_55 : decode cX1_fits 55 = .ok (.bipush 40, 2) := dk_16 40 (dk_at dksX1_fits_2 9 rfl rfl)
theorem dX1_fits_57 : decode cX1_fits 57 = .ok (.iload 4, 2) := dk_21 4 (dk_at dksX1_fits_2 11 rfl rfl)
theorem dX1_fits_59 : decode cX1_fits 59 = .ok (.imul, 1) := dk_104 (dk_at dksX1_fits_2 13 rfl rfl)
theorem dX1_fits_60 : decode cX1_fits 60 = .ok (.iload 6, 2) := dk_21 6 (dk_at dksX1_fits_2 14 rfl rfl)
theorem dX1_fits_62 : decode cX1_fits 62 = .ok (.iadd, 1) := dk_96 (dk_at dksX1_fits_2 16 rfl rfl)
theorem dX1_fits_63 : decode cX1_fits 63 = .ok (.iconst 1, 1) := dk_4 (dk_at dksX1_fits_2 17 rfl rfl)
theorem dX1_fits_64 : decode cX1_fits 64 = .ok (.iadd, 1) := dk_96 (dk_at dksX1_fits_2 18 rfl rfl)
theorem dX1_fits_65 : decode cX1_fits 65 = .ok (.iaload, 1) := dk_46 (dk_at dksX1_fits_2 19 rfl rfl)
theorem dX1_fits_66 : decode cX1_fits 66 = .ok (.iconst 1, 1) := dk_4 (dk_at dksX1_fits_2 20 rfl rfl)
theorem dX1_fits_67 : decode cX1_fits 67 = .ok (.if_icmp .ne 7, 3) := dk_160 0 7 (dk_at dksX1_fits_2 21 rfl rfl)
theorem dX1_fits_70 : decode cX1_fits 70 = .ok (.iconst 1, 1) := dk_4 (dk_at dksX1_fits_3 0 rfl rfl)
theorem dX1_fits_71 : decode cX1_fits 71 = .ok (.goto 4, 3) := dk_167 0 4 (dk_at dksX1_fits_3 1 rfl rfl)
theorem dX1_fits_74 : decode cX1_fits 74 = .ok (.iconst 0, 1) := dk_3 (dk_at dksX1_fits_3 4 rfl rfl)
theorem dX1_fits_75 : decode cX1_fits 75 = .ok (.if_icmp .ne 7, 3) := dk_160 0 7 (dk_at dksX1_fits_3 5 rfl rfl)
theorem dX1_fits_78 : decode cX1_fits 78 = .ok (.iconst 1, 1) := dk_4 (dk_at dksX1_fits_3 8 rfl rfl)
theorem dX1_fits_79 : decode cX1_fits 79 = .ok (.goto 4, 3) := dk_167 0 4 (dk_at dksX1_fits_3 9 rfl rfl)
theorem dX1_fits_82 : decode cX1_fits 82 = .ok (.iconst 0, 1) := dk_3 (dk_at dksX1_fits_3 12 rfl rfl)
theorem dX1_fits_83 : decode cX1_fits 83 = .ok (.istore 5, 2) := dk_54 5 (dk_at dksX1_fits_3 13 rfl rfl)
theorem dX1_fits_85 : decode cX1_fits 85 = .ok (.iinc 6 2, 3) := dk_132 6 2 (dk_at dksX1_fits_3 15 rfl rfl)
theorem dX1_fits_88 : decode cX1_fits 88 = .ok (.goto (-82), 3) := dk_167 255 174 (dk_at dksX1_fits_3 18 rfl rfl)
theorem dX1_fits_91 : decode cX1_fits 91 = .ok (.iload 5, 2) := dk_21 5 (dk_at dksX1_fits_3 21 rfl rfl)
theorem dX1_fits_93 : decode cX1_fits 93 = .ok (.ireturn, 1) := dk_172 (dk_at dksX1_fits_3 23 rfl rfl)
abbrev cX1_wides : ByteArray := prog_10_method_74_code
def yX1_wides : MethodName := ⟨RX1, "wides", "(II)I"⟩
def dkwX1_wides_3 : List UInt8 := [167, 255, 206, 21, 4, 172]
abbrev dktX1_wides_3 : List UInt8 := dkwX1_wides_3 ++ []
def dkwX1_wides_2 : List UInt8 := [21, 5, 28, 182, 0, 215, 153, 0, 10, 4, 21, 5, 120, 167, 0, 4, 3, 128, 54, 4, 132, 5, 1]
abbrev dktX1_wides_2 : List UInt8 := dkwX1_wides_2 ++ dktX1_wides_3
def dkwX1_wides_1 : List UInt8 := [162, 0, 49, 21, 4, 42, 42, 180, 0, 7, 5, 27, 96, 46, 42, 180, 0, 7, 16, 7, 27, 96, 46]
abbrev dktX1_wides_1 : List UInt8 := dkwX1_wides_1 ++ dktX1_wides_2
def dkwX1_wides_0 : List UInt8 := [42, 27, 28, 182, 0, 212, 62, 29, 153, 0, 5, 29, 172, 3, 54, 4, 3, 54, 5, 21, 5, 16, 10]
abbrev dktX1_wides_0 : List UInt8 := dkwX1_wides_0 ++ dktX1_wides_1
theorem dksX1_wides_0 : cX1_wides.data.toList.drop 0 = dktX1_wides_0 := by decide +kernel
theorem dksX1_wides_1 : cX1_wides.data.toList.drop 23 = dktX1_wides_1 := dk_seg dksX1_wides_0 23 rfl rfl
theorem dksX1_wides_2 : cX1_wides.data.toList.drop 46 = dktX1_wides_2 := dk_seg dksX1_wides_1 23 rfl rfl
theorem dksX1_wides_3 : cX1_wides.data.toList.drop 69 = dktX1_wides_3 := dk_seg dksX1_wides_2 23 rfl rfl
theorem dX1_wides_0 : decode cX1_wides 0 = .ok (.aload_n 0, 1) := dk_42 (dk_at dksX1_wides_0 0 rfl rfl)
theorem dX1_wides_1 : decode cX1_wides 1 = .ok (.iload_n 1, 1) := dk_27 (dk_at dksX1_wides_0 1 rfl rfl)
theorem dX1_wides_2 : decode cX1_wides 2 = .ok (.iload_n 2, 1) := dk_28 (dk_at dksX1_wides_0 2 rfl rfl)
theorem dX1_wides_3 : decode cX1_wides 3 = .ok (.invokevirtual 212, 3) := dk_182 0 212 (dk_at dksX1_wides_0 3 rfl rfl)
theorem dX1_wides_6 : decode cX1_wides 6 = .ok (.istore_n 3, 1) := dk_62 (dk_at dksX1_wides_0 6 rfl rfl)
theorem dX1_wides_7 : decode cX1_wides 7 = .ok (.iload_n 3, 1) := dk_29 (dk_at dksX1_wides_0 7 rfl rfl)
theorem dX1_wides_8 : decode cX1_wides 8 = .ok (.ifCond .eq 5, 3) := dk_153 0 5 (dk_at dksX1_wides_0 8 rfl rfl)
theorem dX1_wides_11 : decode cX1_wides 11 = .ok (.iload_n 3, 1) := dk_29 (dk_at dksX1_wides_0 11 rfl rfl)
theorem dX1_wides_12 : decode cX1_wides 12 = .ok (.ireturn, 1) := dk_172 (dk_at dksX1_wides_0 12 rfl rfl)
theorem dX1_wides_13 : decode cX1_wides 13 = .ok (.iconst 0, 1) := dk_3 (dk_at dksX1_wides_0 13 rfl rfl)
theorem dX1_wides_14 : decode cX1_wides 14 = .ok (.istore 4, 2) := dk_54 4 (dk_at dksX1_wides_0 14 rfl rfl)
theorem dX1_wides_16 : decode cX1_wides 16 = .ok (.iconst 0, 1) := dk_3 (dk_at dksX1_wides_0 16 rfl rfl)
theorem dX1_wides_17 : decode cX1_wides 17 = .ok (.istore 5, 2) := dk_54 5 (dk_at dksX1_wides_0 17 rfl rfl)
theorem dX1_wides_19 : decode cX1_wides 19 = .ok (.iload 5, 2) := dk_21 5 (dk_at dksX1_wides_0 19 rfl rfl)
theorem dX1_wides_21 : decode cX1_wides 21 = .ok (.bipush 10, 2) := dk_16 10 (dk_at dksX1_wides_0 21 rfl rfl)
theorem dX1_wides_23 : decode cX1_wides 23 = .ok (.if_icmp .ge 49, 3) := dk_162 0 49 (dk_at dksX1_wides_1 0 rfl rfl)
theorem dX1_wides_26 : decode cX1_wides 26 = .ok (.iload 4, 2) := dk_21 4 (dk_at dksX1_wides_1 3 rfl rfl)
theorem dX1_wides_28 : decode cX1_wides 28 = .ok (.aload_n 0, 1) := dk_42 (dk_at dksX1_wides_1 5 rfl rfl)
theorem dX1_wides_29 : decode cX1_wides 29 = .ok (.aload_n 0, 1) := dk_42 (dk_at dksX1_wides_1 6 rfl rfl)
theorem dX1_wides_30 : decode cX1_wides 30 = .ok (.getfield 7, 3) := dk_180 0 7 (dk_at dksX1_wides_1 7 rfl rfl)
theorem dX1_wides_33 : decode cX1_wides 33 = .ok (.iconst 2, 1) := dk_5 (dk_at dksX1_wides_1 10 rfl rfl)
theorem dX1_wides_34 : decode cX1_wides 34 = .ok (.iload_n 1, 1) := dk_27 (dk_at dksX1_wides_1 11 rfl rfl)
theorem dX1_wides_35 : decode cX1_wides 35 = .ok (.iadd, 1) := dk_96 (dk_at dksX1_wides_1 12 rfl rfl)
theorem dX1_wides_36 : decode cX1_wides 36 = .ok (.iaload, 1) := dk_46 (dk_at dksX1_wides_1 13 rfl rfl)
theorem dX1_wides_37 : decode cX1_wides 37 = .ok (.aload_n 0, 1) := dk_42 (dk_at dksX1_wides_1 14 rfl rfl)
theorem dX1_wides_38 : decode cX1_wides 38 = .ok (.getfield 7, 3) := dk_180 0 7 (dk_at dksX1_wides_1 15 rfl rfl)
theorem dX1_wides_41 : decode cX1_wides 41 = .ok (.bipush 7, 2) := dk_16 7 (dk_at dksX1_wides_1 18 rfl rfl)
theorem dX1_wides_43 : decode cX1_wides 43 = .ok (.iload_n 1, 1) := dk_27 (dk_at dksX1_wides_1 20 rfl rfl)
theorem dX1_wides_44 : decode cX1_wides 44 = .ok (.iadd, 1) := dk_96 (dk_at dksX1_wides_1 21 rfl rfl)
theorem dX1_wides_45 : decode cX1_wides 45 = .ok (.iaload, 1) := dk_46 (dk_at dksX1_wides_1 22 rfl rfl)
theorem dX1_wides_46 : decode cX1_wides 46 = .ok (.iload 5, 2) := dk_21 5 (dk_at dksX1_wides_2 0 rfl rfl)
theorem dX1_wides_48 : decode cX1_wides 48 = .ok (.iload_n 2, 1) := dk_28 (dk_at dksX1_wides_2 2 rfl rfl)
theorem dX1_wides_49 : decode cX1_wides 49 = .ok (.invokevirtual 215, 3) := dk_182 0 215 (dk_at dksX1_wides_2 3 rfl rfl)
theorem dX1_wides_52 : decode cX1_wides 52 = .ok (.ifCond .eq 10, 3) := dk_153 0 10 (dk_at dksX1_wides_2 6 rfl rfl)
theorem dX1_wides_55 : decode cX1_wides 55 = .ok (.iconst 1, 1) := dk_4 (dk_at dksX1_wides_2 9 rfl rfl)
theorem dX1_wides_56 : decode cX1_wides 56 = .ok (.iload 5, 2) := dk_21 5 (dk_at dksX1_wides_2 10 rfl rfl)
theorem dX1_wides_58 : decode cX1_wides 58 = .ok (.ishl, 1) := dk_120 (dk_at dksX1_wides_2 12 rfl rfl)
theorem dX1_wides_59 : decode cX1_wides 59 = .ok (.goto 4, 3) := dk_167 0 4 (dk_at dksX1_wides_2 13 rfl rfl)
theorem dX1_wides_62 : decode cX1_wides 62 = .ok (.iconst 0, 1) := dk_3 (dk_at dksX1_wides_2 16 rfl rfl)
theorem dX1_wides_63 : decode cX1_wides 63 = .ok (.ior, 1) := dk_128 (dk_at dksX1_wides_2 17 rfl rfl)
theorem dX1_wides_64 : decode cX1_wides 64 = .ok (.istore 4, 2) := dk_54 4 (dk_at dksX1_wides_2 18 rfl rfl)
theorem dX1_wides_66 : decode cX1_wides 66 = .ok (.iinc 5 1, 3) := dk_132 5 1 (dk_at dksX1_wides_2 20 rfl rfl)
theorem dX1_wides_69 : decode cX1_wides 69 = .ok (.goto (-50), 3) := dk_167 255 206 (dk_at dksX1_wides_3 0 rfl rfl)
theorem dX1_wides_72 : decode cX1_wides 72 = .ok (.iload 4, 2) := dk_21 4 (dk_at dksX1_wides_3 3 rfl rfl)
theorem dX1_wides_74 : decode cX1_wides 74 = .ok (.ireturn, 1) := dk_172 (dk_at dksX1_wides_3 5 rfl rfl)
abbrev cX1_kinds : ByteArray := prog_10_method_76_code
def yX1_kinds : MethodName := ⟨RX1, "kinds", "(II)I"⟩
def dkwX1_kinds_0 : List UInt8 := [42, 27, 28, 182, 0, 212, 62, 29, 153, 0, 7, 29, 167, 0, 9, 42, 27, 28, 182, 0, 219, 172]
abbrev dktX1_kinds_0 : List UInt8 := dkwX1_kinds_0 ++ []
theorem dksX1_kinds_0 : cX1_kinds.data.toList.drop 0 = dktX1_kinds_0 := by decide +kernel
theorem dX1_kinds_0 : decode cX1_kinds 0 = .ok (.aload_n 0, 1) := dk_42 (dk_at dksX1_kinds_0 0 rfl rfl)
theorem dX1_kinds_1 : decode cX1_kinds 1 = .ok (.iload_n 1, 1) := dk_27 (dk_at dksX1_kinds_0 1 rfl rfl)
theorem dX1_kinds_2 : decode cX1_kinds 2 = .ok (.iload_n 2, 1) := dk_28 (dk_at dksX1_kinds_0 2 rfl rfl)
theorem dX1_kinds_3 : decode cX1_kinds 3 = .ok (.invokevirtual 212, 3) := dk_182 0 212 (dk_at dksX1_kinds_0 3 rfl rfl)
theorem dX1_kinds_6 : decode cX1_kinds 6 = .ok (.istore_n 3, 1) := dk_62 (dk_at dksX1_kinds_0 6 rfl rfl)
theorem dX1_kinds_7 : decode cX1_kinds 7 = .ok (.iload_n 3, 1) := dk_29 (dk_at dksX1_kinds_0 7 rfl rfl)
theorem dX1_kinds_8 : decode cX1_kinds 8 = .ok (.ifCond .eq 7, 3) := dk_153 0 7 (dk_at dksX1_kinds_0 8 rfl rfl)
theorem dX1_kinds_11 : decode cX1_kinds 11 = .ok (.iload_n 3, 1) := dk_29 (dk_at dksX1_kinds_0 11 rfl rfl)
theorem dX1_kinds_12 : decode cX1_kinds 12 = .ok (.goto 9, 3) := dk_167 0 9 (dk_at dksX1_kinds_0 12 rfl rfl)
theorem dX1_kinds_15 : decode cX1_kinds 15 = .ok (.aload_n 0, 1) := dk_42 (dk_at dksX1_kinds_0 15 rfl rfl)
theorem dX1_kinds_16 : decode cX1_kinds 16 = .ok (.iload_n 1, 1) := dk_27 (dk_at dksX1_kinds_0 16 rfl rfl)
theorem dX1_kinds_17 : decode cX1_kinds 17 = .ok (.iload_n 2, 1) := dk_28 (dk_at dksX1_kinds_0 17 rfl rfl)
theorem dX1_kinds_18 : decode cX1_kinds 18 = .ok (.invokevirtual 219, 3) := dk_182 0 219 (dk_at dksX1_kinds_0 18 rfl rfl)
theorem dX1_kinds_21 : decode cX1_kinds 21 = .ok (.ireturn, 1) := dk_172 (dk_at dksX1_kinds_0 21 rfl rfl)
abbrev cX1_kindsOf : ByteArray := prog_10_method_75_code
def yX1_kindsOf : MethodName := ⟨RX1, "kindsOf", "(II)I"⟩
def dkwX1_kindsOf_2 : List UInt8 := [3, 128, 62, 132, 4, 1, 167, 255, 207, 29, 172]
abbrev dktX1_kindsOf_2 : List UInt8 := dkwX1_kindsOf_2 ++ []
def dkwX1_kindsOf_1 : List UInt8 := [46, 42, 180, 0, 7, 16, 12, 27, 96, 46, 28, 182, 0, 215, 153, 0, 10, 4, 21, 4, 120, 167, 0, 4]
abbrev dktX1_kindsOf_1 : List UInt8 := dkwX1_kindsOf_1 ++ dktX1_kindsOf_2
def dkwX1_kindsOf_0 : List UInt8 := [3, 62, 3, 54, 4, 21, 4, 16, 6, 162, 0, 48, 29, 42, 21, 4, 42, 180, 0, 7, 16, 7, 27, 96]
abbrev dktX1_kindsOf_0 : List UInt8 := dkwX1_kindsOf_0 ++ dktX1_kindsOf_1
theorem dksX1_kindsOf_0 : cX1_kindsOf.data.toList.drop 0 = dktX1_kindsOf_0 := by decide +kernel
theorem dksX1_kindsOf_1 : cX1_kindsOf.data.toList.drop 24 = dktX1_kindsOf_1 := dk_seg dksX1_kindsOf_0 24 rfl rfl
theorem dksX1_kindsOf_2 : cX1_kindsOf.data.toList.drop 48 = dktX1_kindsOf_2 := dk_seg dksX1_kindsOf_1 24 rfl rfl
theorem dX1_kindsOf_0 : decode cX1_kindsOf 0 = .ok (.iconst 0, 1) := dk_3 (dk_at dksX1_kindsOf_0 0 rfl rfl)
theorem dX1_kindsOf_1 : decode cX1_kindsOf 1 = .ok (.istore_n 3, 1) := dk_62 (dk_at dksX1_kindsOf_0 1 rfl rfl)
theorem dX1_kindsOf_2 : decode cX1_kindsOf 2 = .ok (.iconst 0, 1) := dk_3 (dk_at dksX1_kindsOf_0 2 rfl rfl)
theorem dX1_kindsOf_3 : decode cX1_kindsOf 3 = .ok (.istore 4, 2) := dk_54 4 (dk_at dksX1_kindsOf_0 3 rfl rfl)
theorem dX1_kindsOf_5 : decode cX1_kindsOf 5 = .ok (.iload 4, 2) := dk_21 4 (dk_at dksX1_kindsOf_0 5 rfl rfl)
theorem dX1_kindsOf_7 : decode cX1_kindsOf 7 = .ok (.bipush 6, 2) := dk_16 6 (dk_at dksX1_kindsOf_0 7 rfl rfl)
theorem dX1_kindsOf_9 : decode cX1_kindsOf 9 = .ok (.if_icmp .ge 48, 3) := dk_162 0 48 (dk_at dksX1_kindsOf_0 9 rfl rfl)
theorem dX1_kindsOf_12 : decode cX1_kindsOf 12 = .ok (.iload_n 3, 1) := dk_29 (dk_at dksX1_kindsOf_0 12 rfl rfl)
theorem dX1_kindsOf_13 : decode cX1_kindsOf 13 = .ok (.aload_n 0, 1) := dk_42 (dk_at dksX1_kindsOf_0 13 rfl rfl)
theorem dX1_kindsOf_14 : decode cX1_kindsOf 14 = .ok (.iload 4, 2) := dk_21 4 (dk_at dksX1_kindsOf_0 14 rfl rfl)
theorem dX1_kindsOf_16 : decode cX1_kindsOf 16 = .ok (.aload_n 0, 1) := dk_42 (dk_at dksX1_kindsOf_0 16 rfl rfl)
theorem dX1_kindsOf_17 : decode cX1_kindsOf 17 = .ok (.getfield 7, 3) := dk_180 0 7 (dk_at dksX1_kindsOf_0 17 rfl rfl)
theorem dX1_kindsOf_20 : decode cX1_kindsOf 20 = .ok (.bipush 7, 2) := dk_16 7 (dk_at dksX1_kindsOf_0 20 rfl rfl)
theorem dX1_kindsOf_22 : decode cX1_kindsOf 22 = .ok (.iload_n 1, 1) := dk_27 (dk_at dksX1_kindsOf_0 22 rfl rfl)
theorem dX1_kindsOf_23 : decode cX1_kindsOf 23 = .ok (.iadd, 1) := dk_96 (dk_at dksX1_kindsOf_0 23 rfl rfl)
theorem dX1_kindsOf_24 : decode cX1_kindsOf 24 = .ok (.iaload, 1) := dk_46 (dk_at dksX1_kindsOf_1 0 rfl rfl)
theorem dX1_kindsOf_25 : decode cX1_kindsOf 25 = .ok (.aload_n 0, 1) := dk_42 (dk_at dksX1_kindsOf_1 1 rfl rfl)
theorem dX1_kindsOf_26 : decode cX1_kindsOf 26 = .ok (.getfield 7, 3) := dk_180 0 7 (dk_at dksX1_kindsOf_1 2 rfl rfl)
theorem dX1_kindsOf_29 : decode cX1_kindsOf 29 = .ok (.bipush 12, 2) := dk_16 12 (dk_at dksX1_kindsOf_1 5 rfl rfl)
theorem dX1_kindsOf_31 : decode cX1_kindsOf 31 = .ok (.iload_n 1, 1) := dk_27 (dk_at dksX1_kindsOf_1 7 rfl rfl)
theorem dX1_kindsOf_32 : decode cX1_kindsOf 32 = .ok (.iadd, 1) := dk_96 (dk_at dksX1_kindsOf_1 8 rfl rfl)
theorem dX1_kindsOf_33 : decode cX1_kindsOf 33 = .ok (.iaload, 1) := dk_46 (dk_at dksX1_kindsOf_1 9 rfl rfl)
theorem dX1_kindsOf_34 : decode cX1_kindsOf 34 = .ok (.iload_n 2, 1) := dk_28 (dk_at dksX1_kindsOf_1 10 rfl rfl)
theorem dX1_kindsOf_35 : decode cX1_kindsOf 35 = .ok (.invokevirtual 215, 3) := dk_182 0 215 (dk_at dksX1_kindsOf_1 11 rfl rfl)
theorem dX1_kindsOf_38 : decode cX1_kindsOf 38 = .ok (.ifCond .eq 10, 3) := dk_153 0 10 (dk_at dksX1_kindsOf_1 14 rfl rfl)
theorem dX1_kindsOf_41 : decode cX1_kindsOf 41 = .ok (.iconst 1, 1) := dk_4 (dk_at dksX1_kindsOf_1 17 rfl rfl)
theorem dX1_kindsOf_42 : decode cX1_kindsOf 42 = .ok (.iload 4, 2) := dk_21 4 (dk_at dksX1_kindsOf_1 18 rfl rfl)
theorem dX1_kindsOf_44 : decode cX1_kindsOf 44 = .ok (.ishl, 1) := dk_120 (dk_at dksX1_kindsOf_1 20 rfl rfl)
theorem dX1_kindsOf_45 : decode cX1_kindsOf 45 = .ok (.goto 4, 3) := dk_167 0 4 (dk_at dksX1_kindsOf_1 21 rfl rfl)
theorem dX1_kindsOf_48 : decode cX1_kindsOf 48 = .ok (.iconst 0, 1) := dk_3 (dk_at dksX1_kindsOf_2 0 rfl rfl)
theorem dX1_kindsOf_49 : decode cX1_kindsOf 49 = .ok (.ior, 1) := dk_128 (dk_at dksX1_kindsOf_2 1 rfl rfl)
theorem dX1_kindsOf_50 : decode cX1_kindsOf 50 = .ok (.istore_n 3, 1) := dk_62 (dk_at dksX1_kindsOf_2 2 rfl rfl)
theorem dX1_kindsOf_51 : decode cX1_kindsOf 51 = .ok (.iinc 4 1, 3) := dk_132 4 1 (dk_at dksX1_kindsOf_2 3 rfl rfl)
theorem dX1_kindsOf_54 : decode cX1_kindsOf 54 = .ok (.goto (-49), 3) := dk_167 255 207 (dk_at dksX1_kindsOf_2 6 rfl rfl)
theorem dX1_kindsOf_57 : decode cX1_kindsOf 57 = .ok (.iload_n 3, 1) := dk_29 (dk_at dksX1_kindsOf_2 9 rfl rfl)
theorem dX1_kindsOf_58 : decode cX1_kindsOf 58 = .ok (.ireturn, 1) := dk_172 (dk_at dksX1_kindsOf_2 10 rfl rfl)
abbrev cX1_test : ByteArray := prog_10_method_77_code
def yX1_test : MethodName := ⟨RX1, "test", "(II)I"⟩
def dkwX1_test_8 : List UInt8 := [160, 0, 7, 3, 167, 0, 9, 42, 21, 6, 182, 0, 78, 54, 7, 21, 5, 172]
abbrev dktX1_test_8 : List UInt8 := dkwX1_test_8 ++ []
def dkwX1_test_7 : List UInt8 := [21, 6, 162, 0, 8, 21, 9, 167, 0, 5, 21, 6, 54, 6, 132, 7, 1, 167, 255, 107, 21, 5, 16, 247]
abbrev dktX1_test_7 : List UInt8 := dkwX1_test_7 ++ dktX1_test_8
def dkwX1_test_6 : List UInt8 := [21, 8, 100, 54, 9, 21, 9, 21, 6, 162, 0, 8, 21, 7, 167, 0, 5, 21, 5, 54, 5, 21, 9]
abbrev dktX1_test_6 : List UInt8 := dkwX1_test_6 ++ dktX1_test_7
def dkwX1_test_5 : List UInt8 := [21, 8, 21, 4, 184, 0, 145, 21, 8, 100, 164, 0, 8, 21, 8, 167, 0, 11, 21, 4, 184, 0, 145]
abbrev dktX1_test_5 : List UInt8 := dkwX1_test_5 ++ dktX1_test_6
def dkwX1_test_4 : List UInt8 := [46, 21, 7, 184, 0, 127, 153, 0, 7, 4, 167, 0, 4, 3, 96, 54, 8, 132, 9, 1, 167, 255, 191]
abbrev dktX1_test_4 : List UInt8 := dkwX1_test_4 ++ dktX1_test_5
def dkwX1_test_3 : List UInt8 := [42, 180, 0, 7, 16, 7, 27, 96, 46, 42, 180, 0, 7, 16, 12, 27, 96, 46, 42, 180, 0, 7, 16, 70]
abbrev dktX1_test_3 : List UInt8 := dkwX1_test_3 ++ dktX1_test_4
def dkwX1_test_2 : List UInt8 := [3, 54, 9, 21, 9, 16, 6, 162, 0, 64, 21, 8, 21, 4, 21, 9, 184, 0, 131, 153, 0, 42, 21, 9]
abbrev dktX1_test_2 : List UInt8 := dkwX1_test_2 ++ dktX1_test_3
def dkwX1_test_1 : List UInt8 := [54, 5, 18, 206, 54, 6, 3, 54, 7, 21, 7, 16, 100, 162, 0, 148, 21, 4, 153, 0, 143, 3, 54, 8]
abbrev dktX1_test_1 : List UInt8 := dkwX1_test_1 ++ dktX1_test_2
def dkwX1_test_0 : List UInt8 := [42, 27, 28, 182, 0, 212, 62, 29, 153, 0, 5, 29, 172, 42, 27, 28, 182, 0, 219, 54, 4, 16, 247]
abbrev dktX1_test_0 : List UInt8 := dkwX1_test_0 ++ dktX1_test_1
theorem dksX1_test_0 : cX1_test.data.toList.drop 0 = dktX1_test_0 := by decide +kernel
theorem dksX1_test_1 : cX1_test.data.toList.drop 23 = dktX1_test_1 := dk_seg dksX1_test_0 23 rfl rfl
theorem dksX1_test_2 : cX1_test.data.toList.drop 47 = dktX1_test_2 := dk_seg dksX1_test_1 24 rfl rfl
theorem dksX1_test_3 : cX1_test.data.toList.drop 71 = dktX1_test_3 := dk_seg dksX1_test_2 24 rfl rfl
theorem dksX1_test_4 : cX1_test.data.toList.drop 95 = dktX1_test_4 := dk_seg dksX1_test_3 24 rfl rfl
theorem dksX1_test_5 : cX1_test.data.toList.drop 118 = dktX1_test_5 := dk_seg dksX1_test_4 23 rfl rfl
theorem dksX1_test_6 : cX1_test.data.toList.drop 141 = dktX1_test_6 := dk_seg dksX1_test_5 23 rfl rfl
theorem dksX1_test_7 : cX1_test.data.toList.drop 164 = dktX1_test_7 := dk_seg dksX1_test_6 23 rfl rfl
theorem dksX1_test_8 : cX1_test.data.toList.drop 188 = dktX1_test_8 := dk_seg dksX1_test_7 24 rfl rfl
theorem dX1_test_0 : decode cX1_test 0 = .ok (.aload_n 0, 1) := dk_42 (dk_at dksX1_test_0 0 rfl rfl)
theorem dX1_test_1 : decode cX1_test 1 = .ok (.iload_n 1, 1) := dk_27 (dk_at dksX1_test_0 1 rfl rfl)
theorem dX1_test_2 : decode cX1_test 2 = .ok (.iload_n 2, 1) := dk_28 (dk_at dksX1_test_0 2 rfl rfl)
theorem dX1_test_3 : decode cX1_test 3 = .ok (.invokevirtual 212, 3) := dk_182 0 212 (dk_at dksX1_test_0 3 rfl rfl)
theorem dX1_test_6 : decode cX1_test 6 = .ok (.istore_n 3, 1) := dk_62 (dk_at dksX1_test_0 6 rfl rfl)
theorem dX1_test_7 : decode cX1_test 7 = .ok (.iload_n 3, 1) := dk_29 (dk_at dksX1_test_0 7 rfl rfl)
theorem dX1_test_8 : decode cX1_test 8 = .ok (.ifCond .eq 5, 3) := dk_153 0 5 (dk_at dksX1_test_0 8 rfl rfl)
theorem dX1_test_11 : decode cX1_test 11 = .ok (.iload_n 3, 1) := dk_29 (dk_at dksX1_test_0 11 rfl rfl)
theorem dX1_test_12 : decode cX1_test 12 = .ok (.ireturn, 1) := dk_172 (dk_at dksX1_test_0 12 rfl rfl)
theorem dX1_test_13 : decode cX1_test 13 = .ok (.aload_n 0, 1) := dk_42 (dk_at dksX1_test_0 13 rfl rfl)
theorem dX1_test_14 : decode cX1_test 14 = .ok (.iload_n 1, 1) := dk_27 (dk_at dksX1_test_0 14 rfl rfl)
theorem dX1_test_15 : decode cX1_test 15 = .ok (.iload_n 2, 1) := dk_28 (dk_at dksX1_test_0 15 rfl rfl)
theorem dX1_test_16 : decode cX1_test 16 = .ok (.invokevirtual 219, 3) := dk_182 0 219 (dk_at dksX1_test_0 16 rfl rfl)
theorem dX1_test_19 : decode cX1_test 19 = .ok (.istore 4, 2) := dk_54 4 (dk_at dksX1_test_0 19 rfl rfl)
theorem dX1_test_21 : decode cX1_test 21 = .ok (.bipush (-9), 2) := dk_16 247 (dk_at dksX1_test_0 21 rfl rfl)
theorem dX1_test_23 : decode cX1_test 23 = .ok (.istore 5, 2) := dk_54 5 (dk_at dksX1_test_1 0 rfl rfl)
theorem dX1_test_25 : decode cX1_test 25 = .ok (.ldc 206, 2) := dk_18 206 (dk_at dksX1_test_1 2 rfl rfl)
theorem dX1_test_27 : decode cX1_test 27 = .ok (.istore 6, 2) := dk_54 6 (dk_at dksX1_test_1 4 rfl rfl)
theorem dX1_test_29 : decode cX1_test 29 = .ok (.iconst 0, 1) := dk_3 (dk_at dksX1_test_1 6 rfl rfl)
theorem dX1_test_30 : decode cX1_test 30 = .ok (.istore 7, 2) := dk_54 7 (dk_at dksX1_test_1 7 rfl rfl)
theorem dX1_test_32 : decode cX1_test 32 = .ok (.iload 7, 2) := dk_21 7 (dk_at dksX1_test_1 9 rfl rfl)
theorem dX1_test_34 : decode cX1_test 34 = .ok (.bipush 100, 2) := dk_16 100 (dk_at dksX1_test_1 11 rfl rfl)
theorem dX1_test_36 : decode cX1_test 36 = .ok (.if_icmp .ge 148, 3) := dk_162 0 148 (dk_at dksX1_test_1 13 rfl rfl)
theorem dX1_test_39 : decode cX1_test 39 = .ok (.iload 4, 2) := dk_21 4 (dk_at dksX1_test_1 16 rfl rfl)
theorem dX1_test_41 : decode cX1_test 41 = .ok (.ifCond .eq 143, 3) := dk_153 0 143 (dk_at dksX1_test_1 18 rfl rfl)
theorem dX1_test_44 : decode cX1_test 44 = .ok (.iconst 0, 1) := dk_3 (dk_at dksX1_test_1 21 rfl rfl)
theorem dX1_test_45 : decode cX1_test 45 = .ok (.istore 8, 2) := dk_54 8 (dk_at dksX1_test_1 22 rfl rfl)
theorem dX1_test_47 : decode cX1_test 47 = .ok (.iconst 0, 1) := dk_3 (dk_at dksX1_test_2 0 rfl rfl)
theorem dX1_test_48 : decode cX1_test 48 = .ok (.istore 9, 2) := dk_54 9 (dk_at dksX1_test_2 1 rfl rfl)
theorem dX1_test_50 : decode cX1_test 50 = .ok (.iload 9, 2) := dk_21 9 (dk_at dksX1_test_2 3 rfl rfl)
theorem dX1_test_52 : decode cX1_test 52 = .ok (.bipush 6, 2) := dk_16 6 (dk_at dksX1_test_2 5 rfl rfl)
theorem dX1_test_54 : decode cX1_test 54 = .ok (.if_icmp .ge 64, 3) := dk_162 0 64 (dk_at dksX1_test_2 7 rfl rfl)
theorem dX1_test_57 : decode cX1_test 57 = .ok (.iload 8, 2) := dk_21 8 (dk_at dksX1_test_2 10 rfl rfl)
theorem dX1_test_59 : decode cX1_test 59 = .ok (.iload 4, 2) := dk_21 4 (dk_at dksX1_test_2 12 rfl rfl)
theorem dX1_test_61 : decode cX1_test 61 = .ok (.iload 9, 2) := dk_21 9 (dk_at dksX1_test_2 14 rfl rfl)
theorem dX1_test_63 : decode cX1_test 63 = .ok (.invokestatic 131, 3) := dk_184 0 131 (dk_at dksX1_test_2 16 rfl rfl)
theorem dX1_test_66 : decode cX1_test 66 = .ok (.ifCond .eq 42, 3) := dk_153 0 42 (dk_at dksX1_test_2 19 rfl rfl)
theorem dX1_test_69 : decode cX1_test 69 = .ok (.iload 9, 2) := dk_21 9 (dk_at dksX1_test_2 22 rfl rfl)
theorem dX1_test_71 : decode cX1_test 71 = .ok (.aload_n 0, 1) := dk_42 (dk_at dksX1_test_3 0 rfl rfl)
theorem dX1_test_72 : decode cX1_test 72 = .ok (.getfield 7, 3) := dk_180 0 7 (dk_at dksX1_test_3 1 rfl rfl)
theorem dX1_test_75 : decode cX1_test 75 = .ok (.bipush 7, 2) := dk_16 7 (dk_at dksX1_test_3 4 rfl rfl)
theorem dX1_test_77 : decode cX1_test 77 = .ok (.iload_n 1, 1) := dk_27 (dk_at dksX1_test_3 6 rfl rfl)
theorem dX1_test_78 : decode cX1_test 78 = .ok (.iadd, 1) := dk_96 (dk_at dksX1_test_3 7 rfl rfl)
theorem dX1_test_79 : decode cX1_test 79 = .ok (.iaload, 1) := dk_46 (dk_at dksX1_test_3 8 rfl rfl)
theorem dX1_test_80 : decode cX1_test 80 = .ok (.aload_n 0, 1) := dk_42 (dk_at dksX1_test_3 9 rfl rfl)
theorem dX1_test_81 : decode cX1_test 81 = .ok (.getfield 7, 3) := dk_180 0 7 (dk_at dksX1_test_3 10 rfl rfl)
theorem dX1_test_84 : decode cX1_test 84 = .ok (.bipush 12, 2) := dk_16 12 (dk_at dksX1_test_3 13 rfl rfl)
theorem dX1_test_86 : decode cX1_test 86 = .ok (.iload_n 1, 1) := dk_27 (dk_at dksX1_test_3 15 rfl rfl)
theorem dX1_test_87 : decode cX1_test 87 = .ok (.iadd, 1) := dk_96 (dk_at dksX1_test_3 16 rfl rfl)
theorem dX1_test_88 : decode cX1_test 88 = .ok (.iaload, 1) := dk_46 (dk_at dksX1_test_3 17 rfl rfl)
theorem dX1_test_89 : decode cX1_test 89 = .ok (.aload_n 0, 1) := dk_42 (dk_at dksX1_test_3 18 rfl rfl)
theorem dX1_test_90 : decode cX1_test 90 = .ok (.getfield 7, 3) := dk_180 0 7 (dk_at dksX1_test_3 19 rfl rfl)
theorem dX1_test_93 : decode cX1_test 93 = .ok (.bipush 70, 2) := dk_16 70 (dk_at dksX1_test_3 22 rfl rfl)
theorem dX1_test_95 : decode cX1_test 95 = .ok (.iaload, 1) := dk_46 (dk_at dksX1_test_4 0 rfl rfl)
theorem dX1_test_96 : decode cX1_test 96 = .ok (.iload 7, 2) := dk_21 7 (dk_at dksX1_test_4 1 rfl rfl)
theorem dX1_test_98 : decode cX1_test 98 = .ok (.invokestatic 127, 3) := dk_184 0 127 (dk_at dksX1_test_4 3 rfl rfl)
theorem dX1_test_101 : decode cX1_test 101 = .ok (.ifCond .eq 7, 3) := dk_153 0 7 (dk_at dksX1_test_4 6 rfl rfl)
theorem dX1_test_104 : decode cX1_test 104 = .ok (.iconst 1, 1) := dk_4 (dk_at dksX1_test_4 9 rfl rfl)
theorem dX1_test_105 : decode cX1_test 105 = .ok (.goto 4, 3) := dk_167 0 4 (dk_at dksX1_test_4 10 rfl rfl)
theorem dX1_test_108 : decode cX1_test 108 = .ok (.iconst 0, 1) := dk_3 (dk_at dksX1_test_4 13 rfl rfl)
theorem dX1_test_109 : decode cX1_test 109 = .ok (.iadd, 1) := dk_96 (dk_at dksX1_test_4 14 rfl rfl)
theorem dX1_test_110 : decode cX1_test 110 = .ok (.istore 8, 2) := dk_54 8 (dk_at dksX1_test_4 15 rfl rfl)
theorem dX1_test_112 : decode cX1_test 112 = .ok (.iinc 9 1, 3) := dk_132 9 1 (dk_at dksX1_test_4 17 rfl rfl)
theorem dX1_test_115 : decode cX1_test 115 = .ok (.goto (-65), 3) := dk_167 255 191 (dk_at dksX1_test_4 20 rfl rfl)
theorem dX1_test_118 : decode cX1_test 118 = .ok (.iload 8, 2) := dk_21 8 (dk_at dksX1_test_5 0 rfl rfl)
theorem dX1_test_120 : decode cX1_test 120 = .ok (.iload 4, 2) := dk_21 4 (dk_at dksX1_test_5 2 rfl rfl)
theorem dX1_test_122 : decode cX1_test 122 = .ok (.invokestatic 145, 3) := dk_184 0 145 (dk_at dksX1_test_5 4 rfl rfl)
theorem dX1_test_125 : decode cX1_test 125 = .ok (.iload 8, 2) := dk_21 8 (dk_at dksX1_test_5 7 rfl rfl)
theorem dX1_test_127 : decode cX1_test 127 = .ok (.isub, 1) := dk_100 (dk_at dksX1_test_5 9 rfl rfl)
theorem dX1_test_128 : decode cX1_test 128 = .ok (.if_icmp .le 8, 3) := dk_164 0 8 (dk_at dksX1_test_5 10 rfl rfl)
theorem dX1_test_131 : decode cX1_test 131 = .ok (.iload 8, 2) := dk_21 8 (dk_at dksX1_test_5 13 rfl rfl)
theorem dX1_test_133 : decode cX1_test 133 = .ok (.goto 11, 3) := dk_167 0 11 (dk_at dksX1_test_5 15 rfl rfl)
theorem dX1_test_136 : decode cX1_test 136 = .ok (.iload 4, 2) := dk_21 4 (dk_at dksX1_test_5 18 rfl rfl)
theorem dX1_test_138 : decode cX1_test 138 = .ok (.invokestatic 145, 3) := dk_184 0 145 (dk_at dksX1_test_5 20 rfl rfl)
theorem dX1_test_141 : decode cX1_test 141 = .ok (.iload 8, 2) := dk_21 8 (dk_at dksX1_test_6 0 rfl rfl)
theorem dX1_test_143 : decode cX1_test 143 = .ok (.isub, 1) := dk_100 (dk_at dksX1_test_6 2 rfl rfl)
theorem dX1_test_144 : decode cX1_test 144 = .ok (.istore 9, 2) := dk_54 9 (dk_at dksX1_test_6 3 rfl rfl)
theorem dX1_test_146 : decode cX1_test 146 = .ok (.iload 9, 2) := dk_21 9 (dk_at dksX1_test_6 5 rfl rfl)
theorem dX1_test_148 : decode cX1_test 148 = .ok (.iload 6, 2) := dk_21 6 (dk_at dksX1_test_6 7 rfl rfl)
theorem dX1_test_150 : decode cX1_test 150 = .ok (.if_icmp .ge 8, 3) := dk_162 0 8 (dk_at dksX1_test_6 9 rfl rfl)
theorem dX1_test_153 : decode cX1_test 153 = .ok (.iload 7, 2) := dk_21 7 (dk_at dksX1_test_6 12 rfl rfl)
theorem dX1_test_155 : decode cX1_test 155 = .ok (.goto 5, 3) := dk_167 0 5 (dk_at dksX1_test_6 14 rfl rfl)
theorem dX1_test_158 : decode cX1_test 158 = .ok (.iload 5, 2) := dk_21 5 (dk_at dksX1_test_6 17 rfl rfl)
theorem dX1_test_160 : decode cX1_test 160 = .ok (.istore 5, 2) := dk_54 5 (dk_at dksX1_test_6 19 rfl rfl)
theorem dX1_test_162 : decode cX1_test 162 = .ok (.iload 9, 2) := dk_21 9 (dk_at dksX1_test_6 21 rfl rfl)
theorem dX1_test_164 : decode cX1_test 164 = .ok (.iload 6, 2) := dk_21 6 (dk_at dksX1_test_7 0 rfl rfl)
theorem dX1_test_166 : decode cX1_test 166 = .ok (.if_icmp .ge 8, 3) := dk_162 0 8 (dk_at dksX1_test_7 2 rfl rfl)
theorem dX1_test_169 : decode cX1_test 169 = .ok (.iload 9, 2) := dk_21 9 (dk_at dksX1_test_7 5 rfl rfl)
theorem dX1_test_171 : decode cX1_test 171 = .ok (.goto 5, 3) := dk_167 0 5 (dk_at dksX1_test_7 7 rfl rfl)
theorem dX1_test_174 : decode cX1_test 174 = .ok (.iload 6, 2) := dk_21 6 (dk_at dksX1_test_7 10 rfl rfl)
theorem dX1_test_176 : decode cX1_test 176 = .ok (.istore 6, 2) := dk_54 6 (dk_at dksX1_test_7 12 rfl rfl)
theorem dX1_test_178 : decode cX1_test 178 = .ok (.iinc 7 1, 3) := dk_132 7 1 (dk_at dksX1_test_7 14 rfl rfl)
theorem dX1_test_181 : decode cX1_test 181 = .ok (.goto (-149), 3) := dk_167 255 107 (dk_at dksX1_test_7 17 rfl rfl)
theorem dX1_test_184 : decode cX1_test 184 = .ok (.iload 5, 2) := dk_21 5 (dk_at dksX1_test_7 20 rfl rfl)
theorem dX1_test_186 : decode cX1_test 186 = .ok (.bipush (-9), 2) := dk_16 247 (dk_at dksX1_test_7 22 rfl rfl)
theorem dX1_test_188 : decode cX1_test 188 = .ok (.if_icmp .ne 7, 3) := dk_160 0 7 (dk_at dksX1_test_8 0 rfl rfl)
theorem dX1_test_191 : decode cX1_test 191 = .ok (.iconst 0, 1) := dk_3 (dk_at dksX1_test_8 3 rfl rfl)
theorem dX1_test_192 : decode cX1_test 192 = .ok (.goto 9, 3) := dk_167 0 9 (dk_at dksX1_test_8 4 rfl rfl)
theorem dX1_test_195 : decode cX1_test 195 = .ok (.aload_n 0, 1) := dk_42 (dk_at dksX1_test_8 7 rfl rfl)
theorem dX1_test_196 : decode cX1_test 196 = .ok (.iload 6, 2) := dk_21 6 (dk_at dksX1_test_8 8 rfl rfl)
theorem dX1_test_198 : decode cX1_test 198 = .ok (.invokevirtual 78, 3) := dk_182 0 78 (dk_at dksX1_test_8 10 rfl rfl)
theorem dX1_test_201 : decode cX1_test 201 = .ok (.istore 7, 2) := dk_54 7 (dk_at dksX1_test_8 13 rfl rfl)
theorem dX1_test_203 : decode cX1_test 203 = .ok (.iload 5, 2) := dk_21 5 (dk_at dksX1_test_8 15 rfl rfl)
theorem dX1_test_205 : decode cX1_test 205 = .ok (.ireturn, 1) := dk_172 (dk_at dksX1_test_8 17 rfl rfl)
abbrev cX1_duel : ByteArray := prog_10_method_79_code
def yX1_duel : MethodName := ⟨RX1, "duel", "(I)I"⟩
def dkwX1_duel_3 : List UInt8 := [112, 182, 0, 224, 132, 2, 255, 167, 255, 242, 42, 180, 0, 45, 42, 180, 0, 7, 16, 71, 46, 46, 172]
abbrev dktX1_duel_3 : List UInt8 := dkwX1_duel_3 ++ []
def dkwX1_duel_2 : List UInt8 := [182, 0, 142, 184, 0, 145, 79, 132, 2, 1, 167, 255, 227, 27, 4, 100, 61, 28, 155, 0, 16, 42, 28, 5]
abbrev dktX1_duel_2 : List UInt8 := dkwX1_duel_2 ++ dktX1_duel_3
def dkwX1_duel_1 : List UInt8 := [16, 252, 172, 3, 61, 28, 4, 42, 180, 0, 7, 3, 46, 120, 162, 0, 23, 42, 180, 0, 45, 28, 42, 28]
abbrev dktX1_duel_1 : List UInt8 := dkwX1_duel_1 ++ dktX1_duel_2
def dkwX1_duel_0 : List UInt8 := [27, 133, 9, 20, 0, 222, 184, 0, 60, 154, 0, 5, 2, 172, 42, 180, 0, 7, 3, 46, 154, 0, 6]
abbrev dktX1_duel_0 : List UInt8 := dkwX1_duel_0 ++ dktX1_duel_1
theorem dksX1_duel_0 : cX1_duel.data.toList.drop 0 = dktX1_duel_0 := by decide +kernel
theorem dksX1_duel_1 : cX1_duel.data.toList.drop 23 = dktX1_duel_1 := dk_seg dksX1_duel_0 23 rfl rfl
theorem dksX1_duel_2 : cX1_duel.data.toList.drop 47 = dktX1_duel_2 := dk_seg dksX1_duel_1 24 rfl rfl
theorem dksX1_duel_3 : cX1_duel.data.toList.drop 71 = dktX1_duel_3 := dk_seg dksX1_duel_2 24 rfl rfl
theorem dX1_duel_0 : decode cX1_duel 0 = .ok (.iload_n 1, 1) := dk_27 (dk_at dksX1_duel_0 0 rfl rfl)
theorem dX1_duel_1 : decode cX1_duel 1 = .ok (.i2l, 1) := dk_133 (dk_at dksX1_duel_0 1 rfl rfl)
theorem dX1_duel_2 : decode cX1_duel 2 = .ok (.lconst 0, 1) := dk_9 (dk_at dksX1_duel_0 2 rfl rfl)
theorem dX1_duel_3 : decode cX1_duel 3 = .ok (.ldc2_w 222, 3) := dk_20 0 222 (dk_at dksX1_duel_0 3 rfl rfl)
theorem dX1_duel_6 : decode cX1_duel 6 = .ok (.invokestatic 60, 3) := dk_184 0 60 (dk_at dksX1_duel_0 6 rfl rfl)
theorem dX1_duel_9 : decode cX1_duel 9 = .ok (.ifCond .ne 5, 3) := dk_154 0 5 (dk_at dksX1_duel_0 9 rfl rfl)
theorem dX1_duel_12 : decode cX1_duel 12 = .ok (.iconst (-1), 1) := dk_2 (dk_at dksX1_duel_0 12 rfl rfl)
theorem dX1_duel_13 : decode cX1_duel 13 = .ok (.ireturn, 1) := dk_172 (dk_at dksX1_duel_0 13 rfl rfl)
theorem dX1_duel_14 : decode cX1_duel 14 = .ok (.aload_n 0, 1) := dk_42 (dk_at dksX1_duel_0 14 rfl rfl)
theorem dX1_duel_15 : decode cX1_duel 15 = .ok (.getfield 7, 3) := dk_180 0 7 (dk_at dksX1_duel_0 15 rfl rfl)
theorem dX1_duel_18 : decode cX1_duel 18 = .ok (.iconst 0, 1) := dk_3 (dk_at dksX1_duel_0 18 rfl rfl)
theorem dX1_duel_19 : decode cX1_duel 19 = .ok (.iaload, 1) := dk_46 (dk_at dksX1_duel_0 19 rfl rfl)
theorem dX1_duel_20 : decode cX1_duel 20 = .ok (.ifCond .ne 6, 3) := dk_154 0 6 (dk_at dksX1_duel_0 20 rfl rfl)
theorem dX1_duel_23 : decode cX1_duel 23 = .ok (.bipush (-4), 2) := dk_16 252 (dk_at dksX1_duel_1 0 rfl rfl)
theorem dX1_duel_25 : decode cX1_duel 25 = .ok (.ireturn, 1) := dk_172 (dk_at dksX1_duel_1 2 rfl rfl)
theorem dX1_duel_26 : decode cX1_duel 26 = .ok (.iconst 0, 1) := dk_3 (dk_at dksX1_duel_1 3 rfl rfl)
theorem dX1_duel_27 : decode cX1_duel 27 = .ok (.istore_n 2, 1) := dk_61 (dk_at dksX1_duel_1 4 rfl rfl)
theorem dX1_duel_28 : decode cX1_duel 28 = .ok (.iload_n 2, 1) := dk_28 (dk_at dksX1_duel_1 5 rfl rfl)
theorem dX1_duel_29 : decode cX1_duel 29 = .ok (.iconst 1, 1) := dk_4 (dk_at dksX1_duel_1 6 rfl rfl)
theorem dX1_duel_30 : decode cX1_duel 30 = .ok (.aload_n 0, 1) := dk_42 (dk_at dksX1_duel_1 7 rfl rfl)
theorem dX1_duel_31 : decode cX1_duel 31 = .ok (.getfield 7, 3) := dk_180 0 7 (dk_at dksX1_duel_1 8 rfl rfl)
theorem dX1_duel_34 : decode cX1_duel 34 = .ok (.iconst 0, 1) := dk_3 (dk_at dksX1_duel_1 11 rfl rfl)
theorem dX1_duel_35 : decode cX1_duel 35 = .ok (.iaload, 1) := dk_46 (dk_at dksX1_duel_1 12 rfl rfl)
theorem dX1_duel_36 : decode cX1_duel 36 = .ok (.ishl, 1) := dk_120 (dk_at dksX1_duel_1 13 rfl rfl)
theorem dX1_duel_37 : decode cX1_duel 37 = .ok (.if_icmp .ge 23, 3) := dk_162 0 23 (dk_at dksX1_duel_1 14 rfl rfl)
theorem dX1_duel_40 : decode cX1_duel 40 = .ok (.aload_n 0, 1) := dk_42 (dk_at dksX1_duel_1 17 rfl rfl)
theorem dX1_duel_41 : decode cX1_duel 41 = .ok (.getfield 45, 3) := dk_180 0 45 (dk_at dksX1_duel_1 18 rfl rfl)
theorem dX1_duel_44 : decode cX1_duel 44 = .ok (.iload_n 2, 1) := dk_28 (dk_at dksX1_duel_1 21 rfl rfl)
theorem dX1_duel_45 : decode cX1_duel 45 = .ok (.aload_n 0, 1) := dk_42 (dk_at dksX1_duel_1 22 rfl rfl)
theorem dX1_duel_46 : decode cX1_duel 46 = .ok (.iload_n 2, 1) := dk_28 (dk_at dksX1_duel_1 23 rfl rfl)
theorem dX1_duel_47 : decode cX1_duel 47 = .ok (.invokevirtual 142, 3) := dk_182 0 142 (dk_at dksX1_duel_2 0 rfl rfl)
theorem dX1_duel_50 : decode cX1_duel 50 = .ok (.invokestatic 145, 3) := dk_184 0 145 (dk_at dksX1_duel_2 3 rfl rfl)
theorem dX1_duel_53 : decode cX1_duel 53 = .ok (.iastore, 1) := dk_79 (dk_at dksX1_duel_2 6 rfl rfl)
theorem dX1_duel_54 : decode cX1_duel 54 = .ok (.iinc 2 1, 3) := dk_132 2 1 (dk_at dksX1_duel_2 7 rfl rfl)
theorem dX1_duel_57 : decode cX1_duel 57 = .ok (.goto (-29), 3) := dk_167 255 227 (dk_at dksX1_duel_2 10 rfl rfl)
theorem dX1_duel_60 : decode cX1_duel 60 = .ok (.iload_n 1, 1) := dk_27 (dk_at dksX1_duel_2 13 rfl rfl)
theorem dX1_duel_61 : decode cX1_duel 61 = .ok (.iconst 1, 1) := dk_4 (dk_at dksX1_duel_2 14 rfl rfl)
theorem dX1_duel_62 : decode cX1_duel 62 = .ok (.isub, 1) := dk_100 (dk_at dksX1_duel_2 15 rfl rfl)
theorem dX1_duel_63 : decode cX1_duel 63 = .ok (.istore_n 2, 1) := dk_61 (dk_at dksX1_duel_2 16 rfl rfl)
theorem dX1_duel_64 : decode cX1_duel 64 = .ok (.iload_n 2, 1) := dk_28 (dk_at dksX1_duel_2 17 rfl rfl)
theorem dX1_duel_65 : decode cX1_duel 65 = .ok (.ifCond .lt 16, 3) := dk_155 0 16 (dk_at dksX1_duel_2 18 rfl rfl)
theorem dX1_duel_68 : decode cX1_duel 68 = .ok (.aload_n 0, 1) := dk_42 (dk_at dksX1_duel_2 21 rfl rfl)
theorem dX1_duel_69 : decode cX1_duel 69 = .ok (.iload_n 2, 1) := dk_28 (dk_at dksX1_duel_2 22 rfl rfl)
theorem dX1_duel_70 : decode cX1_duel 70 = .ok (.iconst 2, 1) := dk_5 (dk_at dksX1_duel_2 23 rfl rfl)
theorem dX1_duel_71 : decode cX1_duel 71 = .ok (.irem, 1) := dk_112 (dk_at dksX1_duel_3 0 rfl rfl)
theorem dX1_duel_72 : decode cX1_duel 72 = .ok (.invokevirtual 224, 3) := dk_182 0 224 (dk_at dksX1_duel_3 1 rfl rfl)
theorem dX1_duel_75 : decode cX1_duel 75 = .ok (.iinc 2 (-1), 3) := dk_132 2 255 (dk_at dksX1_duel_3 4 rfl rfl)
theorem dX1_duel_78 : decode cX1_duel 78 = .ok (.goto (-14), 3) := dk_167 255 242 (dk_at dksX1_duel_3 7 rfl rfl)
theorem dX1_duel_81 : decode cX1_duel 81 = .ok (.aload_n 0, 1) := dk_42 (dk_at dksX1_duel_3 10 rfl rfl)
theorem dX1_duel_82 : decode cX1_duel 82 = .ok (.getfield 45, 3) := dk_180 0 45 (dk_at dksX1_duel_3 11 rfl rfl)
theorem dX1_duel_85 : decode cX1_duel 85 = .ok (.aload_n 0, 1) := dk_42 (dk_at dksX1_duel_3 14 rfl rfl)
theorem dX1_duel_86 : decode cX1_duel 86 = .ok (.getfield 7, 3) := dk_180 0 7 (dk_at dksX1_duel_3 15 rfl rfl)
theorem dX1_duel_89 : decode cX1_duel 89 = .ok (.bipush 71, 2) := dk_16 71 (dk_at dksX1_duel_3 18 rfl rfl)
theorem dX1_duel_91 : decode cX1_duel 91 = .ok (.iaload, 1) := dk_46 (dk_at dksX1_duel_3 20 rfl rfl)
theorem dX1_duel_92 : decode cX1_duel 92 = .ok (.iaload, 1) := dk_46 (dk_at dksX1_duel_3 21 rfl rfl)
theorem dX1_duel_93 : decode cX1_duel 93 = .ok (.ireturn, 1) := dk_172 (dk_at dksX1_duel_3 22 rfl rfl)
abbrev cX1_goTurn : ByteArray := prog_10_method_78_code
def yX1_goTurn : MethodName := ⟨RX1, "goTurn", "(I)V"⟩
def dkwX1_goTurn_6 : List UInt8 := [28, 42, 180, 0, 48, 28, 46, 79, 132, 2, 1, 167, 255, 229, 177]
abbrev dktX1_goTurn_6 : List UInt8 := dkwX1_goTurn_6 ++ []
def dkwX1_goTurn_5 : List UInt8 := [132, 2, 1, 167, 255, 138, 3, 61, 28, 4, 42, 180, 0, 7, 3, 46, 120, 162, 0, 21, 42, 180, 0, 45]
abbrev dktX1_goTurn_5 : List UInt8 := dkwX1_goTurn_5 ++ dktX1_goTurn_6
def dkwX1_goTurn_4 : List UInt8 := [164, 0, 8, 21, 5, 167, 0, 4, 29, 62, 132, 4, 1, 167, 255, 173, 42, 180, 0, 48, 28, 29, 79]
abbrev dktX1_goTurn_4 : List UInt8 := dkwX1_goTurn_4 ++ dktX1_goTurn_5
def dkwX1_goTurn_3 : List UInt8 := [54, 6, 21, 6, 153, 0, 27, 27, 154, 0, 12, 21, 5, 29, 162, 0, 17, 167, 0, 9, 21, 5, 29]
abbrev dktX1_goTurn_3 : List UInt8 := dkwX1_goTurn_3 ++ dktX1_goTurn_4
def dkwX1_goTurn_2 : List UInt8 := [28, 21, 4, 184, 0, 131, 27, 154, 0, 7, 4, 167, 0, 4, 3, 160, 0, 7, 4, 167, 0, 4, 3]
abbrev dktX1_goTurn_2 : List UInt8 := dkwX1_goTurn_2 ++ dktX1_goTurn_3
def dkwX1_goTurn_1 : List UInt8 := [21, 4, 42, 180, 0, 7, 3, 46, 162, 0, 78, 42, 180, 0, 45, 28, 4, 21, 4, 120, 130, 46, 54, 5]
abbrev dktX1_goTurn_1 : List UInt8 := dkwX1_goTurn_1 ++ dktX1_goTurn_2
def dkwX1_goTurn_0 : List UInt8 := [3, 61, 28, 4, 42, 180, 0, 7, 3, 46, 120, 162, 0, 112, 42, 180, 0, 45, 28, 46, 62, 3, 54, 4]
abbrev dktX1_goTurn_0 : List UInt8 := dkwX1_goTurn_0 ++ dktX1_goTurn_1
theorem dksX1_goTurn_0 : cX1_goTurn.data.toList.drop 0 = dktX1_goTurn_0 := by decide +kernel
theorem dksX1_goTurn_1 : cX1_goTurn.data.toList.drop 24 = dktX1_goTurn_1 := dk_seg dksX1_goTurn_0 24 rfl rfl
theorem dksX1_goTurn_2 : cX1_goTurn.data.toList.drop 48 = dktX1_goTurn_2 := dk_seg dksX1_goTurn_1 24 rfl rfl
theorem dksX1_goTurn_3 : cX1_goTurn.data.toList.drop 71 = dktX1_goTurn_3 := dk_seg dksX1_goTurn_2 23 rfl rfl
theorem dksX1_goTurn_4 : cX1_goTurn.data.toList.drop 94 = dktX1_goTurn_4 := dk_seg dksX1_goTurn_3 23 rfl rfl
theorem dksX1_goTurn_5 : cX1_goTurn.data.toList.drop 117 = dktX1_goTurn_5 := dk_seg dksX1_goTurn_4 23 rfl rfl
theorem dksX1_goTurn_6 : cX1_goTurn.data.toList.drop 141 = dktX1_goTurn_6 := dk_seg dksX1_goTurn_5 24 rfl rfl
theorem dX1_goTurn_0 : decode cX1_goTurn 0 = .ok (.iconst 0, 1) := dk_3 (dk_at dksX1_goTurn_0 0 rfl rfl)
theorem dX1_goTurn_1 : decode cX1_goTurn 1 = .ok (.istore_n 2, 1) := dk_61 (dk_at dksX1_goTurn_0 1 rfl rfl)
theorem dX1_goTurn_2 : decode cX1_goTurn 2 = .ok (.iload_n 2, 1) := dk_28 (dk_at dksX1_goTurn_0 2 rfl rfl)
theorem dX1_goTurn_3 : decode cX1_goTurn 3 = .ok (.iconst 1, 1) := dk_4 (dk_at dksX1_goTurn_0 3 rfl rfl)
theorem dX1_goTurn_4 : decode cX1_goTurn 4 = .ok (.aload_n 0, 1) := dk_42 (dk_at dksX1_goTurn_0 4 rfl rfl)
theorem dX1_goTurn_5 : decode cX1_goTurn 5 = .ok (.getfield 7, 3) := dk_180 0 7 (dk_at dksX1_goTurn_0 5 rfl rfl)
theorem dX1_goTurn_8 : decode cX1_goTurn 8 = .ok (.iconst 0, 1) := dk_3 (dk_at dksX1_goTurn_0 8 rfl rfl)
theorem dX1_goTurn_9 : decode cX1_goTurn 9 = .ok (.iaload, 1) := dk_46 (dk_at dksX1_goTurn_0 9 rfl rfl)
theorem dX1_goTurn_10 : decode cX1_goTurn 10 = .ok (.ishl, 1) := dk_120 (dk_at dksX1_goTurn_0 10 rfl rfl)
theorem dX1_goTurn_11 : decode cX1_goTurn 11 = .ok (.if_icmp .ge 112, 3) := dk_162 0 112 (dk_at dksX1_goTurn_0 11 rfl rfl)
theorem dX1_goTurn_14 : decode cX1_goTurn 14 = .ok (.aload_n 0, 1) := dk_42 (dk_at dksX1_goTurn_0 14 rfl rfl)
theorem dX1_goTurn_15 : decode cX1_goTurn 15 = .ok (.getfield 45, 3) := dk_180 0 45 (dk_at dksX1_goTurn_0 15 rfl rfl)
theorem dX1_goTurn_18 : decode cX1_goTurn 18 = .ok (.iload_n 2, 1) := dk_28 (dk_at dksX1_goTurn_0 18 rfl rfl)
theorem dX1_goTurn_19 : decode cX1_goTurn 19 = .ok (.iaload, 1) := dk_46 (dk_at dksX1_goTurn_0 19 rfl rfl)
theorem dX1_goTurn_20 : decode cX1_goTurn 20 = .ok (.istore_n 3, 1) := dk_62 (dk_at dksX1_goTurn_0 20 rfl rfl)
theorem dX1_goTurn_21 : decode cX1_goTurn 21 = .ok (.iconst 0, 1) := dk_3 (dk_at dksX1_goTurn_0 21 rfl rfl)
theorem dX1_goTurn_22 : decode cX1_goTurn 22 = .ok (.istore 4, 2) := dk_54 4 (dk_at dksX1_goTurn_0 22 rfl rfl)
theorem dX1_goTurn_24 : decode cX1_goTurn 24 = .ok (.iload 4, 2) := dk_21 4 (dk_at dksX1_goTurn_1 0 rfl rfl)
theorem dX1_goTurn_26 : decode cX1_goTurn 26 = .ok (.aload_n 0, 1) := dk_42 (dk_at dksX1_goTurn_1 2 rfl rfl)
theorem dX1_goTurn_27 : decode cX1_goTurn 27 = .ok (.getfield 7, 3) := dk_180 0 7 (dk_at dksX1_goTurn_1 3 rfl rfl)
theorem dX1_goTurn_30 : decode cX1_goTurn 30 = .ok (.iconst 0, 1) := dk_3 (dk_at dksX1_goTurn_1 6 rfl rfl)
theorem dX1_goTurn_31 : decode cX1_goTurn 31 = .ok (.iaload, 1) := dk_46 (dk_at dksX1_goTurn_1 7 rfl rfl)
theorem dX1_goTurn_32 : decode cX1_goTurn 32 = .ok (.if_icmp .ge 78, 3) := dk_162 0 78 (dk_at dksX1_goTurn_1 8 rfl rfl)
theorem dX1_goTurn_35 : decode cX1_goTurn 35 = .ok (.aload_n 0, 1) := dk_42 (dk_at dksX1_goTurn_1 11 rfl rfl)
theorem dX1_goTurn_36 : decode cX1_goTurn 36 = .ok (.getfield 45, 3) := dk_180 0 45 (dk_at dksX1_goTurn_1 12 rfl rfl)
theorem dX1_goTurn_39 : decode cX1_goTurn 39 = .ok (.iload_n 2, 1) := dk_28 (dk_at dksX1_goTurn_1 15 rfl rfl)
theorem dX1_goTurn_40 : decode cX1_goTurn 40 = .ok (.iconst 1, 1) := dk_4 (dk_at dksX1_goTurn_1 16 rfl rfl)
theorem dX1_goTurn_41 : decode cX1_goTurn 41 = .ok (.iload 4, 2) := dk_21 4 (dk_at dksX1_goTurn_1 17 rfl rfl)
theorem dX1_goTurn_43 : decode cX1_goTurn 43 = .ok (.ishl, 1) := dk_120 (dk_at dksX1_goTurn_1 19 rfl rfl)
theorem dX1_goTurn_44 : decode cX1_goTurn 44 = .ok (.ixor, 1) := dk_130 (dk_at dksX1_goTurn_1 20 rfl rfl)
theorem dX1_goTurn_45 : decode cX1_goTurn 45 = .ok (.iaload, 1) := dk_46 (dk_at dksX1_goTurn_1 21 rfl rfl)
theorem dX1_goTurn_46 : decode cX1_goTurn 46 = .ok (.istore 5, 2) := dk_54 5 (dk_at dksX1_goTurn_1 22 rfl rfl)
theorem dX1_goTurn_48 : decode cX1_goTurn 48 = .ok (.iload_n 2, 1) := dk_28 (dk_at dksX1_goTurn_2 0 rfl rfl)
theorem dX1_goTurn_49 : decode cX1_goTurn 49 = .ok (.iload 4, 2) := dk_21 4 (dk_at dksX1_goTurn_2 1 rfl rfl)
theorem dX1_goTurn_51 : decode cX1_goTurn 51 = .ok (.invokestatic 131, 3) := dk_184 0 131 (dk_at dksX1_goTurn_2 3 rfl rfl)
theorem dX1_goTurn_54 : decode cX1_goTurn 54 = .ok (.iload_n 1, 1) := dk_27 (dk_at dksX1_goTurn_2 6 rfl rfl)
theorem dX1_goTurn_55 : decode cX1_goTurn 55 = .ok (.ifCond .ne 7, 3) := dk_154 0 7 (dk_at dksX1_goTurn_2 7 rfl rfl)
theorem dX1_goTurn_58 : decode cX1_goTurn 58 = .ok (.iconst 1, 1) := dk_4 (dk_at dksX1_goTurn_2 10 rfl rfl)
theorem dX1_goTurn_59 : decode cX1_goTurn 59 = .ok (.goto 4, 3) := dk_167 0 4 (dk_at dksX1_goTurn_2 11 rfl rfl)
theorem dX1_goTurn_62 : decode cX1_goTurn 62 = .ok (.iconst 0, 1) := dk_3 (dk_at dksX1_goTurn_2 14 rfl rfl)
theorem dX1_goTurn_63 : decode cX1_goTurn 63 = .ok (.if_icmp .ne 7, 3) := dk_160 0 7 (dk_at dksX1_goTurn_2 15 rfl rfl)
theorem dX1_goTurn_66 : decode cX1_goTurn 66 = .ok (.iconst 1, 1) := dk_4 (dk_at dksX1_goTurn_2 18 rfl rfl)
theorem dX1_goTurn_67 : decode cX1_goTurn 67 = .ok (.goto 4, 3) := dk_167 0 4 (dk_at dksX1_goTurn_2 19 rfl rfl)
theorem dX1_goTurn_70 : decode cX1_goTurn 70 = .ok (.iconst 0, 1) := dk_3 (dk_at dksX1_goTurn_2 22 rfl rfl)
theorem dX1_goTurn_71 : decode cX1_goTurn 71 = .ok (.istore 6, 2) := dk_54 6 (dk_at dksX1_goTurn_3 0 rfl rfl)
theorem dX1_goTurn_73 : decode cX1_goTurn 73 = .ok (.iload 6, 2) := dk_21 6 (dk_at dksX1_goTurn_3 2 rfl rfl)
theorem dX1_goTurn_75 : decode cX1_goTurn 75 = .ok (.ifCond .eq 27, 3) := dk_153 0 27 (dk_at dksX1_goTurn_3 4 rfl rfl)
theorem dX1_goTurn_78 : decode cX1_goTurn 78 = .ok (.iload_n 1, 1) := dk_27 (dk_at dksX1_goTurn_3 7 rfl rfl)
theorem dX1_goTurn_79 : decode cX1_goTurn 79 = .ok (.ifCond .ne 12, 3) := dk_154 0 12 (dk_at dksX1_goTurn_3 8 rfl rfl)
theorem dX1_goTurn_82 : decode cX1_goTurn 82 = .ok (.iload 5, 2) := dk_21 5 (dk_at dksX1_goTurn_3 11 rfl rfl)
theorem dX1_goTurn_84 : decode cX1_goTurn 84 = .ok (.iload_n 3, 1) := dk_29 (dk_at dksX1_goTurn_3 13 rfl rfl)
theorem dX1_goTurn_85 : decode cX1_goTurn 85 = .ok (.if_icmp .ge 17, 3) := dk_162 0 17 (dk_at dksX1_goTurn_3 14 rfl rfl)
theorem dX1_goTurn_88 : decode cX1_goTurn 88 = .ok (.goto 9, 3) := dk_167 0 9 (dk_at dksX1_goTurn_3 17 rfl rfl)
theorem dX1_goTurn_91 : decode cX1_goTurn 91 = .ok (.iload 5, 2) := dk_21 5 (dk_at dksX1_goTurn_3 20 rfl rfl)
theorem dX1_goTurn_93 : decode cX1_goTurn 93 = .ok (.iload_n 3, 1) := dk_29 (dk_at dksX1_goTurn_3 22 rfl rfl)
theorem dX1_goTurn_94 : decode cX1_goTurn 94 = .ok (.if_icmp .le 8, 3) := dk_164 0 8 (dk_at dksX1_goTurn_4 0 rfl rfl)
theorem dX1_goTurn_97 : decode cX1_goTurn 97 = .ok (.iload 5, 2) := dk_21 5 (dk_at dksX1_goTurn_4 3 rfl rfl)
theorem dX1_goTurn_99 : decode cX1_goTurn 99 = .ok (.goto 4, 3) := dk_167 0 4 (dk_at dksX1_goTurn_4 5 rfl rfl)
theorem dX1_goTurn_102 : decode cX1_goTurn 102 = .ok (.iload_n 3, 1) := dk_29 (dk_at dksX1_goTurn_4 8 rfl rfl)
theorem dX1_goTurn_103 : decode cX1_goTurn 103 = .ok (.istore_n 3, 1) := dk_62 (dk_at dksX1_goTurn_4 9 rfl rfl)
theorem dX1_goTurn_104 : decode cX1_goTurn 104 = .ok (.iinc 4 1, 3) := dk_132 4 1 (dk_at dksX1_goTurn_4 10 rfl rfl)
theorem dX1_goTurn_107 : decode cX1_goTurn 107 = .ok (.goto (-83), 3) := dk_167 255 173 (dk_at dksX1_goTurn_4 13 rfl rfl)
theorem dX1_goTurn_110 : decode cX1_goTurn 110 = .ok (.aload_n 0, 1) := dk_42 (dk_at dksX1_goTurn_4 16 rfl rfl)
theorem dX1_goTurn_111 : decode cX1_goTurn 111 = .ok (.getfield 48, 3) := dk_180 0 48 (dk_at dksX1_goTurn_4 17 rfl rfl)
theorem dX1_goTurn_114 : decode cX1_goTurn 114 = .ok (.iload_n 2, 1) := dk_28 (dk_at dksX1_goTurn_4 20 rfl rfl)
theorem dX1_goTurn_115 : decode cX1_goTurn 115 = .ok (.iload_n 3, 1) := dk_29 (dk_at dksX1_goTurn_4 21 rfl rfl)
theorem dX1_goTurn_116 : decode cX1_goTurn 116 = .ok (.iastore, 1) := dk_79 (dk_at dksX1_goTurn_4 22 rfl rfl)
theorem dX1_goTurn_117 : decode cX1_goTurn 117 = .ok (.iinc 2 1, 3) := dk_132 2 1 (dk_at dksX1_goTurn_5 0 rfl rfl)
theorem dX1_goTurn_120 : decode cX1_goTurn 120 = .ok (.goto (-118), 3) := dk_167 255 138 (dk_at dksX1_goTurn_5 3 rfl rfl)
theorem dX1_goTurn_123 : decode cX1_goTurn 123 = .ok (.iconst 0, 1) := dk_3 (dk_at dksX1_goTurn_5 6 rfl rfl)
theorem dX1_goTurn_124 : decode cX1_goTurn 124 = .ok (.istore_n 2, 1) := dk_61 (dk_at dksX1_goTurn_5 7 rfl rfl)
theorem dX1_goTurn_125 : decode cX1_goTurn 125 = .ok (.iload_n 2, 1) := dk_28 (dk_at dksX1_goTurn_5 8 rfl rfl)
theorem dX1_goTurn_126 : decode cX1_goTurn 126 = .ok (.iconst 1, 1) := dk_4 (dk_at dksX1_goTurn_5 9 rfl rfl)
theorem dX1_goTurn_127 : decode cX1_goTurn 127 = .ok (.aload_n 0, 1) := dk_42 (dk_at dksX1_goTurn_5 10 rfl rfl)
theorem dX1_goTurn_128 : decode cX1_goTurn 128 = .ok (.getfield 7, 3) := dk_180 0 7 (dk_at dksX1_goTurn_5 11 rfl rfl)
theorem dX1_goTurn_131 : decode cX1_goTurn 131 = .ok (.iconst 0, 1) := dk_3 (dk_at dksX1_goTurn_5 14 rfl rfl)
theorem dX1_goTurn_132 : decode cX1_goTurn 132 = .ok (.iaload, 1) := dk_46 (dk_at dksX1_goTurn_5 15 rfl rfl)
theorem dX1_goTurn_133 : decode cX1_goTurn 133 = .ok (.ishl, 1) := dk_120 (dk_at dksX1_goTurn_5 16 rfl rfl)
theorem dX1_goTurn_134 : decode cX1_goTurn 134 = .ok (.if_icmp .ge 21, 3) := dk_162 0 21 (dk_at dksX1_goTurn_5 17 rfl rfl)
theorem dX1_goTurn_137 : decode cX1_goTurn 137 = .ok (.aload_n 0, 1) := dk_42 (dk_at dksX1_goTurn_5 20 rfl rfl)
theorem dX1_goTurn_138 : decode cX1_goTurn 138 = .ok (.getfield 45, 3) := dk_180 0 45 (dk_at dksX1_goTurn_5 21 rfl rfl)
theorem dX1_goTurn_141 : decode cX1_goTurn 141 = .ok (.iload_n 2, 1) := dk_28 (dk_at dksX1_goTurn_6 0 rfl rfl)
theorem dX1_goTurn_142 : decode cX1_goTurn 142 = .ok (.aload_n 0, 1) := dk_42 (dk_at dksX1_goTurn_6 1 rfl rfl)
theorem dX1_goTurn_143 : decode cX1_goTurn 143 = .ok (.getfield 48, 3) := dk_180 0 48 (dk_at dksX1_goTurn_6 2 rfl rfl)
theorem dX1_goTurn_146 : decode cX1_goTurn 146 = .ok (.iload_n 2, 1) := dk_28 (dk_at dksX1_goTurn_6 5 rfl rfl)
theorem dX1_goTurn_147 : decode cX1_goTurn 147 = .ok (.iaload, 1) := dk_46 (dk_at dksX1_goTurn_6 6 rfl rfl)
theorem dX1_goTurn_148 : decode cX1_goTurn 148 = .ok (.iastore, 1) := dk_79 (dk_at dksX1_goTurn_6 7 rfl rfl)
theorem dX1_goTurn_149 : decode cX1_goTurn 149 = .ok (.iinc 2 1, 3) := dk_132 2 1 (dk_at dksX1_goTurn_6 8 rfl rfl)
theorem dX1_goTurn_152 : decode cX1_goTurn 152 = .ok (.goto (-27), 3) := dk_167 255 229 (dk_at dksX1_goTurn_6 11 rfl rfl)
theorem dX1_goTurn_155 : decode cX1_goTurn 155 = .ok (.return_, 1) := dk_177 (dk_at dksX1_goTurn_6 14 rfl rfl)
abbrev cX1_odds : ByteArray := prog_10_method_82_code
def yX1_odds : MethodName := ⟨RX1, "odds", "(II)I"⟩
def dkwX1_odds_1 : List UInt8 := [27, 120, 28, 182, 0, 236, 4, 172]
abbrev dktX1_odds_1 : List UInt8 := dkwX1_odds_1 ++ []
def dkwX1_odds_0 : List UInt8 := [42, 27, 182, 0, 171, 153, 0, 15, 28, 133, 9, 20, 0, 230, 184, 0, 60, 154, 0, 5, 2, 172, 42, 4]
abbrev dktX1_odds_0 : List UInt8 := dkwX1_odds_0 ++ dktX1_odds_1
theorem dksX1_odds_0 : cX1_odds.data.toList.drop 0 = dktX1_odds_0 := by decide +kernel
theorem dksX1_odds_1 : cX1_odds.data.toList.drop 24 = dktX1_odds_1 := dk_seg dksX1_odds_0 24 rfl rfl
theorem dX1_odds_0 : decode cX1_odds 0 = .ok (.aload_n 0, 1) := dk_42 (dk_at dksX1_odds_0 0 rfl rfl)
theorem dX1_odds_1 : decode cX1_odds 1 = .ok (.iload_n 1, 1) := dk_27 (dk_at dksX1_odds_0 1 rfl rfl)
theorem dX1_odds_2 : decode cX1_odds 2 = .ok (.invokevirtual 171, 3) := dk_182 0 171 (dk_at dksX1_odds_0 2 rfl rfl)
theorem dX1_odds_5 : decode cX1_odds 5 = .ok (.ifCond .eq 15, 3) := dk_153 0 15 (dk_at dksX1_odds_0 5 rfl rfl)
theorem dX1_odds_8 : decode cX1_odds 8 = .ok (.iload_n 2, 1) := dk_28 (dk_at dksX1_odds_0 8 rfl rfl)
theorem dX1_odds_9 : decode cX1_odds 9 = .ok (.i2l, 1) := dk_133 (dk_at dksX1_odds_0 9 rfl rfl)
theorem dX1_odds_10 : decode cX1_odds 10 = .ok (.lconst 0, 1) := dk_9 (dk_at dksX1_odds_0 10 rfl rfl)
theorem dX1_odds_11 : decode cX1_odds 11 = .ok (.ldc2_w 230, 3) := dk_20 0 230 (dk_at dksX1_odds_0 11 rfl rfl)
theorem dX1_odds_14 : decode cX1_odds 14 = .ok (.invokestatic 60, 3) := dk_184 0 60 (dk_at dksX1_odds_0 14 rfl rfl)
theorem dX1_odds_17 : decode cX1_odds 17 = .ok (.ifCond .ne 5, 3) := dk_154 0 5 (dk_at dksX1_odds_0 17 rfl rfl)
theorem dX1_odds_20 : decode cX1_odds 20 = .ok (.iconst (-1), 1) := dk_2 (dk_at dksX1_odds_0 20 rfl rfl)
theorem dX1_odds_21 : decode cX1_odds 21 = .ok (.ireturn, 1) := dk_172 (dk_at dksX1_odds_0 21 rfl rfl)
theorem dX1_odds_22 : decode cX1_odds 22 = .ok (.aload_n 0, 1) := dk_42 (dk_at dksX1_odds_0 22 rfl rfl)
theorem dX1_odds_23 : decode cX1_odds 23 = .ok (.iconst 1, 1) := dk_4 (dk_at dksX1_odds_0 23 rfl rfl)
theorem dX1_odds_24 : decode cX1_odds 24 = .ok (.iload_n 1, 1) := dk_27 (dk_at dksX1_odds_1 0 rfl rfl)
theorem dX1_odds_25 : decode cX1_odds 25 = .ok (.ishl, 1) := dk_120 (dk_at dksX1_odds_1 1 rfl rfl)
theorem dX1_odds_26 : decode cX1_odds 26 = .ok (.iload_n 2, 1) := dk_28 (dk_at dksX1_odds_1 2 rfl rfl)
theorem dX1_odds_27 : decode cX1_odds 27 = .ok (.invokevirtual 236, 3) := dk_182 0 236 (dk_at dksX1_odds_1 3 rfl rfl)
theorem dX1_odds_30 : decode cX1_odds 30 = .ok (.iconst 1, 1) := dk_4 (dk_at dksX1_odds_1 6 rfl rfl)
theorem dX1_odds_31 : decode cX1_odds 31 = .ok (.ireturn, 1) := dk_172 (dk_at dksX1_odds_1 7 rfl rfl)
abbrev cX1_goOdds : ByteArray := prog_10_method_81_code
def yX1_goOdds : MethodName := ⟨RX1, "goOdds", "(II)V"⟩
def dkwX1_goOdds_7 : List UInt8 := [167, 255, 136, 42, 33, 22, 5, 182, 0, 232, 177]
abbrev dktX1_goOdds_7 : List UInt8 := dkwX1_goOdds_7 ++ []
def dkwX1_goOdds_6 : List UInt8 := [167, 255, 198, 33, 22, 8, 42, 21, 7, 182, 0, 142, 27, 126, 184, 0, 145, 133, 105, 97, 66, 132, 7, 1]
abbrev dktX1_goOdds_6 : List UInt8 := dkwX1_goOdds_6 ++ dktX1_goOdds_7
def dkwX1_goOdds_5 : List UInt8 := [184, 0, 131, 153, 0, 11, 16, 12, 28, 100, 133, 167, 0, 5, 28, 133, 105, 55, 8, 132, 10, 1]
abbrev dktX1_goOdds_5 : List UInt8 := dkwX1_goOdds_5 ++ dktX1_goOdds_6
def dkwX1_goOdds_4 : List UInt8 := [180, 0, 7, 16, 71, 46, 21, 10, 184, 0, 131, 154, 0, 7, 10, 167, 0, 23, 21, 7, 21, 10]
abbrev dktX1_goOdds_4 : List UInt8 := dkwX1_goOdds_4 ++ dktX1_goOdds_5
def dkwX1_goOdds_3 : List UInt8 := [167, 0, 4, 9, 55, 8, 3, 54, 10, 21, 10, 42, 180, 0, 7, 3, 46, 162, 0, 53, 22, 8, 42]
abbrev dktX1_goOdds_3 : List UInt8 := dkwX1_goOdds_3 ++ dktX1_goOdds_4
def dkwX1_goOdds_2 : List UInt8 := [3, 46, 120, 162, 0, 113, 21, 7, 42, 180, 0, 7, 16, 71, 46, 2, 130, 126, 154, 0, 7, 10]
abbrev dktX1_goOdds_2 : List UInt8 := dkwX1_goOdds_2 ++ dktX1_goOdds_3
def dkwX1_goOdds_1 : List UInt8 := [22, 5, 20, 0, 230, 105, 55, 5, 132, 7, 1, 167, 255, 230, 3, 54, 7, 21, 7, 4, 42, 180, 0, 7]
abbrev dktX1_goOdds_1 : List UInt8 := dkwX1_goOdds_1 ++ dktX1_goOdds_2
def dkwX1_goOdds_0 : List UInt8 := [9, 66, 10, 55, 5, 3, 54, 7, 21, 7, 42, 180, 0, 7, 16, 71, 46, 184, 0, 145, 162, 0, 17]
abbrev dktX1_goOdds_0 : List UInt8 := dkwX1_goOdds_0 ++ dktX1_goOdds_1
theorem dksX1_goOdds_0 : cX1_goOdds.data.toList.drop 0 = dktX1_goOdds_0 := by decide +kernel
theorem dksX1_goOdds_1 : cX1_goOdds.data.toList.drop 23 = dktX1_goOdds_1 := dk_seg dksX1_goOdds_0 23 rfl rfl
theorem dksX1_goOdds_2 : cX1_goOdds.data.toList.drop 47 = dktX1_goOdds_2 := dk_seg dksX1_goOdds_1 24 rfl rfl
theorem dksX1_goOdds_3 : cX1_goOdds.data.toList.drop 69 = dktX1_goOdds_3 := dk_seg dksX1_goOdds_2 22 rfl rfl
theorem dksX1_goOdds_4 : cX1_goOdds.data.toList.drop 92 = dktX1_goOdds_4 := dk_seg dksX1_goOdds_3 23 rfl rfl
theorem dksX1_goOdds_5 : cX1_goOdds.data.toList.drop 114 = dktX1_goOdds_5 := dk_seg dksX1_goOdds_4 22 rfl rfl
theorem dksX1_goOdds_6 : cX1_goOdds.data.toList.drop 136 = dktX1_goOdds_6 := dk_seg dksX1_goOdds_5 22 rfl rfl
theorem dksX1_goOdds_7 : cX1_goOdds.data.toList.drop 160 = dktX1_goOdds_7 := dk_seg dksX1_goOdds_6 24 rfl rfl
theorem dX1_goOdds_0 : decode cX1_goOdds 0 = .ok (.lconst 0, 1) := dk_9 (dk_at dksX1_goOdds_0 0 rfl rfl)
theorem dX1_goOdds_1 : decode cX1_goOdds 1 = .ok (.lstore_n 3, 1) := dk_66 (dk_at dksX1_goOdds_0 1 rfl rfl)
theorem dX1_goOdds_2 : decode cX1_goOdds 2 = .ok (.lconst 1, 1) := dk_10 (dk_at dksX1_goOdds_0 2 rfl rfl)
theorem dX1_goOdds_3 : decode cX1_goOdds 3 = .ok (.lstore 5, 2) := dk_55 5 (dk_at dksX1_goOdds_0 3 rfl rfl)
theorem dX1_goOdds_5 : decode cX1_goOdds 5 = .ok (.iconst 0, 1) := dk_3 (dk_at dksX1_goOdds_0 5 rfl rfl)
theorem dX1_goOdds_6 : decode cX1_goOdds 6 = .ok (.istore 7, 2) := dk_54 7 (dk_at dksX1_goOdds_0 6 rfl rfl)
theorem dX1_goOdds_8 : decode cX1_goOdds 8 = .ok (.iload 7, 2) := dk_21 7 (dk_at dksX1_goOdds_0 8 rfl rfl)
theorem dX1_goOdds_10 : decode cX1_goOdds 10 = .ok (.aload_n 0, 1) := dk_42 (dk_at dksX1_goOdds_0 10 rfl rfl)
theorem dX1_goOdds_11 : decode cX1_goOdds 11 = .ok (.getfield 7, 3) := dk_180 0 7 (dk_at dksX1_goOdds_0 11 rfl rfl)
theorem dX1_goOdds_14 : decode cX1_goOdds 14 = .ok (.bipush 71, 2) := dk_16 71 (dk_at dksX1_goOdds_0 14 rfl rfl)
theorem dX1_goOdds_16 : decode cX1_goOdds 16 = .ok (.iaload, 1) := dk_46 (dk_at dksX1_goOdds_0 16 rfl rfl)
theorem dX1_goOdds_17 : decode cX1_goOdds 17 = .ok (.invokestatic 145, 3) := dk_184 0 145 (dk_at dksX1_goOdds_0 17 rfl rfl)
theorem dX1_goOdds_20 : decode cX1_goOdds 20 = .ok (.if_icmp .ge 17, 3) := dk_162 0 17 (dk_at dksX1_goOdds_0 20 rfl rfl)
theorem dX1_goOdds_23 : decode cX1_goOdds 23 = .ok (.lload 5, 2) := dk_22 5 (dk_at dksX1_goOdds_1 0 rfl rfl)
theorem dX1_goOdds_25 : decode cX1_goOdds 25 = .ok (.ldc2_w 230, 3) := dk_20 0 230 (dk_at dksX1_goOdds_1 2 rfl rfl)
theorem dX1_goOdds_28 : decode cX1_goOdds 28 = .ok (.lmul, 1) := dk_105 (dk_at dksX1_goOdds_1 5 rfl rfl)
theorem dX1_goOdds_29 : decode cX1_goOdds 29 = .ok (.lstore 5, 2) := dk_55 5 (dk_at dksX1_goOdds_1 6 rfl rfl)
theorem dX1_goOdds_31 : decode cX1_goOdds 31 = .ok (.iinc 7 1, 3) := dk_132 7 1 (dk_at dksX1_goOdds_1 8 rfl rfl)
theorem dX1_goOdds_34 : decode cX1_goOdds 34 = .ok (.goto (-26), 3) := dk_167 255 230 (dk_at dksX1_goOdds_1 11 rfl rfl)
theorem dX1_goOdds_37 : decode cX1_goOdds 37 = .ok (.iconst 0, 1) := dk_3 (dk_at dksX1_goOdds_1 14 rfl rfl)
theorem dX1_goOdds_38 : decode cX1_goOdds 38 = .ok (.istore 7, 2) := dk_54 7 (dk_at dksX1_goOdds_1 15 rfl rfl)
theorem dX1_goOdds_40 : decode cX1_goOdds 40 = .ok (.iload 7, 2) := dk_21 7 (dk_at dksX1_goOdds_1 17 rfl rfl)
theorem dX1_goOdds_42 : decode cX1_goOdds 42 = .ok (.iconst 1, 1) := dk_4 (dk_at dksX1_goOdds_1 19 rfl rfl)
theorem dX1_goOdds_43 : decode cX1_goOdds 43 = .ok (.aload_n 0, 1) := dk_42 (dk_at dksX1_goOdds_1 20 rfl rfl)
theorem dX1_goOdds_44 : decode cX1_goOdds 44 = .ok (.getfield 7, 3) := dk_180 0 7 (dk_at dksX1_goOdds_1 21 rfl rfl)
theorem dX1_goOdds_47 : decode cX1_goOdds 47 = .ok (.iconst 0, 1) := dk_3 (dk_at dksX1_goOdds_2 0 rfl rfl)
theorem dX1_goOdds_48 : decode cX1_goOdds 48 = .ok (.iaload, 1) := dk_46 (dk_at dksX1_goOdds_2 1 rfl rfl)
theorem dX1_goOdds_49 : decode cX1_goOdds 49 = .ok (.ishl, 1) := dk_120 (dk_at dksX1_goOdds_2 2 rfl rfl)
theorem dX1_goOdds_50 : decode cX1_goOdds 50 = .ok (.if_icmp .ge 113, 3) := dk_162 0 113 (dk_at dksX1_goOdds_2 3 rfl rfl)
theorem dX1_goOdds_53 : decode cX1_goOdds 53 = .ok (.iload 7, 2) := dk_21 7 (dk_at dksX1_goOdds_2 6 rfl rfl)
theorem dX1_goOdds_55 : decode cX1_goOdds 55 = .ok (.aload_n 0, 1) := dk_42 (dk_at dksX1_goOdds_2 8 rfl rfl)
theorem dX1_goOdds_56 : decode cX1_goOdds 56 = .ok (.getfield 7, 3) := dk_180 0 7 (dk_at dksX1_goOdds_2 9 rfl rfl)
theorem dX1_goOdds_59 : decode cX1_goOdds 59 = .ok (.bipush 71, 2) := dk_16 71 (dk_at dksX1_goOdds_2 12 rfl rfl)
theorem dX1_goOdds_61 : decode cX1_goOdds 61 = .ok (.iaload, 1) := dk_46 (dk_at dksX1_goOdds_2 14 rfl rfl)
theorem dX1_goOdds_62 : decode cX1_goOdds 62 = .ok (.iconst (-1), 1) := dk_2 (dk_at dksX1_goOdds_2 15 rfl rfl)
theorem dX1_goOdds_63 : decode cX1_goOdds 63 = .ok (.ixor, 1) := dk_130 (dk_at dksX1_goOdds_2 16 rfl rfl)
theorem dX1_goOdds_64 : decode cX1_goOdds 64 = .ok (.iand, 1) := dk_126 (dk_at dksX1_goOdds_2 17 rfl rfl)
theorem dX1_goOdds_65 : decode cX1_goOdds 65 = .ok (.ifCond .ne 7, 3) := dk_154 0 7 (dk_at dksX1_goOdds_2 18 rfl rfl)
theorem dX1_goOdds_68 : decode cX1_goOdds 68 = .ok (.lconst 1, 1) := dk_10 (dk_at dksX1_goOdds_2 21 rfl rfl)
theorem dX1_goOdds_69 : decode cX1_goOdds 69 = .ok (.goto 4, 3) := dk_167 0 4 (dk_at dksX1_goOdds_3 0 rfl rfl)
theorem dX1_goOdds_72 : decode cX1_goOdds 72 = .ok (.lconst 0, 1) := dk_9 (dk_at dksX1_goOdds_3 3 rfl rfl)
theorem dX1_goOdds_73 : decode cX1_goOdds 73 = .ok (.lstore 8, 2) := dk_55 8 (dk_at dksX1_goOdds_3 4 rfl rfl)
theorem dX1_goOdds_75 : decode cX1_goOdds 75 = .ok (.iconst 0, 1) := dk_3 (dk_at dksX1_goOdds_3 6 rfl rfl)
theorem dX1_goOdds_76 : decode cX1_goOdds 76 = .ok (.istore 10, 2) := dk_54 10 (dk_at dksX1_goOdds_3 7 rfl rfl)
theorem dX1_goOdds_78 : decode cX1_goOdds 78 = .ok (.iload 10, 2) := dk_21 10 (dk_at dksX1_goOdds_3 9 rfl rfl)
theorem dX1_goOdds_80 : decode cX1_goOdds 80 = .ok (.aload_n 0, 1) := dk_42 (dk_at dksX1_goOdds_3 11 rfl rfl)
theorem dX1_goOdds_81 : decode cX1_goOdds 81 = .ok (.getfield 7, 3) := dk_180 0 7 (dk_at dksX1_goOdds_3 12 rfl rfl)
theorem dX1_goOdds_84 : decode cX1_goOdds 84 = .ok (.iconst 0, 1) := dk_3 (dk_at dksX1_goOdds_3 15 rfl rfl)
theorem dX1_goOdds_85 : decode cX1_goOdds 85 = .ok (.iaload, 1) := dk_46 (dk_at dksX1_goOdds_3 16 rfl rfl)
theorem dX1_goOdds_86 : decode cX1_goOdds 86 = .ok (.if_icmp .ge 53, 3) := dk_162 0 53 (dk_at dksX1_goOdds_3 17 rfl rfl)
theorem dX1_goOdds_89 : decode cX1_goOdds 89 = .ok (.lload 8, 2) := dk_22 8 (dk_at dksX1_goOdds_3 20 rfl rfl)
theorem dX1_goOdds_91 : decode cX1_goOdds 91 = .ok (.aload_n 0, 1) := dk_42 (dk_at dksX1_goOdds_3 22 rfl rfl)
theorem dX1_goOdds_92 : decode cX1_goOdds 92 = .ok (.getfield 7, 3) := dk_180 0 7 (dk_at dksX1_goOdds_4 0 rfl rfl)
theorem dX1_goOdds_95 : decode cX1_goOdds 95 = .ok (.bipush 71, 2) := dk_16 71 (dk_at dksX1_goOdds_4 3 rfl rfl)
theorem dX1_goOdds_97 : decode cX1_goOdds 97 = .ok (.iaload, 1) := dk_46 (dk_at dksX1_goOdds_4 5 rfl rfl)
theorem dX1_goOdds_98 : decode cX1_goOdds 98 = .ok (.iload 10, 2) := dk_21 10 (dk_at dksX1_goOdds_4 6 rfl rfl)
theorem dX1_goOdds_100 : decode cX1_goOdds 100 = .ok (.invokestatic 131, 3) := dk_184 0 131 (dk_at dksX1_goOdds_4 8 rfl rfl)
theorem dX1_goOdds_103 : decode cX1_goOdds 103 = .ok (.ifCond .ne 7, 3) := dk_154 0 7 (dk_at dksX1_goOdds_4 11 rfl rfl)
theorem dX1_goOdds_106 : decode cX1_goOdds 106 = .ok (.lconst 1, 1) := dk_10 (dk_at dksX1_goOdds_4 14 rfl rfl)
theorem dX1_goOdds_107 : decode cX1_goOdds 107 = .ok (.goto 23, 3) := dk_167 0 23 (dk_at dksX1_goOdds_4 15 rfl rfl)
theorem dX1_goOdds_110 : decode cX1_goOdds 110 = .ok (.iload 7, 2) := dk_21 7 (dk_at dksX1_goOdds_4 18 rfl rfl)
theorem dX1_goOdds_112 : decode cX1_goOdds 112 = .ok (.iload 10, 2) := dk_21 10 (dk_at dksX1_goOdds_4 20 rfl rfl)
theorem dX1_goOdds_114 : decode cX1_goOdds 114 = .ok (.invokestatic 131, 3) := dk_184 0 131 (dk_at dksX1_goOdds_5 0 rfl rfl)
theorem dX1_goOdds_117 : decode cX1_goOdds 117 = .ok (.ifCond .eq 11, 3) := dk_153 0 11 (dk_at dksX1_goOdds_5 3 rfl rfl)
theorem dX1_goOdds_120 : decode cX1_goOdds 120 = .ok (.bipush 12, 2) := dk_16 12 (dk_at dksX1_goOdds_5 6 rfl rfl)
theorem dX1_goOdds_122 : decode cX1_goOdds 122 = .ok (.iload_n 2, 1) := dk_28 (dk_at dksX1_goOdds_5 8 rfl rfl)
theorem dX1_goOdds_123 : decode cX1_goOdds 123 = .ok (.isub, 1) := dk_100 (dk_at dksX1_goOdds_5 9 rfl rfl)
theorem dX1_goOdds_124 : decode cX1_goOdds 124 = .ok (.i2l, 1) := dk_133 (dk_at dksX1_goOdds_5 10 rfl rfl)
theorem dX1_goOdds_125 : decode cX1_goOdds 125 = .ok (.goto 5, 3) := dk_167 0 5 (dk_at dksX1_goOdds_5 11 rfl rfl)
theorem dX1_goOdds_128 : decode cX1_goOdds 128 = .ok (.iload_n 2, 1) := dk_28 (dk_at dksX1_goOdds_5 14 rfl rfl)
theorem dX1_goOdds_129 : decode cX1_goOdds 129 = .ok (.i2l, 1) := dk_133 (dk_at dksX1_goOdds_5 15 rfl rfl)
theorem dX1_goOdds_130 : decode cX1_goOdds 130 = .ok (.lmul, 1) := dk_105 (dk_at dksX1_goOdds_5 16 rfl rfl)
theorem dX1_goOdds_131 : decode cX1_goOdds 131 = .ok (.lstore 8, 2) := dk_55 8 (dk_at dksX1_goOdds_5 17 rfl rfl)
theorem dX1_goOdds_133 : decode cX1_goOdds 133 = .ok (.iinc 10 1, 3) := dk_132 10 1 (dk_at dksX1_goOdds_5 19 rfl rfl)
theorem dX1_goOdds_136 : decode cX1_goOdds 136 = .ok (.goto (-58), 3) := dk_167 255 198 (dk_at dksX1_goOdds_6 0 rfl rfl)
theorem dX1_goOdds_139 : decode cX1_goOdds 139 = .ok (.lload_n 3, 1) := dk_33 (dk_at dksX1_goOdds_6 3 rfl rfl)
theorem dX1_goOdds_140 : decode cX1_goOdds 140 = .ok (.lload 8, 2) := dk_22 8 (dk_at dksX1_goOdds_6 4 rfl rfl)
theorem dX1_goOdds_142 : decode cX1_goOdds 142 = .ok (.aload_n 0, 1) := dk_42 (dk_at dksX1_goOdds_6 6 rfl rfl)
theorem dX1_goOdds_143 : decode cX1_goOdds 143 = .ok (.iload 7, 2) := dk_21 7 (dk_at dksX1_goOdds_6 7 rfl rfl)
theorem dX1_goOdds_145 : decode cX1_goOdds 145 = .ok (.invokevirtual 142, 3) := dk_182 0 142 (dk_at dksX1_goOdds_6 9 rfl rfl)
theorem dX1_goOdds_148 : decode cX1_goOdds 148 = .ok (.iload_n 1, 1) := dk_27 (dk_at dksX1_goOdds_6 12 rfl rfl)
theorem dX1_goOdds_149 : decode cX1_goOdds 149 = .ok (.iand, 1) := dk_126 (dk_at dksX1_goOdds_6 13 rfl rfl)
theorem dX1_goOdds_150 : decode cX1_goOdds 150 = .ok (.invokestatic 145, 3) := dk_184 0 145 (dk_at dksX1_goOdds_6 14 rfl rfl)
theorem dX1_goOdds_153 : decode cX1_goOdds 153 = .ok (.i2l, 1) := dk_133 (dk_at dksX1_goOdds_6 17 rfl rfl)
theorem dX1_goOdds_154 : decode cX1_goOdds 154 = .ok (.lmul, 1) := dk_105 (dk_at dksX1_goOdds_6 18 rfl rfl)
theorem dX1_goOdds_155 : decode cX1_goOdds 155 = .ok (.ladd, 1) := dk_97 (dk_at dksX1_goOdds_6 19 rfl rfl)
theorem dX1_goOdds_156 : decode cX1_goOdds 156 = .ok (.lstore_n 3, 1) := dk_66 (dk_at dksX1_goOdds_6 20 rfl rfl)
theorem dX1_goOdds_157 : decode cX1_goOdds 157 = .ok (.iinc 7 1, 3) := dk_132 7 1 (dk_at dksX1_goOdds_6 21 rfl rfl)
theorem dX1_goOdds_160 : decode cX1_goOdds 160 = .ok (.goto (-120), 3) := dk_167 255 136 (dk_at dksX1_goOdds_7 0 rfl rfl)
theorem dX1_goOdds_163 : decode cX1_goOdds 163 = .ok (.aload_n 0, 1) := dk_42 (dk_at dksX1_goOdds_7 3 rfl rfl)
theorem dX1_goOdds_164 : decode cX1_goOdds 164 = .ok (.lload_n 3, 1) := dk_33 (dk_at dksX1_goOdds_7 4 rfl rfl)
theorem dX1_goOdds_165 : decode cX1_goOdds 165 = .ok (.lload 5, 2) := dk_22 5 (dk_at dksX1_goOdds_7 5 rfl rfl)
theorem dX1_goOdds_167 : decode cX1_goOdds 167 = .ok (.invokevirtual 232, 3) := dk_182 0 232 (dk_at dksX1_goOdds_7 7 rfl rfl)
theorem dX1_goOdds_170 : decode cX1_goOdds 170 = .ok (.return_, 1) := dk_177 (dk_at dksX1_goOdds_7 10 rfl rfl)
abbrev cX1_fraction : ByteArray := prog_10_method_80_code
def yX1_fraction : MethodName := ⟨RX1, "fraction", "(JJ)V"⟩
def dkwX1_fraction_1 : List UInt8 := [22, 9, 55, 7, 167, 255, 234, 42, 31, 22, 5, 109, 181, 0, 227, 42, 33, 22, 5, 109, 181, 0, 35, 177]
abbrev dktX1_fraction_1 : List UInt8 := dkwX1_fraction_1 ++ []
def dkwX1_fraction_0 : List UInt8 := [31, 55, 5, 33, 55, 7, 22, 7, 9, 148, 153, 0, 21, 22, 5, 22, 7, 113, 55, 9, 22, 7, 55, 5]
abbrev dktX1_fraction_0 : List UInt8 := dkwX1_fraction_0 ++ dktX1_fraction_1
theorem dksX1_fraction_0 : cX1_fraction.data.toList.drop 0 = dktX1_fraction_0 := by decide +kernel
theorem dksX1_fraction_1 : cX1_fraction.data.toList.drop 24 = dktX1_fraction_1 := dk_seg dksX1_fraction_0 24 rfl rfl
theorem dX1_fraction_0 : decode cX1_fraction 0 = .ok (.lload_n 1, 1) := dk_31 (dk_at dksX1_fraction_0 0 rfl rfl)
theorem dX1_fraction_1 : decode cX1_fraction 1 = .ok (.lstore 5, 2) := dk_55 5 (dk_at dksX1_fraction_0 1 rfl rfl)
theorem dX1_fraction_3 : decode cX1_fraction 3 = .ok (.lload_n 3, 1) := dk_33 (dk_at dksX1_fraction_0 3 rfl rfl)
theorem dX1_fraction_4 : decode cX1_fraction 4 = .ok (.lstore 7, 2) := dk_55 7 (dk_at dksX1_fraction_0 4 rfl rfl)
theorem dX1_fraction_6 : decode cX1_fraction 6 = .ok (.lload 7, 2) := dk_22 7 (dk_at dksX1_fraction_0 6 rfl rfl)
theorem dX1_fraction_8 : decode cX1_fraction 8 = .ok (.lconst 0, 1) := dk_9 (dk_at dksX1_fraction_0 8 rfl rfl)
theorem dX1_fraction_9 : decode cX1_fraction 9 = .ok (.lcmp, 1) := dk_148 (dk_at dksX1_fraction_0 9 rfl rfl)
theorem dX1_fraction_10 : decode cX1_fraction 10 = .ok (.ifCond .eq 21, 3) := dk_153 0 21 (dk_at dksX1_fraction_0 10 rfl rfl)
theorem dX1_fraction_13 : decode cX1_fraction 13 = .ok (.lload 5, 2) := dk_22 5 (dk_at dksX1_fraction_0 13 rfl rfl)
theorem dX1_fraction_15 : decode cX1_fraction 15 = .ok (.lload 7, 2) := dk_22 7 (dk_at dksX1_fraction_0 15 rfl rfl)
theorem dX1_fraction_17 : decode cX1_fraction 17 = .ok (.lrem, 1) := dk_113 (dk_at dksX1_fraction_0 17 rfl rfl)
theorem dX1_fraction_18 : decode cX1_fraction 18 = .ok (.lstore 9, 2) := dk_55 9 (dk_at dksX1_fraction_0 18 rfl rfl)
theorem dX1_fraction_20 : decode cX1_fraction 20 = .ok (.lload 7, 2) := dk_22 7 (dk_at dksX1_fraction_0 20 rfl rfl)
theorem dX1_fraction_22 : decode cX1_fraction 22 = .ok (.lstore 5, 2) := dk_55 5 (dk_at dksX1_fraction_0 22 rfl rfl)
theorem dX1_fraction_24 : decode cX1_fraction 24 = .ok (.lload 9, 2) := dk_22 9 (dk_at dksX1_fraction_1 0 rfl rfl)
theorem dX1_fraction_26 : decode cX1_fraction 26 = .ok (.lstore 7, 2) := dk_55 7 (dk_at dksX1_fraction_1 2 rfl rfl)
theorem dX1_fraction_28 : decode cX1_fraction 28 = .ok (.goto (-22), 3) := dk_167 255 234 (dk_at dksX1_fraction_1 4 rfl rfl)
theorem dX1_fraction_31 : decode cX1_fraction 31 = .ok (.aload_n 0, 1) := dk_42 (dk_at dksX1_fraction_1 7 rfl rfl)
theorem dX1_fraction_32 : decode cX1_fraction 32 = .ok (.lload_n 1, 1) := dk_31 (dk_at dksX1_fraction_1 8 rfl rfl)
theorem dX1_fraction_33 : decode cX1_fraction 33 = .ok (.lload 5, 2) := dk_22 5 (dk_at dksX1_fraction_1 9 rfl rfl)
theorem dX1_fraction_35 : decode cX1_fraction 35 = .ok (.ldiv, 1) := dk_109 (dk_at dksX1_fraction_1 11 rfl rfl)
theorem dX1_fraction_36 : decode cX1_fraction 36 = .ok (.putfield 227, 3) := dk_181 0 227 (dk_at dksX1_fraction_1 12 rfl rfl)
theorem dX1_fraction_39 : decode cX1_fraction 39 = .ok (.aload_n 0, 1) := dk_42 (dk_at dksX1_fraction_1 15 rfl rfl)
theorem dX1_fraction_40 : decode cX1_fraction 40 = .ok (.lload_n 3, 1) := dk_33 (dk_at dksX1_fraction_1 16 rfl rfl)
theorem dX1_fraction_41 : decode cX1_fraction 41 = .ok (.lload 5, 2) := dk_22 5 (dk_at dksX1_fraction_1 17 rfl rfl)
theorem dX1_fraction_43 : decode cX1_fraction 43 = .ok (.ldiv, 1) := dk_109 (dk_at dksX1_fraction_1 19 rfl rfl)
theorem dX1_fraction_44 : decode cX1_fraction 44 = .ok (.putfield 35, 3) := dk_181 0 35 (dk_at dksX1_fraction_1 20 rfl rfl)
theorem dX1_fraction_47 : decode cX1_fraction 47 = .ok (.return_, 1) := dk_177 (dk_at dksX1_fraction_1 23 rfl rfl)
abbrev cX1_mid : ByteArray := prog_10_method_83_code
def yX1_mid : MethodName := ⟨RX1, "mid", "(I)I"⟩
def dkwX1_mid_1 : List UInt8 := [16, 252, 172, 42, 4, 42, 180, 0, 7, 4, 46, 120, 4, 100, 27, 182, 0, 236, 4, 172]
abbrev dktX1_mid_1 : List UInt8 := dkwX1_mid_1 ++ []
def dkwX1_mid_0 : List UInt8 := [27, 133, 9, 20, 0, 230, 184, 0, 60, 154, 0, 5, 2, 172, 42, 180, 0, 7, 3, 46, 154, 0, 6]
abbrev dktX1_mid_0 : List UInt8 := dkwX1_mid_0 ++ dktX1_mid_1
theorem dksX1_mid_0 : cX1_mid.data.toList.drop 0 = dktX1_mid_0 := by decide +kernel
theorem dksX1_mid_1 : cX1_mid.data.toList.drop 23 = dktX1_mid_1 := dk_seg dksX1_mid_0 23 rfl rfl
theorem dX1_mid_0 : decode cX1_mid 0 = .ok (.iload_n 1, 1) := dk_27 (dk_at dksX1_mid_0 0 rfl rfl)
theorem dX1_mid_1 : decode cX1_mid 1 = .ok (.i2l, 1) := dk_133 (dk_at dksX1_mid_0 1 rfl rfl)
theorem dX1_mid_2 : decode cX1_mid 2 = .ok (.lconst 0, 1) := dk_9 (dk_at dksX1_mid_0 2 rfl rfl)
theorem dX1_mid_3 : decode cX1_mid 3 = .ok (.ldc2_w 230, 3) := dk_20 0 230 (dk_at dksX1_mid_0 3 rfl rfl)
theorem dX1_mid_6 : decode cX1_mid 6 = .ok (.invokestatic 60, 3) := dk_184 0 60 (dk_at dksX1_mid_0 6 rfl rfl)
theorem dX1_mid_9 : decode cX1_mid 9 = .ok (.ifCond .ne 5, 3) := dk_154 0 5 (dk_at dksX1_mid_0 9 rfl rfl)
theorem dX1_mid_12 : decode cX1_mid 12 = .ok (.iconst (-1), 1) := dk_2 (dk_at dksX1_mid_0 12 rfl rfl)
theorem dX1_mid_13 : decode cX1_mid 13 = .ok (.ireturn, 1) := dk_172 (dk_at dksX1_mid_0 13 rfl rfl)
theorem dX1_mid_14 : decode cX1_mid 14 = .ok (.aload_n 0, 1) := dk_42 (dk_at dksX1_mid_0 14 rfl rfl)
theorem dX1_mid_15 : decode cX1_mid 15 = .ok (.getfield 7, 3) := dk_180 0 7 (dk_at dksX1_mid_0 15 rfl rfl)
theorem dX1_mid_18 : decode cX1_mid 18 = .ok (.iconst 0, 1) := dk_3 (dk_at dksX1_mid_0 18 rfl rfl)
theorem dX1_mid_19 : decode cX1_mid 19 = .ok (.iaload, 1) := dk_46 (dk_at dksX1_mid_0 19 rfl rfl)
theorem dX1_mid_20 : decode cX1_mid 20 = .ok (.ifCond .ne 6, 3) := dk_154 0 6 (dk_at dksX1_mid_0 20 rfl rfl)
theorem dX1_mid_23 : decode cX1_mid 23 = .ok (.bipush (-4), 2) := dk_16 252 (dk_at dksX1_mid_1 0 rfl rfl)
theorem dX1_mid_25 : decode cX1_mid 25 = .ok (.ireturn, 1) := dk_172 (dk_at dksX1_mid_1 2 rfl rfl)
theorem dX1_mid_26 : decode cX1_mid 26 = .ok (.aload_n 0, 1) := dk_42 (dk_at dksX1_mid_1 3 rfl rfl)
theorem dX1_mid_27 : decode cX1_mid 27 = .ok (.iconst 1, 1) := dk_4 (dk_at dksX1_mid_1 4 rfl rfl)
theorem dX1_mid_28 : decode cX1_mid 28 = .ok (.aload_n 0, 1) := dk_42 (dk_at dksX1_mid_1 5 rfl rfl)
theorem dX1_mid_29 : decode cX1_mid 29 = .ok (.getfield 7, 3) := dk_180 0 7 (dk_at dksX1_mid_1 6 rfl rfl)
theorem dX1_mid_32 : decode cX1_mid 32 = .ok (.iconst 1, 1) := dk_4 (dk_at dksX1_mid_1 9 rfl rfl)
theorem dX1_mid_33 : decode cX1_mid 33 = .ok (.iaload, 1) := dk_46 (dk_at dksX1_mid_1 10 rfl rfl)
theorem dX1_mid_34 : decode cX1_mid 34 = .ok (.ishl, 1) := dk_120 (dk_at dksX1_mid_1 11 rfl rfl)
theorem dX1_mid_35 : decode cX1_mid 35 = .ok (.iconst 1, 1) := dk_4 (dk_at dksX1_mid_1 12 rfl rfl)
theorem dX1_mid_36 : decode cX1_mid 36 = .ok (.isub, 1) := dk_100 (dk_at dksX1_mid_1 13 rfl rfl)
theorem dX1_mid_37 : decode cX1_mid 37 = .ok (.iload_n 1, 1) := dk_27 (dk_at dksX1_mid_1 14 rfl rfl)
theorem dX1_mid_38 : decode cX1_mid 38 = .ok (.invokevirtual 236, 3) := dk_182 0 236 (dk_at dksX1_mid_1 15 rfl rfl)
theorem dX1_mid_41 : decode cX1_mid 41 = .ok (.iconst 1, 1) := dk_4 (dk_at dksX1_mid_1 18 rfl rfl)
theorem dX1_mid_42 : decode cX1_mid 42 = .ok (.ireturn, 1) := dk_172 (dk_at dksX1_mid_1 19 rfl rfl)
abbrev cX1_lots : ByteArray := prog_10_method_84_code
def yX1_lots : MethodName := ⟨RX1, "lots", "(II)I"⟩
def dkwX1_lots_9 : List UInt8 := [182, 0, 191, 172]
abbrev dktX1_lots_9 : List UInt8 := dkwX1_lots_9 ++ []
def dkwX1_lots_8 : List UInt8 := [96, 33, 20, 0, 250, 109, 20, 0, 252, 113, 136, 96, 182, 0, 188, 132, 5, 1, 167, 255, 111, 42]
abbrev dktX1_lots_8 : List UInt8 := dkwX1_lots_8 ++ dktX1_lots_9
def dkwX1_lots_7 : List UInt8 := [167, 0, 39, 42, 17, 3, 232, 16, 100, 33, 20, 0, 248, 109, 42, 180, 0, 7, 4, 46, 133, 113, 136, 104]
abbrev dktX1_lots_7 : List UInt8 := dkwX1_lots_7 ++ dktX1_lots_8
def dkwX1_lots_6 : List UInt8 := [10, 148, 154, 0, 23, 42, 180, 0, 7, 16, 70, 46, 16, 40, 162, 0, 11, 42, 3, 182, 0, 188]
abbrev dktX1_lots_6 : List UInt8 := dkwX1_lots_6 ++ dktX1_lots_7
def dkwX1_lots_5 : List UInt8 := [153, 0, 9, 17, 7, 208, 167, 0, 6, 17, 11, 184, 96, 182, 0, 188, 167, 0, 69, 33, 20, 0, 64, 113]
abbrev dktX1_lots_5 : List UInt8 := dkwX1_lots_5 ++ dktX1_lots_6
def dkwX1_lots_4 : List UInt8 := [20, 0, 64, 113, 9, 148, 154, 0, 37, 42, 21, 6, 42, 180, 0, 7, 16, 71, 46, 21, 6, 184, 0, 131]
abbrev dktX1_lots_4 : List UInt8 := dkwX1_lots_4 ++ dktX1_lots_5
def dkwX1_lots_3 : List UInt8 := [105, 20, 0, 246, 113, 66, 33, 20, 0, 248, 109, 42, 180, 0, 7, 3, 46, 133, 113, 136, 54, 6, 33]
abbrev dktX1_lots_3 : List UInt8 := dkwX1_lots_3 ++ dktX1_lots_4
def dkwX1_lots_2 : List UInt8 := [16, 40, 164, 0, 6, 16, 254, 172, 28, 133, 66, 3, 54, 5, 21, 5, 27, 162, 0, 145, 33, 20, 0, 244]
abbrev dktX1_lots_2 : List UInt8 := dkwX1_lots_2 ++ dktX1_lots_3
def dkwX1_lots_1 : List UInt8 := [2, 172, 42, 180, 0, 7, 3, 46, 154, 0, 6, 16, 252, 172, 42, 180, 0, 7, 16, 29, 46, 27, 96]
abbrev dktX1_lots_1 : List UInt8 := dkwX1_lots_1 ++ dktX1_lots_2
def dkwX1_lots_0 : List UInt8 := [27, 133, 10, 20, 0, 240, 184, 0, 60, 153, 0, 15, 28, 133, 10, 20, 0, 242, 184, 0, 60, 154, 0, 5]
abbrev dktX1_lots_0 : List UInt8 := dkwX1_lots_0 ++ dktX1_lots_1
theorem dksX1_lots_0 : cX1_lots.data.toList.drop 0 = dktX1_lots_0 := by decide +kernel
theorem dksX1_lots_1 : cX1_lots.data.toList.drop 24 = dktX1_lots_1 := dk_seg dksX1_lots_0 24 rfl rfl
theorem dksX1_lots_2 : cX1_lots.data.toList.drop 47 = dktX1_lots_2 := dk_seg dksX1_lots_1 23 rfl rfl
theorem dksX1_lots_3 : cX1_lots.data.toList.drop 71 = dktX1_lots_3 := dk_seg dksX1_lots_2 24 rfl rfl
theorem dksX1_lots_4 : cX1_lots.data.toList.drop 94 = dktX1_lots_4 := dk_seg dksX1_lots_3 23 rfl rfl
theorem dksX1_lots_5 : cX1_lots.data.toList.drop 118 = dktX1_lots_5 := dk_seg dksX1_lots_4 24 rfl rfl
theorem dksX1_lots_6 : cX1_lots.data.toList.drop 142 = dktX1_lots_6 := dk_seg dksX1_lots_5 24 rfl rfl
theorem dksX1_lots_7 : cX1_lots.data.toList.drop 164 = dktX1_lots_7 := dk_seg dksX1_lots_6 22 rfl rfl
theorem dksX1_lots_8 : cX1_lots.data.toList.drop 188 = dktX1_lots_8 := dk_seg dksX1_lots_7 24 rfl rfl
theorem dksX1_lots_9 : cX1_lots.data.toList.drop 210 = dktX1_lots_9 := dk_seg dksX1_lots_8 22 rfl rfl
theorem dX1_lots_0 : decode cX1_lots 0 = .ok (.iload_n 1, 1) := dk_27 (dk_at dksX1_lots_0 0 rfl rfl)
theorem dX1_lots_1 : decode cX1_lots 1 = .ok (.i2l, 1) := dk_133 (dk_at dksX1_lots_0 1 rfl rfl)
theorem dX1_lots_2 : decode cX1_lots 2 = .ok (.lconst 1, 1) := dk_10 (dk_at dksX1_lots_0 2 rfl rfl)
theorem dX1_lots_3 : decode cX1_lots 3 = .ok (.ldc2_w 240, 3) := dk_20 0 240 (dk_at dksX1_lots_0 3 rfl rfl)
theorem dX1_lots_6 : decode cX1_lots 6 = .ok (.invokestatic 60, 3) := dk_184 0 60 (dk_at dksX1_lots_0 6 rfl rfl)
theorem dX1_lots_9 : decode cX1_lots 9 = .ok (.ifCond .eq 15, 3) := dk_153 0 15 (dk_at dksX1_lots_0 9 rfl rfl)
theorem dX1_lots_12 : decode cX1_lots 12 = .ok (.iload_n 2, 1) := dk_28 (dk_at dksX1_lots_0 12 rfl rfl)
theorem dX1_lots_13 : decode cX1_lots 13 = .ok (.i2l, 1) := dk_133 (dk_at dksX1_lots_0 13 rfl rfl)
theorem dX1_lots_14 : decode cX1_lots 14 = .ok (.lconst 1, 1) := dk_10 (dk_at dksX1_lots_0 14 rfl rfl)
theorem dX1_lots_15 : decode cX1_lots 15 = .ok (.ldc2_w 242, 3) := dk_20 0 242 (dk_at dksX1_lots_0 15 rfl rfl)
theorem dX1_lots_18 : decode cX1_lots 18 = .ok (.invokestatic 60, 3) := dk_184 0 60 (dk_at dksX1_lots_0 18 rfl rfl)
theorem dX1_lots_21 : decode cX1_lots 21 = .ok (.ifCond .ne 5, 3) := dk_154 0 5 (dk_at dksX1_lots_0 21 rfl rfl)
theorem dX1_lots_24 : decode cX1_lots 24 = .ok (.iconst (-1), 1) := dk_2 (dk_at dksX1_lots_1 0 rfl rfl)
theorem dX1_lots_25 : decode cX1_lots 25 = .ok (.ireturn, 1) := dk_172 (dk_at dksX1_lots_1 1 rfl rfl)
theorem dX1_lots_26 : decode cX1_lots 26 = .ok (.aload_n 0, 1) := dk_42 (dk_at dksX1_lots_1 2 rfl rfl)
theorem dX1_lots_27 : decode cX1_lots 27 = .ok (.getfield 7, 3) := dk_180 0 7 (dk_at dksX1_lots_1 3 rfl rfl)
theorem dX1_lots_30 : decode cX1_lots 30 = .ok (.iconst 0, 1) := dk_3 (dk_at dksX1_lots_1 6 rfl rfl)
theorem dX1_lots_31 : decode cX1_lots 31 = .ok (.iaload, 1) := dk_46 (dk_at dksX1_lots_1 7 rfl rfl)
theorem dX1_lots_32 : decode cX1_lots 32 = .ok (.ifCond .ne 6, 3) := dk_154 0 6 (dk_at dksX1_lots_1 8 rfl rfl)
theorem dX1_lots_35 : decode cX1_lots 35 = .ok (.bipush (-4), 2) := dk_16 252 (dk_at dksX1_lots_1 11 rfl rfl)
theorem dX1_lots_37 : decode cX1_lots 37 = .ok (.ireturn, 1) := dk_172 (dk_at dksX1_lots_1 13 rfl rfl)
theorem dX1_lots_38 : decode cX1_lots 38 = .ok (.aload_n 0, 1) := dk_42 (dk_at dksX1_lots_1 14 rfl rfl)
theorem dX1_lots_39 : decode cX1_lots 39 = .ok (.getfield 7, 3) := dk_180 0 7 (dk_at dksX1_lots_1 15 rfl rfl)
theorem dX1_lots_42 : decode cX1_lots 42 = .ok (.bipush 29, 2) := dk_16 29 (dk_at dksX1_lots_1 18 rfl rfl)
theorem dX1_lots_44 : decode cX1_lots 44 = .ok (.iaload, 1) := dk_46 (dk_at dksX1_lots_1 20 rfl rfl)
theorem dX1_lots_45 : decode cX1_lots 45 = .ok (.iload_n 1, 1) := dk_27 (dk_at dksX1_lots_1 21 rfl rfl)
theorem dX1_lots_46 : decode cX1_lots 46 = .ok (.iadd, 1) := dk_96 (dk_at dksX1_lots_1 22 rfl rfl)
theorem dX1_lots_47 : decode cX1_lots 47 = .ok (.bipush 40, 2) := dk_16 40 (dk_at dksX1_lots_2 0 rfl rfl)
theorem dX1_lots_49 : decode cX1_lots 49 = .ok (.if_icmp .le 6, 3) := dk_164 0 6 (dk_at dksX1_lots_2 2 rfl rfl)
theorem dX1_lots_52 : decode cX1_lots 52 = .ok (.bipush (-2), 2) := dk_16 254 (dk_at dksX1_lots_2 5 rfl rfl)
theorem dX1_lots_54 : decode cX1_lots 54 = .ok (.ireturn, 1) := dk_172 (dk_at dksX1_lots_2 7 rfl rfl)
theorem dX1_lots_55 : decode cX1_lots 55 = .ok (.iload_n 2, 1) := dk_28 (dk_at dksX1_lots_2 8 rfl rfl)
theorem dX1_lots_56 : decode cX1_lots 56 = .ok (.i2l, 1) := dk_133 (dk_at dksX1_lots_2 9 rfl rfl)
theorem dX1_lots_57 : decode cX1_lots 57 = .ok (.lstore_n 3, 1) := dk_66 (dk_at dksX1_lots_2 10 rfl rfl)
theorem dX1_lots_58 : decode cX1_lots 58 = .ok (.iconst 0, 1) := dk_3 (dk_at dksX1_lots_2 11 rfl rfl)
theorem dX1_lots_59 : decode cX1_lots 59 = .ok (.istore 5, 2) := dk_54 5 (dk_at dksX1_lots_2 12 rfl rfl)
theorem dX1_lots_61 : decode cX1_lots 61 = .ok (.iload 5, 2) := dk_21 5 (dk_at dksX1_lots_2 14 rfl rfl)
theorem dX1_lots_63 : decode cX1_lots 63 = .ok (.iload_n 1, 1) := dk_27 (dk_at dksX1_lots_2 16 rfl rfl)
theorem dX1_lots_64 : decode cX1_lots 64 = .ok (.if_icmp .ge 145, 3) := dk_162 0 145 (dk_at dksX1_lots_2 17 rfl rfl)
theorem dX1_lots_67 : decode cX1_lots 67 = .ok (.lload_n 3, 1) := dk_33 (dk_at dksX1_lots_2 20 rfl rfl)
theorem dX1_lots_68 : decode cX1_lots 68 = .ok (.ldc2_w 244, 3) := dk_20 0 244 (dk_at dksX1_lots_2 21 rfl rfl)
theorem dX1_lots_71 : decode cX1_lots 71 = .ok (.lmul, 1) := dk_105 (dk_at dksX1_lots_3 0 rfl rfl)
theorem dX1_lots_72 : decode cX1_lots 72 = .ok (.ldc2_w 246, 3) := dk_20 0 246 (dk_at dksX1_lots_3 1 rfl rfl)
theorem dX1_lots_75 : decode cX1_lots 75 = .ok (.lrem, 1) := dk_113 (dk_at dksX1_lots_3 4 rfl rfl)
theorem dX1_lots_76 : decode cX1_lots 76 = .ok (.lstore_n 3, 1) := dk_66 (dk_at dksX1_lots_3 5 rfl rfl)
theorem dX1_lots_77 : decode cX1_lots 77 = .ok (.lload_n 3, 1) := dk_33 (dk_at dksX1_lots_3 6 rfl rfl)
theorem dX1_lots_78 : decode cX1_lots 78 = .ok (.ldc2_w 248, 3) := dk_20 0 248 (dk_at dksX1_lots_3 7 rfl rfl)
theorem dX1_lots_81 : decode cX1_lots 81 = .ok (.ldiv, 1) := dk_109 (dk_at dksX1_lots_3 10 rfl rfl)
theorem dX1_lots_82 : decode cX1_lots 82 = .ok (.aload_n 0, 1) := dk_42 (dk_at dksX1_lots_3 11 rfl rfl)
theorem dX1_lots_83 : decode cX1_lots 83 = .ok (.getfield 7, 3) := dk_180 0 7 (dk_at dksX1_lots_3 12 rfl rfl)
theorem dX1_lots_86 : decode cX1_lots 86 = .ok (.iconst 0, 1) := dk_3 (dk_at dksX1_lots_3 15 rfl rfl)
theorem dX1_lots_87 : decode cX1_lots 87 = .ok (.iaload, 1) := dk_46 (dk_at dksX1_lots_3 16 rfl rfl)
theorem dX1_lots_88 : decode cX1_lots 88 = .ok (.i2l, 1) := dk_133 (dk_at dksX1_lots_3 17 rfl rfl)
theorem dX1_lots_89 : decode cX1_lots 89 = .ok (.lrem, 1) := dk_113 (dk_at dksX1_lots_3 18 rfl rfl)
theorem dX1_lots_90 : decode cX1_lots 90 = .ok (.l2i, 1) := dk_136 (dk_at dksX1_lots_3 19 rfl rfl)
theorem dX1_lots_91 : decode cX1_lots 91 = .ok (.istore 6, 2) := dk_54 6 (dk_at dksX1_lots_3 20 rfl rfl)
theorem dX1_lots_93 : decode cX1_lots 93 = .ok (.lload_n 3, 1) := dk_33 (dk_at dksX1_lots_3 22 rfl rfl)
theorem dX1_lots_94 : decode cX1_lots 94 = .ok (.ldc2_w 64, 3) := dk_20 0 64 (dk_at dksX1_lots_4 0 rfl rfl)
theorem dX1_lots_97 : decode cX1_lots 97 = .ok (.lrem, 1) := dk_113 (dk_at dksX1_lots_4 3 rfl rfl)
theorem dX1_lots_98 : decode cX1_lots 98 = .ok (.lconst 0, 1) := dk_9 (dk_at dksX1_lots_4 4 rfl rfl)
theorem dX1_lots_99 : decode cX1_lots 99 = .ok (.lcmp, 1) := dk_148 (dk_at dksX1_lots_4 5 rfl rfl)
theorem dX1_lots_100 : decode cX1_lots 100 = .ok (.ifCond .ne 37, 3) := dk_154 0 37 (dk_at dksX1_lots_4 6 rfl rfl)
theorem dX1_lots_103 : decode cX1_lots 103 = .ok (.aload_n 0, 1) := dk_42 (dk_at dksX1_lots_4 9 rfl rfl)
theorem dX1_lots_104 : decode cX1_lots 104 = .ok (.iload 6, 2) := dk_21 6 (dk_at dksX1_lots_4 10 rfl rfl)
theorem dX1_lots_106 : decode cX1_lots 106 = .ok (.aload_n 0, 1) := dk_42 (dk_at dksX1_lots_4 12 rfl rfl)
theorem dX1_lots_107 : decode cX1_lots 107 = .ok (.getfield 7, 3) := dk_180 0 7 (dk_at dksX1_lots_4 13 rfl rfl)
theorem dX1_lots_110 : decode cX1_lots 110 = .ok (.bipush 71, 2) := dk_16 71 (dk_at dksX1_lots_4 16 rfl rfl)
theorem dX1_lots_112 : decode cX1_lots 112 = .ok (.iaload, 1) := dk_46 (dk_at dksX1_lots_4 18 rfl rfl)
theorem dX1_lots_113 : decode cX1_lots 113 = .ok (.iload 6, 2) := dk_21 6 (dk_at dksX1_lots_4 19 rfl rfl)
theorem dX1_lots_115 : decode cX1_lots 115 = .ok (.invokestatic 131, 3) := dk_184 0 131 (dk_at dksX1_lots_4 21 rfl rfl)
theorem dX1_lots_118 : decode cX1_lots 118 = .ok (.ifCond .eq 9, 3) := dk_153 0 9 (dk_at dksX1_lots_5 0 rfl rfl)
theorem dX1_lots_121 : decode cX1_lots 121 = .ok (.sipush 2000, 3) := dk_17 7 208 (dk_at dksX1_lots_5 3 rfl rfl)
theorem dX1_lots_124 : decode cX1_lots 124 = .ok (.goto 6, 3) := dk_167 0 6 (dk_at dksX1_lots_5 6 rfl rfl)
theorem dX1_lots_127 : decode cX1_lots 127 = .ok (.sipush 3000, 3) := dk_17 11 184 (dk_at dksX1_lots_5 9 rfl rfl)
theorem dX1_lots_130 : decode cX1_lots 130 = .ok (.iadd, 1) := dk_96 (dk_at dksX1_lots_5 12 rfl rfl)
theorem dX1_lots_131 : decode cX1_lots 131 = .ok (.invokevirtual 188, 3) := dk_182 0 188 (dk_at dksX1_lots_5 13 rfl rfl)
theorem dX1_lots_134 : decode cX1_lots 134 = .ok (.goto 69, 3) := dk_167 0 69 (dk_at dksX1_lots_5 16 rfl rfl)
theorem dX1_lots_137 : decode cX1_lots 137 = .ok (.lload_n 3, 1) := dk_33 (dk_at dksX1_lots_5 19 rfl rfl)
theorem dX1_lots_138 : decode cX1_lots 138 = .ok (.ldc2_w 64, 3) := dk_20 0 64 (dk_at dksX1_lots_5 20 rfl rfl)
theorem dX1_lots_141 : decode cX1_lots 141 = .ok (.lrem, 1) := dk_113 (dk_at dksX1_lots_5 23 rfl rfl)
theorem dX1_lots_142 : decode cX1_lots 142 = .ok (.lconst 1, 1) := dk_10 (dk_at dksX1_lots_6 0 rfl rfl)
theorem dX1_lots_143 : decode cX1_lots 143 = .ok (.lcmp, 1) := dk_148 (dk_at dksX1_lots_6 1 rfl rfl)
theorem dX1_lots_144 : decode cX1_lots 144 = .ok (.ifCond .ne 23, 3) := dk_154 0 23 (dk_at dksX1_lots_6 2 rfl rfl)
theorem dX1_lots_147 : decode cX1_lots 147 = .ok (.aload_n 0, 1) := dk_42 (dk_at dksX1_lots_6 5 rfl rfl)
theorem dX1_lots_148 : decode cX1_lots 148 = .ok (.getfield 7, 3) := dk_180 0 7 (dk_at dksX1_lots_6 6 rfl rfl)
theorem dX1_lots_151 : decode cX1_lots 151 = .ok (.bipush 70, 2) := dk_16 70 (dk_at dksX1_lots_6 9 rfl rfl)
theorem dX1_lots_153 : decode cX1_lots 153 = .ok (.iaload, 1) := dk_46 (dk_at dksX1_lots_6 11 rfl rfl)
theorem dX1_lots_154 : decode cX1_lots 154 = .ok (.bipush 40, 2) := dk_16 40 (dk_at dksX1_lots_6 12 rfl rfl)
theorem dX1_lots_156 : decode cX1_lots 156 = .ok (.if_icmp .ge 11, 3) := dk_162 0 11 (dk_at dksX1_lots_6 14 rfl rfl)
theorem dX1_lots_159 : decode cX1_lots 159 = .ok (.aload_n 0, 1) := dk_42 (dk_at dksX1_lots_6 17 rfl rfl)
theorem dX1_lots_160 : decode cX1_lots 160 = .ok (.iconst 0, 1) := dk_3 (dk_at dksX1_lots_6 18 rfl rfl)
theorem dX1_lots_161 : decode cX1_lots 161 = .ok (.invokevirtual 188, 3) := dk_182 0 188 (dk_at dksX1_lots_6 19 rfl rfl)
theorem dX1_lots_164 : decode cX1_lots 164 = .ok (.goto 39, 3) := dk_167 0 39 (dk_at dksX1_lots_7 0 rfl rfl)
theorem dX1_lots_167 : decode cX1_lots 167 = .ok (.aload_n 0, 1) := dk_42 (dk_at dksX1_lots_7 3 rfl rfl)
theorem dX1_lots_168 : decode cX1_lots 168 = .ok (.sipush 1000, 3) := dk_17 3 232 (dk_at dksX1_lots_7 4 rfl rfl)
theorem dX1_lots_171 : decode cX1_lots 171 = .ok (.bipush 100, 2) := dk_16 100 (dk_at dksX1_lots_7 7 rfl rfl)
theorem dX1_lots_173 : decode cX1_lots 173 = .ok (.lload_n 3, 1) := dk_33 (dk_at dksX1_lots_7 9 rfl rfl)
theorem dX1_lots_174 : decode cX1_lots 174 = .ok (.ldc2_w 248, 3) := dk_20 0 248 (dk_at dksX1_lots_7 10 rfl rfl)
theorem dX1_lots_177 : decode cX1_lots 177 = .ok (.ldiv, 1) := dk_109 (dk_at dksX1_lots_7 13 rfl rfl)
theorem dX1_lots_178 : decode cX1_lots 178 = .ok (.aload_n 0, 1) := dk_42 (dk_at dksX1_lots_7 14 rfl rfl)
theorem dX1_lots_179 : decode cX1_lots 179 = .ok (.getfield 7, 3) := dk_180 0 7 (dk_at dksX1_lots_7 15 rfl rfl)
theorem dX1_lots_182 : decode cX1_lots 182 = .ok (.iconst 1, 1) := dk_4 (dk_at dksX1_lots_7 18 rfl rfl)
theorem dX1_lots_183 : decode cX1_lots 183 = .ok (.iaload, 1) := dk_46 (dk_at dksX1_lots_7 19 rfl rfl)
theorem dX1_lots_184 : decode cX1_lots 184 = .ok (.i2l, 1) := dk_133 (dk_at dksX1_lots_7 20 rfl rfl)
theorem dX1_lots_185 : decode cX1_lots 185 = .ok (.lrem, 1) := dk_113 (dk_at dksX1_lots_7 21 rfl rfl)
theorem dX1_lots_186 : decode cX1_lots 186 = .ok (.l2i, 1) := dk_136 (dk_at dksX1_lots_7 22 rfl rfl)
theorem dX1_lots_187 : decode cX1_lots 187 = .ok (.imul, 1) := dk_104 (dk_at dksX1_lots_7 23 rfl rfl)
theorem dX1_lots_188 : decode cX1_lots 188 = .ok (.iadd, 1) := dk_96 (dk_at dksX1_lots_8 0 rfl rfl)
theorem dX1_lots_189 : decode cX1_lots 189 = .ok (.lload_n 3, 1) := dk_33 (dk_at dksX1_lots_8 1 rfl rfl)
theorem dX1_lots_190 : decode cX1_lots 190 = .ok (.ldc2_w 250, 3) := dk_20 0 250 (dk_at dksX1_lots_8 2 rfl rfl)
theorem dX1_lots_193 : decode cX1_lots 193 = .ok (.ldiv, 1) := dk_109 (dk_at dksX1_lots_8 5 rfl rfl)
theorem dX1_lots_194 : decode cX1_lots 194 = .ok (.ldc2_w 252, 3) := dk_20 0 252 (dk_at dksX1_lots_8 6 rfl rfl)
theorem dX1_lots_197 : decode cX1_lots 197 = .ok (.lrem, 1) := dk_113 (dk_at dksX1_lots_8 9 rfl rfl)
theorem dX1_lots_198 : decode cX1_lots 198 = .ok (.l2i, 1) := dk_136 (dk_at dksX1_lots_8 10 rfl rfl)
theorem dX1_lots_199 : decode cX1_lots 199 = .ok (.iadd, 1) := dk_96 (dk_at dksX1_lots_8 11 rfl rfl)
theorem dX1_lots_200 : decode cX1_lots 200 = .ok (.invokevirtual 188, 3) := dk_182 0 188 (dk_at dksX1_lots_8 12 rfl rfl)
theorem dX1_lots_203 : decode cX1_lots 203 = .ok (.iinc 5 1, 3) := dk_132 5 1 (dk_at dksX1_lots_8 15 rfl rfl)
theorem dX1_lots_206 : decode cX1_lots 206 = .ok (.goto (-145), 3) := dk_167 255 111 (dk_at dksX1_lots_8 18 rfl rfl)
theorem dX1_lots_209 : decode cX1_lots 209 = .ok (.aload_n 0, 1) := dk_42 (dk_at dksX1_lots_8 21 rfl rfl)
theorem dX1_lots_210 : decode cX1_lots 210 = .ok (.invokevirtual 191, 3) := dk_182 0 191 (dk_at dksX1_lots_9 0 rfl rfl)
theorem dX1_lots_213 : decode cX1_lots 213 = .ok (.ireturn, 1) := dk_172 (dk_at dksX1_lots_9 3 rfl rfl)
abbrev cX1_asked : ByteArray := prog_10_method_85_code
def yX1_asked : MethodName := ⟨RX1, "asked", "()I"⟩
theorem dX1_asked_0 : decode cX1_asked 0 = .ok (.aload_n 0, 1) := by decide +kernel
theorem dX1_asked_1 : decode cX1_asked 1 = .ok (.getfield 55, 3) := by decide +kernel
theorem dX1_asked_4 : decode cX1_asked 4 = .ok (.ireturn, 1) := by decide +kernel
abbrev cX1_upper : ByteArray := prog_10_method_86_code
def yX1_upper : MethodName := ⟨RX1, "upper", "()J"⟩
theorem dX1_upper_0 : decode cX1_upper 0 = .ok (.aload_n 0, 1) := by decide +kernel
theorem dX1_upper_1 : decode cX1_upper 1 = .ok (.getfield 227, 3) := by decide +kernel
theorem dX1_upper_4 : decode cX1_upper 4 = .ok (.lreturn, 1) := by decide +kernel
abbrev cX1_lower : ByteArray := prog_10_method_87_code
def yX1_lower : MethodName := ⟨RX1, "lower", "()J"⟩
theorem dX1_lower_0 : decode cX1_lower 0 = .ok (.aload_n 0, 1) := by decide +kernel
theorem dX1_lower_1 : decode cX1_lower 1 = .ok (.getfield 35, 3) := by decide +kernel
theorem dX1_lower_4 : decode cX1_lower 4 = .ok (.lreturn, 1) := by decide +kernel
abbrev cX1_count : ByteArray := prog_10_method_91_code
def yX1_count : MethodName := ⟨RX1, "count", "(I)I"⟩
def dkwX1_count_0 : List UInt8 := [27, 133, 9, 20, 1, 5, 184, 0, 60, 153, 0, 11, 42, 27, 182, 1, 7, 167, 0, 4, 2, 172]
abbrev dktX1_count_0 : List UInt8 := dkwX1_count_0 ++ []
theorem dksX1_count_0 : cX1_count.data.toList.drop 0 = dktX1_count_0 := by decide +kernel
theorem dX1_count_0 : decode cX1_count 0 = .ok (.iload_n 1, 1) := dk_27 (dk_at dksX1_count_0 0 rfl rfl)
theorem dX1_count_1 : decode cX1_count 1 = .ok (.i2l, 1) := dk_133 (dk_at dksX1_count_0 1 rfl rfl)
theorem dX1_count_2 : decode cX1_count 2 = .ok (.lconst 0, 1) := dk_9 (dk_at dksX1_count_0 2 rfl rfl)
theorem dX1_count_3 : decode cX1_count 3 = .ok (.ldc2_w 261, 3) := dk_20 1 5 (dk_at dksX1_count_0 3 rfl rfl)
theorem dX1_count_6 : decode cX1_count 6 = .ok (.invokestatic 60, 3) := dk_184 0 60 (dk_at dksX1_count_0 6 rfl rfl)
theorem dX1_count_9 : decode cX1_count 9 = .ok (.ifCond .eq 11, 3) := dk_153 0 11 (dk_at dksX1_count_0 9 rfl rfl)
theorem dX1_count_12 : decode cX1_count 12 = .ok (.aload_n 0, 1) := dk_42 (dk_at dksX1_count_0 12 rfl rfl)
theorem dX1_count_13 : decode cX1_count 13 = .ok (.iload_n 1, 1) := dk_27 (dk_at dksX1_count_0 13 rfl rfl)
theorem dX1_count_14 : decode cX1_count 14 = .ok (.invokevirtual 263, 3) := dk_182 1 7 (dk_at dksX1_count_0 14 rfl rfl)
theorem dX1_count_17 : decode cX1_count 17 = .ok (.goto 4, 3) := dk_167 0 4 (dk_at dksX1_count_0 17 rfl rfl)
theorem dX1_count_20 : decode cX1_count 20 = .ok (.iconst (-1), 1) := dk_2 (dk_at dksX1_count_0 20 rfl rfl)
theorem dX1_count_21 : decode cX1_count 21 = .ok (.ireturn, 1) := dk_172 (dk_at dksX1_count_0 21 rfl rfl)
abbrev cX1_counted : ByteArray := prog_10_method_90_code
def yX1_counted : MethodName := ⟨RX1, "counted", "(I)I"⟩
def dkwX1_counted_7 : List UInt8 := [180, 0, 16, 5, 51, 153, 0, 7, 4, 167, 0, 4, 3, 96, 172]
abbrev dktX1_counted_7 : List UInt8 := dkwX1_counted_7 ++ []
def dkwX1_counted_6 : List UInt8 := [153, 0, 7, 4, 167, 0, 4, 3, 42, 180, 0, 16, 4, 51, 153, 0, 7, 4, 167, 0, 4, 3, 96, 42]
abbrev dktX1_counted_6 : List UInt8 := dkwX1_counted_6 ++ dktX1_counted_7
def dkwX1_counted_5 : List UInt8 := [180, 0, 23, 16, 6, 184, 1, 1, 172, 42, 180, 0, 29, 7, 184, 1, 1, 172, 42, 180, 0, 16, 3, 51]
abbrev dktX1_counted_5 : List UInt8 := dkwX1_counted_5 ++ dktX1_counted_6
def dkwX1_counted_4 : List UInt8 := [182, 0, 142, 172, 42, 42, 180, 0, 7, 16, 71, 46, 182, 0, 209, 172, 42, 182, 0, 254, 172, 42]
abbrev dktX1_counted_4 : List UInt8 := dkwX1_counted_4 ++ dktX1_counted_5
def dkwX1_counted_3 : List UInt8 := [180, 0, 7, 16, 70, 46, 172, 42, 180, 0, 7, 16, 71, 46, 172, 42, 42, 180, 0, 7, 16, 71, 46]
abbrev dktX1_counted_3 : List UInt8 := dkwX1_counted_3 ++ dktX1_counted_4
def dkwX1_counted_2 : List UInt8 := [42, 180, 0, 7, 3, 46, 172, 42, 180, 0, 7, 4, 46, 172, 42, 180, 0, 7, 16, 29, 46, 172, 42]
abbrev dktX1_counted_2 : List UInt8 := dkwX1_counted_2 ++ dktX1_counted_3
def dkwX1_counted_1 : List UInt8 := [170, 0, 0, 0, 0, 0, 141, 0, 0, 0, 0, 0, 0, 0, 9, 0, 0, 0, 55, 0, 0, 0, 62, 0, 0, 0, 69, 0, 0, 0, 77, 0, 0, 0, 85, 0, 0, 0, 93, 0, 0, 0, 105, 0, 0, 0, 117, 0, 0, 0, 122, 0, 0, 0, 132]
abbrev dktX1_counted_1 : List UInt8 := dkwX1_counted_1 ++ dktX1_counted_2
def dkwX1_counted_0 : List UInt8 := [27]
abbrev dktX1_counted_0 : List UInt8 := dkwX1_counted_0 ++ dktX1_counted_1
theorem dksX1_counted_0 : cX1_counted.data.toList.drop 0 = dktX1_counted_0 := by decide +kernel
theorem dksX1_counted_1 : cX1_counted.data.toList.drop 1 = dktX1_counted_1 := dk_seg dksX1_counted_0 1 rfl rfl
theorem dksX1_counted_2 : cX1_counted.data.toList.drop 56 = dktX1_counted_2 := dk_seg dksX1_counted_1 55 rfl rfl
theorem dksX1_counted_3 : cX1_counted.data.toList.drop 79 = dktX1_counted_3 := dk_seg dksX1_counted_2 23 rfl rfl
theorem dksX1_counted_4 : cX1_counted.data.toList.drop 102 = dktX1_counted_4 := dk_seg dksX1_counted_3 23 rfl rfl
theorem dksX1_counted_5 : cX1_counted.data.toList.drop 124 = dktX1_counted_5 := dk_seg dksX1_counted_4 22 rfl rfl
theorem dksX1_counted_6 : cX1_counted.data.toList.drop 148 = dktX1_counted_6 := dk_seg dksX1_counted_5 24 rfl rfl
theorem dksX1_counted_7 : cX1_counted.data.toList.drop 172 = dktX1_counted_7 := dk_seg dksX1_counted_6 24 rfl rfl
theorem dX1_counted_0 : decode cX1_counted 0 = .ok (.iload_n 1, 1) := dk_27 (dk_at dksX1_counted_0 0 rfl rfl)
theorem dX1_counted_1 : decode cX1_counted 1 = .ok (.tableswitch 141 0 9 #[55, 62, 69, 77, 85, 93, 105, 117, 122, 132], 55) := by decide +kernel
theorem dX1_counted_56 : decode cX1_counted 56 = .ok (.aload_n 0, 1) := dk_42 (dk_at dksX1_counted_2 0 rfl rfl)
theorem dX1_counted_57 : decode cX1_counted 57 = .ok (.getfield 7, 3) := dk_180 0 7 (dk_at dksX1_counted_2 1 rfl rfl)
theorem dX1_counted_60 : decode cX1_counted 60 = .ok (.iconst 0, 1) := dk_3 (dk_at dksX1_counted_2 4 rfl rfl)
theorem dX1_counted_61 : decode cX1_counted 61 = .ok (.iaload, 1) := dk_46 (dk_at dksX1_counted_2 5 rfl rfl)
theorem dX1_counted_62 : decode cX1_counted 62 = .ok (.ireturn, 1) := dk_172 (dk_at dksX1_counted_2 6 rfl rfl)
theorem dX1_counted_63 : decode cX1_counted 63 = .ok (.aload_n 0, 1) := dk_42 (dk_at dksX1_counted_2 7 rfl rfl)
theorem dX1_counted_64 : decode cX1_counted 64 = .ok (.getfield 7, 3) := dk_180 0 7 (dk_at dksX1_counted_2 8 rfl rfl)
theorem dX1_counted_67 : decode cX1_counted 67 = .ok (.iconst 1, 1) := dk_4 (dk_at dksX1_counted_2 11 rfl rfl)
theorem dX1_counted_68 : decode cX1_counted 68 = .ok (.iaload, 1) := dk_46 (dk_at dksX1_counted_2 12 rfl rfl)
theorem dX1_counted_69 : decode cX1_counted 69 = .ok (.ireturn, 1) := dk_172 (dk_at dksX1_counted_2 13 rfl rfl)
theorem dX1_counted_70 : decode cX1_counted 70 = .ok (.aload_n 0, 1) := dk_42 (dk_at dksX1_counted_2 14 rfl rfl)
theorem dX1_counted_71 : decode cX1_counted 71 = .ok (.getfield 7, 3) := dk_180 0 7 (dk_at dksX1_counted_2 15 rfl rfl)
theorem dX1_counted_74 : decode cX1_counted 74 = .ok (.bipush 29, 2) := dk_16 29 (dk_at dksX1_counted_2 18 rfl rfl)
theorem dX1_counted_76 : decode cX1_counted 76 = .ok (.iaload, 1) := dk_46 (dk_at dksX1_counted_2 20 rfl rfl)
theorem dX1_counted_77 : decode cX1_counted 77 = .ok (.ireturn, 1) := dk_172 (dk_at dksX1_counted_2 21 rfl rfl)
theorem dX1_counted_78 : decode cX1_counted 78 = .ok (.aload_n 0, 1) := dk_42 (dk_at dksX1_counted_2 22 rfl rfl)
theorem dX1_counted_79 : decode cX1_counted 79 = .ok (.getfield 7, 3) := dk_180 0 7 (dk_at dksX1_counted_3 0 rfl rfl)
theorem dX1_counted_82 : decode cX1_counted 82 = .ok (.bipush 70, 2) := dk_16 70 (dk_at dksX1_counted_3 3 rfl rfl)
theorem dX1_counted_84 : decode cX1_counted 84 = .ok (.iaload, 1) := dk_46 (dk_at dksX1_counted_3 5 rfl rfl)
theorem dX1_counted_85 : decode cX1_counted 85 = .ok (.ireturn, 1) := dk_172 (dk_at dksX1_counted_3 6 rfl rfl)
theorem dX1_counted_86 : decode cX1_counted 86 = .ok (.aload_n 0, 1) := dk_42 (dk_at dksX1_counted_3 7 rfl rfl)
theorem dX1_counted_87 : decode cX1_counted 87 = .ok (.getfield 7, 3) := dk_180 0 7 (dk_at dksX1_counted_3 8 rfl rfl)
theorem dX1_counted_90 : decode cX1_counted 90 = .ok (.bipush 71, 2) := dk_16 71 (dk_at dksX1_counted_3 11 rfl rfl)
theorem dX1_counted_92 : decode cX1_counted 92 = .ok (.iaload, 1) := dk_46 (dk_at dksX1_counted_3 13 rfl rfl)
theorem dX1_counted_93 : decode cX1_counted 93 = .ok (.ireturn, 1) := dk_172 (dk_at dksX1_counted_3 14 rfl rfl)
theorem dX1_counted_94 : decode cX1_counted 94 = .ok (.aload_n 0, 1) := dk_42 (dk_at dksX1_counted_3 15 rfl rfl)
theorem dX1_counted_95 : decode cX1_counted 95 = .ok (.aload_n 0, 1) := dk_42 (dk_at dksX1_counted_3 16 rfl rfl)
theorem dX1_counted_96 : decode cX1_counted 96 = .ok (.getfield 7, 3) := dk_180 0 7 (dk_at dksX1_counted_3 17 rfl rfl)
theorem dX1_counted_99 : decode cX1_counted 99 = .ok (.bipush 71, 2) := dk_16 71 (dk_at dksX1_counted_3 20 rfl rfl)
theorem dX1_counted_101 : decode cX1_counted 101 = .ok (.iaload, 1) := dk_46 (dk_at dksX1_counted_3 22 rfl rfl)
theorem dX1_counted_102 : decode cX1_counted 102 = .ok (.invokevirtual 142, 3) := dk_182 0 142 (dk_at dksX1_counted_4 0 rfl rfl)
theorem dX1_counted_105 : decode cX1_counted 105 = .ok (.ireturn, 1) := dk_172 (dk_at dksX1_counted_4 3 rfl rfl)
theorem dX1_counted_106 : decode cX1_counted 106 = .ok (.aload_n 0, 1) := dk_42 (dk_at dksX1_counted_4 4 rfl rfl)
theorem dX1_counted_107 : decode cX1_counted 107 = .ok (.aload_n 0, 1) := dk_42 (dk_at dksX1_counted_4 5 rfl rfl)
theorem dX1_counted_108 : decode cX1_counted 108 = .ok (.getfield 7, 3) := dk_180 0 7 (dk_at dksX1_counted_4 6 rfl rfl)
theorem dX1_counted_111 : decode cX1_counted 111 = .ok (.bipush 71, 2) := dk_16 71 (dk_at dksX1_counted_4 9 rfl rfl)
theorem dX1_counted_113 : decode cX1_counted 113 = .ok (.iaload, 1) := dk_46 (dk_at dksX1_counted_4 11 rfl rfl)
theorem dX1_counted_114 : decode cX1_counted 114 = .ok (.invokevirtual 209, 3) := dk_182 0 209 (dk_at dksX1_counted_4 12 rfl rfl)
theorem dX1_counted_117 : decode cX1_counted 117 = .ok (.ireturn, 1) := dk_172 (dk_at dksX1_counted_4 15 rfl rfl)
theorem dX1_counted_118 : decode cX1_counted 118 = .ok (.aload_n 0, 1) := dk_42 (dk_at dksX1_counted_4 16 rfl rfl)
theorem dX1_counted_119 : decode cX1_counted 119 = .ok (.invokevirtual 254, 3) := dk_182 0 254 (dk_at dksX1_counted_4 17 rfl rfl)
theorem dX1_counted_122 : decode cX1_counted 122 = .ok (.ireturn, 1) := dk_172 (dk_at dksX1_counted_4 20 rfl rfl)
theorem dX1_counted_123 : decode cX1_counted 123 = .ok (.aload_n 0, 1) := dk_42 (dk_at dksX1_counted_4 21 rfl rfl)
theorem dX1_counted_124 : decode cX1_counted 124 = .ok (.getfield 23, 3) := dk_180 0 23 (dk_at dksX1_counted_5 0 rfl rfl)
theorem dX1_counted_127 : decode cX1_counted 127 = .ok (.bipush 6, 2) := dk_16 6 (dk_at dksX1_counted_5 3 rfl rfl)
theorem dX1_counted_129 : decode cX1_counted 129 = .ok (.invokestatic 257, 3) := dk_184 1 1 (dk_at dksX1_counted_5 5 rfl rfl)
theorem dX1_counted_132 : decode cX1_counted 132 = .ok (.ireturn, 1) := dk_172 (dk_at dksX1_counted_5 8 rfl rfl)
theorem dX1_counted_133 : decode cX1_counted 133 = .ok (.aload_n 0, 1) := dk_42 (dk_at dksX1_counted_5 9 rfl rfl)
theorem dX1_counted_134 : decode cX1_counted 134 = .ok (.getfield 29, 3) := dk_180 0 29 (dk_at dksX1_counted_5 10 rfl rfl)
theorem dX1_counted_137 : decode cX1_counted 137 = .ok (.iconst 4, 1) := dk_7 (dk_at dksX1_counted_5 13 rfl rfl)
theorem dX1_counted_138 : decode cX1_counted 138 = .ok (.invokestatic 257, 3) := dk_184 1 1 (dk_at dksX1_counted_5 14 rfl rfl)
theorem dX1_counted_141 : decode cX1_counted 141 = .ok (.ireturn, 1) := dk_172 (dk_at dksX1_counted_5 17 rfl rfl)
theorem dX1_counted_142 : decode cX1_counted 142 = .ok (.aload_n 0, 1) := dk_42 (dk_at dksX1_counted_5 18 rfl rfl)
theorem dX1_counted_143 : decode cX1_counted 143 = .ok (.getfield 16, 3) := dk_180 0 16 (dk_at dksX1_counted_5 19 rfl rfl)
theorem dX1_counted_146 : decode cX1_counted 146 = .ok (.iconst 0, 1) := dk_3 (dk_at dksX1_counted_5 22 rfl rfl)
theorem dX1_counted_147 : decode cX1_counted 147 = .ok (.baload, 1) := dk_51 (dk_at dksX1_counted_5 23 rfl rfl)
theorem dX1_counted_148 : decode cX1_counted 148 = .ok (.ifCond .eq 7, 3) := dk_153 0 7 (dk_at dksX1_counted_6 0 rfl rfl)
theorem dX1_counted_151 : decode cX1_counted 151 = .ok (.iconst 1, 1) := dk_4 (dk_at dksX1_counted_6 3 rfl rfl)
theorem dX1_counted_152 : decode cX1_counted 152 = .ok (.goto 4, 3) := dk_167 0 4 (dk_at dksX1_counted_6 4 rfl rfl)
theorem dX1_counted_155 : decode cX1_counted 155 = .ok (.iconst 0, 1) := dk_3 (dk_at dksX1_counted_6 7 rfl rfl)
theorem dX1_counted_156 : decode cX1_counted 156 = .ok (.aload_n 0, 1) := dk_42 (dk_at dksX1_counted_6 8 rfl rfl)
theorem dX1_counted_157 : decode cX1_counted 157 = .ok (.getfield 16, 3) := dk_180 0 16 (dk_at dksX1_counted_6 9 rfl rfl)
theorem dX1_counted_160 : decode cX1_counted 160 = .ok (.iconst 1, 1) := dk_4 (dk_at dksX1_counted_6 12 rfl rfl)
theorem dX1_counted_161 : decode cX1_counted 161 = .ok (.baload, 1) := dk_51 (dk_at dksX1_counted_6 13 rfl rfl)
theorem dX1_counted_162 : decode cX1_counted 162 = .ok (.ifCond .eq 7, 3) := dk_153 0 7 (dk_at dksX1_counted_6 14 rfl rfl)
theorem dX1_counted_165 : decode cX1_counted 165 = .ok (.iconst 1, 1) := dk_4 (dk_at dksX1_counted_6 17 rfl rfl)
theorem dX1_counted_166 : decode cX1_counted 166 = .ok (.goto 4, 3) := dk_167 0 4 (dk_at dksX1_counted_6 18 rfl rfl)
theorem dX1_counted_169 : decode cX1_counted 169 = .ok (.iconst 0, 1) := dk_3 (dk_at dksX1_counted_6 21 rfl rfl)
theorem dX1_counted_170 : decode cX1_counted 170 = .ok (.iadd, 1) := dk_96 (dk_at dksX1_counted_6 22 rfl rfl)
theorem dX1_counted_171 : decode cX1_counted 171 = .ok (.aload_n 0, 1) := dk_42 (dk_at dksX1_counted_6 23 rfl rfl)
theorem dX1_counted_172 : decode cX1_counted 172 = .ok (.getfield 16, 3) := dk_180 0 16 (dk_at dksX1_counted_7 0 rfl rfl)
theorem dX1_counted_175 : decode cX1_counted 175 = .ok (.iconst 2, 1) := dk_5 (dk_at dksX1_counted_7 3 rfl rfl)
theorem dX1_counted_176 : decode cX1_counted 176 = .ok (.baload, 1) := dk_51 (dk_at dksX1_counted_7 4 rfl rfl)
theorem dX1_counted_177 : decode cX1_counted 177 = .ok (.ifCond .eq 7, 3) := dk_153 0 7 (dk_at dksX1_counted_7 5 rfl rfl)
theorem dX1_counted_180 : decode cX1_counted 180 = .ok (.iconst 1, 1) := dk_4 (dk_at dksX1_counted_7 8 rfl rfl)
theorem dX1_counted_181 : decode cX1_counted 181 = .ok (.goto 4, 3) := dk_167 0 4 (dk_at dksX1_counted_7 9 rfl rfl)
theorem dX1_counted_184 : decode cX1_counted 184 = .ok (.iconst 0, 1) := dk_3 (dk_at dksX1_counted_7 12 rfl rfl)
theorem dX1_counted_185 : decode cX1_counted 185 = .ok (.iadd, 1) := dk_96 (dk_at dksX1_counted_7 13 rfl rfl)
theorem dX1_counted_186 : decode cX1_counted 186 = .ok (.ireturn, 1) := dk_172 (dk_at dksX1_counted_7 14 rfl rfl)
abbrev cX1_manyOld : ByteArray := prog_10_method_89_code
def yX1_manyOld : MethodName := ⟨RX1, "manyOld", "()I"⟩
def dkwX1_manyOld_1 : List UInt8 := [184, 0, 179, 153, 0, 7, 4, 167, 0, 4, 3, 96, 60, 132, 2, 1, 167, 255, 220, 27, 172]
abbrev dktX1_manyOld_1 : List UInt8 := dkwX1_manyOld_1 ++ []
def dkwX1_manyOld_0 : List UInt8 := [3, 60, 3, 61, 28, 42, 180, 0, 7, 3, 46, 162, 0, 32, 27, 42, 180, 0, 7, 5, 28, 96, 46, 4]
abbrev dktX1_manyOld_0 : List UInt8 := dkwX1_manyOld_0 ++ dktX1_manyOld_1
theorem dksX1_manyOld_0 : cX1_manyOld.data.toList.drop 0 = dktX1_manyOld_0 := by decide +kernel
theorem dksX1_manyOld_1 : cX1_manyOld.data.toList.drop 24 = dktX1_manyOld_1 := dk_seg dksX1_manyOld_0 24 rfl rfl
theorem dX1_manyOld_0 : decode cX1_manyOld 0 = .ok (.iconst 0, 1) := dk_3 (dk_at dksX1_manyOld_0 0 rfl rfl)
theorem dX1_manyOld_1 : decode cX1_manyOld 1 = .ok (.istore_n 1, 1) := dk_60 (dk_at dksX1_manyOld_0 1 rfl rfl)
theorem dX1_manyOld_2 : decode cX1_manyOld 2 = .ok (.iconst 0, 1) := dk_3 (dk_at dksX1_manyOld_0 2 rfl rfl)
theorem dX1_manyOld_3 : decode cX1_manyOld 3 = .ok (.istore_n 2, 1) := dk_61 (dk_at dksX1_manyOld_0 3 rfl rfl)
theorem dX1_manyOld_4 : decode cX1_manyOld 4 = .ok (.iload_n 2, 1) := dk_28 (dk_at dksX1_manyOld_0 4 rfl rfl)
theorem dX1_manyOld_5 : decode cX1_manyOld 5 = .ok (.aload_n 0, 1) := dk_42 (dk_at dksX1_manyOld_0 5 rfl rfl)
theorem dX1_manyOld_6 : decode cX1_manyOld 6 = .ok (.getfield 7, 3) := dk_180 0 7 (dk_at dksX1_manyOld_0 6 rfl rfl)
theorem dX1_manyOld_9 : decode cX1_manyOld 9 = .ok (.iconst 0, 1) := dk_3 (dk_at dksX1_manyOld_0 9 rfl rfl)
theorem dX1_manyOld_10 : decode cX1_manyOld 10 = .ok (.iaload, 1) := dk_46 (dk_at dksX1_manyOld_0 10 rfl rfl)
theorem dX1_manyOld_11 : decode cX1_manyOld 11 = .ok (.if_icmp .ge 32, 3) := dk_162 0 32 (dk_at dksX1_manyOld_0 11 rfl rfl)
theorem dX1_manyOld_14 : decode cX1_manyOld 14 = .ok (.iload_n 1, 1) := dk_27 (dk_at dksX1_manyOld_0 14 rfl rfl)
theorem dX1_manyOld_15 : decode cX1_manyOld 15 = .ok (.aload_n 0, 1) := dk_42 (dk_at dksX1_manyOld_0 15 rfl rfl)
theorem dX1_manyOld_16 : decode cX1_manyOld 16 = .ok (.getfield 7, 3) := dk_180 0 7 (dk_at dksX1_manyOld_0 16 rfl rfl)
theorem dX1_manyOld_19 : decode cX1_manyOld 19 = .ok (.iconst 2, 1) := dk_5 (dk_at dksX1_manyOld_0 19 rfl rfl)
theorem dX1_manyOld_20 : decode cX1_manyOld 20 = .ok (.iload_n 2, 1) := dk_28 (dk_at dksX1_manyOld_0 20 rfl rfl)
theorem dX1_manyOld_21 : decode cX1_manyOld 21 = .ok (.iadd, 1) := dk_96 (dk_at dksX1_manyOld_0 21 rfl rfl)
theorem dX1_manyOld_22 : decode cX1_manyOld 22 = .ok (.iaload, 1) := dk_46 (dk_at dksX1_manyOld_0 22 rfl rfl)
theorem dX1_manyOld_23 : decode cX1_manyOld 23 = .ok (.iconst 1, 1) := dk_4 (dk_at dksX1_manyOld_0 23 rfl rfl)
theorem dX1_manyOld_24 : decode cX1_manyOld 24 = .ok (.invokestatic 179, 3) := dk_184 0 179 (dk_at dksX1_manyOld_1 0 rfl rfl)
theorem dX1_manyOld_27 : decode cX1_manyOld 27 = .ok (.ifCond .eq 7, 3) := dk_153 0 7 (dk_at dksX1_manyOld_1 3 rfl rfl)
theorem dX1_manyOld_30 : decode cX1_manyOld 30 = .ok (.iconst 1, 1) := dk_4 (dk_at dksX1_manyOld_1 6 rfl rfl)
theorem dX1_manyOld_31 : decode cX1_manyOld 31 = .ok (.goto 4, 3) := dk_167 0 4 (dk_at dksX1_manyOld_1 7 rfl rfl)
theorem dX1_manyOld_34 : decode cX1_manyOld 34 = .ok (.iconst 0, 1) := dk_3 (dk_at dksX1_manyOld_1 10 rfl rfl)
theorem dX1_manyOld_35 : decode cX1_manyOld 35 = .ok (.iadd, 1) := dk_96 (dk_at dksX1_manyOld_1 11 rfl rfl)
theorem dX1_manyOld_36 : decode cX1_manyOld 36 = .ok (.istore_n 1, 1) := dk_60 (dk_at dksX1_manyOld_1 12 rfl rfl)
theorem dX1_manyOld_37 : decode cX1_manyOld 37 = .ok (.iinc 2 1, 3) := dk_132 2 1 (dk_at dksX1_manyOld_1 13 rfl rfl)
theorem dX1_manyOld_40 : decode cX1_manyOld 40 = .ok (.goto (-36), 3) := dk_167 255 220 (dk_at dksX1_manyOld_1 16 rfl rfl)
theorem dX1_manyOld_43 : decode cX1_manyOld 43 = .ok (.iload_n 1, 1) := dk_27 (dk_at dksX1_manyOld_1 19 rfl rfl)
theorem dX1_manyOld_44 : decode cX1_manyOld 44 = .ok (.ireturn, 1) := dk_172 (dk_at dksX1_manyOld_1 20 rfl rfl)
abbrev cX1_manyThere : ByteArray := prog_10_method_88_code
def yX1_manyThere : MethodName := ⟨RX1, "manyThere", "([II)I"⟩
def dkwX1_manyThere_1 : List UInt8 := [132, 3, 1, 167, 255, 234, 28, 172]
abbrev dktX1_manyThere_1 : List UInt8 := dkwX1_manyThere_1 ++ []
def dkwX1_manyThere_0 : List UInt8 := [3, 61, 3, 62, 29, 27, 162, 0, 23, 28, 42, 29, 46, 156, 0, 7, 3, 167, 0, 4, 4, 96, 61]
abbrev dktX1_manyThere_0 : List UInt8 := dkwX1_manyThere_0 ++ dktX1_manyThere_1
theorem dksX1_manyThere_0 : cX1_manyThere.data.toList.drop 0 = dktX1_manyThere_0 := by decide +kernel
theorem dksX1_manyThere_1 : cX1_manyThere.data.toList.drop 23 = dktX1_manyThere_1 := dk_seg dksX1_manyThere_0 23 rfl rfl
theorem dX1_manyThere_0 : decode cX1_manyThere 0 = .ok (.iconst 0, 1) := dk_3 (dk_at dksX1_manyThere_0 0 rfl rfl)
theorem dX1_manyThere_1 : decode cX1_manyThere 1 = .ok (.istore_n 2, 1) := dk_61 (dk_at dksX1_manyThere_0 1 rfl rfl)
theorem dX1_manyThere_2 : decode cX1_manyThere 2 = .ok (.iconst 0, 1) := dk_3 (dk_at dksX1_manyThere_0 2 rfl rfl)
theorem dX1_manyThere_3 : decode cX1_manyThere 3 = .ok (.istore_n 3, 1) := dk_62 (dk_at dksX1_manyThere_0 3 rfl rfl)
theorem dX1_manyThere_4 : decode cX1_manyThere 4 = .ok (.iload_n 3, 1) := dk_29 (dk_at dksX1_manyThere_0 4 rfl rfl)
theorem dX1_manyThere_5 : decode cX1_manyThere 5 = .ok (.iload_n 1, 1) := dk_27 (dk_at dksX1_manyThere_0 5 rfl rfl)
theorem dX1_manyThere_6 : decode cX1_manyThere 6 = .ok (.if_icmp .ge 23, 3) := dk_162 0 23 (dk_at dksX1_manyThere_0 6 rfl rfl)
theorem dX1_manyThere_9 : decode cX1_manyThere 9 = .ok (.iload_n 2, 1) := dk_28 (dk_at dksX1_manyThere_0 9 rfl rfl)
theorem dX1_manyThere_10 : decode cX1_manyThere 10 = .ok (.aload_n 0, 1) := dk_42 (dk_at dksX1_manyThere_0 10 rfl rfl)
theorem dX1_manyThere_11 : decode cX1_manyThere 11 = .ok (.iload_n 3, 1) := dk_29 (dk_at dksX1_manyThere_0 11 rfl rfl)
theorem dX1_manyThere_12 : decode cX1_manyThere 12 = .ok (.iaload, 1) := dk_46 (dk_at dksX1_manyThere_0 12 rfl rfl)
theorem dX1_manyThere_13 : decode cX1_manyThere 13 = .ok (.ifCond .ge 7, 3) := dk_156 0 7 (dk_at dksX1_manyThere_0 13 rfl rfl)
theorem dX1_manyThere_16 : decode cX1_manyThere 16 = .ok (.iconst 0, 1) := dk_3 (dk_at dksX1_manyThere_0 16 rfl rfl)
theorem dX1_manyThere_17 : decode cX1_manyThere 17 = .ok (.goto 4, 3) := dk_167 0 4 (dk_at dksX1_manyThere_0 17 rfl rfl)
theorem dX1_manyThere_20 : decode cX1_manyThere 20 = .ok (.iconst 1, 1) := dk_4 (dk_at dksX1_manyThere_0 20 rfl rfl)
theorem dX1_manyThere_21 : decode cX1_manyThere 21 = .ok (.iadd, 1) := dk_96 (dk_at dksX1_manyThere_0 21 rfl rfl)
theorem dX1_manyThere_22 : decode cX1_manyThere 22 = .ok (.istore_n 2, 1) := dk_61 (dk_at dksX1_manyThere_0 22 rfl rfl)
theorem dX1_manyThere_23 : decode cX1_manyThere 23 = .ok (.iinc 3 1, 3) := dk_132 3 1 (dk_at dksX1_manyThere_1 0 rfl rfl)
theorem dX1_manyThere_26 : decode cX1_manyThere 26 = .ok (.goto (-22), 3) := dk_167 255 234 (dk_at dksX1_manyThere_1 3 rfl rfl)
theorem dX1_manyThere_29 : decode cX1_manyThere 29 = .ok (.iload_n 2, 1) := dk_28 (dk_at dksX1_manyThere_1 6 rfl rfl)
theorem dX1_manyThere_30 : decode cX1_manyThere 30 = .ok (.ireturn, 1) := dk_172 (dk_at dksX1_manyThere_1 7 rfl rfl)
abbrev cX1_finding : ByteArray := prog_10_method_92_code
def yX1_finding : MethodName := ⟨RX1, "finding", "()I"⟩
theorem dX1_finding_0 : decode cX1_finding 0 = .ok (.aload_n 0, 1) := by decide +kernel
theorem dX1_finding_1 : decode cX1_finding 1 = .ok (.getfield 51, 3) := by decide +kernel
theorem dX1_finding_4 : decode cX1_finding 4 = .ok (.ireturn, 1) := by decide +kernel
abbrev cX1_findings : ByteArray := prog_10_method_93_code
def yX1_findings : MethodName := ⟨RX1, "findings", "(I)I"⟩
def dkwX1_findings_0 : List UInt8 := [27, 133, 10, 20, 0, 58, 184, 0, 60, 153, 0, 12, 42, 180, 0, 32, 27, 46, 167, 0, 4, 2, 172]
abbrev dktX1_findings_0 : List UInt8 := dkwX1_findings_0 ++ []
theorem dksX1_findings_0 : cX1_findings.data.toList.drop 0 = dktX1_findings_0 := by decide +kernel
theorem dX1_findings_0 : decode cX1_findings 0 = .ok (.iload_n 1, 1) := dk_27 (dk_at dksX1_findings_0 0 rfl rfl)
theorem dX1_findings_1 : decode cX1_findings 1 = .ok (.i2l, 1) := dk_133 (dk_at dksX1_findings_0 1 rfl rfl)
theorem dX1_findings_2 : decode cX1_findings 2 = .ok (.lconst 1, 1) := dk_10 (dk_at dksX1_findings_0 2 rfl rfl)
theorem dX1_findings_3 : decode cX1_findings 3 = .ok (.ldc2_w 58, 3) := dk_20 0 58 (dk_at dksX1_findings_0 3 rfl rfl)
theorem dX1_findings_6 : decode cX1_findings 6 = .ok (.invokestatic 60, 3) := dk_184 0 60 (dk_at dksX1_findings_0 6 rfl rfl)
theorem dX1_findings_9 : decode cX1_findings 9 = .ok (.ifCond .eq 12, 3) := dk_153 0 12 (dk_at dksX1_findings_0 9 rfl rfl)
theorem dX1_findings_12 : decode cX1_findings 12 = .ok (.aload_n 0, 1) := dk_42 (dk_at dksX1_findings_0 12 rfl rfl)
theorem dX1_findings_13 : decode cX1_findings 13 = .ok (.getfield 32, 3) := dk_180 0 32 (dk_at dksX1_findings_0 13 rfl rfl)
theorem dX1_findings_16 : decode cX1_findings 16 = .ok (.iload_n 1, 1) := dk_27 (dk_at dksX1_findings_0 16 rfl rfl)
theorem dX1_findings_17 : decode cX1_findings 17 = .ok (.iaload, 1) := dk_46 (dk_at dksX1_findings_0 17 rfl rfl)
theorem dX1_findings_18 : decode cX1_findings 18 = .ok (.goto 4, 3) := dk_167 0 4 (dk_at dksX1_findings_0 18 rfl rfl)
theorem dX1_findings_21 : decode cX1_findings 21 = .ok (.iconst (-1), 1) := dk_2 (dk_at dksX1_findings_0 21 rfl rfl)
theorem dX1_findings_22 : decode cX1_findings 22 = .ok (.ireturn, 1) := dk_172 (dk_at dksX1_findings_0 22 rfl rfl)
abbrev cX1_digest : ByteArray := prog_10_method_94_code
def yX1_digest : MethodName := ⟨RX1, "digest", "()J"⟩
def dkwX1_digest_13 : List UInt8 := [167, 255, 222, 132, 3, 1, 167, 255, 194, 31, 173]
abbrev dktX1_digest_13 : List UInt8 := dkwX1_digest_13 ++ []
def dkwX1_digest_12 : List UInt8 := [20, 1, 12, 31, 105, 42, 180, 0, 26, 16, 60, 29, 104, 21, 4, 96, 46, 133, 97, 64, 132, 4, 1]
abbrev dktX1_digest_12 : List UInt8 := dkwX1_digest_12 ++ dktX1_digest_13
def dkwX1_digest_11 : List UInt8 := [180, 0, 29, 29, 46, 133, 97, 64, 3, 54, 4, 21, 4, 42, 180, 0, 29, 29, 46, 162, 0, 29]
abbrev dktX1_digest_11 : List UInt8 := dkwX1_digest_11 ++ dktX1_digest_12
def dkwX1_digest_10 : List UInt8 := [167, 255, 222, 132, 3, 1, 167, 255, 193, 3, 62, 29, 7, 162, 0, 63, 20, 1, 12, 31, 105, 42]
abbrev dktX1_digest_10 : List UInt8 := dkwX1_digest_10 ++ dktX1_digest_11
def dkwX1_digest_9 : List UInt8 := [20, 1, 12, 31, 105, 42, 180, 0, 20, 16, 40, 29, 104, 21, 4, 96, 46, 133, 97, 64, 132, 4, 1]
abbrev dktX1_digest_9 : List UInt8 := dkwX1_digest_9 ++ dktX1_digest_10
def dkwX1_digest_8 : List UInt8 := [180, 0, 23, 29, 46, 133, 97, 64, 3, 54, 4, 21, 4, 42, 180, 0, 23, 29, 46, 162, 0, 29]
abbrev dktX1_digest_8 : List UInt8 := dkwX1_digest_8 ++ dktX1_digest_9
def dkwX1_digest_7 : List UInt8 := [133, 97, 64, 132, 3, 1, 167, 255, 215, 3, 62, 29, 16, 6, 162, 0, 63, 20, 1, 12, 31, 105, 42]
abbrev dktX1_digest_7 : List UInt8 := dkwX1_digest_7 ++ dktX1_digest_8
def dkwX1_digest_6 : List UInt8 := [180, 0, 16, 29, 51, 153, 0, 18, 42, 180, 0, 13, 16, 84, 29, 104, 16, 29, 96, 46, 167, 0, 4, 2]
abbrev dktX1_digest_6 : List UInt8 := dkwX1_digest_6 ++ dktX1_digest_7
def dkwX1_digest_5 : List UInt8 := [167, 255, 232, 132, 3, 1, 167, 255, 213, 3, 62, 29, 6, 162, 0, 42, 20, 1, 12, 31, 105, 42]
abbrev dktX1_digest_5 : List UInt8 := dkwX1_digest_5 ++ dktX1_digest_6
def dkwX1_digest_4 : List UInt8 := [21, 4, 6, 162, 0, 24, 20, 1, 12, 31, 105, 42, 29, 21, 4, 182, 0, 176, 133, 97, 64, 132, 4, 1]
abbrev dktX1_digest_4 : List UInt8 := dkwX1_digest_4 ++ dktX1_digest_5
def dkwX1_digest_3 : List UInt8 := [167, 255, 231, 132, 3, 1, 167, 255, 212, 3, 62, 29, 42, 180, 0, 7, 4, 46, 162, 0, 39, 3, 54, 4]
abbrev dktX1_digest_3 : List UInt8 := dkwX1_digest_3 ++ dktX1_digest_4
def dkwX1_digest_2 : List UInt8 := [16, 7, 162, 0, 24, 20, 1, 12, 31, 105, 42, 29, 21, 4, 182, 0, 165, 133, 97, 64, 132, 4, 1]
abbrev dktX1_digest_2 : List UInt8 := dkwX1_digest_2 ++ dktX1_digest_3
def dkwX1_digest_1 : List UInt8 := [64, 132, 3, 1, 167, 255, 234, 3, 62, 29, 42, 180, 0, 7, 3, 46, 162, 0, 40, 3, 54, 4, 21, 4]
abbrev dktX1_digest_1 : List UInt8 := dkwX1_digest_1 ++ dktX1_digest_2
def dkwX1_digest_0 : List UInt8 := [20, 1, 10, 64, 3, 62, 29, 16, 11, 162, 0, 22, 20, 1, 12, 31, 105, 42, 29, 182, 1, 7, 133, 97]
abbrev dktX1_digest_0 : List UInt8 := dkwX1_digest_0 ++ dktX1_digest_1
theorem dksX1_digest_0 : cX1_digest.data.toList.drop 0 = dktX1_digest_0 := by decide +kernel
theorem dksX1_digest_1 : cX1_digest.data.toList.drop 24 = dktX1_digest_1 := dk_seg dksX1_digest_0 24 rfl rfl
theorem dksX1_digest_2 : cX1_digest.data.toList.drop 48 = dktX1_digest_2 := dk_seg dksX1_digest_1 24 rfl rfl
theorem dksX1_digest_3 : cX1_digest.data.toList.drop 71 = dktX1_digest_3 := dk_seg dksX1_digest_2 23 rfl rfl
theorem dksX1_digest_4 : cX1_digest.data.toList.drop 95 = dktX1_digest_4 := dk_seg dksX1_digest_3 24 rfl rfl
theorem dksX1_digest_5 : cX1_digest.data.toList.drop 119 = dktX1_digest_5 := dk_seg dksX1_digest_4 24 rfl rfl
theorem dksX1_digest_6 : cX1_digest.data.toList.drop 141 = dktX1_digest_6 := dk_seg dksX1_digest_5 22 rfl rfl
theorem dksX1_digest_7 : cX1_digest.data.toList.drop 165 = dktX1_digest_7 := dk_seg dksX1_digest_6 24 rfl rfl
theorem dksX1_digest_8 : cX1_digest.data.toList.drop 188 = dktX1_digest_8 := dk_seg dksX1_digest_7 23 rfl rfl
theorem dksX1_digest_9 : cX1_digest.data.toList.drop 210 = dktX1_digest_9 := dk_seg dksX1_digest_8 22 rfl rfl
theorem dksX1_digest_10 : cX1_digest.data.toList.drop 233 = dktX1_digest_10 := dk_seg dksX1_digest_9 23 rfl rfl
theorem dksX1_digest_11 : cX1_digest.data.toList.drop 255 = dktX1_digest_11 := dk_seg dksX1_digest_10 22 rfl rfl
theorem dksX1_digest_12 : cX1_digest.data.toList.drop 277 = dktX1_digest_12 := dk_seg dksX1_digest_11 22 rfl rfl
theorem dksX1_digest_13 : cX1_digest.data.toList.drop 300 = dktX1_digest_13 := dk_seg dksX1_digest_12 23 rfl rfl
theorem dX1_digest_0 : decode cX1_digest 0 = .ok (.ldc2_w 266, 3) := dk_20 1 10 (dk_at dksX1_digest_0 0 rfl rfl)
theorem dX1_digest_3 : decode cX1_digest 3 = .ok (.lstore_n 1, 1) := dk_64 (dk_at dksX1_digest_0 3 rfl rfl)
theorem dX1_digest_4 : decode cX1_digest 4 = .ok (.iconst 0, 1) := dk_3 (dk_at dksX1_digest_0 4 rfl rfl)
theorem dX1_digest_5 : decode cX1_digest 5 = .ok (.istore_n 3, 1) := dk_62 (dk_at dksX1_digest_0 5 rfl rfl)
theorem dX1_digest_6 : decode cX1_digest 6 = .ok (.iload_n 3, 1) := dk_29 (dk_at dksX1_digest_0 6 rfl rfl)
theorem dX1_digest_7 : decode cX1_digest 7 = .ok (.bipush 11, 2) := dk_16 11 (dk_at dksX1_digest_0 7 rfl rfl)
theorem dX1_digest_9 : decode cX1_digest 9 = .ok (.if_icmp .ge 22, 3) := dk_162 0 22 (dk_at dksX1_digest_0 9 rfl rfl)
theorem dX1_digest_12 : decode cX1_digest 12 = .ok (.ldc2_w 268, 3) := dk_20 1 12 (dk_at dksX1_digest_0 12 rfl rfl)
theorem dX1_digest_15 : decode cX1_digest 15 = .ok (.lload_n 1, 1) := dk_31 (dk_at dksX1_digest_0 15 rfl rfl)
theorem dX1_digest_16 : decode cX1_digest 16 = .ok (.lmul, 1) := dk_105 (dk_at dksX1_digest_0 16 rfl rfl)
theorem dX1_digest_17 : decode cX1_digest 17 = .ok (.aload_n 0, 1) := dk_42 (dk_at dksX1_digest_0 17 rfl rfl)
theorem dX1_digest_18 : decode cX1_digest 18 = .ok (.iload_n 3, 1) := dk_29 (dk_at dksX1_digest_0 18 rfl rfl)
theorem dX1_digest_19 : decode cX1_digest 19 = .ok (.invokevirtual 263, 3) := dk_182 1 7 (dk_at dksX1_digest_0 19 rfl rfl)
theorem dX1_digest_22 : decode cX1_digest 22 = .ok (.i2l, 1) := dk_133 (dk_at dksX1_digest_0 22 rfl rfl)
theorem dX1_digest_23 : decode cX1_digest 23 = .ok (.ladd, 1) := dk_97 (dk_at dksX1_digest_0 23 rfl rfl)
theorem dX1_digest_24 : decode cX1_digest 24 = .ok (.lstore_n 1, 1) := dk_64 (dk_at dksX1_digest_1 0 rfl rfl)
theorem dX1_digest_25 : decode cX1_digest 25 = .ok (.iinc 3 1, 3) := dk_132 3 1 (dk_at dksX1_digest_1 1 rfl rfl)
theorem dX1_digest_28 : decode cX1_digest 28 = .ok (.goto (-22), 3) := dk_167 255 234 (dk_at dksX1_digest_1 4 rfl rfl)
theorem dX1_digest_31 : decode cX1_digest 31 = .ok (.iconst 0, 1) := dk_3 (dk_at dksX1_digest_1 7 rfl rfl)
theorem dX1_digest_32 : decode cX1_digest 32 = .ok (.istore_n 3, 1) := dk_62 (dk_at dksX1_digest_1 8 rfl rfl)
theorem dX1_digest_33 : decode cX1_digest 33 = .ok (.iload_n 3, 1) := dk_29 (dk_at dksX1_digest_1 9 rfl rfl)
theorem dX1_digest_34 : decode cX1_digest 34 = .ok (.aload_n 0, 1) := dk_42 (dk_at dksX1_digest_1 10 rfl rfl)
theorem dX1_digest_35 : decode cX1_digest 35 = .ok (.getfield 7, 3) := dk_180 0 7 (dk_at dksX1_digest_1 11 rfl rfl)
theorem dX1_digest_38 : decode cX1_digest 38 = .ok (.iconst 0, 1) := dk_3 (dk_at dksX1_digest_1 14 rfl rfl)
theorem dX1_digest_39 : decode cX1_digest 39 = .ok (.iaload, 1) := dk_46 (dk_at dksX1_digest_1 15 rfl rfl)
theorem dX1_digest_40 : decode cX1_digest 40 = .ok (.if_icmp .ge 40, 3) := dk_162 0 40 (dk_at dksX1_digest_1 16 rfl rfl)
theorem dX1_digest_43 : decode cX1_digest 43 = .ok (.iconst 0, 1) := dk_3 (dk_at dksX1_digest_1 19 rfl rfl)
theorem dX1_digest_44 : decode cX1_digest 44 = .ok (.istore 4, 2) := dk_54 4 (dk_at dksX1_digest_1 20 rfl rfl)
theorem dX1_digest_46 : decode cX1_digest 46 = .ok (.iload 4, 2) := dk_21 4 (dk_at dksX1_digest_1 22 rfl rfl)
theorem dX1_digest_48 : decode cX1_digest 48 = .ok (.bipush 7, 2) := dk_16 7 (dk_at dksX1_digest_2 0 rfl rfl)
theorem dX1_digest_50 : decode cX1_digest 50 = .ok (.if_icmp .ge 24, 3) := dk_162 0 24 (dk_at dksX1_digest_2 2 rfl rfl)
theorem dX1_digest_53 : decode cX1_digest 53 = .ok (.ldc2_w 268, 3) := dk_20 1 12 (dk_at dksX1_digest_2 5 rfl rfl)
theorem dX1_digest_56 : decode cX1_digest 56 = .ok (.lload_n 1, 1) := dk_31 (dk_at dksX1_digest_2 8 rfl rfl)
theorem dX1_digest_57 : decode cX1_digest 57 = .ok (.lmul, 1) := dk_105 (dk_at dksX1_digest_2 9 rfl rfl)
theorem dX1_digest_58 : decode cX1_digest 58 = .ok (.aload_n 0, 1) := dk_42 (dk_at dksX1_digest_2 10 rfl rfl)
theorem dX1_digest_59 : decode cX1_digest 59 = .ok (.iload_n 3, 1) := dk_29 (dk_at dksX1_digest_2 11 rfl rfl)
theorem dX1_digest_60 : decode cX1_digest 60 = .ok (.iload 4, 2) := dk_21 4 (dk_at dksX1_digest_2 12 rfl rfl)
theorem dX1_digest_62 : decode cX1_digest 62 = .ok (.invokevirtual 165, 3) := dk_182 0 165 (dk_at dksX1_digest_2 14 rfl rfl)
theorem dX1_digest_65 : decode cX1_digest 65 = .ok (.i2l, 1) := dk_133 (dk_at dksX1_digest_2 17 rfl rfl)
theorem dX1_digest_66 : decode cX1_digest 66 = .ok (.ladd, 1) := dk_97 (dk_at dksX1_digest_2 18 rfl rfl)
theorem dX1_digest_67 : decode cX1_digest 67 = .ok (.lstore_n 1, 1) := dk_64 (dk_at dksX1_digest_2 19 rfl rfl)
theorem dX1_digest_68 : decode cX1_digest 68 = .ok (.iinc 4 1, 3) := dk_132 4 1 (dk_at dksX1_digest_2 20 rfl rfl)
theorem dX1_digest_71 : decode cX1_digest 71 = .ok (.goto (-25), 3) := dk_167 255 231 (dk_at dksX1_digest_3 0 rfl rfl)
theorem dX1_digest_74 : decode cX1_digest 74 = .ok (.iinc 3 1, 3) := dk_132 3 1 (dk_at dksX1_digest_3 3 rfl rfl)
theorem dX1_digest_77 : decode cX1_digest 77 = .ok (.goto (-44), 3) := dk_167 255 212 (dk_at dksX1_digest_3 6 rfl rfl)
theorem dX1_digest_80 : decode cX1_digest 80 = .ok (.iconst 0, 1) := dk_3 (dk_at dksX1_digest_3 9 rfl rfl)
theorem dX1_digest_81 : decode cX1_digest 81 = .ok (.istore_n 3, 1) := dk_62 (dk_at dksX1_digest_3 10 rfl rfl)
theorem dX1_digest_82 : decode cX1_digest 82 = .ok (.iload_n 3, 1) := dk_29 (dk_at dksX1_digest_3 11 rfl rfl)
theorem dX1_digest_83 : decode cX1_digest 83 = .ok (.aload_n 0, 1) := dk_42 (dk_at dksX1_digest_3 12 rfl rfl)
theorem dX1_digest_84 : decode cX1_digest 84 = .ok (.getfield 7, 3) := dk_180 0 7 (dk_at dksX1_digest_3 13 rfl rfl)
theorem dX1_digest_87 : decode cX1_digest 87 = .ok (.iconst 1, 1) := dk_4 (dk_at dksX1_digest_3 16 rfl rfl)
theorem dX1_digest_88 : decode cX1_digest 88 = .ok (.iaload, 1) := dk_46 (dk_at dksX1_digest_3 17 rfl rfl)
theorem dX1_digest_89 : decode cX1_digest 89 = .ok (.if_icmp .ge 39, 3) := dk_162 0 39 (dk_at dksX1_digest_3 18 rfl rfl)
theorem dX1_digest_92 : decode cX1_digest 92 = .ok (.iconst 0, 1) := dk_3 (dk_at dksX1_digest_3 21 rfl rfl)
theorem dX1_digest_93 : decode cX1_digest 93 = .ok (.istore 4, 2) := dk_54 4 (dk_at dksX1_digest_3 22 rfl rfl)
theorem dX1_digest_95 : decode cX1_digest 95 = .ok (.iload 4, 2) := dk_21 4 (dk_at dksX1_digest_4 0 rfl rfl)
theorem dX1_digest_97 : decode cX1_digest 97 = .ok (.iconst 3, 1) := dk_6 (dk_at dksX1_digest_4 2 rfl rfl)
theorem dX1_digest_98 : decode cX1_digest 98 = .ok (.if_icmp .ge 24, 3) := dk_162 0 24 (dk_at dksX1_digest_4 3 rfl rfl)
theorem dX1_digest_101 : decode cX1_digest 101 = .ok (.ldc2_w 268, 3) := dk_20 1 12 (dk_at dksX1_digest_4 6 rfl rfl)
theorem dX1_digest_104 : decode cX1_digest 104 = .ok (.lload_n 1, 1) := dk_31 (dk_at dksX1_digest_4 9 rfl rfl)
theorem dX1_digest_105 : decode cX1_digest 105 = .ok (.lmul, 1) := dk_105 (dk_at dksX1_digest_4 10 rfl rfl)
theorem dX1_digest_106 : decode cX1_digest 106 = .ok (.aload_n 0, 1) := dk_42 (dk_at dksX1_digest_4 11 rfl rfl)
theorem dX1_digest_107 : decode cX1_digest 107 = .ok (.iload_n 3, 1) := dk_29 (dk_at dksX1_digest_4 12 rfl rfl)
theorem dX1_digest_108 : decode cX1_digest 108 = .ok (.iload 4, 2) := dk_21 4 (dk_at dksX1_digest_4 13 rfl rfl)
theorem dX1_digest_110 : decode cX1_digest 110 = .ok (.invokevirtual 176, 3) := dk_182 0 176 (dk_at dksX1_digest_4 15 rfl rfl)
theorem dX1_digest_113 : decode cX1_digest 113 = .ok (.i2l, 1) := dk_133 (dk_at dksX1_digest_4 18 rfl rfl)
theorem dX1_digest_114 : decode cX1_digest 114 = .ok (.ladd, 1) := dk_97 (dk_at dksX1_digest_4 19 rfl rfl)
theorem dX1_digest_115 : decode cX1_digest 115 = .ok (.lstore_n 1, 1) := dk_64 (dk_at dksX1_digest_4 20 rfl rfl)
theorem dX1_digest_116 : decode cX1_digest 116 = .ok (.iinc 4 1, 3) := dk_132 4 1 (dk_at dksX1_digest_4 21 rfl rfl)
theorem dX1_digest_119 : decode cX1_digest 119 = .ok (.goto (-24), 3) := dk_167 255 232 (dk_at dksX1_digest_5 0 rfl rfl)
theorem dX1_digest_122 : decode cX1_digest 122 = .ok (.iinc 3 1, 3) := dk_132 3 1 (dk_at dksX1_digest_5 3 rfl rfl)
theorem dX1_digest_125 : decode cX1_digest 125 = .ok (.goto (-43), 3) := dk_167 255 213 (dk_at dksX1_digest_5 6 rfl rfl)
theorem dX1_digest_128 : decode cX1_digest 128 = .ok (.iconst 0, 1) := dk_3 (dk_at dksX1_digest_5 9 rfl rfl)
theorem dX1_digest_129 : decode cX1_digest 129 = .ok (.istore_n 3, 1) := dk_62 (dk_at dksX1_digest_5 10 rfl rfl)
theorem dX1_digest_130 : decode cX1_digest 130 = .ok (.iload_n 3, 1) := dk_29 (dk_at dksX1_digest_5 11 rfl rfl)
theorem dX1_digest_131 : decode cX1_digest 131 = .ok (.iconst 3, 1) := dk_6 (dk_at dksX1_digest_5 12 rfl rfl)
theorem dX1_digest_132 : decode cX1_digest 132 = .ok (.if_icmp .ge 42, 3) := dk_162 0 42 (dk_at dksX1_digest_5 13 rfl rfl)
theorem dX1_digest_135 : decode cX1_digest 135 = .ok (.ldc2_w 268, 3) := dk_20 1 12 (dk_at dksX1_digest_5 16 rfl rfl)
theorem dX1_digest_138 : decode cX1_digest 138 = .ok (.lload_n 1, 1) := dk_31 (dk_at dksX1_digest_5 19 rfl rfl)
theorem dX1_digest_139 : decode cX1_digest 139 = .ok (.lmul, 1) := dk_105 (dk_at dksX1_digest_5 20 rfl rfl)
theorem dX1_digest_140 : decode cX1_digest 140 = .ok (.aload_n 0, 1) := dk_42 (dk_at dksX1_digest_5 21 rfl rfl)
theorem dX1_digest_141 : decode cX1_digest 141 = .ok (.getfield 16, 3) := dk_180 0 16 (dk_at dksX1_digest_6 0 rfl rfl)
theorem dX1_digest_144 : decode cX1_digest 144 = .ok (.iload_n 3, 1) := dk_29 (dk_at dksX1_digest_6 3 rfl rfl)
theorem dX1_digest_145 : decode cX1_digest 145 = .ok (.baload, 1) := dk_51 (dk_at dksX1_digest_6 4 rfl rfl)
theorem dX1_digest_146 : decode cX1_digest 146 = .ok (.ifCond .eq 18, 3) := dk_153 0 18 (dk_at dksX1_digest_6 5 rfl rfl)
theorem dX1_digest_149 : decode cX1_digest 149 = .ok (.aload_n 0, 1) := dk_42 (dk_at dksX1_digest_6 8 rfl rfl)
theorem dX1_digest_150 : decode cX1_digest 150 = .ok (.getfield 13, 3) := dk_180 0 13 (dk_at dksX1_digest_6 9 rfl rfl)
theorem dX1_digest_153 : decode cX1_digest 153 = .ok (.bipush 84, 2) := dk_16 84 (dk_at dksX1_digest_6 12 rfl rfl)
theorem dX1_digest_155 : decode cX1_digest 155 = .ok (.iload_n 3, 1) := dk_29 (dk_at dksX1_digest_6 14 rfl rfl)
theorem dX1_digest_156 : decode cX1_digest 156 = .ok (.imul, 1) := dk_104 (dk_at dksX1_digest_6 15 rfl rfl)
theorem dX1_digest_157 : decode cX1_digest 157 = .ok (.bipush 29, 2) := dk_16 29 (dk_at dksX1_digest_6 16 rfl rfl)
theorem dX1_digest_159 : decode cX1_digest 159 = .ok (.iadd, 1) := dk_96 (dk_at dksX1_digest_6 18 rfl rfl)
theorem dX1_digest_160 : decode cX1_digest 160 = .ok (.iaload, 1) := dk_46 (dk_at dksX1_digest_6 19 rfl rfl)
theorem dX1_digest_161 : decode cX1_digest 161 = .ok (.goto 4, 3) := dk_167 0 4 (dk_at dksX1_digest_6 20 rfl rfl)
theorem dX1_digest_164 : decode cX1_digest 164 = .ok (.iconst (-1), 1) := dk_2 (dk_at dksX1_digest_6 23 rfl rfl)
theorem dX1_digest_165 : decode cX1_digest 165 = .ok (.i2l, 1) := dk_133 (dk_at dksX1_digest_7 0 rfl rfl)
theorem dX1_digest_166 : decode cX1_digest 166 = .ok (.ladd, 1) := dk_97 (dk_at dksX1_digest_7 1 rfl rfl)
theorem dX1_digest_167 : decode cX1_digest 167 = .ok (.lstore_n 1, 1) := dk_64 (dk_at dksX1_digest_7 2 rfl rfl)
theorem dX1_digest_168 : decode cX1_digest 168 = .ok (.iinc 3 1, 3) := dk_132 3 1 (dk_at dksX1_digest_7 3 rfl rfl)
theorem dX1_digest_171 : decode cX1_digest 171 = .ok (.goto (-41), 3) := dk_167 255 215 (dk_at dksX1_digest_7 6 rfl rfl)
theorem dX1_digest_174 : decode cX1_digest 174 = .ok (.iconst 0, 1) := dk_3 (dk_at dksX1_digest_7 9 rfl rfl)
theorem dX1_digest_175 : decode cX1_digest 175 = .ok (.istore_n 3, 1) := dk_62 (dk_at dksX1_digest_7 10 rfl rfl)
theorem dX1_digest_176 : decode cX1_digest 176 = .ok (.iload_n 3, 1) := dk_29 (dk_at dksX1_digest_7 11 rfl rfl)
theorem dX1_digest_177 : decode cX1_digest 177 = .ok (.bipush 6, 2) := dk_16 6 (dk_at dksX1_digest_7 12 rfl rfl)
theorem dX1_digest_179 : decode cX1_digest 179 = .ok (.if_icmp .ge 63, 3) := dk_162 0 63 (dk_at dksX1_digest_7 14 rfl rfl)
theorem dX1_digest_182 : decode cX1_digest 182 = .ok (.ldc2_w 268, 3) := dk_20 1 12 (dk_at dksX1_digest_7 17 rfl rfl)
theorem dX1_digest_185 : decode cX1_digest 185 = .ok (.lload_n 1, 1) := dk_31 (dk_at dksX1_digest_7 20 rfl rfl)
theorem dX1_digest_186 : decode cX1_digest 186 = .ok (.lmul, 1) := dk_105 (dk_at dksX1_digest_7 21 rfl rfl)
theorem dX1_digest_187 : decode cX1_digest 187 = .ok (.aload_n 0, 1) := dk_42 (dk_at dksX1_digest_7 22 rfl rfl)
theorem dX1_digest_188 : decode cX1_digest 188 = .ok (.getfield 23, 3) := dk_180 0 23 (dk_at dksX1_digest_8 0 rfl rfl)
theorem dX1_digest_191 : decode cX1_digest 191 = .ok (.iload_n 3, 1) := dk_29 (dk_at dksX1_digest_8 3 rfl rfl)
theorem dX1_digest_192 : decode cX1_digest 192 = .ok (.iaload, 1) := dk_46 (dk_at dksX1_digest_8 4 rfl rfl)
theorem dX1_digest_193 : decode cX1_digest 193 = .ok (.i2l, 1) := dk_133 (dk_at dksX1_digest_8 5 rfl rfl)
theorem dX1_digest_194 : decode cX1_digest 194 = .ok (.ladd, 1) := dk_97 (dk_at dksX1_digest_8 6 rfl rfl)
theorem dX1_digest_195 : decode cX1_digest 195 = .ok (.lstore_n 1, 1) := dk_64 (dk_at dksX1_digest_8 7 rfl rfl)
theorem dX1_digest_196 : decode cX1_digest 196 = .ok (.iconst 0, 1) := dk_3 (dk_at dksX1_digest_8 8 rfl rfl)
theorem dX1_digest_197 : decode cX1_digest 197 = .ok (.istore 4, 2) := dk_54 4 (dk_at dksX1_digest_8 9 rfl rfl)
theorem dX1_digest_199 : decode cX1_digest 199 = .ok (.iload 4, 2) := dk_21 4 (dk_at dksX1_digest_8 11 rfl rfl)
theorem dX1_digest_201 : decode cX1_digest 201 = .ok (.aload_n 0, 1) := dk_42 (dk_at dksX1_digest_8 13 rfl rfl)
theorem dX1_digest_202 : decode cX1_digest 202 = .ok (.getfield 23, 3) := dk_180 0 23 (dk_at dksX1_digest_8 14 rfl rfl)
theorem dX1_digest_205 : decode cX1_digest 205 = .ok (.iload_n 3, 1) := dk_29 (dk_at dksX1_digest_8 17 rfl rfl)
theorem dX1_digest_206 : decode cX1_digest 206 = .ok (.iaload, 1) := dk_46 (dk_at dksX1_digest_8 18 rfl rfl)
theorem dX1_digest_207 : decode cX1_digest 207 = .ok (.if_icmp .ge 29, 3) := dk_162 0 29 (dk_at dksX1_digest_8 19 rfl rfl)
theorem dX1_digest_210 : decode cX1_digest 210 = .ok (.ldc2_w 268, 3) := dk_20 1 12 (dk_at dksX1_digest_9 0 rfl rfl)
theorem dX1_digest_213 : decode cX1_digest 213 = .ok (.lload_n 1, 1) := dk_31 (dk_at dksX1_digest_9 3 rfl rfl)
theorem dX1_digest_214 : decode cX1_digest 214 = .ok (.lmul, 1) := dk_105 (dk_at dksX1_digest_9 4 rfl rfl)
theorem dX1_digest_215 : decode cX1_digest 215 = .ok (.aload_n 0, 1) := dk_42 (dk_at dksX1_digest_9 5 rfl rfl)
theorem dX1_digest_216 : decode cX1_digest 216 = .ok (.getfield 20, 3) := dk_180 0 20 (dk_at dksX1_digest_9 6 rfl rfl)
theorem dX1_digest_219 : decode cX1_digest 219 = .ok (.bipush 40, 2) := dk_16 40 (dk_at dksX1_digest_9 9 rfl rfl)
theorem dX1_digest_221 : decode cX1_digest 221 = .ok (.iload_n 3, 1) := dk_29 (dk_at dksX1_digest_9 11 rfl rfl)
theorem dX1_digest_222 : decode cX1_digest 222 = .ok (.imul, 1) := dk_104 (dk_at dksX1_digest_9 12 rfl rfl)
theorem dX1_digest_223 : decode cX1_digest 223 = .ok (.iload 4, 2) := dk_21 4 (dk_at dksX1_digest_9 13 rfl rfl)
theorem dX1_digest_225 : decode cX1_digest 225 = .ok (.iadd, 1) := dk_96 (dk_at dksX1_digest_9 15 rfl rfl)
theorem dX1_digest_226 : decode cX1_digest 226 = .ok (.iaload, 1) := dk_46 (dk_at dksX1_digest_9 16 rfl rfl)
theorem dX1_digest_227 : decode cX1_digest 227 = .ok (.i2l, 1) := dk_133 (dk_at dksX1_digest_9 17 rfl rfl)
theorem dX1_digest_228 : decode cX1_digest 228 = .ok (.ladd, 1) := dk_97 (dk_at dksX1_digest_9 18 rfl rfl)
theorem dX1_digest_229 : decode cX1_digest 229 = .ok (.lstore_n 1, 1) := dk_64 (dk_at dksX1_digest_9 19 rfl rfl)
theorem dX1_digest_230 : decode cX1_digest 230 = .ok (.iinc 4 1, 3) := dk_132 4 1 (dk_at dksX1_digest_9 20 rfl rfl)
theorem dX1_digest_233 : decode cX1_digest 233 = .ok (.goto (-34), 3) := dk_167 255 222 (dk_at dksX1_digest_10 0 rfl rfl)
theorem dX1_digest_236 : decode cX1_digest 236 = .ok (.iinc 3 1, 3) := dk_132 3 1 (dk_at dksX1_digest_10 3 rfl rfl)
theorem dX1_digest_239 : decode cX1_digest 239 = .ok (.goto (-63), 3) := dk_167 255 193 (dk_at dksX1_digest_10 6 rfl rfl)
theorem dX1_digest_242 : decode cX1_digest 242 = .ok (.iconst 0, 1) := dk_3 (dk_at dksX1_digest_10 9 rfl rfl)
theorem dX1_digest_243 : decode cX1_digest 243 = .ok (.istore_n 3, 1) := dk_62 (dk_at dksX1_digest_10 10 rfl rfl)
theorem dX1_digest_244 : decode cX1_digest 244 = .ok (.iload_n 3, 1) := dk_29 (dk_at dksX1_digest_10 11 rfl rfl)
theorem dX1_digest_245 : decode cX1_digest 245 = .ok (.iconst 4, 1) := dk_7 (dk_at dksX1_digest_10 12 rfl rfl)
theorem dX1_digest_246 : decode cX1_digest 246 = .ok (.if_icmp .ge 63, 3) := dk_162 0 63 (dk_at dksX1_digest_10 13 rfl rfl)
theorem dX1_digest_249 : decode cX1_digest 249 = .ok (.ldc2_w 268, 3) := dk_20 1 12 (dk_at dksX1_digest_10 16 rfl rfl)
theorem dX1_digest_252 : decode cX1_digest 252 = .ok (.lload_n 1, 1) := dk_31 (dk_at dksX1_digest_10 19 rfl rfl)
theorem dX1_digest_253 : decode cX1_digest 253 = .ok (.lmul, 1) := dk_105 (dk_at dksX1_digest_10 20 rfl rfl)
theorem dX1_digest_254 : decode cX1_digest 254 = .ok (.aload_n 0, 1) := dk_42 (dk_at dksX1_digest_10 21 rfl rfl)
theorem dX1_digest_255 : decode cX1_digest 255 = .ok (.getfield 29, 3) := dk_180 0 29 (dk_at dksX1_digest_11 0 rfl rfl)
theorem dX1_digest_258 : decode cX1_digest 258 = .ok (.iload_n 3, 1) := dk_29 (dk_at dksX1_digest_11 3 rfl rfl)
theorem dX1_digest_259 : decode cX1_digest 259 = .ok (.iaload, 1) := dk_46 (dk_at dksX1_digest_11 4 rfl rfl)
theorem dX1_digest_260 : decode cX1_digest 260 = .ok (.i2l, 1) := dk_133 (dk_at dksX1_digest_11 5 rfl rfl)
theorem dX1_digest_261 : decode cX1_digest 261 = .ok (.ladd, 1) := dk_97 (dk_at dksX1_digest_11 6 rfl rfl)
theorem dX1_digest_262 : decode cX1_digest 262 = .ok (.lstore_n 1, 1) := dk_64 (dk_at dksX1_digest_11 7 rfl rfl)
theorem dX1_digest_263 : decode cX1_digest 263 = .ok (.iconst 0, 1) := dk_3 (dk_at dksX1_digest_11 8 rfl rfl)
theorem dX1_digest_264 : decode cX1_digest 264 = .ok (.istore 4, 2) := dk_54 4 (dk_at dksX1_digest_11 9 rfl rfl)
theorem dX1_digest_266 : decode cX1_digest 266 = .ok (.iload 4, 2) := dk_21 4 (dk_at dksX1_digest_11 11 rfl rfl)
theorem dX1_digest_268 : decode cX1_digest 268 = .ok (.aload_n 0, 1) := dk_42 (dk_at dksX1_digest_11 13 rfl rfl)
theorem dX1_digest_269 : decode cX1_digest 269 = .ok (.getfield 29, 3) := dk_180 0 29 (dk_at dksX1_digest_11 14 rfl rfl)
theorem dX1_digest_272 : decode cX1_digest 272 = .ok (.iload_n 3, 1) := dk_29 (dk_at dksX1_digest_11 17 rfl rfl)
theorem dX1_digest_273 : decode cX1_digest 273 = .ok (.iaload, 1) := dk_46 (dk_at dksX1_digest_11 18 rfl rfl)
theorem dX1_digest_274 : decode cX1_digest 274 = .ok (.if_icmp .ge 29, 3) := dk_162 0 29 (dk_at dksX1_digest_11 19 rfl rfl)
theorem dX1_digest_277 : decode cX1_digest 277 = .ok (.ldc2_w 268, 3) := dk_20 1 12 (dk_at dksX1_digest_12 0 rfl rfl)
theorem dX1_digest_280 : decode cX1_digest 280 = .ok (.lload_n 1, 1) := dk_31 (dk_at dksX1_digest_12 3 rfl rfl)
theorem dX1_digest_281 : decode cX1_digest 281 = .ok (.lmul, 1) := dk_105 (dk_at dksX1_digest_12 4 rfl rfl)
theorem dX1_digest_282 : decode cX1_digest 282 = .ok (.aload_n 0, 1) := dk_42 (dk_at dksX1_digest_12 5 rfl rfl)
theorem dX1_digest_283 : decode cX1_digest 283 = .ok (.getfield 26, 3) := dk_180 0 26 (dk_at dksX1_digest_12 6 rfl rfl)
theorem dX1_digest_286 : decode cX1_digest 286 = .ok (.bipush 60, 2) := dk_16 60 (dk_at dksX1_digest_12 9 rfl rfl)
theorem dX1_digest_288 : decode cX1_digest 288 = .ok (.iload_n 3, 1) := dk_29 (dk_at dksX1_digest_12 11 rfl rfl)
theorem dX1_digest_289 : decode cX1_digest 289 = .ok (.imul, 1) := dk_104 (dk_at dksX1_digest_12 12 rfl rfl)
theorem dX1_digest_290 : decode cX1_digest 290 = .ok (.iload 4, 2) := dk_21 4 (dk_at dksX1_digest_12 13 rfl rfl)
theorem dX1_digest_292 : decode cX1_digest 292 = .ok (.iadd, 1) := dk_96 (dk_at dksX1_digest_12 15 rfl rfl)
theorem dX1_digest_293 : decode cX1_digest 293 = .ok (.iaload, 1) := dk_46 (dk_at dksX1_digest_12 16 rfl rfl)
theorem dX1_digest_294 : decode cX1_digest 294 = .ok (.i2l, 1) := dk_133 (dk_at dksX1_digest_12 17 rfl rfl)
theorem dX1_digest_295 : decode cX1_digest 295 = .ok (.ladd, 1) := dk_97 (dk_at dksX1_digest_12 18 rfl rfl)
theorem dX1_digest_296 : decode cX1_digest 296 = .ok (.lstore_n 1, 1) := dk_64 (dk_at dksX1_digest_12 19 rfl rfl)
theorem dX1_digest_297 : decode cX1_digest 297 = .ok (.iinc 4 1, 3) := dk_132 4 1 (dk_at dksX1_digest_12 20 rfl rfl)
theorem dX1_digest_300 : decode cX1_digest 300 = .ok (.goto (-34), 3) := dk_167 255 222 (dk_at dksX1_digest_13 0 rfl rfl)
theorem dX1_digest_303 : decode cX1_digest 303 = .ok (.iinc 3 1, 3) := dk_132 3 1 (dk_at dksX1_digest_13 3 rfl rfl)
theorem dX1_digest_306 : decode cX1_digest 306 = .ok (.goto (-62), 3) := dk_167 255 194 (dk_at dksX1_digest_13 6 rfl rfl)
theorem dX1_digest_309 : decode cX1_digest 309 = .ok (.lload_n 1, 1) := dk_31 (dk_at dksX1_digest_13 9 rfl rfl)
theorem dX1_digest_310 : decode cX1_digest 310 = .ok (.lreturn, 1) := dk_173 (dk_at dksX1_digest_13 10 rfl rfl)
theorem q70 : (Jvm.Cond.initialized "CapCouncilModel") ∈ lw_all := lw_g (lw_at lw_m1 2 rfl) rfl
theorem q908 : (Jvm.Cond.instantiable "CapCouncilModel" (17 : Nat)) ∈ lw_all := lw_g (lw_at lw_m4 120 rfl) rfl
theorem q910 : (Jvm.Cond.instanceMethod ({ cls := "CapCouncilModel", name := "<init>", desc := "()V" } : Jvm.MethodName)) ∈ lw_all := lw_g (lw_at lw_m4 122 rfl) rfl
theorem q911 : (Jvm.Cond.code ({ cls := "CapCouncilModel", name := "<init>", desc := "()V" } : Jvm.MethodName) prog_10_method_1_code (2 : Nat) (Option.none : Option Jvm.ClassFile.FieldType)) ∈ lw_all := lw_g (lw_at lw_m4 123 rfl) rfl
theorem q912 : (Jvm.Cond.methodLink "CapCouncilModel" (1 : Nat) ({ cls := "java/lang/Object", name := "<init>", desc := "()V" } : Jvm.MethodName)) ∈ lw_all := lw_g (lw_at lw_m4 124 rfl) rfl
theorem q913 : (Jvm.Cond.fieldLink "CapCouncilModel" (7 : Nat) "CapCouncilModel" "now" "[I") ∈ lw_all := lw_g (lw_at lw_m4 125 rfl) rfl
theorem q914 : (Jvm.Cond.fieldLink "CapCouncilModel" (13 : Nat) "CapCouncilModel" "kept" "[I") ∈ lw_all := lw_g (lw_at lw_m4 126 rfl) rfl
theorem q915 : (Jvm.Cond.fieldLink "CapCouncilModel" (16 : Nat) "CapCouncilModel" "isKept" "[Z") ∈ lw_all := lw_g (lw_at lw_m4 127 rfl) rfl
theorem q916 : (Jvm.Cond.fieldLink "CapCouncilModel" (20 : Nat) "CapCouncilModel" "rows" "[I") ∈ lw_all := lw_g (lw_at lw_m4 128 rfl) rfl
theorem q917 : (Jvm.Cond.fieldLink "CapCouncilModel" (23 : Nat) "CapCouncilModel" "rowLong" "[I") ∈ lw_all := lw_g (lw_at lw_m4 129 rfl) rfl
theorem q918 : (Jvm.Cond.fieldLink "CapCouncilModel" (26 : Nat) "CapCouncilModel" "texts" "[I") ∈ lw_all := lw_g (lw_at lw_m4 130 rfl) rfl
theorem q919 : (Jvm.Cond.fieldLink "CapCouncilModel" (29 : Nat) "CapCouncilModel" "textLong" "[I") ∈ lw_all := lw_g (lw_at lw_m4 131 rfl) rfl
theorem q920 : (Jvm.Cond.fieldLink "CapCouncilModel" (32 : Nat) "CapCouncilModel" "found" "[I") ∈ lw_all := lw_g (lw_at lw_m4 132 rfl) rfl
theorem q921 : (Jvm.Cond.fieldLink "CapCouncilModel" (51 : Nat) "CapCouncilModel" "latest" "I") ∈ lw_all := lw_g (lw_at lw_m4 133 rfl) rfl
theorem q922 : (Jvm.Cond.fieldLink "CapCouncilModel" (55 : Nat) "CapCouncilModel" "askedIs" "I") ∈ lw_all := lw_g (lw_at lw_m4 134 rfl) rfl
theorem q923 : (Jvm.Cond.fieldLink "CapCouncilModel" (227 : Nat) "CapCouncilModel" "above" "J") ∈ lw_all := lw_g (lw_at lw_m4 135 rfl) rfl
theorem q924 : (Jvm.Cond.fieldLink "CapCouncilModel" (35 : Nat) "CapCouncilModel" "below" "J") ∈ lw_all := lw_g (lw_at lw_m4 136 rfl) rfl
theorem q925 : (Jvm.Cond.fieldLink "CapCouncilModel" (39 : Nat) "CapCouncilModel" "taken" "[I") ∈ lw_all := lw_g (lw_at lw_m4 137 rfl) rfl
theorem q926 : (Jvm.Cond.fieldLink "CapCouncilModel" (42 : Nat) "CapCouncilModel" "anew" "[I") ∈ lw_all := lw_g (lw_at lw_m4 138 rfl) rfl
theorem q927 : (Jvm.Cond.fieldLink "CapCouncilModel" (84 : Nat) "CapCouncilModel" "place" "I") ∈ lw_all := lw_g (lw_at lw_m4 139 rfl) rfl
theorem q928 : (Jvm.Cond.fieldLink "CapCouncilModel" (45 : Nat) "CapCouncilModel" "values" "[I") ∈ lw_all := lw_g (lw_at lw_m4 140 rfl) rfl
theorem q929 : (Jvm.Cond.fieldLink "CapCouncilModel" (48 : Nat) "CapCouncilModel" "ahead" "[I") ∈ lw_all := lw_g (lw_at lw_m4 141 rfl) rfl
theorem q930 : (Jvm.Cond.laysFinal "CapCouncilModel" "CapCouncilModel" "now" "[I") ∈ lw_all := lw_g (lw_at lw_m4 142 rfl) rfl
theorem q931 : (Jvm.Cond.soleField "CapCouncilModel" "now") ∈ lw_all := lw_g (lw_at lw_m4 143 rfl) rfl
theorem q932 : (Jvm.Cond.laysFinal "CapCouncilModel" "CapCouncilModel" "kept" "[I") ∈ lw_all := lw_g (lw_at lw_m4 144 rfl) rfl
theorem q933 : (Jvm.Cond.soleField "CapCouncilModel" "kept") ∈ lw_all := lw_g (lw_at lw_m4 145 rfl) rfl
theorem q934 : (Jvm.Cond.laysFinal "CapCouncilModel" "CapCouncilModel" "isKept" "[Z") ∈ lw_all := lw_g (lw_at lw_m4 146 rfl) rfl
theorem q935 : (Jvm.Cond.soleField "CapCouncilModel" "isKept") ∈ lw_all := lw_g (lw_at lw_m4 147 rfl) rfl
theorem q936 : (Jvm.Cond.laysFinal "CapCouncilModel" "CapCouncilModel" "rows" "[I") ∈ lw_all := lw_g (lw_at lw_m4 148 rfl) rfl
theorem q937 : (Jvm.Cond.soleField "CapCouncilModel" "rows") ∈ lw_all := lw_g (lw_at lw_m4 149 rfl) rfl
theorem q938 : (Jvm.Cond.laysFinal "CapCouncilModel" "CapCouncilModel" "rowLong" "[I") ∈ lw_all := lw_g (lw_at lw_m4 150 rfl) rfl
theorem q939 : (Jvm.Cond.soleField "CapCouncilModel" "rowLong") ∈ lw_all := lw_g (lw_at lw_m4 151 rfl) rfl
theorem q940 : (Jvm.Cond.laysFinal "CapCouncilModel" "CapCouncilModel" "texts" "[I") ∈ lw_all := lw_g (lw_at lw_m4 152 rfl) rfl
theorem q941 : (Jvm.Cond.soleField "CapCouncilModel" "texts") ∈ lw_all := lw_g (lw_at lw_m4 153 rfl) rfl
theorem q942 : (Jvm.Cond.laysFinal "CapCouncilModel" "CapCouncilModel" "textLong" "[I") ∈ lw_all := lw_g (lw_at lw_m4 154 rfl) rfl
theorem q943 : (Jvm.Cond.soleField "CapCouncilModel" "textLong") ∈ lw_all := lw_g (lw_at lw_m4 155 rfl) rfl
theorem q944 : (Jvm.Cond.laysFinal "CapCouncilModel" "CapCouncilModel" "found" "[I") ∈ lw_all := lw_g (lw_at lw_m4 156 rfl) rfl
theorem q945 : (Jvm.Cond.soleField "CapCouncilModel" "found") ∈ lw_all := lw_g (lw_at lw_m4 157 rfl) rfl
theorem q946 : (Jvm.Cond.lays "CapCouncilModel" "CapCouncilModel" "latest" "I") ∈ lw_all := lw_g (lw_at lw_m4 158 rfl) rfl
theorem q947 : (Jvm.Cond.soleField "CapCouncilModel" "latest") ∈ lw_all := lw_g (lw_at lw_m4 159 rfl) rfl
theorem q948 : (Jvm.Cond.lays "CapCouncilModel" "CapCouncilModel" "askedIs" "I") ∈ lw_all := lw_g (lw_at lw_m4 160 rfl) rfl
theorem q949 : (Jvm.Cond.soleField "CapCouncilModel" "askedIs") ∈ lw_all := lw_g (lw_at lw_m4 161 rfl) rfl
theorem q950 : (Jvm.Cond.lays "CapCouncilModel" "CapCouncilModel" "above" "J") ∈ lw_all := lw_g (lw_at lw_m4 162 rfl) rfl
theorem q951 : (Jvm.Cond.soleField "CapCouncilModel" "above") ∈ lw_all := lw_g (lw_at lw_m4 163 rfl) rfl
theorem q952 : (Jvm.Cond.lays "CapCouncilModel" "CapCouncilModel" "below" "J") ∈ lw_all := lw_g (lw_at lw_m4 164 rfl) rfl
theorem q953 : (Jvm.Cond.soleField "CapCouncilModel" "below") ∈ lw_all := lw_g (lw_at lw_m4 165 rfl) rfl
theorem q954 : (Jvm.Cond.laysFinal "CapCouncilModel" "CapCouncilModel" "taken" "[I") ∈ lw_all := lw_g (lw_at lw_m4 166 rfl) rfl
theorem q955 : (Jvm.Cond.soleField "CapCouncilModel" "taken") ∈ lw_all := lw_g (lw_at lw_m4 167 rfl) rfl
theorem q956 : (Jvm.Cond.laysFinal "CapCouncilModel" "CapCouncilModel" "anew" "[I") ∈ lw_all := lw_g (lw_at lw_m4 168 rfl) rfl
theorem q957 : (Jvm.Cond.soleField "CapCouncilModel" "anew") ∈ lw_all := lw_g (lw_at lw_m4 169 rfl) rfl
theorem q958 : (Jvm.Cond.lays "CapCouncilModel" "CapCouncilModel" "place" "I") ∈ lw_all := lw_g (lw_at lw_m4 170 rfl) rfl
theorem q959 : (Jvm.Cond.soleField "CapCouncilModel" "place") ∈ lw_all := lw_g (lw_at lw_m4 171 rfl) rfl
theorem q960 : (Jvm.Cond.laysFinal "CapCouncilModel" "CapCouncilModel" "values" "[I") ∈ lw_all := lw_g (lw_at lw_m4 172 rfl) rfl
theorem q961 : (Jvm.Cond.soleField "CapCouncilModel" "values") ∈ lw_all := lw_g (lw_at lw_m4 173 rfl) rfl
theorem q962 : (Jvm.Cond.laysFinal "CapCouncilModel" "CapCouncilModel" "ahead" "[I") ∈ lw_all := lw_g (lw_at lw_m4 174 rfl) rfl
theorem q963 : (Jvm.Cond.soleField "CapCouncilModel" "ahead") ∈ lw_all := lw_g (lw_at lw_m4 175 rfl) rfl
theorem q964 : (Jvm.Cond.superclass "CapCouncilModel" "java/lang/Object") ∈ lw_all := lw_g (lw_at lw_m4 176 rfl) rfl
theorem q967 : (Jvm.Cond.instanceMethod ({ cls := "CapCouncilModel", name := "row", desc := "(II)I" } : Jvm.MethodName)) ∈ lw_all := lw_g (lw_at lw_m4 179 rfl) rfl
theorem q968 : (Jvm.Cond.selects "CapCouncilModel" ({ cls := "CapCouncilModel", name := "row", desc := "(II)I" } : Jvm.MethodName) ({ cls := "CapCouncilModel", name := "row", desc := "(II)I" } : Jvm.MethodName)) ∈ lw_all := lw_g (lw_at lw_m4 180 rfl) rfl
theorem q969 : (Jvm.Cond.code ({ cls := "CapCouncilModel", name := "row", desc := "(II)I" } : Jvm.MethodName) prog_10_method_8_code (4 : Nat) (Option.some Jvm.ClassFile.FieldType.int)) ∈ lw_all := lw_g (lw_at lw_m4 181 rfl) rfl
theorem q970 : (Jvm.Cond.methodLink "CapCouncilModel" (66 : Nat) ({ cls := "CapCouncilModel", name := "isRow", desc := "(I)Z" } : Jvm.MethodName)) ∈ lw_all := lw_g (lw_at lw_m4 182 rfl) rfl
theorem q971 : (Jvm.Cond.static ({ cls := "CapCouncilModel", name := "isRow", desc := "(I)Z" } : Jvm.MethodName)) ∈ lw_all := lw_g (lw_at lw_m4 183 rfl) rfl
theorem q972 : (Jvm.Cond.code ({ cls := "CapCouncilModel", name := "isRow", desc := "(I)Z" } : Jvm.MethodName) prog_10_method_6_code (1 : Nat) (Option.some Jvm.ClassFile.FieldType.boolean)) ∈ lw_all := lw_g (lw_at lw_m4 184 rfl) rfl
theorem q973 : (Jvm.Cond.constantLong "CapCouncilModel" (58 : Nat) (5 : Int64)) ∈ lw_all := lw_g (lw_at lw_m4 185 rfl) rfl
theorem q974 : (Jvm.Cond.methodLink "CapCouncilModel" (60 : Nat) ({ cls := "CapCouncilModel", name := "in", desc := "(JJJ)Z" } : Jvm.MethodName)) ∈ lw_all := lw_g (lw_at lw_m4 186 rfl) rfl
theorem q975 : (Jvm.Cond.static ({ cls := "CapCouncilModel", name := "in", desc := "(JJJ)Z" } : Jvm.MethodName)) ∈ lw_all := lw_g (lw_at lw_m4 187 rfl) rfl
theorem q976 : (Jvm.Cond.code ({ cls := "CapCouncilModel", name := "in", desc := "(JJJ)Z" } : Jvm.MethodName) prog_10_method_3_code (6 : Nat) (Option.some Jvm.ClassFile.FieldType.boolean)) ∈ lw_all := lw_g (lw_at lw_m4 188 rfl) rfl
theorem q977 : (Jvm.Cond.methodLink "CapCouncilModel" (70 : Nat) ({ cls := "CapCouncilModel", name := "finds", desc := "(I)I" } : Jvm.MethodName)) ∈ lw_all := lw_g (lw_at lw_m4 189 rfl) rfl
theorem q978 : (Jvm.Cond.privateMethod ({ cls := "CapCouncilModel", name := "finds", desc := "(I)I" } : Jvm.MethodName)) ∈ lw_tbl := lw_at lw_m4 190 rfl
theorem q979 : (Jvm.Cond.instanceMethod ({ cls := "CapCouncilModel", name := "finds", desc := "(I)I" } : Jvm.MethodName)) ∈ lw_all := lw_g (lw_at lw_m4 191 rfl) rfl
theorem q980 : (Jvm.Cond.code ({ cls := "CapCouncilModel", name := "finds", desc := "(I)I" } : Jvm.MethodName) prog_10_method_4_code (2 : Nat) (Option.some Jvm.ClassFile.FieldType.int)) ∈ lw_all := lw_g (lw_at lw_m4 192 rfl) rfl
theorem q982 : (Jvm.Cond.instanceMethod ({ cls := "CapCouncilModel", name := "lay", desc := "(III)I" } : Jvm.MethodName)) ∈ lw_all := lw_g (lw_at lw_m4 194 rfl) rfl
theorem q983 : (Jvm.Cond.selects "CapCouncilModel" ({ cls := "CapCouncilModel", name := "lay", desc := "(III)I" } : Jvm.MethodName) ({ cls := "CapCouncilModel", name := "lay", desc := "(III)I" } : Jvm.MethodName)) ∈ lw_all := lw_g (lw_at lw_m4 195 rfl) rfl
theorem q984 : (Jvm.Cond.code ({ cls := "CapCouncilModel", name := "lay", desc := "(III)I" } : Jvm.MethodName) prog_10_method_9_code (5 : Nat) (Option.some Jvm.ClassFile.FieldType.int)) ∈ lw_all := lw_g (lw_at lw_m4 196 rfl) rfl
theorem q985 : (Jvm.Cond.methodLink "CapCouncilModel" (74 : Nat) ({ cls := "CapCouncilModel", name := "at", desc := "(II)I" } : Jvm.MethodName)) ∈ lw_all := lw_g (lw_at lw_m4 197 rfl) rfl
theorem q986 : (Jvm.Cond.instanceMethod ({ cls := "CapCouncilModel", name := "at", desc := "(II)I" } : Jvm.MethodName)) ∈ lw_all := lw_g (lw_at lw_m4 198 rfl) rfl
theorem q987 : (Jvm.Cond.selects "CapCouncilModel" ({ cls := "CapCouncilModel", name := "at", desc := "(II)I" } : Jvm.MethodName) ({ cls := "CapCouncilModel", name := "at", desc := "(II)I" } : Jvm.MethodName)) ∈ lw_all := lw_g (lw_at lw_m4 199 rfl) rfl
theorem q988 : (Jvm.Cond.code ({ cls := "CapCouncilModel", name := "at", desc := "(II)I" } : Jvm.MethodName) prog_10_method_10_code (3 : Nat) (Option.some Jvm.ClassFile.FieldType.int)) ∈ lw_all := lw_g (lw_at lw_m4 200 rfl) rfl
theorem q989 : (Jvm.Cond.methodLink "CapCouncilModel" (78 : Nat) ({ cls := "CapCouncilModel", name := "asks", desc := "(I)I" } : Jvm.MethodName)) ∈ lw_all := lw_g (lw_at lw_m4 201 rfl) rfl
theorem q990 : (Jvm.Cond.privateMethod ({ cls := "CapCouncilModel", name := "asks", desc := "(I)I" } : Jvm.MethodName)) ∈ lw_tbl := lw_at lw_m4 202 rfl
theorem q991 : (Jvm.Cond.instanceMethod ({ cls := "CapCouncilModel", name := "asks", desc := "(I)I" } : Jvm.MethodName)) ∈ lw_all := lw_g (lw_at lw_m4 203 rfl) rfl
theorem q992 : (Jvm.Cond.code ({ cls := "CapCouncilModel", name := "asks", desc := "(I)I" } : Jvm.MethodName) prog_10_method_5_code (2 : Nat) (Option.some Jvm.ClassFile.FieldType.int)) ∈ lw_all := lw_g (lw_at lw_m4 204 rfl) rfl
theorem q995 : (Jvm.Cond.instanceMethod ({ cls := "CapCouncilModel", name := "tear", desc := "(I)I" } : Jvm.MethodName)) ∈ lw_all := lw_g (lw_at lw_m4 207 rfl) rfl
theorem q996 : (Jvm.Cond.selects "CapCouncilModel" ({ cls := "CapCouncilModel", name := "tear", desc := "(I)I" } : Jvm.MethodName) ({ cls := "CapCouncilModel", name := "tear", desc := "(I)I" } : Jvm.MethodName)) ∈ lw_all := lw_g (lw_at lw_m4 208 rfl) rfl
theorem q997 : (Jvm.Cond.code ({ cls := "CapCouncilModel", name := "tear", desc := "(I)I" } : Jvm.MethodName) prog_10_method_11_code (2 : Nat) (Option.some Jvm.ClassFile.FieldType.int)) ∈ lw_all := lw_g (lw_at lw_m4 209 rfl) rfl
theorem q999 : (Jvm.Cond.instanceMethod ({ cls := "CapCouncilModel", name := "copy", desc := "(IIIII)I" } : Jvm.MethodName)) ∈ lw_all := lw_g (lw_at lw_m4 211 rfl) rfl
theorem q1000 : (Jvm.Cond.selects "CapCouncilModel" ({ cls := "CapCouncilModel", name := "copy", desc := "(IIIII)I" } : Jvm.MethodName) ({ cls := "CapCouncilModel", name := "copy", desc := "(IIIII)I" } : Jvm.MethodName)) ∈ lw_all := lw_g (lw_at lw_m4 212 rfl) rfl
theorem q1001 : (Jvm.Cond.code ({ cls := "CapCouncilModel", name := "copy", desc := "(IIIII)I" } : Jvm.MethodName) prog_10_method_12_code (7 : Nat) (Option.some Jvm.ClassFile.FieldType.int)) ∈ lw_all := lw_g (lw_at lw_m4 213 rfl) rfl
theorem q1003 : (Jvm.Cond.instanceMethod ({ cls := "CapCouncilModel", name := "mean", desc := "(I)I" } : Jvm.MethodName)) ∈ lw_all := lw_g (lw_at lw_m4 215 rfl) rfl
theorem q1004 : (Jvm.Cond.selects "CapCouncilModel" ({ cls := "CapCouncilModel", name := "mean", desc := "(I)I" } : Jvm.MethodName) ({ cls := "CapCouncilModel", name := "mean", desc := "(I)I" } : Jvm.MethodName)) ∈ lw_all := lw_g (lw_at lw_m4 216 rfl) rfl
theorem q1005 : (Jvm.Cond.code ({ cls := "CapCouncilModel", name := "mean", desc := "(I)I" } : Jvm.MethodName) prog_10_method_13_code (5 : Nat) (Option.some Jvm.ClassFile.FieldType.int)) ∈ lw_all := lw_g (lw_at lw_m4 217 rfl) rfl
theorem q1007 : (Jvm.Cond.instanceMethod ({ cls := "CapCouncilModel", name := "text", desc := "(II)I" } : Jvm.MethodName)) ∈ lw_all := lw_g (lw_at lw_m4 219 rfl) rfl
theorem q1008 : (Jvm.Cond.selects "CapCouncilModel" ({ cls := "CapCouncilModel", name := "text", desc := "(II)I" } : Jvm.MethodName) ({ cls := "CapCouncilModel", name := "text", desc := "(II)I" } : Jvm.MethodName)) ∈ lw_all := lw_g (lw_at lw_m4 220 rfl) rfl
theorem q1009 : (Jvm.Cond.code ({ cls := "CapCouncilModel", name := "text", desc := "(II)I" } : Jvm.MethodName) prog_10_method_14_code (4 : Nat) (Option.some Jvm.ClassFile.FieldType.int)) ∈ lw_all := lw_g (lw_at lw_m4 221 rfl) rfl
theorem q1010 : (Jvm.Cond.methodLink "CapCouncilModel" (81 : Nat) ({ cls := "CapCouncilModel", name := "isText", desc := "(I)Z" } : Jvm.MethodName)) ∈ lw_all := lw_g (lw_at lw_m4 222 rfl) rfl
theorem q1011 : (Jvm.Cond.static ({ cls := "CapCouncilModel", name := "isText", desc := "(I)Z" } : Jvm.MethodName)) ∈ lw_all := lw_g (lw_at lw_m4 223 rfl) rfl
theorem q1012 : (Jvm.Cond.code ({ cls := "CapCouncilModel", name := "isText", desc := "(I)Z" } : Jvm.MethodName) prog_10_method_7_code (1 : Nat) (Option.some Jvm.ClassFile.FieldType.boolean)) ∈ lw_all := lw_g (lw_at lw_m4 224 rfl) rfl
theorem q1013 : (Jvm.Cond.constantLong "CapCouncilModel" (64 : Nat) (3 : Int64)) ∈ lw_all := lw_g (lw_at lw_m4 225 rfl) rfl
theorem q1015 : (Jvm.Cond.instanceMethod ({ cls := "CapCouncilModel", name := "put", desc := "(III)I" } : Jvm.MethodName)) ∈ lw_all := lw_g (lw_at lw_m4 227 rfl) rfl
theorem q1016 : (Jvm.Cond.selects "CapCouncilModel" ({ cls := "CapCouncilModel", name := "put", desc := "(III)I" } : Jvm.MethodName) ({ cls := "CapCouncilModel", name := "put", desc := "(III)I" } : Jvm.MethodName)) ∈ lw_all := lw_g (lw_at lw_m4 228 rfl) rfl
theorem q1017 : (Jvm.Cond.code ({ cls := "CapCouncilModel", name := "put", desc := "(III)I" } : Jvm.MethodName) prog_10_method_15_code (6 : Nat) (Option.some Jvm.ClassFile.FieldType.int)) ∈ lw_all := lw_g (lw_at lw_m4 229 rfl) rfl
theorem q1019 : (Jvm.Cond.instanceMethod ({ cls := "CapCouncilModel", name := "fault", desc := "(I)I" } : Jvm.MethodName)) ∈ lw_all := lw_g (lw_at lw_m4 231 rfl) rfl
theorem q1020 : (Jvm.Cond.selects "CapCouncilModel" ({ cls := "CapCouncilModel", name := "fault", desc := "(I)I" } : Jvm.MethodName) ({ cls := "CapCouncilModel", name := "fault", desc := "(I)I" } : Jvm.MethodName)) ∈ lw_all := lw_g (lw_at lw_m4 232 rfl) rfl
theorem q1021 : (Jvm.Cond.code ({ cls := "CapCouncilModel", name := "fault", desc := "(I)I" } : Jvm.MethodName) prog_10_method_24_code (2 : Nat) (Option.some Jvm.ClassFile.FieldType.int)) ∈ lw_all := lw_g (lw_at lw_m4 233 rfl) rfl
theorem q1022 : (Jvm.Cond.methodLink "CapCouncilModel" (114 : Nat) ({ cls := "CapCouncilModel", name := "faultOf", desc := "(I)I" } : Jvm.MethodName)) ∈ lw_all := lw_g (lw_at lw_m4 234 rfl) rfl
theorem q1023 : (Jvm.Cond.privateMethod ({ cls := "CapCouncilModel", name := "faultOf", desc := "(I)I" } : Jvm.MethodName)) ∈ lw_tbl := lw_at lw_m4 235 rfl
theorem q1024 : (Jvm.Cond.instanceMethod ({ cls := "CapCouncilModel", name := "faultOf", desc := "(I)I" } : Jvm.MethodName)) ∈ lw_all := lw_g (lw_at lw_m4 236 rfl) rfl
theorem q1025 : (Jvm.Cond.code ({ cls := "CapCouncilModel", name := "faultOf", desc := "(I)I" } : Jvm.MethodName) prog_10_method_23_code (3 : Nat) (Option.some Jvm.ClassFile.FieldType.int)) ∈ lw_all := lw_g (lw_at lw_m4 237 rfl) rfl
theorem q1026 : (Jvm.Cond.methodLink "CapCouncilModel" (104 : Nat) ({ cls := "CapCouncilModel", name := "skip", desc := "(I)V" } : Jvm.MethodName)) ∈ lw_all := lw_g (lw_at lw_m4 238 rfl) rfl
theorem q1027 : (Jvm.Cond.privateMethod ({ cls := "CapCouncilModel", name := "skip", desc := "(I)V" } : Jvm.MethodName)) ∈ lw_tbl := lw_at lw_m4 239 rfl
theorem q1028 : (Jvm.Cond.instanceMethod ({ cls := "CapCouncilModel", name := "skip", desc := "(I)V" } : Jvm.MethodName)) ∈ lw_all := lw_g (lw_at lw_m5 0 rfl) rfl
theorem q1029 : (Jvm.Cond.code ({ cls := "CapCouncilModel", name := "skip", desc := "(I)V" } : Jvm.MethodName) prog_10_method_17_code (2 : Nat) (Option.none : Option Jvm.ClassFile.FieldType)) ∈ lw_all := lw_g (lw_at lw_m5 1 rfl) rfl
theorem q1030 : (Jvm.Cond.methodLink "CapCouncilModel" (87 : Nat) ({ cls := "CapCouncilModel", name := "here", desc := "(I)I" } : Jvm.MethodName)) ∈ lw_all := lw_g (lw_at lw_m5 2 rfl) rfl
theorem q1031 : (Jvm.Cond.privateMethod ({ cls := "CapCouncilModel", name := "here", desc := "(I)I" } : Jvm.MethodName)) ∈ lw_tbl := lw_at lw_m5 3 rfl
theorem q1032 : (Jvm.Cond.instanceMethod ({ cls := "CapCouncilModel", name := "here", desc := "(I)I" } : Jvm.MethodName)) ∈ lw_all := lw_g (lw_at lw_m5 4 rfl) rfl
theorem q1033 : (Jvm.Cond.code ({ cls := "CapCouncilModel", name := "here", desc := "(I)I" } : Jvm.MethodName) prog_10_method_16_code (2 : Nat) (Option.some Jvm.ClassFile.FieldType.int)) ∈ lw_all := lw_g (lw_at lw_m5 5 rfl) rfl
theorem q1034 : (Jvm.Cond.methodLink "CapCouncilModel" (108 : Nat) ({ cls := "CapCouncilModel", name := "takesBed", desc := "(I)Z" } : Jvm.MethodName)) ∈ lw_all := lw_g (lw_at lw_m5 6 rfl) rfl
theorem q1035 : (Jvm.Cond.privateMethod ({ cls := "CapCouncilModel", name := "takesBed", desc := "(I)Z" } : Jvm.MethodName)) ∈ lw_tbl := lw_at lw_m5 7 rfl
theorem q1036 : (Jvm.Cond.instanceMethod ({ cls := "CapCouncilModel", name := "takesBed", desc := "(I)Z" } : Jvm.MethodName)) ∈ lw_all := lw_g (lw_at lw_m5 8 rfl) rfl
theorem q1037 : (Jvm.Cond.code ({ cls := "CapCouncilModel", name := "takesBed", desc := "(I)Z" } : Jvm.MethodName) prog_10_method_22_code (3 : Nat) (Option.some Jvm.ClassFile.FieldType.boolean)) ∈ lw_all := lw_g (lw_at lw_m5 9 rfl) rfl
theorem q1038 : (Jvm.Cond.methodLink "CapCouncilModel" (100 : Nat) ({ cls := "CapCouncilModel", name := "takes", desc := "(III)Z" } : Jvm.MethodName)) ∈ lw_all := lw_g (lw_at lw_m5 10 rfl) rfl
theorem q1039 : (Jvm.Cond.privateMethod ({ cls := "CapCouncilModel", name := "takes", desc := "(III)Z" } : Jvm.MethodName)) ∈ lw_tbl := lw_at lw_m5 11 rfl
theorem q1040 : (Jvm.Cond.instanceMethod ({ cls := "CapCouncilModel", name := "takes", desc := "(III)Z" } : Jvm.MethodName)) ∈ lw_all := lw_g (lw_at lw_m5 12 rfl) rfl
theorem q1041 : (Jvm.Cond.code ({ cls := "CapCouncilModel", name := "takes", desc := "(III)Z" } : Jvm.MethodName) prog_10_method_19_code (5 : Nat) (Option.some Jvm.ClassFile.FieldType.boolean)) ∈ lw_all := lw_g (lw_at lw_m5 13 rfl) rfl
theorem q1042 : (Jvm.Cond.methodLink "CapCouncilModel" (94 : Nat) ({ cls := "CapCouncilModel", name := "isFigure", desc := "(I)Z" } : Jvm.MethodName)) ∈ lw_all := lw_g (lw_at lw_m5 14 rfl) rfl
theorem q1043 : (Jvm.Cond.privateMethod ({ cls := "CapCouncilModel", name := "isFigure", desc := "(I)Z" } : Jvm.MethodName)) ∈ lw_tbl := lw_at lw_m5 15 rfl
theorem q1044 : (Jvm.Cond.instanceMethod ({ cls := "CapCouncilModel", name := "isFigure", desc := "(I)Z" } : Jvm.MethodName)) ∈ lw_all := lw_g (lw_at lw_m5 16 rfl) rfl
theorem q1045 : (Jvm.Cond.code ({ cls := "CapCouncilModel", name := "isFigure", desc := "(I)Z" } : Jvm.MethodName) prog_10_method_18_code (2 : Nat) (Option.some Jvm.ClassFile.FieldType.boolean)) ∈ lw_all := lw_g (lw_at lw_m5 17 rfl) rfl
theorem q1046 : (Jvm.Cond.constantLong "CapCouncilModel" (90 : Nat) (48 : Int64)) ∈ lw_all := lw_g (lw_at lw_m5 18 rfl) rfl
theorem q1047 : (Jvm.Cond.constantLong "CapCouncilModel" (92 : Nat) (57 : Int64)) ∈ lw_all := lw_g (lw_at lw_m5 19 rfl) rfl
theorem q1048 : (Jvm.Cond.methodLink "CapCouncilModel" (111 : Nat) ({ cls := "CapCouncilModel", name := "takesRing", desc := "(I)Z" } : Jvm.MethodName)) ∈ lw_all := lw_g (lw_at lw_m5 20 rfl) rfl
theorem q1049 : (Jvm.Cond.privateMethod ({ cls := "CapCouncilModel", name := "takesRing", desc := "(I)Z" } : Jvm.MethodName)) ∈ lw_tbl := lw_at lw_m5 21 rfl
theorem q1050 : (Jvm.Cond.instanceMethod ({ cls := "CapCouncilModel", name := "takesRing", desc := "(I)Z" } : Jvm.MethodName)) ∈ lw_all := lw_g (lw_at lw_m5 22 rfl) rfl
theorem q1051 : (Jvm.Cond.code ({ cls := "CapCouncilModel", name := "takesRing", desc := "(I)Z" } : Jvm.MethodName) prog_10_method_21_code (4 : Nat) (Option.some Jvm.ClassFile.FieldType.boolean)) ∈ lw_all := lw_g (lw_at lw_m5 23 rfl) rfl
theorem q1052 : (Jvm.Cond.methodLink "CapCouncilModel" (97 : Nat) ({ cls := "CapCouncilModel", name := "kindBy", desc := "(I)I" } : Jvm.MethodName)) ∈ lw_all := lw_g (lw_at lw_m5 24 rfl) rfl
theorem q1053 : (Jvm.Cond.static ({ cls := "CapCouncilModel", name := "kindBy", desc := "(I)I" } : Jvm.MethodName)) ∈ lw_all := lw_g (lw_at lw_m5 25 rfl) rfl
theorem q1054 : (Jvm.Cond.code ({ cls := "CapCouncilModel", name := "kindBy", desc := "(I)I" } : Jvm.MethodName) prog_10_method_20_code (1 : Nat) (Option.some Jvm.ClassFile.FieldType.int)) ∈ lw_all := lw_g (lw_at lw_m5 26 rfl) rfl
theorem q1056 : (Jvm.Cond.instanceMethod ({ cls := "CapCouncilModel", name := "parish", desc := "(I)I" } : Jvm.MethodName)) ∈ lw_all := lw_g (lw_at lw_m5 28 rfl) rfl
theorem q1057 : (Jvm.Cond.selects "CapCouncilModel" ({ cls := "CapCouncilModel", name := "parish", desc := "(I)I" } : Jvm.MethodName) ({ cls := "CapCouncilModel", name := "parish", desc := "(I)I" } : Jvm.MethodName)) ∈ lw_all := lw_g (lw_at lw_m5 29 rfl) rfl
theorem q1058 : (Jvm.Cond.code ({ cls := "CapCouncilModel", name := "parish", desc := "(I)I" } : Jvm.MethodName) prog_10_method_25_code (3 : Nat) (Option.some Jvm.ClassFile.FieldType.int)) ∈ lw_all := lw_g (lw_at lw_m5 30 rfl) rfl
theorem q1059 : (Jvm.Cond.methodLink "CapCouncilModel" (117 : Nat) ({ cls := "CapCouncilModel", name := "begin", desc := "([I)V" } : Jvm.MethodName)) ∈ lw_all := lw_g (lw_at lw_m5 31 rfl) rfl
theorem q1060 : (Jvm.Cond.static ({ cls := "CapCouncilModel", name := "begin", desc := "([I)V" } : Jvm.MethodName)) ∈ lw_all := lw_g (lw_at lw_m5 32 rfl) rfl
theorem q1061 : (Jvm.Cond.code ({ cls := "CapCouncilModel", name := "begin", desc := "([I)V" } : Jvm.MethodName) prog_10_method_26_code (2 : Nat) (Option.none : Option Jvm.ClassFile.FieldType)) ∈ lw_all := lw_g (lw_at lw_m5 33 rfl) rfl
theorem q1063 : (Jvm.Cond.instanceMethod ({ cls := "CapCouncilModel", name := "ring", desc := "(II)I" } : Jvm.MethodName)) ∈ lw_all := lw_g (lw_at lw_m5 35 rfl) rfl
theorem q1064 : (Jvm.Cond.selects "CapCouncilModel" ({ cls := "CapCouncilModel", name := "ring", desc := "(II)I" } : Jvm.MethodName) ({ cls := "CapCouncilModel", name := "ring", desc := "(II)I" } : Jvm.MethodName)) ∈ lw_all := lw_g (lw_at lw_m5 36 rfl) rfl
theorem q1065 : (Jvm.Cond.code ({ cls := "CapCouncilModel", name := "ring", desc := "(II)I" } : Jvm.MethodName) prog_10_method_45_code (3 : Nat) (Option.some Jvm.ClassFile.FieldType.int)) ∈ lw_all := lw_g (lw_at lw_m5 37 rfl) rfl
theorem q1066 : (Jvm.Cond.methodLink "CapCouncilModel" (160 : Nat) ({ cls := "CapCouncilModel", name := "isRing", desc := "(I)Z" } : Jvm.MethodName)) ∈ lw_all := lw_g (lw_at lw_m5 38 rfl) rfl
theorem q1067 : (Jvm.Cond.privateMethod ({ cls := "CapCouncilModel", name := "isRing", desc := "(I)Z" } : Jvm.MethodName)) ∈ lw_tbl := lw_at lw_m5 39 rfl
theorem q1068 : (Jvm.Cond.instanceMethod ({ cls := "CapCouncilModel", name := "isRing", desc := "(I)Z" } : Jvm.MethodName)) ∈ lw_all := lw_g (lw_at lw_m5 40 rfl) rfl
theorem q1069 : (Jvm.Cond.code ({ cls := "CapCouncilModel", name := "isRing", desc := "(I)Z" } : Jvm.MethodName) prog_10_method_41_code (2 : Nat) (Option.some Jvm.ClassFile.FieldType.boolean)) ∈ lw_all := lw_g (lw_at lw_m5 41 rfl) rfl
theorem q1070 : (Jvm.Cond.constantLong "CapCouncilModel" (163 : Nat) (6 : Int64)) ∈ lw_all := lw_g (lw_at lw_m5 42 rfl) rfl
theorem q1071 : (Jvm.Cond.methodLink "CapCouncilModel" (165 : Nat) ({ cls := "CapCouncilModel", name := "toldOfRing", desc := "(II)I" } : Jvm.MethodName)) ∈ lw_all := lw_g (lw_at lw_m5 43 rfl) rfl
theorem q1072 : (Jvm.Cond.privateMethod ({ cls := "CapCouncilModel", name := "toldOfRing", desc := "(II)I" } : Jvm.MethodName)) ∈ lw_tbl := lw_at lw_m5 44 rfl
theorem q1073 : (Jvm.Cond.instanceMethod ({ cls := "CapCouncilModel", name := "toldOfRing", desc := "(II)I" } : Jvm.MethodName)) ∈ lw_all := lw_g (lw_at lw_m5 45 rfl) rfl
theorem q1074 : (Jvm.Cond.code ({ cls := "CapCouncilModel", name := "toldOfRing", desc := "(II)I" } : Jvm.MethodName) prog_10_method_44_code (4 : Nat) (Option.some Jvm.ClassFile.FieldType.int)) ∈ lw_all := lw_g (lw_at lw_m5 46 rfl) rfl
theorem q1075 : (Jvm.Cond.methodLink "CapCouncilModel" (131 : Nat) ({ cls := "CapCouncilModel", name := "has", desc := "(II)Z" } : Jvm.MethodName)) ∈ lw_all := lw_g (lw_at lw_m5 47 rfl) rfl
theorem q1076 : (Jvm.Cond.static ({ cls := "CapCouncilModel", name := "has", desc := "(II)Z" } : Jvm.MethodName)) ∈ lw_all := lw_g (lw_at lw_m5 48 rfl) rfl
theorem q1077 : (Jvm.Cond.code ({ cls := "CapCouncilModel", name := "has", desc := "(II)Z" } : Jvm.MethodName) prog_10_method_27_code (2 : Nat) (Option.some Jvm.ClassFile.FieldType.boolean)) ∈ lw_all := lw_g (lw_at lw_m5 49 rfl) rfl
theorem q1078 : (Jvm.Cond.methodLink "CapCouncilModel" (121 : Nat) ({ cls := "CapCouncilModel", name := "reachOf", desc := "(II)I" } : Jvm.MethodName)) ∈ lw_all := lw_g (lw_at lw_m5 50 rfl) rfl
theorem q1079 : (Jvm.Cond.static ({ cls := "CapCouncilModel", name := "reachOf", desc := "(II)I" } : Jvm.MethodName)) ∈ lw_all := lw_g (lw_at lw_m5 51 rfl) rfl
theorem q1080 : (Jvm.Cond.code ({ cls := "CapCouncilModel", name := "reachOf", desc := "(II)I" } : Jvm.MethodName) prog_10_method_30_code (2 : Nat) (Option.some Jvm.ClassFile.FieldType.int)) ∈ lw_all := lw_g (lw_at lw_m5 52 rfl) rfl
theorem q1081 : (Jvm.Cond.methodLink "CapCouncilModel" (154 : Nat) ({ cls := "CapCouncilModel", name := "bedsIn", desc := "(I)I" } : Jvm.MethodName)) ∈ lw_all := lw_g (lw_at lw_m5 53 rfl) rfl
theorem q1082 : (Jvm.Cond.privateMethod ({ cls := "CapCouncilModel", name := "bedsIn", desc := "(I)I" } : Jvm.MethodName)) ∈ lw_tbl := lw_at lw_m5 54 rfl
theorem q1083 : (Jvm.Cond.instanceMethod ({ cls := "CapCouncilModel", name := "bedsIn", desc := "(I)I" } : Jvm.MethodName)) ∈ lw_all := lw_g (lw_at lw_m5 55 rfl) rfl
theorem q1084 : (Jvm.Cond.code ({ cls := "CapCouncilModel", name := "bedsIn", desc := "(I)I" } : Jvm.MethodName) prog_10_method_35_code (4 : Nat) (Option.some Jvm.ClassFile.FieldType.int)) ∈ lw_all := lw_g (lw_at lw_m5 56 rfl) rfl
theorem q1085 : (Jvm.Cond.methodLink "CapCouncilModel" (135 : Nat) ({ cls := "CapCouncilModel", name := "isIn", desc := "(III)Z" } : Jvm.MethodName)) ∈ lw_all := lw_g (lw_at lw_m5 57 rfl) rfl
theorem q1086 : (Jvm.Cond.privateMethod ({ cls := "CapCouncilModel", name := "isIn", desc := "(III)Z" } : Jvm.MethodName)) ∈ lw_tbl := lw_at lw_m5 58 rfl
theorem q1087 : (Jvm.Cond.instanceMethod ({ cls := "CapCouncilModel", name := "isIn", desc := "(III)Z" } : Jvm.MethodName)) ∈ lw_all := lw_g (lw_at lw_m5 59 rfl) rfl
theorem q1088 : (Jvm.Cond.code ({ cls := "CapCouncilModel", name := "isIn", desc := "(III)Z" } : Jvm.MethodName) prog_10_method_32_code (4 : Nat) (Option.some Jvm.ClassFile.FieldType.boolean)) ∈ lw_all := lw_g (lw_at lw_m5 60 rfl) rfl
theorem q1089 : (Jvm.Cond.methodLink "CapCouncilModel" (127 : Nat) ({ cls := "CapCouncilModel", name := "isWithin", desc := "(IIIII)Z" } : Jvm.MethodName)) ∈ lw_all := lw_g (lw_at lw_m5 61 rfl) rfl
theorem q1090 : (Jvm.Cond.static ({ cls := "CapCouncilModel", name := "isWithin", desc := "(IIIII)Z" } : Jvm.MethodName)) ∈ lw_all := lw_g (lw_at lw_m5 62 rfl) rfl
theorem q1091 : (Jvm.Cond.code ({ cls := "CapCouncilModel", name := "isWithin", desc := "(IIIII)Z" } : Jvm.MethodName) prog_10_method_31_code (8 : Nat) (Option.some Jvm.ClassFile.FieldType.boolean)) ∈ lw_all := lw_g (lw_at lw_m5 63 rfl) rfl
theorem q1092 : (Jvm.Cond.methodLink "CapCouncilModel" (124 : Nat) ({ cls := "CapCouncilModel", name := "distance", desc := "(II)I" } : Jvm.MethodName)) ∈ lw_all := lw_g (lw_at lw_m5 64 rfl) rfl
theorem q1093 : (Jvm.Cond.static ({ cls := "CapCouncilModel", name := "distance", desc := "(II)I" } : Jvm.MethodName)) ∈ lw_all := lw_g (lw_at lw_m5 65 rfl) rfl
theorem q1094 : (Jvm.Cond.code ({ cls := "CapCouncilModel", name := "distance", desc := "(II)I" } : Jvm.MethodName) prog_10_method_29_code (4 : Nat) (Option.some Jvm.ClassFile.FieldType.int)) ∈ lw_all := lw_g (lw_at lw_m5 66 rfl) rfl
theorem q1095 : (Jvm.Cond.methodLink "CapCouncilModel" (157 : Nat) ({ cls := "CapCouncilModel", name := "decided", desc := "(I)I" } : Jvm.MethodName)) ∈ lw_all := lw_g (lw_at lw_m5 67 rfl) rfl
theorem q1096 : (Jvm.Cond.privateMethod ({ cls := "CapCouncilModel", name := "decided", desc := "(I)I" } : Jvm.MethodName)) ∈ lw_tbl := lw_at lw_m5 68 rfl
theorem q1097 : (Jvm.Cond.instanceMethod ({ cls := "CapCouncilModel", name := "decided", desc := "(I)I" } : Jvm.MethodName)) ∈ lw_all := lw_g (lw_at lw_m5 69 rfl) rfl
theorem q1098 : (Jvm.Cond.code ({ cls := "CapCouncilModel", name := "decided", desc := "(I)I" } : Jvm.MethodName) prog_10_method_36_code (4 : Nat) (Option.some Jvm.ClassFile.FieldType.int)) ∈ lw_all := lw_g (lw_at lw_m5 70 rfl) rfl
theorem q1100 : (Jvm.Cond.instanceMethod ({ cls := "CapCouncilModel", name := "bed", desc := "(II)I" } : Jvm.MethodName)) ∈ lw_all := lw_g (lw_at lw_m5 72 rfl) rfl
theorem q1101 : (Jvm.Cond.selects "CapCouncilModel" ({ cls := "CapCouncilModel", name := "bed", desc := "(II)I" } : Jvm.MethodName) ({ cls := "CapCouncilModel", name := "bed", desc := "(II)I" } : Jvm.MethodName)) ∈ lw_all := lw_g (lw_at lw_m5 73 rfl) rfl
theorem q1102 : (Jvm.Cond.code ({ cls := "CapCouncilModel", name := "bed", desc := "(II)I" } : Jvm.MethodName) prog_10_method_47_code (3 : Nat) (Option.some Jvm.ClassFile.FieldType.int)) ∈ lw_all := lw_g (lw_at lw_m5 74 rfl) rfl
theorem q1103 : (Jvm.Cond.methodLink "CapCouncilModel" (171 : Nat) ({ cls := "CapCouncilModel", name := "isBed", desc := "(I)Z" } : Jvm.MethodName)) ∈ lw_all := lw_g (lw_at lw_m5 75 rfl) rfl
theorem q1104 : (Jvm.Cond.privateMethod ({ cls := "CapCouncilModel", name := "isBed", desc := "(I)Z" } : Jvm.MethodName)) ∈ lw_tbl := lw_at lw_m5 76 rfl
theorem q1105 : (Jvm.Cond.instanceMethod ({ cls := "CapCouncilModel", name := "isBed", desc := "(I)Z" } : Jvm.MethodName)) ∈ lw_all := lw_g (lw_at lw_m5 77 rfl) rfl
theorem q1106 : (Jvm.Cond.code ({ cls := "CapCouncilModel", name := "isBed", desc := "(I)Z" } : Jvm.MethodName) prog_10_method_42_code (2 : Nat) (Option.some Jvm.ClassFile.FieldType.boolean)) ∈ lw_all := lw_g (lw_at lw_m5 78 rfl) rfl
theorem q1107 : (Jvm.Cond.constantLong "CapCouncilModel" (174 : Nat) (2 : Int64)) ∈ lw_all := lw_g (lw_at lw_m5 79 rfl) rfl
theorem q1108 : (Jvm.Cond.methodLink "CapCouncilModel" (176 : Nat) ({ cls := "CapCouncilModel", name := "toldOfBed", desc := "(II)I" } : Jvm.MethodName)) ∈ lw_all := lw_g (lw_at lw_m5 80 rfl) rfl
theorem q1109 : (Jvm.Cond.privateMethod ({ cls := "CapCouncilModel", name := "toldOfBed", desc := "(II)I" } : Jvm.MethodName)) ∈ lw_tbl := lw_at lw_m5 81 rfl
theorem q1110 : (Jvm.Cond.instanceMethod ({ cls := "CapCouncilModel", name := "toldOfBed", desc := "(II)I" } : Jvm.MethodName)) ∈ lw_all := lw_g (lw_at lw_m5 82 rfl) rfl
theorem q1111 : (Jvm.Cond.code ({ cls := "CapCouncilModel", name := "toldOfBed", desc := "(II)I" } : Jvm.MethodName) prog_10_method_46_code (3 : Nat) (Option.some Jvm.ClassFile.FieldType.int)) ∈ lw_all := lw_g (lw_at lw_m5 83 rfl) rfl
theorem q1112 : (Jvm.Cond.methodLink "CapCouncilModel" (168 : Nat) ({ cls := "CapCouncilModel", name := "ringsOf", desc := "(I)I" } : Jvm.MethodName)) ∈ lw_all := lw_g (lw_at lw_m5 84 rfl) rfl
theorem q1113 : (Jvm.Cond.privateMethod ({ cls := "CapCouncilModel", name := "ringsOf", desc := "(I)I" } : Jvm.MethodName)) ∈ lw_tbl := lw_at lw_m5 85 rfl
theorem q1114 : (Jvm.Cond.instanceMethod ({ cls := "CapCouncilModel", name := "ringsOf", desc := "(I)I" } : Jvm.MethodName)) ∈ lw_all := lw_g (lw_at lw_m5 86 rfl) rfl
theorem q1115 : (Jvm.Cond.code ({ cls := "CapCouncilModel", name := "ringsOf", desc := "(I)I" } : Jvm.MethodName) prog_10_method_34_code (2 : Nat) (Option.some Jvm.ClassFile.FieldType.int)) ∈ lw_all := lw_g (lw_at lw_m5 87 rfl) rfl
theorem q1116 : (Jvm.Cond.methodLink "CapCouncilModel" (138 : Nat) ({ cls := "CapCouncilModel", name := "ringsAt", desc := "(III)I" } : Jvm.MethodName)) ∈ lw_all := lw_g (lw_at lw_m5 88 rfl) rfl
theorem q1117 : (Jvm.Cond.privateMethod ({ cls := "CapCouncilModel", name := "ringsAt", desc := "(III)I" } : Jvm.MethodName)) ∈ lw_tbl := lw_at lw_m5 89 rfl
theorem q1118 : (Jvm.Cond.instanceMethod ({ cls := "CapCouncilModel", name := "ringsAt", desc := "(III)I" } : Jvm.MethodName)) ∈ lw_all := lw_g (lw_at lw_m5 90 rfl) rfl
theorem q1119 : (Jvm.Cond.code ({ cls := "CapCouncilModel", name := "ringsAt", desc := "(III)I" } : Jvm.MethodName) prog_10_method_33_code (6 : Nat) (Option.some Jvm.ClassFile.FieldType.int)) ∈ lw_all := lw_g (lw_at lw_m5 91 rfl) rfl
theorem q1121 : (Jvm.Cond.instanceMethod ({ cls := "CapCouncilModel", name := "mark", desc := "(II)I" } : Jvm.MethodName)) ∈ lw_all := lw_g (lw_at lw_m5 93 rfl) rfl
theorem q1122 : (Jvm.Cond.selects "CapCouncilModel" ({ cls := "CapCouncilModel", name := "mark", desc := "(II)I" } : Jvm.MethodName) ({ cls := "CapCouncilModel", name := "mark", desc := "(II)I" } : Jvm.MethodName)) ∈ lw_all := lw_g (lw_at lw_m5 94 rfl) rfl
theorem q1123 : (Jvm.Cond.code ({ cls := "CapCouncilModel", name := "mark", desc := "(II)I" } : Jvm.MethodName) prog_10_method_50_code (4 : Nat) (Option.some Jvm.ClassFile.FieldType.int)) ∈ lw_all := lw_g (lw_at lw_m5 95 rfl) rfl
theorem q1124 : (Jvm.Cond.methodLink "CapCouncilModel" (179 : Nat) ({ cls := "CapCouncilModel", name := "isOf", desc := "(II)Z" } : Jvm.MethodName)) ∈ lw_all := lw_g (lw_at lw_m5 96 rfl) rfl
theorem q1125 : (Jvm.Cond.static ({ cls := "CapCouncilModel", name := "isOf", desc := "(II)Z" } : Jvm.MethodName)) ∈ lw_all := lw_g (lw_at lw_m5 97 rfl) rfl
theorem q1126 : (Jvm.Cond.code ({ cls := "CapCouncilModel", name := "isOf", desc := "(II)Z" } : Jvm.MethodName) prog_10_method_48_code (2 : Nat) (Option.some Jvm.ClassFile.FieldType.boolean)) ∈ lw_all := lw_g (lw_at lw_m5 98 rfl) rfl
theorem q1127 : (Jvm.Cond.methodLink "CapCouncilModel" (182 : Nat) ({ cls := "CapCouncilModel", name := "manyBut", desc := "(III)I" } : Jvm.MethodName)) ∈ lw_all := lw_g (lw_at lw_m5 99 rfl) rfl
theorem q1128 : (Jvm.Cond.privateMethod ({ cls := "CapCouncilModel", name := "manyBut", desc := "(III)I" } : Jvm.MethodName)) ∈ lw_tbl := lw_at lw_m5 100 rfl
theorem q1129 : (Jvm.Cond.instanceMethod ({ cls := "CapCouncilModel", name := "manyBut", desc := "(III)I" } : Jvm.MethodName)) ∈ lw_all := lw_g (lw_at lw_m5 101 rfl) rfl
theorem q1130 : (Jvm.Cond.code ({ cls := "CapCouncilModel", name := "manyBut", desc := "(III)I" } : Jvm.MethodName) prog_10_method_49_code (6 : Nat) (Option.some Jvm.ClassFile.FieldType.int)) ∈ lw_all := lw_g (lw_at lw_m5 102 rfl) rfl
theorem q1132 : (Jvm.Cond.instanceMethod ({ cls := "CapCouncilModel", name := "within", desc := "(III)I" } : Jvm.MethodName)) ∈ lw_all := lw_g (lw_at lw_m5 104 rfl) rfl
theorem q1133 : (Jvm.Cond.selects "CapCouncilModel" ({ cls := "CapCouncilModel", name := "within", desc := "(III)I" } : Jvm.MethodName) ({ cls := "CapCouncilModel", name := "within", desc := "(III)I" } : Jvm.MethodName)) ∈ lw_all := lw_g (lw_at lw_m5 105 rfl) rfl
theorem q1134 : (Jvm.Cond.code ({ cls := "CapCouncilModel", name := "within", desc := "(III)I" } : Jvm.MethodName) prog_10_method_51_code (4 : Nat) (Option.some Jvm.ClassFile.FieldType.int)) ∈ lw_all := lw_g (lw_at lw_m5 106 rfl) rfl
theorem q1135 : (Jvm.Cond.methodLink "CapCouncilModel" (185 : Nat) ({ cls := "CapCouncilModel", name := "isPlace", desc := "(I)Z" } : Jvm.MethodName)) ∈ lw_all := lw_g (lw_at lw_m5 107 rfl) rfl
theorem q1136 : (Jvm.Cond.static ({ cls := "CapCouncilModel", name := "isPlace", desc := "(I)Z" } : Jvm.MethodName)) ∈ lw_all := lw_g (lw_at lw_m5 108 rfl) rfl
theorem q1137 : (Jvm.Cond.code ({ cls := "CapCouncilModel", name := "isPlace", desc := "(I)Z" } : Jvm.MethodName) prog_10_method_43_code (1 : Nat) (Option.some Jvm.ClassFile.FieldType.boolean)) ∈ lw_all := lw_g (lw_at lw_m5 109 rfl) rfl
theorem q1138 : (Jvm.Cond.constantLong "CapCouncilModel" (152 : Nat) (99 : Int64)) ∈ lw_all := lw_g (lw_at lw_m5 110 rfl) rfl
theorem q1140 : (Jvm.Cond.instanceMethod ({ cls := "CapCouncilModel", name := "year", desc := "()I" } : Jvm.MethodName)) ∈ lw_all := lw_g (lw_at lw_m5 112 rfl) rfl
theorem q1141 : (Jvm.Cond.selects "CapCouncilModel" ({ cls := "CapCouncilModel", name := "year", desc := "()I" } : Jvm.MethodName) ({ cls := "CapCouncilModel", name := "year", desc := "()I" } : Jvm.MethodName)) ∈ lw_all := lw_g (lw_at lw_m5 113 rfl) rfl
theorem q1142 : (Jvm.Cond.code ({ cls := "CapCouncilModel", name := "year", desc := "()I" } : Jvm.MethodName) prog_10_method_52_code (1 : Nat) (Option.some Jvm.ClassFile.FieldType.int)) ∈ lw_all := lw_g (lw_at lw_m5 114 rfl) rfl
theorem q1143 : (Jvm.Cond.methodLink "CapCouncilModel" (188 : Nat) ({ cls := "CapCouncilModel", name := "does", desc := "(I)V" } : Jvm.MethodName)) ∈ lw_all := lw_g (lw_at lw_m5 115 rfl) rfl
theorem q1144 : (Jvm.Cond.privateMethod ({ cls := "CapCouncilModel", name := "does", desc := "(I)V" } : Jvm.MethodName)) ∈ lw_tbl := lw_at lw_m5 116 rfl
theorem q1145 : (Jvm.Cond.instanceMethod ({ cls := "CapCouncilModel", name := "does", desc := "(I)V" } : Jvm.MethodName)) ∈ lw_all := lw_g (lw_at lw_m5 117 rfl) rfl
theorem q1146 : (Jvm.Cond.code ({ cls := "CapCouncilModel", name := "does", desc := "(I)V" } : Jvm.MethodName) prog_10_method_40_code (2 : Nat) (Option.none : Option Jvm.ClassFile.FieldType)) ∈ lw_all := lw_g (lw_at lw_m5 118 rfl) rfl
theorem q1147 : (Jvm.Cond.methodLink "CapCouncilModel" (148 : Nat) ({ cls := "CapCouncilModel", name := "goDeed", desc := "([II)V" } : Jvm.MethodName)) ∈ lw_all := lw_g (lw_at lw_m5 119 rfl) rfl
theorem q1148 : (Jvm.Cond.static ({ cls := "CapCouncilModel", name := "goDeed", desc := "([II)V" } : Jvm.MethodName)) ∈ lw_all := lw_g (lw_at lw_m5 120 rfl) rfl
theorem q1149 : (Jvm.Cond.code ({ cls := "CapCouncilModel", name := "goDeed", desc := "([II)V" } : Jvm.MethodName) prog_10_method_39_code (3 : Nat) (Option.none : Option Jvm.ClassFile.FieldType)) ∈ lw_all := lw_g (lw_at lw_m5 121 rfl) rfl
theorem q1150 : (Jvm.Cond.methodLink "CapCouncilModel" (191 : Nat) ({ cls := "CapCouncilModel", name := "seated", desc := "()I" } : Jvm.MethodName)) ∈ lw_all := lw_g (lw_at lw_m5 122 rfl) rfl
theorem q1151 : (Jvm.Cond.privateMethod ({ cls := "CapCouncilModel", name := "seated", desc := "()I" } : Jvm.MethodName)) ∈ lw_tbl := lw_at lw_m5 123 rfl
theorem q1152 : (Jvm.Cond.instanceMethod ({ cls := "CapCouncilModel", name := "seated", desc := "()I" } : Jvm.MethodName)) ∈ lw_all := lw_g (lw_at lw_m5 124 rfl) rfl
theorem q1153 : (Jvm.Cond.code ({ cls := "CapCouncilModel", name := "seated", desc := "()I" } : Jvm.MethodName) prog_10_method_38_code (1 : Nat) (Option.some Jvm.ClassFile.FieldType.int)) ∈ lw_all := lw_g (lw_at lw_m5 125 rfl) rfl
theorem q1154 : (Jvm.Cond.methodLink "CapCouncilModel" (142 : Nat) ({ cls := "CapCouncilModel", name := "bedsBy", desc := "(I)I" } : Jvm.MethodName)) ∈ lw_all := lw_g (lw_at lw_m5 126 rfl) rfl
theorem q1155 : (Jvm.Cond.privateMethod ({ cls := "CapCouncilModel", name := "bedsBy", desc := "(I)I" } : Jvm.MethodName)) ∈ lw_tbl := lw_at lw_m5 127 rfl
theorem q1156 : (Jvm.Cond.instanceMethod ({ cls := "CapCouncilModel", name := "bedsBy", desc := "(I)I" } : Jvm.MethodName)) ∈ lw_all := lw_g (lw_at lw_m5 128 rfl) rfl
theorem q1157 : (Jvm.Cond.code ({ cls := "CapCouncilModel", name := "bedsBy", desc := "(I)I" } : Jvm.MethodName) prog_10_method_37_code (4 : Nat) (Option.some Jvm.ClassFile.FieldType.int)) ∈ lw_all := lw_g (lw_at lw_m5 129 rfl) rfl
theorem q1158 : (Jvm.Cond.methodLink "CapCouncilModel" (145 : Nat) ({ cls := "CapCouncilModel", name := "bits", desc := "(I)I" } : Jvm.MethodName)) ∈ lw_all := lw_g (lw_at lw_m5 130 rfl) rfl
theorem q1159 : (Jvm.Cond.static ({ cls := "CapCouncilModel", name := "bits", desc := "(I)I" } : Jvm.MethodName)) ∈ lw_all := lw_g (lw_at lw_m5 131 rfl) rfl
theorem q1160 : (Jvm.Cond.code ({ cls := "CapCouncilModel", name := "bits", desc := "(I)I" } : Jvm.MethodName) prog_10_method_28_code (3 : Nat) (Option.some Jvm.ClassFile.FieldType.int)) ∈ lw_all := lw_g (lw_at lw_m5 132 rfl) rfl
theorem q1162 : (Jvm.Cond.instanceMethod ({ cls := "CapCouncilModel", name := "move", desc := "(II)I" } : Jvm.MethodName)) ∈ lw_all := lw_g (lw_at lw_m5 134 rfl) rfl
theorem q1163 : (Jvm.Cond.selects "CapCouncilModel" ({ cls := "CapCouncilModel", name := "move", desc := "(II)I" } : Jvm.MethodName) ({ cls := "CapCouncilModel", name := "move", desc := "(II)I" } : Jvm.MethodName)) ∈ lw_all := lw_g (lw_at lw_m5 135 rfl) rfl
theorem q1164 : (Jvm.Cond.code ({ cls := "CapCouncilModel", name := "move", desc := "(II)I" } : Jvm.MethodName) prog_10_method_53_code (3 : Nat) (Option.some Jvm.ClassFile.FieldType.int)) ∈ lw_all := lw_g (lw_at lw_m5 136 rfl) rfl
theorem q1166 : (Jvm.Cond.instanceMethod ({ cls := "CapCouncilModel", name := "gather", desc := "(I)I" } : Jvm.MethodName)) ∈ lw_all := lw_g (lw_at lw_m5 138 rfl) rfl
theorem q1167 : (Jvm.Cond.selects "CapCouncilModel" ({ cls := "CapCouncilModel", name := "gather", desc := "(I)I" } : Jvm.MethodName) ({ cls := "CapCouncilModel", name := "gather", desc := "(I)I" } : Jvm.MethodName)) ∈ lw_all := lw_g (lw_at lw_m5 139 rfl) rfl
theorem q1168 : (Jvm.Cond.code ({ cls := "CapCouncilModel", name := "gather", desc := "(I)I" } : Jvm.MethodName) prog_10_method_55_code (2 : Nat) (Option.some Jvm.ClassFile.FieldType.int)) ∈ lw_all := lw_g (lw_at lw_m5 140 rfl) rfl
theorem q1169 : (Jvm.Cond.methodLink "CapCouncilModel" (195 : Nat) ({ cls := "CapCouncilModel", name := "turn", desc := "(IZI)I" } : Jvm.MethodName)) ∈ lw_all := lw_g (lw_at lw_m5 141 rfl) rfl
theorem q1170 : (Jvm.Cond.privateMethod ({ cls := "CapCouncilModel", name := "turn", desc := "(IZI)I" } : Jvm.MethodName)) ∈ lw_tbl := lw_at lw_m5 142 rfl
theorem q1171 : (Jvm.Cond.instanceMethod ({ cls := "CapCouncilModel", name := "turn", desc := "(IZI)I" } : Jvm.MethodName)) ∈ lw_all := lw_g (lw_at lw_m5 143 rfl) rfl
theorem q1172 : (Jvm.Cond.code ({ cls := "CapCouncilModel", name := "turn", desc := "(IZI)I" } : Jvm.MethodName) prog_10_method_54_code (4 : Nat) (Option.some Jvm.ClassFile.FieldType.int)) ∈ lw_all := lw_g (lw_at lw_m5 144 rfl) rfl
theorem q1174 : (Jvm.Cond.instanceMethod ({ cls := "CapCouncilModel", name := "make", desc := "(I)I" } : Jvm.MethodName)) ∈ lw_all := lw_g (lw_at lw_m5 146 rfl) rfl
theorem q1175 : (Jvm.Cond.selects "CapCouncilModel" ({ cls := "CapCouncilModel", name := "make", desc := "(I)I" } : Jvm.MethodName) ({ cls := "CapCouncilModel", name := "make", desc := "(I)I" } : Jvm.MethodName)) ∈ lw_all := lw_g (lw_at lw_m5 147 rfl) rfl
theorem q1176 : (Jvm.Cond.code ({ cls := "CapCouncilModel", name := "make", desc := "(I)I" } : Jvm.MethodName) prog_10_method_56_code (2 : Nat) (Option.some Jvm.ClassFile.FieldType.int)) ∈ lw_all := lw_g (lw_at lw_m5 148 rfl) rfl
theorem q1178 : (Jvm.Cond.instanceMethod ({ cls := "CapCouncilModel", name := "think", desc := "(II)I" } : Jvm.MethodName)) ∈ lw_all := lw_g (lw_at lw_m5 150 rfl) rfl
theorem q1179 : (Jvm.Cond.selects "CapCouncilModel" ({ cls := "CapCouncilModel", name := "think", desc := "(II)I" } : Jvm.MethodName) ({ cls := "CapCouncilModel", name := "think", desc := "(II)I" } : Jvm.MethodName)) ∈ lw_all := lw_g (lw_at lw_m5 151 rfl) rfl
theorem q1180 : (Jvm.Cond.code ({ cls := "CapCouncilModel", name := "think", desc := "(II)I" } : Jvm.MethodName) prog_10_method_57_code (4 : Nat) (Option.some Jvm.ClassFile.FieldType.int)) ∈ lw_all := lw_g (lw_at lw_m5 152 rfl) rfl
theorem q1181 : (Jvm.Cond.constantLong "CapCouncilModel" (199 : Nat) (9 : Int64)) ∈ lw_all := lw_g (lw_at lw_m5 153 rfl) rfl
theorem q1183 : (Jvm.Cond.instanceMethod ({ cls := "CapCouncilModel", name := "undo", desc := "(I)I" } : Jvm.MethodName)) ∈ lw_all := lw_g (lw_at lw_m5 155 rfl) rfl
theorem q1184 : (Jvm.Cond.selects "CapCouncilModel" ({ cls := "CapCouncilModel", name := "undo", desc := "(I)I" } : Jvm.MethodName) ({ cls := "CapCouncilModel", name := "undo", desc := "(I)I" } : Jvm.MethodName)) ∈ lw_all := lw_g (lw_at lw_m5 156 rfl) rfl
theorem q1185 : (Jvm.Cond.code ({ cls := "CapCouncilModel", name := "undo", desc := "(I)I" } : Jvm.MethodName) prog_10_method_58_code (4 : Nat) (Option.some Jvm.ClassFile.FieldType.int)) ∈ lw_all := lw_g (lw_at lw_m5 157 rfl) rfl
theorem q1187 : (Jvm.Cond.instanceMethod ({ cls := "CapCouncilModel", name := "keep", desc := "(I)I" } : Jvm.MethodName)) ∈ lw_all := lw_g (lw_at lw_m5 159 rfl) rfl
theorem q1188 : (Jvm.Cond.selects "CapCouncilModel" ({ cls := "CapCouncilModel", name := "keep", desc := "(I)I" } : Jvm.MethodName) ({ cls := "CapCouncilModel", name := "keep", desc := "(I)I" } : Jvm.MethodName)) ∈ lw_all := lw_g (lw_at lw_m5 160 rfl) rfl
theorem q1189 : (Jvm.Cond.code ({ cls := "CapCouncilModel", name := "keep", desc := "(I)I" } : Jvm.MethodName) prog_10_method_60_code (3 : Nat) (Option.some Jvm.ClassFile.FieldType.int)) ∈ lw_all := lw_g (lw_at lw_m5 161 rfl) rfl
theorem q1190 : (Jvm.Cond.methodLink "CapCouncilModel" (201 : Nat) ({ cls := "CapCouncilModel", name := "isShelf", desc := "(I)Z" } : Jvm.MethodName)) ∈ lw_all := lw_g (lw_at lw_m5 162 rfl) rfl
theorem q1191 : (Jvm.Cond.static ({ cls := "CapCouncilModel", name := "isShelf", desc := "(I)Z" } : Jvm.MethodName)) ∈ lw_all := lw_g (lw_at lw_m5 163 rfl) rfl
theorem q1192 : (Jvm.Cond.code ({ cls := "CapCouncilModel", name := "isShelf", desc := "(I)Z" } : Jvm.MethodName) prog_10_method_59_code (1 : Nat) (Option.some Jvm.ClassFile.FieldType.boolean)) ∈ lw_all := lw_g (lw_at lw_m5 164 rfl) rfl
theorem q1194 : (Jvm.Cond.instanceMethod ({ cls := "CapCouncilModel", name := "on", desc := "(I)I" } : Jvm.MethodName)) ∈ lw_all := lw_g (lw_at lw_m5 166 rfl) rfl
theorem q1195 : (Jvm.Cond.selects "CapCouncilModel" ({ cls := "CapCouncilModel", name := "on", desc := "(I)I" } : Jvm.MethodName) ({ cls := "CapCouncilModel", name := "on", desc := "(I)I" } : Jvm.MethodName)) ∈ lw_all := lw_g (lw_at lw_m5 167 rfl) rfl
theorem q1196 : (Jvm.Cond.code ({ cls := "CapCouncilModel", name := "on", desc := "(I)I" } : Jvm.MethodName) prog_10_method_61_code (3 : Nat) (Option.some Jvm.ClassFile.FieldType.int)) ∈ lw_all := lw_g (lw_at lw_m5 168 rfl) rfl
theorem q1198 : (Jvm.Cond.instanceMethod ({ cls := "CapCouncilModel", name := "sits", desc := "(I)I" } : Jvm.MethodName)) ∈ lw_all := lw_g (lw_at lw_m5 170 rfl) rfl
theorem q1199 : (Jvm.Cond.selects "CapCouncilModel" ({ cls := "CapCouncilModel", name := "sits", desc := "(I)I" } : Jvm.MethodName) ({ cls := "CapCouncilModel", name := "sits", desc := "(I)I" } : Jvm.MethodName)) ∈ lw_all := lw_g (lw_at lw_m5 171 rfl) rfl
theorem q1200 : (Jvm.Cond.code ({ cls := "CapCouncilModel", name := "sits", desc := "(I)I" } : Jvm.MethodName) prog_10_method_62_code (4 : Nat) (Option.some Jvm.ClassFile.FieldType.int)) ∈ lw_all := lw_g (lw_at lw_m5 172 rfl) rfl
theorem q1202 : (Jvm.Cond.instanceMethod ({ cls := "CapCouncilModel", name := "common", desc := "(I)I" } : Jvm.MethodName)) ∈ lw_all := lw_g (lw_at lw_m5 174 rfl) rfl
theorem q1203 : (Jvm.Cond.selects "CapCouncilModel" ({ cls := "CapCouncilModel", name := "common", desc := "(I)I" } : Jvm.MethodName) ({ cls := "CapCouncilModel", name := "common", desc := "(I)I" } : Jvm.MethodName)) ∈ lw_all := lw_g (lw_at lw_m5 175 rfl) rfl
theorem q1204 : (Jvm.Cond.code ({ cls := "CapCouncilModel", name := "common", desc := "(I)I" } : Jvm.MethodName) prog_10_method_63_code (5 : Nat) (Option.some Jvm.ClassFile.FieldType.int)) ∈ lw_all := lw_g (lw_at lw_m5 176 rfl) rfl
theorem q1206 : (Jvm.Cond.instanceMethod ({ cls := "CapCouncilModel", name := "best", desc := "(I)I" } : Jvm.MethodName)) ∈ lw_all := lw_g (lw_at lw_m5 178 rfl) rfl
theorem q1207 : (Jvm.Cond.selects "CapCouncilModel" ({ cls := "CapCouncilModel", name := "best", desc := "(I)I" } : Jvm.MethodName) ({ cls := "CapCouncilModel", name := "best", desc := "(I)I" } : Jvm.MethodName)) ∈ lw_all := lw_g (lw_at lw_m5 179 rfl) rfl
theorem q1208 : (Jvm.Cond.code ({ cls := "CapCouncilModel", name := "best", desc := "(I)I" } : Jvm.MethodName) prog_10_method_64_code (4 : Nat) (Option.some Jvm.ClassFile.FieldType.int)) ∈ lw_all := lw_g (lw_at lw_m5 180 rfl) rfl
theorem q1210 : (Jvm.Cond.instanceMethod ({ cls := "CapCouncilModel", name := "when", desc := "(I)I" } : Jvm.MethodName)) ∈ lw_all := lw_g (lw_at lw_m5 182 rfl) rfl
theorem q1211 : (Jvm.Cond.selects "CapCouncilModel" ({ cls := "CapCouncilModel", name := "when", desc := "(I)I" } : Jvm.MethodName) ({ cls := "CapCouncilModel", name := "when", desc := "(I)I" } : Jvm.MethodName)) ∈ lw_all := lw_g (lw_at lw_m5 183 rfl) rfl
theorem q1212 : (Jvm.Cond.code ({ cls := "CapCouncilModel", name := "when", desc := "(I)I" } : Jvm.MethodName) prog_10_method_65_code (5 : Nat) (Option.some Jvm.ClassFile.FieldType.int)) ∈ lw_all := lw_g (lw_at lw_m5 184 rfl) rfl
theorem q1214 : (Jvm.Cond.instanceMethod ({ cls := "CapCouncilModel", name := "years", desc := "(II)I" } : Jvm.MethodName)) ∈ lw_all := lw_g (lw_at lw_m5 186 rfl) rfl
theorem q1215 : (Jvm.Cond.selects "CapCouncilModel" ({ cls := "CapCouncilModel", name := "years", desc := "(II)I" } : Jvm.MethodName) ({ cls := "CapCouncilModel", name := "years", desc := "(II)I" } : Jvm.MethodName)) ∈ lw_all := lw_g (lw_at lw_m5 187 rfl) rfl
theorem q1216 : (Jvm.Cond.code ({ cls := "CapCouncilModel", name := "years", desc := "(II)I" } : Jvm.MethodName) prog_10_method_66_code (7 : Nat) (Option.some Jvm.ClassFile.FieldType.int)) ∈ lw_all := lw_g (lw_at lw_m5 188 rfl) rfl
theorem q1217 : (Jvm.Cond.constantLong "CapCouncilModel" (204 : Nat) (40 : Int64)) ∈ lw_all := lw_g (lw_at lw_m5 189 rfl) rfl
theorem q1219 : (Jvm.Cond.instanceMethod ({ cls := "CapCouncilModel", name := "near", desc := "(II)I" } : Jvm.MethodName)) ∈ lw_all := lw_g (lw_at lw_m5 191 rfl) rfl
theorem q1220 : (Jvm.Cond.selects "CapCouncilModel" ({ cls := "CapCouncilModel", name := "near", desc := "(II)I" } : Jvm.MethodName) ({ cls := "CapCouncilModel", name := "near", desc := "(II)I" } : Jvm.MethodName)) ∈ lw_all := lw_g (lw_at lw_m5 192 rfl) rfl
theorem q1221 : (Jvm.Cond.code ({ cls := "CapCouncilModel", name := "near", desc := "(II)I" } : Jvm.MethodName) prog_10_method_67_code (7 : Nat) (Option.some Jvm.ClassFile.FieldType.int)) ∈ lw_all := lw_g (lw_at lw_m5 193 rfl) rfl
theorem q1222 : (Jvm.Cond.constant "CapCouncilModel" (206 : Nat) (1000000 : Int32)) ∈ lw_all := lw_g (lw_at lw_m5 194 rfl) rfl
theorem q1224 : (Jvm.Cond.instanceMethod ({ cls := "CapCouncilModel", name := "unmake", desc := "(II)I" } : Jvm.MethodName)) ∈ lw_all := lw_g (lw_at lw_m5 196 rfl) rfl
theorem q1225 : (Jvm.Cond.selects "CapCouncilModel" ({ cls := "CapCouncilModel", name := "unmake", desc := "(II)I" } : Jvm.MethodName) ({ cls := "CapCouncilModel", name := "unmake", desc := "(II)I" } : Jvm.MethodName)) ∈ lw_all := lw_g (lw_at lw_m5 197 rfl) rfl
theorem q1226 : (Jvm.Cond.code ({ cls := "CapCouncilModel", name := "unmake", desc := "(II)I" } : Jvm.MethodName) prog_10_method_68_code (8 : Nat) (Option.some Jvm.ClassFile.FieldType.int)) ∈ lw_all := lw_g (lw_at lw_m5 198 rfl) rfl
theorem q1228 : (Jvm.Cond.instanceMethod ({ cls := "CapCouncilModel", name := "sway", desc := "(I)I" } : Jvm.MethodName)) ∈ lw_all := lw_g (lw_at lw_m5 200 rfl) rfl
theorem q1229 : (Jvm.Cond.selects "CapCouncilModel" ({ cls := "CapCouncilModel", name := "sway", desc := "(I)I" } : Jvm.MethodName) ({ cls := "CapCouncilModel", name := "sway", desc := "(I)I" } : Jvm.MethodName)) ∈ lw_all := lw_g (lw_at lw_m5 201 rfl) rfl
theorem q1230 : (Jvm.Cond.code ({ cls := "CapCouncilModel", name := "sway", desc := "(I)I" } : Jvm.MethodName) prog_10_method_70_code (5 : Nat) (Option.some Jvm.ClassFile.FieldType.int)) ∈ lw_all := lw_g (lw_at lw_m5 202 rfl) rfl
theorem q1231 : (Jvm.Cond.constantLong "CapCouncilModel" (207 : Nat) (45 : Int64)) ∈ lw_all := lw_g (lw_at lw_m5 203 rfl) rfl
theorem q1232 : (Jvm.Cond.methodLink "CapCouncilModel" (209 : Nat) ({ cls := "CapCouncilModel", name := "decidedBy", desc := "(I)I" } : Jvm.MethodName)) ∈ lw_all := lw_g (lw_at lw_m5 204 rfl) rfl
theorem q1233 : (Jvm.Cond.privateMethod ({ cls := "CapCouncilModel", name := "decidedBy", desc := "(I)I" } : Jvm.MethodName)) ∈ lw_tbl := lw_at lw_m5 205 rfl
theorem q1234 : (Jvm.Cond.instanceMethod ({ cls := "CapCouncilModel", name := "decidedBy", desc := "(I)I" } : Jvm.MethodName)) ∈ lw_all := lw_g (lw_at lw_m5 206 rfl) rfl
theorem q1235 : (Jvm.Cond.code ({ cls := "CapCouncilModel", name := "decidedBy", desc := "(I)I" } : Jvm.MethodName) prog_10_method_69_code (5 : Nat) (Option.some Jvm.ClassFile.FieldType.int)) ∈ lw_all := lw_g (lw_at lw_m5 207 rfl) rfl
theorem q1237 : (Jvm.Cond.instanceMethod ({ cls := "CapCouncilModel", name := "middles", desc := "(II)I" } : Jvm.MethodName)) ∈ lw_all := lw_g (lw_at lw_m5 209 rfl) rfl
theorem q1238 : (Jvm.Cond.selects "CapCouncilModel" ({ cls := "CapCouncilModel", name := "middles", desc := "(II)I" } : Jvm.MethodName) ({ cls := "CapCouncilModel", name := "middles", desc := "(II)I" } : Jvm.MethodName)) ∈ lw_all := lw_g (lw_at lw_m5 210 rfl) rfl
theorem q1239 : (Jvm.Cond.code ({ cls := "CapCouncilModel", name := "middles", desc := "(II)I" } : Jvm.MethodName) prog_10_method_73_code (7 : Nat) (Option.some Jvm.ClassFile.FieldType.int)) ∈ lw_all := lw_g (lw_at lw_m5 211 rfl) rfl
theorem q1240 : (Jvm.Cond.methodLink "CapCouncilModel" (212 : Nat) ({ cls := "CapCouncilModel", name := "refusesPairs", desc := "(II)I" } : Jvm.MethodName)) ∈ lw_all := lw_g (lw_at lw_m5 212 rfl) rfl
theorem q1241 : (Jvm.Cond.privateMethod ({ cls := "CapCouncilModel", name := "refusesPairs", desc := "(II)I" } : Jvm.MethodName)) ∈ lw_tbl := lw_at lw_m5 213 rfl
theorem q1242 : (Jvm.Cond.instanceMethod ({ cls := "CapCouncilModel", name := "refusesPairs", desc := "(II)I" } : Jvm.MethodName)) ∈ lw_all := lw_g (lw_at lw_m5 214 rfl) rfl
theorem q1243 : (Jvm.Cond.code ({ cls := "CapCouncilModel", name := "refusesPairs", desc := "(II)I" } : Jvm.MethodName) prog_10_method_71_code (4 : Nat) (Option.some Jvm.ClassFile.FieldType.int)) ∈ lw_all := lw_g (lw_at lw_m5 215 rfl) rfl
theorem q1244 : (Jvm.Cond.methodLink "CapCouncilModel" (215 : Nat) ({ cls := "CapCouncilModel", name := "fits", desc := "(IIII)Z" } : Jvm.MethodName)) ∈ lw_all := lw_g (lw_at lw_m5 216 rfl) rfl
theorem q1245 : (Jvm.Cond.privateMethod ({ cls := "CapCouncilModel", name := "fits", desc := "(IIII)Z" } : Jvm.MethodName)) ∈ lw_tbl := lw_at lw_m5 217 rfl
theorem q1246 : (Jvm.Cond.instanceMethod ({ cls := "CapCouncilModel", name := "fits", desc := "(IIII)Z" } : Jvm.MethodName)) ∈ lw_all := lw_g (lw_at lw_m5 218 rfl) rfl
theorem q1247 : (Jvm.Cond.code ({ cls := "CapCouncilModel", name := "fits", desc := "(IIII)Z" } : Jvm.MethodName) prog_10_method_72_code (7 : Nat) (Option.some Jvm.ClassFile.FieldType.boolean)) ∈ lw_all := lw_g (lw_at lw_m5 219 rfl) rfl
theorem q1249 : (Jvm.Cond.instanceMethod ({ cls := "CapCouncilModel", name := "wides", desc := "(II)I" } : Jvm.MethodName)) ∈ lw_all := lw_g (lw_at lw_m5 221 rfl) rfl
theorem q1250 : (Jvm.Cond.selects "CapCouncilModel" ({ cls := "CapCouncilModel", name := "wides", desc := "(II)I" } : Jvm.MethodName) ({ cls := "CapCouncilModel", name := "wides", desc := "(II)I" } : Jvm.MethodName)) ∈ lw_all := lw_g (lw_at lw_m5 222 rfl) rfl
theorem q1251 : (Jvm.Cond.code ({ cls := "CapCouncilModel", name := "wides", desc := "(II)I" } : Jvm.MethodName) prog_10_method_74_code (6 : Nat) (Option.some Jvm.ClassFile.FieldType.int)) ∈ lw_all := lw_g (lw_at lw_m5 223 rfl) rfl
theorem q1253 : (Jvm.Cond.instanceMethod ({ cls := "CapCouncilModel", name := "kinds", desc := "(II)I" } : Jvm.MethodName)) ∈ lw_all := lw_g (lw_at lw_m5 225 rfl) rfl
theorem q1254 : (Jvm.Cond.selects "CapCouncilModel" ({ cls := "CapCouncilModel", name := "kinds", desc := "(II)I" } : Jvm.MethodName) ({ cls := "CapCouncilModel", name := "kinds", desc := "(II)I" } : Jvm.MethodName)) ∈ lw_all := lw_g (lw_at lw_m5 226 rfl) rfl
theorem q1255 : (Jvm.Cond.code ({ cls := "CapCouncilModel", name := "kinds", desc := "(II)I" } : Jvm.MethodName) prog_10_method_76_code (4 : Nat) (Option.some Jvm.ClassFile.FieldType.int)) ∈ lw_all := lw_g (lw_at lw_m5 227 rfl) rfl
theorem q1256 : (Jvm.Cond.methodLink "CapCouncilModel" (219 : Nat) ({ cls := "CapCouncilModel", name := "kindsOf", desc := "(II)I" } : Jvm.MethodName)) ∈ lw_all := lw_g (lw_at lw_m5 228 rfl) rfl
theorem q1257 : (Jvm.Cond.privateMethod ({ cls := "CapCouncilModel", name := "kindsOf", desc := "(II)I" } : Jvm.MethodName)) ∈ lw_tbl := lw_at lw_m5 229 rfl
theorem q1258 : (Jvm.Cond.instanceMethod ({ cls := "CapCouncilModel", name := "kindsOf", desc := "(II)I" } : Jvm.MethodName)) ∈ lw_all := lw_g (lw_at lw_m5 230 rfl) rfl
theorem q1259 : (Jvm.Cond.code ({ cls := "CapCouncilModel", name := "kindsOf", desc := "(II)I" } : Jvm.MethodName) prog_10_method_75_code (5 : Nat) (Option.some Jvm.ClassFile.FieldType.int)) ∈ lw_all := lw_g (lw_at lw_m5 231 rfl) rfl
theorem q1261 : (Jvm.Cond.instanceMethod ({ cls := "CapCouncilModel", name := "test", desc := "(II)I" } : Jvm.MethodName)) ∈ lw_all := lw_g (lw_at lw_m5 233 rfl) rfl
theorem q1262 : (Jvm.Cond.selects "CapCouncilModel" ({ cls := "CapCouncilModel", name := "test", desc := "(II)I" } : Jvm.MethodName) ({ cls := "CapCouncilModel", name := "test", desc := "(II)I" } : Jvm.MethodName)) ∈ lw_all := lw_g (lw_at lw_m5 234 rfl) rfl
theorem q1263 : (Jvm.Cond.code ({ cls := "CapCouncilModel", name := "test", desc := "(II)I" } : Jvm.MethodName) prog_10_method_77_code (10 : Nat) (Option.some Jvm.ClassFile.FieldType.int)) ∈ lw_all := lw_g (lw_at lw_m5 235 rfl) rfl
theorem q1265 : (Jvm.Cond.instanceMethod ({ cls := "CapCouncilModel", name := "duel", desc := "(I)I" } : Jvm.MethodName)) ∈ lw_all := lw_g (lw_at lw_m5 237 rfl) rfl
theorem q1266 : (Jvm.Cond.selects "CapCouncilModel" ({ cls := "CapCouncilModel", name := "duel", desc := "(I)I" } : Jvm.MethodName) ({ cls := "CapCouncilModel", name := "duel", desc := "(I)I" } : Jvm.MethodName)) ∈ lw_all := lw_g (lw_at lw_m5 238 rfl) rfl
theorem q1267 : (Jvm.Cond.code ({ cls := "CapCouncilModel", name := "duel", desc := "(I)I" } : Jvm.MethodName) prog_10_method_79_code (3 : Nat) (Option.some Jvm.ClassFile.FieldType.int)) ∈ lw_all := lw_g (lw_at lw_m5 239 rfl) rfl
theorem q1268 : (Jvm.Cond.constantLong "CapCouncilModel" (222 : Nat) (4 : Int64)) ∈ lw_all := lw_g (lw_at lw_m6 0 rfl) rfl
theorem q1269 : (Jvm.Cond.methodLink "CapCouncilModel" (224 : Nat) ({ cls := "CapCouncilModel", name := "goTurn", desc := "(I)V" } : Jvm.MethodName)) ∈ lw_all := lw_g (lw_at lw_m6 1 rfl) rfl
theorem q1270 : (Jvm.Cond.privateMethod ({ cls := "CapCouncilModel", name := "goTurn", desc := "(I)V" } : Jvm.MethodName)) ∈ lw_tbl := lw_at lw_m6 2 rfl
theorem q1271 : (Jvm.Cond.instanceMethod ({ cls := "CapCouncilModel", name := "goTurn", desc := "(I)V" } : Jvm.MethodName)) ∈ lw_all := lw_g (lw_at lw_m6 3 rfl) rfl
theorem q1272 : (Jvm.Cond.code ({ cls := "CapCouncilModel", name := "goTurn", desc := "(I)V" } : Jvm.MethodName) prog_10_method_78_code (7 : Nat) (Option.none : Option Jvm.ClassFile.FieldType)) ∈ lw_all := lw_g (lw_at lw_m6 4 rfl) rfl
theorem q1274 : (Jvm.Cond.instanceMethod ({ cls := "CapCouncilModel", name := "odds", desc := "(II)I" } : Jvm.MethodName)) ∈ lw_all := lw_g (lw_at lw_m6 6 rfl) rfl
theorem q1275 : (Jvm.Cond.selects "CapCouncilModel" ({ cls := "CapCouncilModel", name := "odds", desc := "(II)I" } : Jvm.MethodName) ({ cls := "CapCouncilModel", name := "odds", desc := "(II)I" } : Jvm.MethodName)) ∈ lw_all := lw_g (lw_at lw_m6 7 rfl) rfl
theorem q1276 : (Jvm.Cond.code ({ cls := "CapCouncilModel", name := "odds", desc := "(II)I" } : Jvm.MethodName) prog_10_method_82_code (3 : Nat) (Option.some Jvm.ClassFile.FieldType.int)) ∈ lw_all := lw_g (lw_at lw_m6 8 rfl) rfl
theorem q1277 : (Jvm.Cond.constantLong "CapCouncilModel" (230 : Nat) (12 : Int64)) ∈ lw_all := lw_g (lw_at lw_m6 9 rfl) rfl
theorem q1278 : (Jvm.Cond.methodLink "CapCouncilModel" (236 : Nat) ({ cls := "CapCouncilModel", name := "goOdds", desc := "(II)V" } : Jvm.MethodName)) ∈ lw_all := lw_g (lw_at lw_m6 10 rfl) rfl
theorem q1279 : (Jvm.Cond.privateMethod ({ cls := "CapCouncilModel", name := "goOdds", desc := "(II)V" } : Jvm.MethodName)) ∈ lw_tbl := lw_at lw_m6 11 rfl
theorem q1280 : (Jvm.Cond.instanceMethod ({ cls := "CapCouncilModel", name := "goOdds", desc := "(II)V" } : Jvm.MethodName)) ∈ lw_all := lw_g (lw_at lw_m6 12 rfl) rfl
theorem q1281 : (Jvm.Cond.code ({ cls := "CapCouncilModel", name := "goOdds", desc := "(II)V" } : Jvm.MethodName) prog_10_method_81_code (11 : Nat) (Option.none : Option Jvm.ClassFile.FieldType)) ∈ lw_all := lw_g (lw_at lw_m6 13 rfl) rfl
theorem q1282 : (Jvm.Cond.methodLink "CapCouncilModel" (232 : Nat) ({ cls := "CapCouncilModel", name := "fraction", desc := "(JJ)V" } : Jvm.MethodName)) ∈ lw_all := lw_g (lw_at lw_m6 14 rfl) rfl
theorem q1283 : (Jvm.Cond.privateMethod ({ cls := "CapCouncilModel", name := "fraction", desc := "(JJ)V" } : Jvm.MethodName)) ∈ lw_tbl := lw_at lw_m6 15 rfl
theorem q1284 : (Jvm.Cond.instanceMethod ({ cls := "CapCouncilModel", name := "fraction", desc := "(JJ)V" } : Jvm.MethodName)) ∈ lw_all := lw_g (lw_at lw_m6 16 rfl) rfl
theorem q1285 : (Jvm.Cond.code ({ cls := "CapCouncilModel", name := "fraction", desc := "(JJ)V" } : Jvm.MethodName) prog_10_method_80_code (11 : Nat) (Option.none : Option Jvm.ClassFile.FieldType)) ∈ lw_all := lw_g (lw_at lw_m6 17 rfl) rfl
theorem q1287 : (Jvm.Cond.instanceMethod ({ cls := "CapCouncilModel", name := "mid", desc := "(I)I" } : Jvm.MethodName)) ∈ lw_all := lw_g (lw_at lw_m6 19 rfl) rfl
theorem q1288 : (Jvm.Cond.selects "CapCouncilModel" ({ cls := "CapCouncilModel", name := "mid", desc := "(I)I" } : Jvm.MethodName) ({ cls := "CapCouncilModel", name := "mid", desc := "(I)I" } : Jvm.MethodName)) ∈ lw_all := lw_g (lw_at lw_m6 20 rfl) rfl
theorem q1289 : (Jvm.Cond.code ({ cls := "CapCouncilModel", name := "mid", desc := "(I)I" } : Jvm.MethodName) prog_10_method_83_code (2 : Nat) (Option.some Jvm.ClassFile.FieldType.int)) ∈ lw_all := lw_g (lw_at lw_m6 21 rfl) rfl
theorem q1291 : (Jvm.Cond.instanceMethod ({ cls := "CapCouncilModel", name := "lots", desc := "(II)I" } : Jvm.MethodName)) ∈ lw_all := lw_g (lw_at lw_m6 23 rfl) rfl
theorem q1292 : (Jvm.Cond.selects "CapCouncilModel" ({ cls := "CapCouncilModel", name := "lots", desc := "(II)I" } : Jvm.MethodName) ({ cls := "CapCouncilModel", name := "lots", desc := "(II)I" } : Jvm.MethodName)) ∈ lw_all := lw_g (lw_at lw_m6 24 rfl) rfl
theorem q1293 : (Jvm.Cond.code ({ cls := "CapCouncilModel", name := "lots", desc := "(II)I" } : Jvm.MethodName) prog_10_method_84_code (7 : Nat) (Option.some Jvm.ClassFile.FieldType.int)) ∈ lw_all := lw_g (lw_at lw_m6 25 rfl) rfl
theorem q1294 : (Jvm.Cond.constantLong "CapCouncilModel" (240 : Nat) (20 : Int64)) ∈ lw_all := lw_g (lw_at lw_m6 26 rfl) rfl
theorem q1295 : (Jvm.Cond.constantLong "CapCouncilModel" (242 : Nat) (2147483646 : Int64)) ∈ lw_all := lw_g (lw_at lw_m6 27 rfl) rfl
theorem q1296 : (Jvm.Cond.constantLong "CapCouncilModel" (244 : Nat) (48271 : Int64)) ∈ lw_all := lw_g (lw_at lw_m6 28 rfl) rfl
theorem q1297 : (Jvm.Cond.constantLong "CapCouncilModel" (246 : Nat) (2147483647 : Int64)) ∈ lw_all := lw_g (lw_at lw_m6 29 rfl) rfl
theorem q1298 : (Jvm.Cond.constantLong "CapCouncilModel" (248 : Nat) (8 : Int64)) ∈ lw_all := lw_g (lw_at lw_m6 30 rfl) rfl
theorem q1299 : (Jvm.Cond.constantLong "CapCouncilModel" (250 : Nat) (64 : Int64)) ∈ lw_all := lw_g (lw_at lw_m6 31 rfl) rfl
theorem q1300 : (Jvm.Cond.constantLong "CapCouncilModel" (252 : Nat) (100 : Int64)) ∈ lw_all := lw_g (lw_at lw_m6 32 rfl) rfl
theorem q1302 : (Jvm.Cond.instanceMethod ({ cls := "CapCouncilModel", name := "asked", desc := "()I" } : Jvm.MethodName)) ∈ lw_all := lw_g (lw_at lw_m6 34 rfl) rfl
theorem q1303 : (Jvm.Cond.selects "CapCouncilModel" ({ cls := "CapCouncilModel", name := "asked", desc := "()I" } : Jvm.MethodName) ({ cls := "CapCouncilModel", name := "asked", desc := "()I" } : Jvm.MethodName)) ∈ lw_all := lw_g (lw_at lw_m6 35 rfl) rfl
theorem q1304 : (Jvm.Cond.code ({ cls := "CapCouncilModel", name := "asked", desc := "()I" } : Jvm.MethodName) prog_10_method_85_code (1 : Nat) (Option.some Jvm.ClassFile.FieldType.int)) ∈ lw_all := lw_g (lw_at lw_m6 36 rfl) rfl
theorem q1306 : (Jvm.Cond.instanceMethod ({ cls := "CapCouncilModel", name := "upper", desc := "()J" } : Jvm.MethodName)) ∈ lw_all := lw_g (lw_at lw_m6 38 rfl) rfl
theorem q1307 : (Jvm.Cond.selects "CapCouncilModel" ({ cls := "CapCouncilModel", name := "upper", desc := "()J" } : Jvm.MethodName) ({ cls := "CapCouncilModel", name := "upper", desc := "()J" } : Jvm.MethodName)) ∈ lw_all := lw_g (lw_at lw_m6 39 rfl) rfl
theorem q1308 : (Jvm.Cond.code ({ cls := "CapCouncilModel", name := "upper", desc := "()J" } : Jvm.MethodName) prog_10_method_86_code (1 : Nat) (Option.some Jvm.ClassFile.FieldType.long)) ∈ lw_all := lw_g (lw_at lw_m6 40 rfl) rfl
theorem q1310 : (Jvm.Cond.instanceMethod ({ cls := "CapCouncilModel", name := "lower", desc := "()J" } : Jvm.MethodName)) ∈ lw_all := lw_g (lw_at lw_m6 42 rfl) rfl
theorem q1311 : (Jvm.Cond.selects "CapCouncilModel" ({ cls := "CapCouncilModel", name := "lower", desc := "()J" } : Jvm.MethodName) ({ cls := "CapCouncilModel", name := "lower", desc := "()J" } : Jvm.MethodName)) ∈ lw_all := lw_g (lw_at lw_m6 43 rfl) rfl
theorem q1312 : (Jvm.Cond.code ({ cls := "CapCouncilModel", name := "lower", desc := "()J" } : Jvm.MethodName) prog_10_method_87_code (1 : Nat) (Option.some Jvm.ClassFile.FieldType.long)) ∈ lw_all := lw_g (lw_at lw_m6 44 rfl) rfl
theorem q1314 : (Jvm.Cond.instanceMethod ({ cls := "CapCouncilModel", name := "count", desc := "(I)I" } : Jvm.MethodName)) ∈ lw_all := lw_g (lw_at lw_m6 46 rfl) rfl
theorem q1315 : (Jvm.Cond.selects "CapCouncilModel" ({ cls := "CapCouncilModel", name := "count", desc := "(I)I" } : Jvm.MethodName) ({ cls := "CapCouncilModel", name := "count", desc := "(I)I" } : Jvm.MethodName)) ∈ lw_all := lw_g (lw_at lw_m6 47 rfl) rfl
theorem q1316 : (Jvm.Cond.code ({ cls := "CapCouncilModel", name := "count", desc := "(I)I" } : Jvm.MethodName) prog_10_method_91_code (2 : Nat) (Option.some Jvm.ClassFile.FieldType.int)) ∈ lw_all := lw_g (lw_at lw_m6 48 rfl) rfl
theorem q1317 : (Jvm.Cond.constantLong "CapCouncilModel" (261 : Nat) (10 : Int64)) ∈ lw_all := lw_g (lw_at lw_m6 49 rfl) rfl
theorem q1318 : (Jvm.Cond.methodLink "CapCouncilModel" (263 : Nat) ({ cls := "CapCouncilModel", name := "counted", desc := "(I)I" } : Jvm.MethodName)) ∈ lw_all := lw_g (lw_at lw_m6 50 rfl) rfl
theorem q1319 : (Jvm.Cond.privateMethod ({ cls := "CapCouncilModel", name := "counted", desc := "(I)I" } : Jvm.MethodName)) ∈ lw_tbl := lw_at lw_m6 51 rfl
theorem q1320 : (Jvm.Cond.instanceMethod ({ cls := "CapCouncilModel", name := "counted", desc := "(I)I" } : Jvm.MethodName)) ∈ lw_all := lw_g (lw_at lw_m6 52 rfl) rfl
theorem q1321 : (Jvm.Cond.code ({ cls := "CapCouncilModel", name := "counted", desc := "(I)I" } : Jvm.MethodName) prog_10_method_90_code (2 : Nat) (Option.some Jvm.ClassFile.FieldType.int)) ∈ lw_all := lw_g (lw_at lw_m6 53 rfl) rfl
theorem q1322 : (Jvm.Cond.methodLink "CapCouncilModel" (254 : Nat) ({ cls := "CapCouncilModel", name := "manyOld", desc := "()I" } : Jvm.MethodName)) ∈ lw_all := lw_g (lw_at lw_m6 54 rfl) rfl
theorem q1323 : (Jvm.Cond.privateMethod ({ cls := "CapCouncilModel", name := "manyOld", desc := "()I" } : Jvm.MethodName)) ∈ lw_tbl := lw_at lw_m6 55 rfl
theorem q1324 : (Jvm.Cond.instanceMethod ({ cls := "CapCouncilModel", name := "manyOld", desc := "()I" } : Jvm.MethodName)) ∈ lw_all := lw_g (lw_at lw_m6 56 rfl) rfl
theorem q1325 : (Jvm.Cond.code ({ cls := "CapCouncilModel", name := "manyOld", desc := "()I" } : Jvm.MethodName) prog_10_method_89_code (3 : Nat) (Option.some Jvm.ClassFile.FieldType.int)) ∈ lw_all := lw_g (lw_at lw_m6 57 rfl) rfl
theorem q1326 : (Jvm.Cond.methodLink "CapCouncilModel" (257 : Nat) ({ cls := "CapCouncilModel", name := "manyThere", desc := "([II)I" } : Jvm.MethodName)) ∈ lw_all := lw_g (lw_at lw_m6 58 rfl) rfl
theorem q1327 : (Jvm.Cond.static ({ cls := "CapCouncilModel", name := "manyThere", desc := "([II)I" } : Jvm.MethodName)) ∈ lw_all := lw_g (lw_at lw_m6 59 rfl) rfl
theorem q1328 : (Jvm.Cond.code ({ cls := "CapCouncilModel", name := "manyThere", desc := "([II)I" } : Jvm.MethodName) prog_10_method_88_code (4 : Nat) (Option.some Jvm.ClassFile.FieldType.int)) ∈ lw_all := lw_g (lw_at lw_m6 60 rfl) rfl
theorem q1330 : (Jvm.Cond.instanceMethod ({ cls := "CapCouncilModel", name := "finding", desc := "()I" } : Jvm.MethodName)) ∈ lw_all := lw_g (lw_at lw_m6 62 rfl) rfl
theorem q1331 : (Jvm.Cond.selects "CapCouncilModel" ({ cls := "CapCouncilModel", name := "finding", desc := "()I" } : Jvm.MethodName) ({ cls := "CapCouncilModel", name := "finding", desc := "()I" } : Jvm.MethodName)) ∈ lw_all := lw_g (lw_at lw_m6 63 rfl) rfl
theorem q1332 : (Jvm.Cond.code ({ cls := "CapCouncilModel", name := "finding", desc := "()I" } : Jvm.MethodName) prog_10_method_92_code (1 : Nat) (Option.some Jvm.ClassFile.FieldType.int)) ∈ lw_all := lw_g (lw_at lw_m6 64 rfl) rfl
theorem q1334 : (Jvm.Cond.instanceMethod ({ cls := "CapCouncilModel", name := "findings", desc := "(I)I" } : Jvm.MethodName)) ∈ lw_all := lw_g (lw_at lw_m6 66 rfl) rfl
theorem q1335 : (Jvm.Cond.selects "CapCouncilModel" ({ cls := "CapCouncilModel", name := "findings", desc := "(I)I" } : Jvm.MethodName) ({ cls := "CapCouncilModel", name := "findings", desc := "(I)I" } : Jvm.MethodName)) ∈ lw_all := lw_g (lw_at lw_m6 67 rfl) rfl
theorem q1336 : (Jvm.Cond.code ({ cls := "CapCouncilModel", name := "findings", desc := "(I)I" } : Jvm.MethodName) prog_10_method_93_code (2 : Nat) (Option.some Jvm.ClassFile.FieldType.int)) ∈ lw_all := lw_g (lw_at lw_m6 68 rfl) rfl
theorem q1338 : (Jvm.Cond.instanceMethod ({ cls := "CapCouncilModel", name := "digest", desc := "()J" } : Jvm.MethodName)) ∈ lw_all := lw_g (lw_at lw_m6 70 rfl) rfl
theorem q1339 : (Jvm.Cond.selects "CapCouncilModel" ({ cls := "CapCouncilModel", name := "digest", desc := "()J" } : Jvm.MethodName) ({ cls := "CapCouncilModel", name := "digest", desc := "()J" } : Jvm.MethodName)) ∈ lw_all := lw_g (lw_at lw_m6 71 rfl) rfl
theorem q1340 : (Jvm.Cond.code ({ cls := "CapCouncilModel", name := "digest", desc := "()J" } : Jvm.MethodName) prog_10_method_94_code (5 : Nat) (Option.some Jvm.ClassFile.FieldType.long)) ∈ lw_all := lw_g (lw_at lw_m6 72 rfl) rfl
theorem q1341 : (Jvm.Cond.constantLong "CapCouncilModel" (266 : Nat) (17 : Int64)) ∈ lw_all := lw_g (lw_at lw_m6 73 rfl) rfl
theorem q1342 : (Jvm.Cond.constantLong "CapCouncilModel" (268 : Nat) (31 : Int64)) ∈ lw_all := lw_g (lw_at lw_m6 74 rfl) rfl
theorem in_X1 : ∀ w ∈ wsX10, w ∈ lw_all := lw_in wsX10 [930, 932, 934, 936, 938, 940, 942, 944, 946, 948, 950, 952, 954, 956, 958, 960, 962] (by decide +kernel) (by decide +kernel)
